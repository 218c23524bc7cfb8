/-! WINDOWS: value, window, correlate -/
def OkW (N : Int → Int) (X : Int → Int) (ws wt wf : Int) (va : Int → Int) (st : Int) : Prop := N 2 = ws ∧ (0 ≤ ws ∧ ws ≤ 512) ∧ (ws = 0 → wt = -99999999) ∧ (0 < ws → N 3 = wt ∧ N 4 = wf ∧ (wt = -99999999 ∨ 0 ≤ wt ∧ wt < st ∧ 0 ≤ wf ∧ wf + ws ≤ 4096)) ∧ ∀ k, 0 ≤ k → k < ws → X k = va k ∧ -2147483648 ≤ va k ∧ va k < 2147483648
def IWn' (N X : Int → Int → Int) (ws wt wf va : Int → Int) (st : Int) : Prop := ∀ w, 0 ≤ w → w < 6 → OkW (N w) (X w) (ws w) (wt w) (wf w) (fun k => va (512 * w + k)) st
def LIWn (f : Nat) (i k : Int) : Prop := f = 17 ∨ f = 17000 ∨ (f = 22018 ∧ i = 0) ∨ (f = 22019 ∧ i = 0) ∨ (f = 22020 ∧ i = 0) ∨ (f = 22021 ∧ i = 0) ∨ (f = 22 ∧ i = 0 ∧ k = 9)
def IWn (M : Mem) : Prop := IWn' (M 17) (M 17000) (M 22018 0) (M 22019 0) (M 22020 0) (M 22021 0) (M 22 0 9)
theorem IWn_cg {M M' : Mem} (h : ∀ f i k, LIWn f i k → M' f i k = M f i k) (q : IWn M) : IWn M' := by
  have e0 : M' 17 = M 17 := by funext i k; exact h _ _ _ (by simp [LIWn])
  have e1 : M' 17000 = M 17000 := by funext i k; exact h _ _ _ (by simp [LIWn])
  have e2 : M' 22018 0 = M 22018 0 := by funext k; exact h _ _ _ (by simp [LIWn])
  have e3 : M' 22019 0 = M 22019 0 := by funext k; exact h _ _ _ (by simp [LIWn])
  have e4 : M' 22020 0 = M 22020 0 := by funext k; exact h _ _ _ (by simp [LIWn])
  have e5 : M' 22021 0 = M 22021 0 := by funext k; exact h _ _ _ (by simp [LIWn])
  have e6 : M' 22 0 9 = M 22 0 9 := h _ _ _ (by simp [LIWn])
  unfold IWn
  rw [e0, e1, e2, e3, e4, e5, e6]
  exact q
theorem IWn_fr {S : Nat → Int → Int → Prop} {M M' : Mem} (q : IWn M) (h : Fr S M M') (hs : ∀ f i k, LIWn f i k → ¬ S f i k) : IWn M' := IWn_cg (fun f i k hl => h f i k (hs f i k hl)) q
section Win
variable {M P : Mem} {Q : AR → Mem → Prop} {s t k w x y l : Int}
theorem m40 : Tq 40 0 [vR 1 0, vI w] [] M Q ↔ Q (.inl (some (vI (b2i (0 ≤ w ∧ w ≤ 5))))) M := by
  simp only [kI_v, kL_v, kV_v, kR_v, kX_n, kX_e, bd_e, b2i_e0, b2i_e1, b2i_nb, nb_0, nb_1, cmp_lt, cmp_le, cmp_gt, cmp_ge, cmp_eq, not_true_eq_false, not_false_eq_true, if_true, if_false, ite_true, ite_false, true_and, and_true, false_and, and_false, Int.reduceLT, Int.reduceLE, Int.reduceEq, Int.reduceSub, Int.reduceAdd, Int.reduceNeg, Int.reduceMul, Classical.not_not, Int.zero_add, Int.add_zero, Int.le_refl, t40_0, m25]
  rfl
theorem m289 : Tq 289 0 [vI w] [] M Q ↔ Q (.inl (some (vI (b2i (0 ≤ w ∧ w ≤ 5))))) M := by simp only [kI_v, kL_v, kV_v, kR_v, kX_n, kX_e, bd_e, b2i_e0, b2i_e1, b2i_nb, nb_0, nb_1, cmp_lt, cmp_le, cmp_gt, cmp_ge, cmp_eq, not_true_eq_false, not_false_eq_true, if_true, if_false, ite_true, ite_false, true_and, and_true, false_and, and_false, Int.reduceLT, Int.reduceLE, Int.reduceEq, Int.reduceSub, Int.reduceAdd, Int.reduceNeg, Int.reduceMul, Classical.not_not, Int.zero_add, Int.add_zero, Int.le_refl, t289_0, m189]
theorem op_value {I : Mem → Prop} (hw : IWn M) (hI : I M) : Op2 S0 S0 47 [vR 1 0, vI w, vI k] 297 [vR 22 0, vI w, vI k] M I := by
  by_cases hb : 0 ≤ w ∧ w ≤ 5
  · obtain ⟨a1, a2, a3, a4, a5⟩ := hw w hb.1 (by omega)
    refine Op2_ret (v := if 0 ≤ k ∧ k < M 22018 0 w then M 22021 0 (512 * w + k) else -99999999) (fun Q => ?_) (fun Q => ?_) hI
    · simp only [kI_v, kL_v, kV_v, kR_v, kX_n, kX_e, bd_e, b2i_e0, b2i_e1, b2i_nb, nb_0, nb_1, cmp_lt, cmp_le, cmp_gt, cmp_ge, cmp_eq, not_true_eq_false, not_false_eq_true, if_true, if_false, ite_true, ite_false, true_and, and_true, false_and, and_false, Int.reduceLT, Int.reduceLE, Int.reduceEq, Int.reduceSub, Int.reduceAdd, Int.reduceNeg, Int.reduceMul, Classical.not_not, Int.zero_add, Int.add_zero, Int.le_refl, t47_0, t47_1, t47_2, m40, m25]
      rw [if_neg (by omega), a1, w32_id (by omega) (by omega)]
      refine andi (by omega) (ifi (fun d => ?_) (fun d => ?_))
      · rw [if_neg (by omega)]
      · rw [if_pos (by omega), (a5 k (by omega) (by omega)).1]
        exact andi (by omega) (andi (by omega) Iff.rfl)
    · simp only [kI_v, kL_v, kV_v, kR_v, kX_n, kX_e, bd_e, b2i_e0, b2i_e1, b2i_nb, nb_0, nb_1, cmp_lt, cmp_le, cmp_gt, cmp_ge, cmp_eq, not_true_eq_false, not_false_eq_true, if_true, if_false, ite_true, ite_false, true_and, and_true, false_and, and_false, Int.reduceLT, Int.reduceLE, Int.reduceEq, Int.reduceSub, Int.reduceAdd, Int.reduceNeg, Int.reduceMul, Classical.not_not, Int.zero_add, Int.add_zero, Int.le_refl, t297_0, t297_1, t297_2, m289, m189]
      rw [if_neg (by omega), w32_id (z := M 22018 0 w - 1) (by omega) (by omega)]
      refine andi (by omega) (ifi (fun d => ?_) (fun d => ?_))
      · rw [if_neg (by omega)]
      · rw [if_pos (by omega), w32_id (z := 512 * w) (by omega) (by omega), w32_id (by omega) (by omega)]
        exact andi (by omega) Iff.rfl
  · refine Op2_ret (v := -99999999) (fun Q => ?_) (fun Q => ?_) hI
    · simp only [kI_v, kL_v, kV_v, kR_v, kX_n, kX_e, bd_e, b2i_e0, b2i_e1, b2i_nb, nb_0, nb_1, cmp_lt, cmp_le, cmp_gt, cmp_ge, cmp_eq, not_true_eq_false, not_false_eq_true, if_true, if_false, ite_true, ite_false, true_and, and_true, false_and, and_false, Int.reduceLT, Int.reduceLE, Int.reduceEq, Int.reduceSub, Int.reduceAdd, Int.reduceNeg, Int.reduceMul, Classical.not_not, Int.zero_add, Int.add_zero, Int.le_refl, t47_0, t47_1, t47_2, m40, m25]
      rw [if_pos hb]
    · simp only [kI_v, kL_v, kV_v, kR_v, kX_n, kX_e, bd_e, b2i_e0, b2i_e1, b2i_nb, nb_0, nb_1, cmp_lt, cmp_le, cmp_gt, cmp_ge, cmp_eq, not_true_eq_false, not_false_eq_true, if_true, if_false, ite_true, ite_false, true_and, and_true, false_and, and_false, Int.reduceLT, Int.reduceLE, Int.reduceEq, Int.reduceSub, Int.reduceAdd, Int.reduceNeg, Int.reduceMul, Classical.not_not, Int.zero_add, Int.add_zero, Int.le_refl, t297_0, t297_1, t297_2, m289, m189]
      rw [if_pos hb]
theorem op_window {I : Mem → Prop} (hw : IWn M) (hI : I M) : Op2 S0 S0 48 [vR 1 0, vI w, vI k, vJ] 298 [vR 22 0, vI w, vI k] M I := by
  by_cases hb : (0 ≤ w ∧ w ≤ 5) ∧ 0 ≤ k ∧ k ≤ 2
  · obtain ⟨a1, a2, a3, a4, a5⟩ := hw w hb.1.1 (by omega)
    refine Op2_ret (v := if k = 0 then M 22018 0 w else if M 22019 0 w = -99999999 then -99999999 else if k = 1 then M 22019 0 w else M 22020 0 w) (fun Q => ?_) (fun Q => ?_) hI
    · simp only [kI_v, kL_v, kV_v, kR_v, kX_n, kX_e, bd_e, b2i_e0, b2i_e1, b2i_nb, nb_0, nb_1, cmp_lt, cmp_le, cmp_gt, cmp_ge, cmp_eq, not_true_eq_false, not_false_eq_true, if_true, if_false, ite_true, ite_false, true_and, and_true, false_and, and_false, Int.reduceLT, Int.reduceLE, Int.reduceEq, Int.reduceSub, Int.reduceAdd, Int.reduceNeg, Int.reduceMul, Classical.not_not, Int.zero_add, Int.add_zero, Int.le_refl, t48_0, t48_1, t48_2, t48_3, t48_4, t48_5, t48_6, t48_7, m40, m25]
      rw [if_neg (show ¬ ¬ (0 ≤ w ∧ w ≤ 5) by omega), if_pos hb.2, a1]
      refine andi (by omega) (ifi (fun d => ?_) (fun d => ?_))
      · rw [if_neg d]
        refine ifi (fun d1 => ?_) (fun d1 => ?_)
        · rw [if_pos (a3 d1)]
        · obtain ⟨b1, b2, b3⟩ := a4 (by omega)
          rw [b1, b2]
          refine ifi (fun d2 => ?_) (fun d2 => ?_)
          · rw [if_neg d2]
            refine ifi (fun d3 => ?_) (fun d3 => ?_)
            · rw [if_neg d3]
            · rw [if_pos (by omega)]
          · rw [if_pos (by omega)]
      · rw [if_pos (by omega)]
    · simp only [kI_v, kL_v, kV_v, kR_v, kX_n, kX_e, bd_e, b2i_e0, b2i_e1, b2i_nb, nb_0, nb_1, cmp_lt, cmp_le, cmp_gt, cmp_ge, cmp_eq, not_true_eq_false, not_false_eq_true, if_true, if_false, ite_true, ite_false, true_and, and_true, false_and, and_false, Int.reduceLT, Int.reduceLE, Int.reduceEq, Int.reduceSub, Int.reduceAdd, Int.reduceNeg, Int.reduceMul, Classical.not_not, Int.zero_add, Int.add_zero, Int.le_refl, t298_0, t298_1, t298_2, t298_3, t298_4, t298_5, t298_6, m289, m189]
      rw [if_neg (show ¬ ¬ (0 ≤ w ∧ w ≤ 5) by omega), if_pos hb.2]
      refine ifi (fun d => ?_) (fun d => ?_)
      · rw [if_neg d]
        refine andi (by omega) (ifi (fun d2 => ?_) (fun d2 => ?_))
        · rw [if_neg d2]
          refine ifi (fun d3 => ?_) (fun d3 => ?_)
          · rw [if_neg d3]
            exact andi (by omega) Iff.rfl
          · rw [if_pos (by omega)]
            exact andi (by omega) Iff.rfl
        · rw [if_pos (by omega)]
      · rw [if_pos (by omega)]
        exact andi (by omega) Iff.rfl
  · refine Op2_ret (v := -1) (fun Q => ?_) (fun Q => ?_) hI
    · simp only [kI_v, kL_v, kV_v, kR_v, kX_n, kX_e, bd_e, b2i_e0, b2i_e1, b2i_nb, nb_0, nb_1, cmp_lt, cmp_le, cmp_gt, cmp_ge, cmp_eq, not_true_eq_false, not_false_eq_true, if_true, if_false, ite_true, ite_false, true_and, and_true, false_and, and_false, Int.reduceLT, Int.reduceLE, Int.reduceEq, Int.reduceSub, Int.reduceAdd, Int.reduceNeg, Int.reduceMul, Classical.not_not, Int.zero_add, Int.add_zero, Int.le_refl, t48_0, t48_1, t48_2, t48_3, t48_4, t48_5, t48_6, t48_7, m40, m25]
      refine ifi (fun d => Iff.rfl) (fun d => ?_)
      rw [if_neg (by omega)]
    · simp only [kI_v, kL_v, kV_v, kR_v, kX_n, kX_e, bd_e, b2i_e0, b2i_e1, b2i_nb, nb_0, nb_1, cmp_lt, cmp_le, cmp_gt, cmp_ge, cmp_eq, not_true_eq_false, not_false_eq_true, if_true, if_false, ite_true, ite_false, true_and, and_true, false_and, and_false, Int.reduceLT, Int.reduceLE, Int.reduceEq, Int.reduceSub, Int.reduceAdd, Int.reduceNeg, Int.reduceMul, Classical.not_not, Int.zero_add, Int.add_zero, Int.le_refl, t298_0, t298_1, t298_2, t298_3, t298_4, t298_5, t298_6, m289, m189]
      refine ifi (fun d => Iff.rfl) (fun d => ?_)
      rw [if_neg (by omega)]
/-- correlate: both loops in step -/
theorem corr_loop (hw : IWn M) (h1 : 0 ≤ x ∧ x ≤ 5) (h2 : 0 ≤ y ∧ y ≤ 5) (hl : -2147483648 ≤ l ∧ l < 2147483648) : ∀ (n : Nat) (i c : Int), 0 ≤ i → M 22018 0 x = i + n → -9223372036854775808 ≤ c → c < 9223372036854775808 → ∃ v, RtL 49 1 [vJ, vJ, vJ, vI l, vL c, vJ, vR 17 x, vR 17 y, vI i, vJ, vJ] [] M v ∧ RtL 299 3 [vR 22 0, vI x, vI y, vI l, vL c, vJ, vI i, vJ, vJ] [] M v := by
  obtain ⟨a1, a2, a3, a4, a5⟩ := hw x h1.1 (by omega)
  obtain ⟨b1, b2, b3, b4, b5⟩ := hw y h2.1 (by omega)
  intro n
  induction n with
  | zero =>
    intro i c h3 h4 h5 h6
    refine ⟨c, fun Q => ?_, fun Q => ?_⟩
    · rw [t49_1, if_pos (by omega), t49_4]
    · rw [t299_3, if_pos (by omega), t299_5]
      exact andi (by omega) Iff.rfl
  | succ n ih =>
    intro i c h3 h4 h5 h6
    have e1 := a5 i h3 (by omega)
    by_cases d : 0 ≤ i + l ∧ i + l < M 22018 0 y
    · have e2 := b5 (i + l) d.1 d.2
      have hr := w64_rng (c + w64 (clip (M 17000 x i) * clip (M 17000 y (i + l))))
      obtain ⟨v, v1, v2⟩ := ih (i + 1) (w64 (c + w64 (clip (M 17000 x i) * clip (M 17000 y (i + l))))) (by omega) (by omega) hr.1 hr.2
      refine ⟨v, fun Q => ?_, fun Q => ?_⟩
      · refine Iff.trans ?_ (v1 Q)
        rw [t49_1]
        simp only [kI_v, kL_v, kV_v, kR_v, kX_n, kX_e, bd_e, b2i_e0, b2i_e1, b2i_nb, nb_0, nb_1, cmp_lt, cmp_le, cmp_gt, cmp_ge, cmp_eq, not_true_eq_false, not_false_eq_true, if_true, if_false, ite_true, ite_false, true_and, and_true, false_and, and_false, Int.reduceLT, Int.reduceLE, Int.reduceEq, Int.reduceSub, Int.reduceAdd, Int.reduceNeg, Int.reduceMul, Classical.not_not, Int.zero_add, Int.add_zero, Int.le_refl, t49_2, t49_3, m50]
        rw [if_neg (by omega), w64_id (z := i + l) (by omega) (by omega), if_neg (by omega), if_neg (by omega), w32_id (z := i + l) (by omega) (by omega), w32_id (z := i + 1) (by omega) (by omega)]
        exact andi (by omega) (andi (by omega) Iff.rfl)
      · refine Iff.trans ?_ (v2 Q)
        rw [t299_3]
        simp only [kI_v, kL_v, kV_v, kR_v, kX_n, kX_e, bd_e, b2i_e0, b2i_e1, b2i_nb, nb_0, nb_1, cmp_lt, cmp_le, cmp_gt, cmp_ge, cmp_eq, not_true_eq_false, not_false_eq_true, if_true, if_false, ite_true, ite_false, true_and, and_true, false_and, and_false, Int.reduceLT, Int.reduceLE, Int.reduceEq, Int.reduceSub, Int.reduceAdd, Int.reduceNeg, Int.reduceMul, Classical.not_not, Int.zero_add, Int.add_zero, Int.le_refl, t299_4, m300]
        rw [if_neg (by omega), w64_id (z := i + l) (by omega) (by omega), if_neg (by omega), if_neg (by omega), w32_id (z := i + l) (by omega) (by omega), w32_id (z := 512 * x) (by omega) (by omega), w32_id (z := 512 * y) (by omega) (by omega), w32_id (z := 512 * x + i) (by omega) (by omega), w32_id (z := 512 * y + (i + l)) (by omega) (by omega), w32_id (z := i + 1) (by omega) (by omega)]
        rw [e1.1, e2.1]
        exact andi (by omega) (andi (by omega) (andi (by omega) (andi (by omega) Iff.rfl)))
    · obtain ⟨v, v1, v2⟩ := ih (i + 1) c (by omega) (by omega) h5 h6
      refine ⟨v, fun Q => ?_, fun Q => ?_⟩
      · refine Iff.trans ?_ (v1 Q)
        rw [t49_1]
        simp only [kI_v, kL_v, kV_v, kR_v, kX_n, kX_e, bd_e, b2i_e0, b2i_e1, b2i_nb, nb_0, nb_1, cmp_lt, cmp_le, cmp_gt, cmp_ge, cmp_eq, not_true_eq_false, not_false_eq_true, if_true, if_false, ite_true, ite_false, true_and, and_true, false_and, and_false, Int.reduceLT, Int.reduceLE, Int.reduceEq, Int.reduceSub, Int.reduceAdd, Int.reduceNeg, Int.reduceMul, Classical.not_not, Int.zero_add, Int.add_zero, Int.le_refl, t49_2, t49_3]
        rw [if_neg (by omega), w64_id (z := i + l) (by omega) (by omega), w32_id (z := i + 1) (by omega) (by omega), w64_id (z := c) (by omega) (by omega)]
        refine ifi (fun _ => Iff.rfl) (fun q1 => ?_)
        rw [if_pos (by omega)]
      · refine Iff.trans ?_ (v2 Q)
        rw [t299_3]
        simp only [kI_v, kL_v, kV_v, kR_v, kX_n, kX_e, bd_e, b2i_e0, b2i_e1, b2i_nb, nb_0, nb_1, cmp_lt, cmp_le, cmp_gt, cmp_ge, cmp_eq, not_true_eq_false, not_false_eq_true, if_true, if_false, ite_true, ite_false, true_and, and_true, false_and, and_false, Int.reduceLT, Int.reduceLE, Int.reduceEq, Int.reduceSub, Int.reduceAdd, Int.reduceNeg, Int.reduceMul, Classical.not_not, Int.zero_add, Int.add_zero, Int.le_refl, t299_4]
        rw [if_neg (by omega), w64_id (z := i + l) (by omega) (by omega), w32_id (z := i + 1) (by omega) (by omega)]
        refine andi (by omega) (ifi (fun _ => Iff.rfl) (fun q1 => ?_))
        rw [if_pos (by omega)]
        exact andi (by omega) Iff.rfl
theorem op_correlate {I : Mem → Prop} (hw : IWn M) (hl : -2147483648 ≤ l ∧ l < 2147483648) (hI : I M) : Op2L S0 S0 49 [vR 1 0, vI x, vI y, vI l, vJ, vJ, vJ, vJ, vJ, vJ, vJ] 299 [vR 22 0, vI x, vI y, vI l, vJ, vJ, vJ, vJ, vJ] M I := by
  by_cases hb : (0 ≤ x ∧ x ≤ 5) ∧ 0 ≤ y ∧ y ≤ 5
  · obtain ⟨a1, a2, a3, a4, a5⟩ := hw x hb.1.1 (by omega)
    obtain ⟨v, v1, v2⟩ := corr_loop hw hb.1 hb.2 hl (M 22018 0 x).toNat 0 0 (by omega) (by omega) (by omega) (by omega)
    refine Op2L_ret (v := v) (fun Q => ?_) (fun Q => ?_) hI
    · simp only [kI_v, kL_v, kV_v, kR_v, kX_n, kX_e, bd_e, b2i_e0, b2i_e1, b2i_nb, nb_0, nb_1, cmp_lt, cmp_le, cmp_gt, cmp_ge, cmp_eq, not_true_eq_false, not_false_eq_true, if_true, if_false, ite_true, ite_false, true_and, and_true, false_and, and_false, Int.reduceLT, Int.reduceLE, Int.reduceEq, Int.reduceSub, Int.reduceAdd, Int.reduceNeg, Int.reduceMul, Classical.not_not, Int.zero_add, Int.add_zero, Int.le_refl, t49_0, m40]
      rw [if_neg (show ¬ ¬ (0 ≤ x ∧ x ≤ 5) by omega), if_neg (show ¬ ¬ (0 ≤ y ∧ y ≤ 5) by omega), v1]
      exact andi (by omega) (andi (by omega) Iff.rfl)
    · simp only [kI_v, kL_v, kV_v, kR_v, kX_n, kX_e, bd_e, b2i_e0, b2i_e1, b2i_nb, nb_0, nb_1, cmp_lt, cmp_le, cmp_gt, cmp_ge, cmp_eq, not_true_eq_false, not_false_eq_true, if_true, if_false, ite_true, ite_false, true_and, and_true, false_and, and_false, Int.reduceLT, Int.reduceLE, Int.reduceEq, Int.reduceSub, Int.reduceAdd, Int.reduceNeg, Int.reduceMul, Classical.not_not, Int.zero_add, Int.add_zero, Int.le_refl, t299_0, t299_1, t299_2, m289]
      rw [if_neg (show ¬ ¬ (0 ≤ x ∧ x ≤ 5) by omega), if_pos hb.2, v2]
  · refine Op2L_ret (v := 0) (fun Q => ?_) (fun Q => ?_) hI
    · simp only [kI_v, kL_v, kV_v, kR_v, kX_n, kX_e, bd_e, b2i_e0, b2i_e1, b2i_nb, nb_0, nb_1, cmp_lt, cmp_le, cmp_gt, cmp_ge, cmp_eq, not_true_eq_false, not_false_eq_true, if_true, if_false, ite_true, ite_false, true_and, and_true, false_and, and_false, Int.reduceLT, Int.reduceLE, Int.reduceEq, Int.reduceSub, Int.reduceAdd, Int.reduceNeg, Int.reduceMul, Classical.not_not, Int.zero_add, Int.add_zero, Int.le_refl, t49_0, t49_4, m40]
      refine ifi (fun d => Iff.rfl) (fun d => ?_)
      rw [if_pos (by omega)]
    · simp only [kI_v, kL_v, kV_v, kR_v, kX_n, kX_e, bd_e, b2i_e0, b2i_e1, b2i_nb, nb_0, nb_1, cmp_lt, cmp_le, cmp_gt, cmp_ge, cmp_eq, not_true_eq_false, not_false_eq_true, if_true, if_false, ite_true, ite_false, true_and, and_true, false_and, and_false, Int.reduceLT, Int.reduceLE, Int.reduceEq, Int.reduceSub, Int.reduceAdd, Int.reduceNeg, Int.reduceMul, Classical.not_not, Int.zero_add, Int.add_zero, Int.le_refl, t299_0, t299_1, m289]
      refine ifi (fun d => Iff.rfl) (fun d => ?_)
      rw [if_neg (by omega)]
end Win
