/-! STATIONS: gap, quality -/
theorem ifi {c : Prop} [Decidable c] {A B R : Prop} (h1 : c → (A ↔ R)) (h2 : ¬ c → (B ↔ R)) : (if c then A else B) ↔ R := by
  by_cases h : c
  · rw [if_pos h]; exact h1 h
  · rw [if_neg h]; exact h2 h
theorem ifg {c : Prop} [Decidable c] {A B : Prop} (h1 : c → A) (h2 : ¬ c → B) : if c then A else B := by
  by_cases h : c
  · rw [if_pos h]; exact h1 h
  · rw [if_neg h]; exact h2 h
theorem andi {p A R : Prop} (h : p) (h' : A ↔ R) : (p ∧ A) ↔ R := (and_iff_right h).trans h'
section Net2
variable {M P : Mem} {Q : AR → Mem → Prop} {s t k w x y : Int}
/-- a gap below none is never there -/
theorem gap_neg (hs : 0 ≤ s ∧ s < 12) (hk : k < 0) : ∀ (n : Nat) (t f a : Int), 0 ≤ t → t + n = 4096 → 0 ≤ f → f ≤ t → (a = -99999999 ∨ 0 ≤ a ∧ a < t) → RtI 272 3 [vR 22 0, vI s, vI k, vI w, vI f, vI a, vI t] [] M (-99999999) := by
  intro n
  induction n with
  | zero =>
    intro t f a h1 h2 h3 h4 h5 Q
    rw [t272_3, if_pos (by omega), t272_9]
  | succ n ih =>
    intro t f a h1 h2 h3 h4 h5 Q
    rw [t272_3, if_neg (by omega), w32_id (z := 4096 * s) (by omega) (by omega), w32_id (z := 4096 * s + t) (by omega) (by omega)]
    refine andi (by omega) ?_
    simp only [kI_v, kL_v, kV_v, kR_v, kX_n, kX_e, bd_e, b2i_e0, b2i_e1, b2i_nb, nb_0, nb_1, cmp_lt, cmp_le, cmp_gt, cmp_ge, cmp_eq, not_true_eq_false, not_false_eq_true, if_true, if_false, ite_true, ite_false, true_and, and_true, false_and, and_false, Int.reduceLT, Int.reduceLE, Int.reduceEq, Int.reduceSub, Int.reduceAdd, Int.reduceNeg, Int.reduceMul, Classical.not_not, Int.zero_add, Int.add_zero, Int.le_refl, t272_4, t272_5, t272_6, t272_7, t272_8]
    rw [w32_id (z := t + 1) (by omega) (by omega), w32_id (z := f + 1) (by omega) (by omega), w32_id (z := a + 1) (by omega) (by omega)]
    refine ifi (fun c0 => ?_) (fun c0 => ifi (fun c1 => ?_) (fun c1 => ifi (fun c2 => ?_) (fun c2 => ifi (fun c3 => ?_) (fun c3 => ?_))))
    · exact ih _ _ _ (by omega) (by omega) (by omega) (by omega) (by omega) Q
    · exact ih _ _ _ (by omega) (by omega) (by omega) (by omega) (by omega) Q
    · exact ih _ _ _ (by omega) (by omega) (by omega) (by omega) (by omega) Q
    · exact ih _ _ _ (by omega) (by omega) (by omega) (by omega) (by omega) Q
    · omega
theorem op_gap {I : Mem → Prop} (hw : WNet P) (hc : CNet M P) (hr : RNet M P) (hk : -2147483648 ≤ k ∧ k < 2147483648) (hI : I M) : Op2 S0 S0 37 [vR 1 0, vI s, vI k, vI w] 272 [vR 22 0, vI s, vI k, vI w, vJ, vJ, vJ] M I := by
  obtain ⟨⟨w1, w2⟩, w3, w4⟩ := hw
  obtain ⟨c1, c2, c3⟩ := hc
  obtain ⟨r1, r2, r3⟩ := hr
  have g1 : ∀ Q, Tq 37 0 [vR 1 0, vI s, vI k, vI w] [] M Q ↔ (if ¬ ((0 ≤ s ∧ s < P 22 0 9) ∧ 0 ≤ w ∧ w ≤ 1) then Q (.inl (some (vI (-1)))) M else Tq 357 0 [vR 5 0, vI s, vI k, vI w, vJ, vJ, vJ] [] M (kI fun v M' => Q (.inl (some (vI v))) M')) := by
    intro Q
    simp only [kI_v, kL_v, kV_v, kR_v, kX_n, kX_e, bd_e, b2i_e0, b2i_e1, b2i_nb, nb_0, nb_1, cmp_lt, cmp_le, cmp_gt, cmp_ge, cmp_eq, not_true_eq_false, not_false_eq_true, if_true, if_false, ite_true, ite_false, true_and, and_true, false_and, and_false, Int.reduceLT, Int.reduceLE, Int.reduceEq, Int.reduceSub, Int.reduceAdd, Int.reduceNeg, Int.reduceMul, Classical.not_not, Int.zero_add, Int.add_zero, Int.le_refl, t37_0, t37_1, t37_2, t37_3, m353 (M := M) (show 0 ≤ M 5 0 0 ∧ M 5 0 0 ≤ 12 by omega), m25]
    rw [show M 5 0 0 = P 22 0 9 from c1]
    refine ifi (fun d1 => ?_) (fun d1 => ifi (fun d2 => ?_) (fun d2 => ?_))
    · rw [if_pos (by omega)]
    · rw [if_neg (by omega)]
    · rw [if_pos (by omega)]
  have g2 : ∀ Q, Tq 272 0 [vR 22 0, vI s, vI k, vI w, vJ, vJ, vJ] [] M Q ↔ (if ¬ ((0 ≤ s ∧ s < P 22 0 9) ∧ 0 ≤ w ∧ w ≤ 1) then Q (.inl (some (vI (-1)))) M else Tq 272 3 [vR 22 0, vI s, vI k, vI w, vI 0, vI (-99999999), vI 0] [] M Q) := by
    intro Q
    simp only [kI_v, kL_v, kV_v, kR_v, kX_n, kX_e, bd_e, b2i_e0, b2i_e1, b2i_nb, nb_0, nb_1, cmp_lt, cmp_le, cmp_gt, cmp_ge, cmp_eq, not_true_eq_false, not_false_eq_true, if_true, if_false, ite_true, ite_false, true_and, and_true, false_and, and_false, Int.reduceLT, Int.reduceLE, Int.reduceEq, Int.reduceSub, Int.reduceAdd, Int.reduceNeg, Int.reduceMul, Classical.not_not, Int.zero_add, Int.add_zero, Int.le_refl, t272_0, t272_1, t272_2, m270 (M := M) (show 0 ≤ M 22 0 9 ∧ M 22 0 9 ≤ 12 by omega), m189]
    rw [show M 22 0 9 = P 22 0 9 from r1]
    refine ifi (fun d1 => ?_) (fun d1 => ifi (fun d2 => ?_) (fun d2 => ?_))
    · rw [if_pos (by omega)]
    · rw [if_neg (by omega)]
    · rw [if_pos (by omega)]
  by_cases hb : (0 ≤ s ∧ s < P 22 0 9) ∧ 0 ≤ w ∧ w ≤ 1
  · have he : ∀ j, 0 ≤ j → j < 49152 → M 5004 0 j = M 22012 0 j ∧ (M 5004 0 j = 0 ∨ M 5004 0 j = 1) := fun j q1 q2 => by
      rw [(c3 j q1 q2).1, (r3 j q1 q2).1]
      exact ⟨rfl, (w4 j q1 q2).1⟩
    by_cases hn : k < 0
    · refine Op2_ret (v := -99999999) (fun Q => ?_) (fun Q => ?_) hI
      · rw [g1, if_neg (by omega), t357_0, t357_1, if_neg (by omega), if_pos hn, t357_7, kI_v]
      · rw [g2, if_neg (by omega)]
        exact gap_neg (by omega) hn 4096 0 0 _ (by omega) (by omega) (by omega) (by omega) (by omega) Q
    · obtain ⟨v, v1, v2⟩ := gap_loop (w := w) (show 0 ≤ s ∧ s < 12 by omega) he hk 4096 0 k (-99999999) 0 (-99999999) (by omega) (by omega) (by omega) (by omega) (by omega) (by omega) (by omega)
      refine Op2_ret (v := v) (fun Q => ?_) (fun Q => ?_) hI
      · rw [g1, if_neg (by omega), t357_0, v1, kI_v]
      · rw [g2, if_neg (by omega), v2]
  · refine Op2_ret (v := -1) (fun Q => ?_) (fun Q => ?_) hI
    · rw [g1, if_pos hb]
    · rw [g2, if_pos hb]
/-- quality: both loops in step -/
theorem qual_loop (hs : 0 ≤ s ∧ s < 12) (he : ∀ j, 0 ≤ j → j < 49152 → M 5004 0 j = M 22012 0 j ∧ (¬ M 22012 0 j = 0 → M 5003 0 j = M 22013 0 j)) : ∀ (n : Nat) (t m a b c : Int), 0 ≤ t → t + n = 4096 → 0 ≤ m → m ≤ t → ∃ v, RtL 358 1 [vR 5 0, vI s, vI w, vI m, vI a, vI b, vL c, vJ, vI (s * 4096 + t)] [] M v ∧ RtL 273 6 [vR 22 0, vI s, vI w, vI m, vL a, vJ, vL b, vJ, vL c, vJ, vI t, vJ] [] M v := by
  intro n
  induction n with
  | zero =>
    intro t m a b c h1 h2 h3 h4
    refine ⟨if w = 2 then m else if w = 3 then a else if w = 4 then b else c, fun Q => ?_, fun Q => ?_⟩
    · rw [t358_1, w32_id (z := s * 4096) (by omega) (by omega), w32_id (by omega) (by omega), if_pos (by omega)]
      simp only [kI_v, kL_v, kV_v, kR_v, kX_n, kX_e, bd_e, b2i_e0, b2i_e1, b2i_nb, nb_0, nb_1, cmp_lt, cmp_le, cmp_gt, cmp_ge, cmp_eq, not_true_eq_false, not_false_eq_true, if_true, if_false, ite_true, ite_false, true_and, and_true, false_and, and_false, Int.reduceLT, Int.reduceLE, Int.reduceEq, Int.reduceSub, Int.reduceAdd, Int.reduceNeg, Int.reduceMul, Classical.not_not, Int.zero_add, Int.add_zero, Int.le_refl, t358_7, t358_8, t358_9, t358_10, t358_11]
      refine ifi (fun d => ?_) (fun d => ?_)
      · rw [if_neg d]
        refine ifi (fun d => ?_) (fun d => ?_)
        · rw [if_neg d]
          refine ifi (fun d => ?_) (fun d => ?_)
          · rw [if_neg d]
          · rw [if_pos (by omega)]
        · rw [if_pos (by omega)]
      · rw [if_pos (by omega)]
    · rw [t273_6, if_pos (by omega)]
      simp only [kI_v, kL_v, kV_v, kR_v, kX_n, kX_e, bd_e, b2i_e0, b2i_e1, b2i_nb, nb_0, nb_1, cmp_lt, cmp_le, cmp_gt, cmp_ge, cmp_eq, not_true_eq_false, not_false_eq_true, if_true, if_false, ite_true, ite_false, true_and, and_true, false_and, and_false, Int.reduceLT, Int.reduceLE, Int.reduceEq, Int.reduceSub, Int.reduceAdd, Int.reduceNeg, Int.reduceMul, Classical.not_not, Int.zero_add, Int.add_zero, Int.le_refl, t273_14, t273_15, t273_16, t273_17, t273_18]
      refine ifi (fun d => ?_) (fun d => ?_)
      · rw [if_neg d]
        refine ifi (fun d => ?_) (fun d => ?_)
        · rw [if_neg d]
          refine ifi (fun d => ?_) (fun d => ?_)
          · rw [if_neg d]
          · rw [if_pos (by omega)]
        · rw [if_pos (by omega)]
      · rw [if_pos (by omega)]
  | succ n ih =>
    intro t m a b c h1 h2 h3 h4
    obtain ⟨e1, e2⟩ := he (s * 4096 + t) (by omega) (by omega)
    have hy : s * 4096 + (t + 1) = s * 4096 + t + 1 := by omega
    by_cases c0 : M 22012 0 (s * 4096 + t) = 0
    · obtain ⟨v, v1, v2⟩ := ih (t + 1) m a b c (by omega) (by omega) h3 (by omega)
      refine ⟨v, fun Q => ?_, fun Q => ?_⟩
      · rw [t358_1, w32_id (z := s * 4096) (by omega) (by omega), w32_id (by omega) (by omega), if_neg (by omega)]
        refine andi (by omega) ?_
        rw [e1, if_pos c0, t358_6, w32_id (by omega) (by omega), ← hy, v1]
      · rw [t273_6, if_neg (by omega), w32_id (z := 4096 * s) (by omega) (by omega), w32_id (z := 4096 * s + t) (by omega) (by omega), Int.mul_comm 4096 s]
        refine andi (by omega) (andi (by omega) ?_)
        rw [if_pos c0, t273_13, w32_id (by omega) (by omega), v2]
    · have e2 := e2 c0
      obtain ⟨v, v1, v2⟩ := ih (t + 1) (m + 1) (if m = 0 then M 5003 0 (s * 4096 + t) else min a (M 5003 0 (s * 4096 + t))) (if m = 0 then M 5003 0 (s * 4096 + t) else max b (M 5003 0 (s * 4096 + t))) (w64 (c + M 5003 0 (s * 4096 + t))) (by omega) (by omega) (by omega) (by omega)
      refine ⟨v, fun Q => ?_, fun Q => ?_⟩
      · refine Iff.trans ?_ (v1 Q)
        rw [hy, t358_1, w32_id (z := s * 4096) (by omega) (by omega), w32_id (by omega) (by omega), if_neg (by omega)]
        refine andi (by omega) ?_
        simp only [kI_v, kL_v, kV_v, kR_v, kX_n, kX_e, bd_e, b2i_e0, b2i_e1, b2i_nb, nb_0, nb_1, cmp_lt, cmp_le, cmp_gt, cmp_ge, cmp_eq, not_true_eq_false, not_false_eq_true, if_true, if_false, ite_true, ite_false, true_and, and_true, false_and, and_false, Int.reduceLT, Int.reduceLE, Int.reduceEq, Int.reduceSub, Int.reduceAdd, Int.reduceNeg, Int.reduceMul, Classical.not_not, Int.zero_add, Int.add_zero, Int.le_refl, t358_2, t358_3, t358_4, t358_5, t358_6, e1, m8, m9]
        rw [if_neg c0, w32_id (z := s * 4096 + t + 1) (by omega) (by omega), w32_id (z := m + 1) (by omega) (by omega)]
        by_cases d : m = 0
        · simp only [d, not_true_eq_false, if_false, if_true]
          exact andi (by omega) (andi (by omega) (andi (by omega) Iff.rfl))
        · simp only [d, not_false_eq_true, if_false, if_true]
          exact andi (by omega) (andi (by omega) (andi (by omega) Iff.rfl))
      · refine Iff.trans ?_ (v2 Q)
        rw [t273_6, if_neg (by omega), w32_id (z := 4096 * s) (by omega) (by omega), w32_id (z := 4096 * s + t) (by omega) (by omega), Int.mul_comm 4096 s]
        refine andi (by omega) (andi (by omega) ?_)
        simp only [kI_v, kL_v, kV_v, kR_v, kX_n, kX_e, bd_e, b2i_e0, b2i_e1, b2i_nb, nb_0, nb_1, cmp_lt, cmp_le, cmp_gt, cmp_ge, cmp_eq, not_true_eq_false, not_false_eq_true, if_true, if_false, ite_true, ite_false, true_and, and_true, false_and, and_false, Int.reduceLT, Int.reduceLE, Int.reduceEq, Int.reduceSub, Int.reduceAdd, Int.reduceNeg, Int.reduceMul, Classical.not_not, Int.zero_add, Int.add_zero, Int.le_refl, t273_7, t273_8, t273_9, t273_10, t273_11, t273_12, t273_13]
        rw [if_neg c0, w32_id (z := t + 1) (by omega) (by omega), w32_id (z := m + 1) (by omega) (by omega), ← e2]
        by_cases d : m = 0
        · simp only [d, if_true]
        · simp only [d, if_false]
          by_cases d1 : a ≤ M 5003 0 (s * 4096 + t)
          · rw [if_pos d1, show min a (M 5003 0 (s * 4096 + t)) = a by omega]
            by_cases d2 : M 5003 0 (s * 4096 + t) ≤ b
            · rw [if_pos d2, show max b (M 5003 0 (s * 4096 + t)) = b by omega]
            · rw [if_neg d2, show max b (M 5003 0 (s * 4096 + t)) = M 5003 0 (s * 4096 + t) by omega]
          · rw [if_neg d1, show min a (M 5003 0 (s * 4096 + t)) = M 5003 0 (s * 4096 + t) by omega]
            by_cases d2 : M 5003 0 (s * 4096 + t) ≤ b
            · rw [if_pos d2, show max b (M 5003 0 (s * 4096 + t)) = b by omega]
            · rw [if_neg d2, show max b (M 5003 0 (s * 4096 + t)) = M 5003 0 (s * 4096 + t) by omega]
theorem op_quality {I : Mem → Prop} (hw : WNet P) (hc : CNet M P) (hr : RNet M P) (hI : I M) : Op2L S0 S0 38 [vR 1 0, vI s, vI w] 273 [vR 22 0, vI s, vI w, vJ, vJ, vJ, vJ, vJ, vJ, vJ, vJ, vJ] M I := by
  obtain ⟨⟨w1, w2⟩, w3, w4⟩ := hw
  obtain ⟨c1, c2, c3⟩ := hc
  obtain ⟨r1, r2, r3⟩ := hr
  have he : ∀ j, 0 ≤ j → j < 49152 → M 5004 0 j = M 22012 0 j ∧ (¬ M 22012 0 j = 0 → M 5003 0 j = M 22013 0 j) := fun j q1 q2 => by
    rw [(c3 j q1 q2).1, (r3 j q1 q2).1]
    exact ⟨rfl, fun h => by
      have : P 22012 0 j = 1 := by rcases (w4 j q1 q2).1 with h' | h'; exact absurd h' h; exact h'
      rw [(c3 j q1 q2).2 this, (r3 j q1 q2).2 this]⟩
  by_cases hb : 0 ≤ s ∧ s < P 22 0 9
  · by_cases hv : 0 ≤ w ∧ w ≤ 5
    · obtain ⟨v, v1, v2⟩ := qual_loop (w := w) (show 0 ≤ s ∧ s < 12 by omega) he 4096 0 0 0 0 0 (by omega) (by omega) (by omega) (by omega)
      rw [Int.add_zero] at v1
      refine Op2L_ret (v := if w = 0 then P 22010 0 s else if w = 1 then P 22011 0 s else v) (fun Q => ?_) (fun Q => ?_) hI
      · simp only [kI_v, kL_v, kV_v, kR_v, kX_n, kX_e, bd_e, b2i_e0, b2i_e1, b2i_nb, nb_0, nb_1, cmp_lt, cmp_le, cmp_gt, cmp_ge, cmp_eq, not_true_eq_false, not_false_eq_true, if_true, if_false, ite_true, ite_false, true_and, and_true, false_and, and_false, Int.reduceLT, Int.reduceLE, Int.reduceEq, Int.reduceSub, Int.reduceAdd, Int.reduceNeg, Int.reduceMul, Classical.not_not, Int.zero_add, Int.add_zero, Int.le_refl, t38_0, t38_1, t38_2, t38_3, t38_4, t38_5, m353 (M := M) (show 0 ≤ M 5 0 0 ∧ M 5 0 0 ≤ 12 by omega), m25, t358_0]
        rw [if_neg (show ¬ ¬ (0 ≤ s ∧ s < M 5 0 0) by omega), if_pos hv, w32_id (z := s * 4096) (by omega) (by omega), v1, kL_v, (c2 s hb.1 hb.2).1, (c2 s hb.1 hb.2).2]
        refine ifi (fun d => ?_) (fun d => ?_)
        · rw [if_neg d]
          refine ifi (fun d => ?_) (fun d => ?_)
          · rw [if_neg d]
          · rw [if_pos (by omega), and_iff_right (by omega)]
        · rw [if_pos (by omega), and_iff_right (by omega)]
      · simp only [kI_v, kL_v, kV_v, kR_v, kX_n, kX_e, bd_e, b2i_e0, b2i_e1, b2i_nb, nb_0, nb_1, cmp_lt, cmp_le, cmp_gt, cmp_ge, cmp_eq, not_true_eq_false, not_false_eq_true, if_true, if_false, ite_true, ite_false, true_and, and_true, false_and, and_false, Int.reduceLT, Int.reduceLE, Int.reduceEq, Int.reduceSub, Int.reduceAdd, Int.reduceNeg, Int.reduceMul, Classical.not_not, Int.zero_add, Int.add_zero, Int.le_refl, t273_0, t273_1, t273_2, t273_3, t273_4, t273_5, m270 (M := M) (show 0 ≤ M 22 0 9 ∧ M 22 0 9 ≤ 12 by omega), m189]
        rw [if_neg (show ¬ ¬ (0 ≤ s ∧ s < M 22 0 9) by omega), if_pos hv, v2, (r2 s hb.1 hb.2).1, (r2 s hb.1 hb.2).2]
        refine ifi (fun d => ?_) (fun d => ifi (fun d1 => ?_) (fun d1 => ?_))
        · rw [if_neg (by omega), if_neg (by omega)]
        · rw [if_neg d1, if_pos (by omega), and_iff_right (by omega)]
        · rw [if_pos (by omega), and_iff_right (by omega)]
    · refine Op2L_ret (v := -1) (fun Q => ?_) (fun Q => ?_) hI
      · simp only [kI_v, kL_v, kV_v, kR_v, kX_n, kX_e, bd_e, b2i_e0, b2i_e1, b2i_nb, nb_0, nb_1, cmp_lt, cmp_le, cmp_gt, cmp_ge, cmp_eq, not_true_eq_false, not_false_eq_true, if_true, if_false, ite_true, ite_false, true_and, and_true, false_and, and_false, Int.reduceLT, Int.reduceLE, Int.reduceEq, Int.reduceSub, Int.reduceAdd, Int.reduceNeg, Int.reduceMul, Classical.not_not, Int.zero_add, Int.add_zero, Int.le_refl, t38_0, t38_1, t38_2, t38_3, t38_4, t38_5, m353 (M := M) (show 0 ≤ M 5 0 0 ∧ M 5 0 0 ≤ 12 by omega), m25]
        rw [if_neg (show ¬ ¬ (0 ≤ s ∧ s < M 5 0 0) by omega), if_neg hv]
      · simp only [kI_v, kL_v, kV_v, kR_v, kX_n, kX_e, bd_e, b2i_e0, b2i_e1, b2i_nb, nb_0, nb_1, cmp_lt, cmp_le, cmp_gt, cmp_ge, cmp_eq, not_true_eq_false, not_false_eq_true, if_true, if_false, ite_true, ite_false, true_and, and_true, false_and, and_false, Int.reduceLT, Int.reduceLE, Int.reduceEq, Int.reduceSub, Int.reduceAdd, Int.reduceNeg, Int.reduceMul, Classical.not_not, Int.zero_add, Int.add_zero, Int.le_refl, t273_0, t273_1, t273_2, t273_3, t273_4, t273_5, m270 (M := M) (show 0 ≤ M 22 0 9 ∧ M 22 0 9 ≤ 12 by omega), m189]
        rw [if_neg (show ¬ ¬ (0 ≤ s ∧ s < M 22 0 9) by omega), if_neg hv]
  · refine Op2L_ret (v := -1) (fun Q => ?_) (fun Q => ?_) hI
    · simp only [kI_v, kL_v, kV_v, kR_v, kX_n, kX_e, bd_e, b2i_e0, b2i_e1, b2i_nb, nb_0, nb_1, cmp_lt, cmp_le, cmp_gt, cmp_ge, cmp_eq, not_true_eq_false, not_false_eq_true, if_true, if_false, ite_true, ite_false, true_and, and_true, false_and, and_false, Int.reduceLT, Int.reduceLE, Int.reduceEq, Int.reduceSub, Int.reduceAdd, Int.reduceNeg, Int.reduceMul, Classical.not_not, Int.zero_add, Int.add_zero, Int.le_refl, t38_0, t38_1, t38_2, t38_3, t38_4, t38_5, m353 (M := M) (show 0 ≤ M 5 0 0 ∧ M 5 0 0 ≤ 12 by omega), m25]
      rw [if_pos (show ¬ (0 ≤ s ∧ s < M 5 0 0) by omega)]
    · simp only [kI_v, kL_v, kV_v, kR_v, kX_n, kX_e, bd_e, b2i_e0, b2i_e1, b2i_nb, nb_0, nb_1, cmp_lt, cmp_le, cmp_gt, cmp_ge, cmp_eq, not_true_eq_false, not_false_eq_true, if_true, if_false, ite_true, ite_false, true_and, and_true, false_and, and_false, Int.reduceLT, Int.reduceLE, Int.reduceEq, Int.reduceSub, Int.reduceAdd, Int.reduceNeg, Int.reduceMul, Classical.not_not, Int.zero_add, Int.add_zero, Int.le_refl, t273_0, t273_1, t273_2, t273_3, t273_4, t273_5, m270 (M := M) (show 0 ≤ M 22 0 9 ∧ M 22 0 9 ≤ 12 by omega), m189]
      rw [if_pos (show ¬ (0 ≤ s ∧ s < M 22 0 9) by omega)]
end Net2
