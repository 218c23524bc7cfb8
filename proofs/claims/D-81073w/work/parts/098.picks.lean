/-! PICKS: mark, picked, forget -/
def OkP (s t p w g e s' t' p' w' g' e' st : Int) : Prop := s = s' ∧ t = t' ∧ p = p' ∧ w = w' ∧ g = g' ∧ e = e' ∧ (0 ≤ s' ∧ s' < st) ∧ (0 ≤ t' ∧ t' ≤ 4095) ∧ (0 ≤ p' ∧ p' ≤ 1) ∧ (1 ≤ w' ∧ w' ≤ 9) ∧ (-1 ≤ g' ∧ g' ≤ 1) ∧ (e' = -99999999 ∨ 0 ≤ e' ∧ e' < 24)
def IPk' (n : Int) (s t p w g e : Int → Int) (n' : Int) (q : Int → Int) (st : Int) : Prop := n = n' ∧ (0 ≤ n' ∧ n' ≤ 64) ∧ ∀ j, 0 ≤ j → j < n' → OkP (s j) (t j) (p j) (w j) (g j) (e j) (q (6 * j)) (q (6 * j + 1)) (q (6 * j + 2)) (q (6 * j + 3)) (q (6 * j + 4)) (q (6 * j + 5)) st
def LIPk (f : Nat) (i k : Int) : Prop := (f = 18 ∧ i = 0 ∧ k = 0) ∨ (f = 18001 ∧ i = 0) ∨ (f = 18002 ∧ i = 0) ∨ (f = 18003 ∧ i = 0) ∨ (f = 18004 ∧ i = 0) ∨ (f = 18005 ∧ i = 0) ∨ (f = 18006 ∧ i = 0) ∨ (f = 22 ∧ i = 0 ∧ k = 23) ∨ (f = 22024 ∧ i = 0) ∨ (f = 22 ∧ i = 0 ∧ k = 9)
def IPk (M : Mem) : Prop := IPk' (M 18 0 0) (M 18001 0) (M 18002 0) (M 18003 0) (M 18004 0) (M 18005 0) (M 18006 0) (M 22 0 23) (M 22024 0) (M 22 0 9)
theorem IPk_cg {M M' : Mem} (h : ∀ f i k, LIPk f i k → M' f i k = M f i k) (q : IPk M) : IPk M' := by
  have e0 : M' 18 0 0 = M 18 0 0 := h _ _ _ (by simp [LIPk])
  have e1 : M' 18001 0 = M 18001 0 := by funext k; exact h _ _ _ (by simp [LIPk])
  have e2 : M' 18002 0 = M 18002 0 := by funext k; exact h _ _ _ (by simp [LIPk])
  have e3 : M' 18003 0 = M 18003 0 := by funext k; exact h _ _ _ (by simp [LIPk])
  have e4 : M' 18004 0 = M 18004 0 := by funext k; exact h _ _ _ (by simp [LIPk])
  have e5 : M' 18005 0 = M 18005 0 := by funext k; exact h _ _ _ (by simp [LIPk])
  have e6 : M' 18006 0 = M 18006 0 := by funext k; exact h _ _ _ (by simp [LIPk])
  have e7 : M' 22 0 23 = M 22 0 23 := h _ _ _ (by simp [LIPk])
  have e8 : M' 22024 0 = M 22024 0 := by funext k; exact h _ _ _ (by simp [LIPk])
  have e9 : M' 22 0 9 = M 22 0 9 := h _ _ _ (by simp [LIPk])
  unfold IPk
  rw [e0, e1, e2, e3, e4, e5, e6, e7, e8, e9]
  exact q
theorem IPk_fr {S : Nat → Int → Int → Prop} {M M' : Mem} (q : IPk M) (h : Fr S M M') (hs : ∀ f i k, LIPk f i k → ¬ S f i k) : IPk M' := IPk_cg (fun f i k hl => h f i k (hs f i k hl)) q
def SPkC (f : Nat) (_ _ : Int) : Prop := f = 18 ∨ f = 18001 ∨ f = 18002 ∨ f = 18003 ∨ f = 18004 ∨ f = 18005 ∨ f = 18006
def SPk (f : Nat) (_ k : Int) : Prop := f = 18 ∨ f = 18001 ∨ f = 18002 ∨ f = 18003 ∨ f = 18004 ∨ f = 18005 ∨ f = 18006 ∨ f = 22024 ∨ (f = 22 ∧ k = 23)
theorem SPkC_le {M M' : Mem} (h : Fr SPkC M M') : Fr SPk M M' := h.mono (by simp only [SPkC, SPk]; omega)
section Picks
variable {M P : Mem} {Q : AR → Mem → Prop} {s t k w x y l m n a b c d e : Int}
def cpk (M : Mem) (a b c d e : Int) : Mem := mset (mset (mset (mset (mset (mset (mset M 18001 0 (M 18 0 0) a) 18002 0 (M 18 0 0) b) 18003 0 (M 18 0 0) c) 18004 0 (M 18 0 0) d) 18005 0 (M 18 0 0) e) 18006 0 (M 18 0 0) (-99999999)) 18 0 0 (M 18 0 0 + 1)
def kpk (M : Mem) (a b c d e : Int) : Mem := mset (movl M 22024 0 (6 * M 22 0 23) [a, b, c, d, e, -99999999]) 22 0 23 (M 22 0 23 + 1)
theorem cpk_fr : Fr SPkC M (cpk M a b c d e) := Fr.mset (Fr.mset (Fr.mset (Fr.mset (Fr.mset (Fr.mset (Fr.mset Fr.refl (by simp [SPkC])) (by simp [SPkC])) (by simp [SPkC])) (by simp [SPkC])) (by simp [SPkC])) (by simp [SPkC])) (by simp [SPkC])
theorem m147 (h0 : 0 ≤ M 18 0 0) (h1 : M 18 0 0 < 64) : Tq 147 0 [vR 18 0, vI a, vI b, vI c, vI d, vI e] [] M Q ↔ Q (.inl (some (vI (M 18 0 0)))) (cpk M a b c d e) := by
  have r : ∀ (N : Mem) (f : Nat) (v : Int), ¬ f = 18 → mset N f 0 (M 18 0 0) v 18 0 0 = N 18 0 0 := fun N f v h => by rw [mset_3, if_neg (fun q => h q.1.symm)]
  simp only [kI_v, kL_v, kV_v, kR_v, kX_n, kX_e, bd_e, b2i_e0, b2i_e1, b2i_nb, nb_0, nb_1, cmp_lt, cmp_le, cmp_gt, cmp_ge, cmp_eq, not_true_eq_false, not_false_eq_true, if_true, if_false, ite_true, ite_false, true_and, and_true, false_and, and_false, Int.reduceLT, Int.reduceLE, Int.reduceEq, Int.reduceSub, Int.reduceAdd, Int.reduceNeg, Int.reduceMul, Classical.not_not, Int.zero_add, Int.add_zero, Int.le_refl, t147_0]
  simp only [r _ 18001 _ (by decide), r _ 18002 _ (by decide), r _ 18003 _ (by decide), r _ 18004 _ (by decide), r _ 18005 _ (by decide), r _ 18006 _ (by decide)]
  rw [w32_id (z := M 18 0 0 + 1) (by omega) (by omega), mset_3 (f := 18), if_pos ⟨rfl, rfl, rfl⟩, w32_id (by omega) (by omega), show M 18 0 0 + 1 - 1 = M 18 0 0 by omega]
  exact andi ⟨h0, h1⟩ (andi ⟨h0, h1⟩ (andi ⟨h0, h1⟩ (andi ⟨h0, h1⟩ (andi ⟨h0, h1⟩ (andi ⟨h0, h1⟩ Iff.rfl)))))
theorem m306 (h0 : 0 ≤ M 22 0 23) (h1 : M 22 0 23 < 64) : Tq 306 0 [vR 22 0, vI a, vI b, vI c, vI d, vI e, vJ] [] M Q ↔ Q (.inl (some (vI (M 22 0 23)))) (kpk M a b c d e) := by
  simp only [kI_v, kL_v, kV_v, kR_v, kX_n, kX_e, bd_e, b2i_e0, b2i_e1, b2i_nb, nb_0, nb_1, cmp_lt, cmp_le, cmp_gt, cmp_ge, cmp_eq, not_true_eq_false, not_false_eq_true, if_true, if_false, ite_true, ite_false, true_and, and_true, false_and, and_false, Int.reduceLT, Int.reduceLE, Int.reduceEq, Int.reduceSub, Int.reduceAdd, Int.reduceNeg, Int.reduceMul, Classical.not_not, Int.zero_add, Int.add_zero, Int.le_refl, t306_0]
  rw [w32_id (z := 6 * M 22 0 23) (by omega) (by omega), w32_id (z := 6 * M 22 0 23 + 1) (by omega) (by omega), w32_id (z := 6 * M 22 0 23 + 2) (by omega) (by omega), w32_id (z := 6 * M 22 0 23 + 3) (by omega) (by omega), w32_id (z := 6 * M 22 0 23 + 4) (by omega) (by omega), w32_id (z := 6 * M 22 0 23 + 5) (by omega) (by omega)]
  rw [mset_movl (M := M) (f := 22024), mset_app (by simp), mset_app (by simp), mset_app (by simp), mset_app (by simp), mset_app (by simp), movl_r (by decide), w32_id (z := M 22 0 23 + 1) (by omega) (by omega), mset_3 (f := 22), if_pos ⟨rfl, rfl, rfl⟩, w32_id (by omega) (by omega), show M 22 0 23 + 1 - 1 = M 22 0 23 by omega]
  exact andi (by omega) (andi (by omega) (andi (by omega) (andi (by omega) (andi (by omega) (andi (by omega) Iff.rfl)))))
/-- one more pick on both sides -/
theorem IPk_add (hI : IPk M) (h64 : M 22 0 23 < 64) (ha : 0 ≤ a ∧ a < M 22 0 9) (hb : 0 ≤ b ∧ b ≤ 4095) (hc : 0 ≤ c ∧ c ≤ 1) (hd : 1 ≤ d ∧ d ≤ 9) (he : -1 ≤ e ∧ e ≤ 1) : Fr SPk M (kpk (cpk M a b c d e) a b c d e) ∧ IPk (kpk (cpk M a b c d e) a b c d e) := by
  obtain ⟨i1, i2, i3⟩ := hI
  constructor
  · exact Fr.mset (Fr.movl (SPkC_le cpk_fr) (fun _ => by simp [SPk])) (by simp [SPk])
  · have e23 : cpk M a b c d e 22 0 23 = M 22 0 23 := cpk_fr _ _ _ (by simp [SPkC])
    have e9 : cpk M a b c d e 22 0 9 = M 22 0 9 := cpk_fr _ _ _ (by simp [SPkC])
    have e24 : cpk M a b c d e 22024 0 = M 22024 0 := Fr.row cpk_fr _ _ (fun _ => by simp [SPkC])
    have k : ∀ f j, ¬ f = 22 → ¬ f = 22024 → kpk (cpk M a b c d e) a b c d e f j = cpk M a b c d e f j := fun f j h1 h2 => by
      unfold kpk
      rw [mset_o (fun q => h1 q.1), movl_r h2]
    have k23 : kpk (cpk M a b c d e) a b c d e 22 0 23 = M 22 0 23 + 1 := by
      unfold kpk
      rw [mset_3, if_pos ⟨rfl, rfl, rfl⟩, e23]
    have k9 : kpk (cpk M a b c d e) a b c d e 22 0 9 = M 22 0 9 := by
      unfold kpk
      rw [mset_3, if_neg (by simp), movl_r (by decide), e9]
    have k24 : kpk (cpk M a b c d e) a b c d e 22024 0 = ovl (M 22024 0) (6 * M 22 0 23) [a, b, c, d, e, -99999999] := by
      unfold kpk
      rw [mset_o (by simp), movl_s, e23, e24]
    unfold IPk
    rw [k23, k9, k24, k 18 0 (by decide) (by decide), k 18001 0 (by decide) (by decide), k 18002 0 (by decide) (by decide), k 18003 0 (by decide) (by decide), k 18004 0 (by decide) (by decide), k 18005 0 (by decide) (by decide), k 18006 0 (by decide) (by decide)]
    unfold cpk
    simp only [mset_2, mset_3]
    simp only [Nat.reduceEqDiff, false_and, if_false, and_self, if_true, and_true]
    refine ⟨by rw [show M 18 0 0 = M 22 0 23 from i1], by omega, fun j j1 j2 => ?_⟩
    have i1 : M 18 0 0 = M 22 0 23 := i1
    simp only [fup_at, i1]
    by_cases hj : j = M 22 0 23
    · subst hj
      simp only [if_true]
      have o : ∀ z : Nat, z < 6 → ovl (M 22024 0) (6 * M 22 0 23) [a, b, c, d, e, -99999999] (6 * M 22 0 23 + z) = [a, b, c, d, e, -99999999].getD z 0 := fun z hz => by
        rw [ovl_in (by omega) (by simp; omega), show (6 * M 22 0 23 + (z : Int) - 6 * M 22 0 23).toNat = z by omega]
      have o0 := o 0 (by decide)
      have o1 := o 1 (by decide)
      have o2 := o 2 (by decide)
      have o3 := o 3 (by decide)
      have o4 := o 4 (by decide)
      have o5 := o 5 (by decide)
      simp at o0 o1 o2 o3 o4 o5
      rw [o0, o1, o2, o3, o4, o5]
      exact ⟨rfl, rfl, rfl, rfl, rfl, rfl, ha, hb, hc, hd, he, Or.inl rfl⟩
    · simp only [hj, if_false]
      have o : ∀ z : Int, 0 ≤ z → z < 6 → ovl (M 22024 0) (6 * M 22 0 23) [a, b, c, d, e, -99999999] (6 * j + z) = M 22024 0 (6 * j + z) := fun z z1 z2 => ovl_out (by omega)
      have o0 := o 0 (by decide) (by decide)
      rw [Int.add_zero] at o0
      rw [o0, o 1 (by decide) (by decide), o 2 (by decide) (by decide), o 3 (by decide) (by decide), o 4 (by decide) (by decide), o 5 (by decide) (by decide)]
      exact i3 j j1 (by omega)
theorem op_forget (hI : IPk M) : Op2 SPkC SPk 56 [vR 1 0, vJ] 309 [vR 22 0, vJ] M IPk := by
  obtain ⟨i1, i2, i3⟩ := hI
  unfold Op2
  simp only [kI_v, kL_v, kV_v, kR_v, kX_n, kX_e, bd_e, b2i_e0, b2i_e1, b2i_nb, nb_0, nb_1, cmp_lt, cmp_le, cmp_gt, cmp_ge, cmp_eq, not_true_eq_false, not_false_eq_true, if_true, if_false, ite_true, ite_false, true_and, and_true, false_and, and_false, Int.reduceLT, Int.reduceLE, Int.reduceEq, Int.reduceSub, Int.reduceAdd, Int.reduceNeg, Int.reduceMul, Classical.not_not, Int.zero_add, Int.add_zero, Int.le_refl, t56_0, t309_0]
  refine ⟨Fr.mset Fr.refl (by simp [SPkC]), ?_, Fr.mset (Fr.mset Fr.refl (by simp [SPk])) (by simp [SPk]), ?_⟩
  · rw [mset_3, if_neg (by simp)]
    exact i1
  · unfold IPk
    rw [mset_3, if_neg (by simp), mset_3, if_pos ⟨rfl, rfl, rfl⟩, mset_3 (f := 22), if_pos ⟨rfl, rfl, rfl⟩]
    exact ⟨rfl, by omega, fun j j1 j2 => by omega⟩
theorem op_picked {I : Mem → Prop} (hP : IPk M) (hI : I M) : Op2 S0 S0 55 [vR 1 0, vI x, vI y] 308 [vR 22 0, vI x, vI y] M I := by
  obtain ⟨i1, i2, i3⟩ := hP
  have i1 : M 18 0 0 = M 22 0 23 := i1
  by_cases hb : (0 ≤ x ∧ x < M 22 0 23) ∧ 0 ≤ y ∧ y ≤ 5
  · obtain ⟨p1, p2, p3, p4, p5, p6, -⟩ := i3 x hb.1.1 hb.1.2
    refine Op2_ret (v := M 22024 0 (6 * x + y)) (fun Q => ?_) (fun Q => ?_) hI
    · simp only [kI_v, kL_v, kV_v, kR_v, kX_n, kX_e, bd_e, b2i_e0, b2i_e1, b2i_nb, nb_0, nb_1, cmp_lt, cmp_le, cmp_gt, cmp_ge, cmp_eq, not_true_eq_false, not_false_eq_true, if_true, if_false, ite_true, ite_false, true_and, and_true, false_and, and_false, Int.reduceLT, Int.reduceLE, Int.reduceEq, Int.reduceSub, Int.reduceAdd, Int.reduceNeg, Int.reduceMul, Classical.not_not, Int.zero_add, Int.add_zero, Int.le_refl, t55_0, t55_1, t55_2, m25, t148_0, t148_1, t148_2, t148_3, t148_4, t148_5, t148_6]
      rw [i1, w32_id (by omega) (by omega), if_neg (show ¬ ¬ (0 ≤ x ∧ x ≤ M 22 0 23 - 1) by omega), if_neg (show ¬ ¬ (0 ≤ y ∧ y ≤ 5) by omega), p1, p2, p3, p4, p5, p6]
      refine ifi (fun q => ?_) (fun q0 => ifi (fun q => ?_) (fun q1 => ifi (fun q => ?_) (fun q2 => ifi (fun q => ?_) (fun q3 => ifi (fun q => ?_) (fun q4 => ?_)))))
      · rw [q, Int.add_zero]; exact andi (by omega) Iff.rfl
      · rw [q]; exact andi (by omega) Iff.rfl
      · rw [q]; exact andi (by omega) Iff.rfl
      · rw [q]; exact andi (by omega) Iff.rfl
      · rw [q]; exact andi (by omega) Iff.rfl
      · rw [show y = 5 by omega]; exact andi (by omega) Iff.rfl
    · simp only [kI_v, kL_v, kV_v, kR_v, kX_n, kX_e, bd_e, b2i_e0, b2i_e1, b2i_nb, nb_0, nb_1, cmp_lt, cmp_le, cmp_gt, cmp_ge, cmp_eq, not_true_eq_false, not_false_eq_true, if_true, if_false, ite_true, ite_false, true_and, and_true, false_and, and_false, Int.reduceLT, Int.reduceLE, Int.reduceEq, Int.reduceSub, Int.reduceAdd, Int.reduceNeg, Int.reduceMul, Classical.not_not, Int.zero_add, Int.add_zero, Int.le_refl, t308_0, t308_1, t308_2, m189]
      rw [w32_id (z := M 22 0 23 - 1) (by omega) (by omega), if_neg (show ¬ ¬ (0 ≤ x ∧ x ≤ M 22 0 23 - 1) by omega), if_neg (show ¬ ¬ (0 ≤ y ∧ y ≤ 5) by omega), w32_id (z := 6 * x) (by omega) (by omega), w32_id (by omega) (by omega)]
      exact andi (by omega) Iff.rfl
  · refine Op2_ret (v := -1) (fun Q => ?_) (fun Q => ?_) hI
    · simp only [kI_v, kL_v, kV_v, kR_v, kX_n, kX_e, bd_e, b2i_e0, b2i_e1, b2i_nb, nb_0, nb_1, cmp_lt, cmp_le, cmp_gt, cmp_ge, cmp_eq, not_true_eq_false, not_false_eq_true, if_true, if_false, ite_true, ite_false, true_and, and_true, false_and, and_false, Int.reduceLT, Int.reduceLE, Int.reduceEq, Int.reduceSub, Int.reduceAdd, Int.reduceNeg, Int.reduceMul, Classical.not_not, Int.zero_add, Int.add_zero, Int.le_refl, t55_0, t55_1, t55_2, m25]
      rw [i1, w32_id (by omega) (by omega)]
      refine ifi (fun _ => Iff.rfl) (fun q => ?_)
      rw [if_pos (by omega)]
    · simp only [kI_v, kL_v, kV_v, kR_v, kX_n, kX_e, bd_e, b2i_e0, b2i_e1, b2i_nb, nb_0, nb_1, cmp_lt, cmp_le, cmp_gt, cmp_ge, cmp_eq, not_true_eq_false, not_false_eq_true, if_true, if_false, ite_true, ite_false, true_and, and_true, false_and, and_false, Int.reduceLT, Int.reduceLE, Int.reduceEq, Int.reduceSub, Int.reduceAdd, Int.reduceNeg, Int.reduceMul, Classical.not_not, Int.zero_add, Int.add_zero, Int.le_refl, t308_0, t308_1, t308_2, m189]
      rw [w32_id (z := M 22 0 23 - 1) (by omega) (by omega)]
      refine ifi (fun _ => Iff.rfl) (fun q => ?_)
      rw [if_pos (by omega)]
theorem m52 : Tq 52 0 [vI x, vI y] [] M Q ↔ Q (.inl (some (vI (b2i ((0 ≤ x ∧ x ≤ 1) ∧ 1 ≤ y ∧ y ≤ 9))))) M := by
  simp only [kI_v, kL_v, kV_v, kR_v, kX_n, kX_e, bd_e, b2i_e0, b2i_e1, b2i_nb, nb_0, nb_1, cmp_lt, cmp_le, cmp_gt, cmp_ge, cmp_eq, not_true_eq_false, not_false_eq_true, if_true, if_false, ite_true, ite_false, true_and, and_true, false_and, and_false, Int.reduceLT, Int.reduceLE, Int.reduceEq, Int.reduceSub, Int.reduceAdd, Int.reduceNeg, Int.reduceMul, Classical.not_not, Int.zero_add, Int.add_zero, Int.le_refl, t52_0, t52_1, t52_2, m25]
  exact ite_b2i (F := fun z => Q (.inl (some (vI z))) M) (by omega)
end Picks
