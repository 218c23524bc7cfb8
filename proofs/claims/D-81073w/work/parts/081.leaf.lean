/-! LEAVES: the JDK's little ones, within and its like -/
section Leaf
variable {M : Mem} {Q : AR → Mem → Prop}
theorem m25 {x0 x1 x2 : Int} : Tq 25 0 [vI x0, vI x1, vI x2] [] M Q ↔ Q (.inl (some (vI (b2i (x1 ≤ x0 ∧ x0 ≤ x2))))) M := by
  simp only [kI_v, kL_v, kV_v, kR_v, kX_n, kX_e, bd_e, b2i_e0, b2i_e1, b2i_nb, nb_0, nb_1, cmp_lt, cmp_le, cmp_gt, cmp_ge, cmp_eq, not_true_eq_false, not_false_eq_true, if_true, if_false, ite_true, ite_false, true_and, and_true, false_and, and_false, Int.reduceLT, Int.reduceLE, Int.reduceEq, Int.reduceSub, Int.reduceAdd, Int.reduceNeg, Int.reduceMul, Classical.not_not, Int.zero_add, Int.add_zero, Int.le_refl, t25_0, t25_1, t25_2]
  by_cases h1 : x0 < x1
  · rw [if_pos h1, b2i_f (by omega)]
  · by_cases h2 : x2 < x0
    · rw [if_neg h1, if_pos h2, b2i_f (by omega)]
    · rw [if_neg h1, if_neg h2, b2i_t (by omega)]
theorem m189 {x0 x1 x2 : Int} : Tq 189 0 [vI x0, vI x1, vI x2] [] M Q ↔ Q (.inl (some (vI (b2i (x1 ≤ x0 ∧ x0 ≤ x2))))) M := by
  simp only [kI_v, kL_v, kV_v, kR_v, kX_n, kX_e, bd_e, b2i_e0, b2i_e1, b2i_nb, nb_0, nb_1, cmp_lt, cmp_le, cmp_gt, cmp_ge, cmp_eq, not_true_eq_false, not_false_eq_true, if_true, if_false, ite_true, ite_false, true_and, and_true, false_and, and_false, Int.reduceLT, Int.reduceLE, Int.reduceEq, Int.reduceSub, Int.reduceAdd, Int.reduceNeg, Int.reduceMul, Classical.not_not, Int.zero_add, Int.add_zero, Int.le_refl, t189_0, t189_1, t189_2]
  by_cases h1 : x0 < x1
  · rw [if_pos h1, b2i_f (by omega)]
  · by_cases h2 : x2 < x0
    · rw [if_neg h1, if_pos h2, b2i_f (by omega)]
    · rw [if_neg h1, if_neg h2, b2i_t (by omega)]
/-- two questions, one answer -/
theorem ite_b2i {p q r : Prop} [Decidable p] [Decidable q] [Decidable r] {F : Int → Prop} (h : r ↔ (¬ p ∧ ¬ q)) : (if p then F 0 else if q then F 0 else F 1) ↔ F (b2i r) := by
  by_cases hp : p
  · rw [if_pos hp, b2i_f (fun hr => (h.mp hr).1 hp)]
  · by_cases hq : q
    · rw [if_neg hp, if_pos hq, b2i_f (fun hr => (h.mp hr).2 hq)]
    · rw [if_neg hp, if_neg hq, b2i_t (h.mpr ⟨hp, hq⟩)]
theorem ite_b2 {p q : Prop} [Decidable p] [Decidable q] {A B C : Prop} (h1 : p → (A ↔ C)) (h2 : ¬ p → (B ↔ C)) : (if p then A else B) ↔ C := by
  by_cases hp : p
  · rw [if_pos hp]; exact h1 hp
  · rw [if_neg hp]; exact h2 hp
theorem m28 {x0 x1 : Int} : Tq 28 0 [vI x0, vI x1] [] M Q ↔ Q (.inl (some (vI (b2i (0 ≤ x0 ∧ x0 ≤ 63 ∧ 0 ≤ x1 ∧ x1 ≤ 63))))) M := by
  simp only [kI_v, kL_v, kV_v, kR_v, kX_n, kX_e, bd_e, b2i_e0, b2i_e1, b2i_nb, nb_0, nb_1, cmp_lt, cmp_le, cmp_gt, cmp_ge, cmp_eq, not_true_eq_false, not_false_eq_true, if_true, if_false, ite_true, ite_false, true_and, and_true, false_and, and_false, Int.reduceLT, Int.reduceLE, Int.reduceEq, Int.reduceSub, Int.reduceAdd, Int.reduceNeg, Int.reduceMul, Classical.not_not, Int.zero_add, Int.add_zero, Int.le_refl, t28_0, t28_1, t28_2, m25]
  exact ite_b2i (F := fun z => Q (.inl (some (vI z))) M) (by omega)
theorem m197 {x0 x1 : Int} : Tq 197 0 [vI x0, vI x1] [] M Q ↔ Q (.inl (some (vI (b2i (0 ≤ x0 ∧ x0 ≤ 63 ∧ 0 ≤ x1 ∧ x1 ≤ 63))))) M := by
  simp only [kI_v, kL_v, kV_v, kR_v, kX_n, kX_e, bd_e, b2i_e0, b2i_e1, b2i_nb, nb_0, nb_1, cmp_lt, cmp_le, cmp_gt, cmp_ge, cmp_eq, not_true_eq_false, not_false_eq_true, if_true, if_false, ite_true, ite_false, true_and, and_true, false_and, and_false, Int.reduceLT, Int.reduceLE, Int.reduceEq, Int.reduceSub, Int.reduceAdd, Int.reduceNeg, Int.reduceMul, Classical.not_not, Int.zero_add, Int.add_zero, Int.le_refl, t197_0, t197_1, t197_2, m189]
  exact ite_b2i (F := fun z => Q (.inl (some (vI z))) M) (by omega)
theorem m34 {x0 : Int} : Tq 34 0 [vI x0] [] M Q ↔ Q (.inl (some (vI (b2i (0 ≤ x0 ∧ x0 ≤ 4095))))) M := by simp only [kI_v, kL_v, kV_v, kR_v, kX_n, kX_e, bd_e, b2i_e0, b2i_e1, b2i_nb, nb_0, nb_1, cmp_lt, cmp_le, cmp_gt, cmp_ge, cmp_eq, not_true_eq_false, not_false_eq_true, if_true, if_false, ite_true, ite_false, true_and, and_true, false_and, and_false, Int.reduceLT, Int.reduceLE, Int.reduceEq, Int.reduceSub, Int.reduceAdd, Int.reduceNeg, Int.reduceMul, Classical.not_not, Int.zero_add, Int.add_zero, Int.le_refl, t34_0, m25]
theorem m219 {x0 : Int} : Tq 219 0 [vI x0] [] M Q ↔ Q (.inl (some (vI (b2i (0 ≤ x0 ∧ x0 ≤ 4095))))) M := by simp only [kI_v, kL_v, kV_v, kR_v, kX_n, kX_e, bd_e, b2i_e0, b2i_e1, b2i_nb, nb_0, nb_1, cmp_lt, cmp_le, cmp_gt, cmp_ge, cmp_eq, not_true_eq_false, not_false_eq_true, if_true, if_false, ite_true, ite_false, true_and, and_true, false_and, and_false, Int.reduceLT, Int.reduceLE, Int.reduceEq, Int.reduceSub, Int.reduceAdd, Int.reduceNeg, Int.reduceMul, Classical.not_not, Int.zero_add, Int.add_zero, Int.le_refl, t219_0, m189]
theorem m45 {x0 : Int} : Tq 45 0 [vI x0] [] M Q ↔ Q (.inl (some (vI (b2i (-65536 ≤ x0 ∧ x0 ≤ 65536))))) M := by simp only [kI_v, kL_v, kV_v, kR_v, kX_n, kX_e, bd_e, b2i_e0, b2i_e1, b2i_nb, nb_0, nb_1, cmp_lt, cmp_le, cmp_gt, cmp_ge, cmp_eq, not_true_eq_false, not_false_eq_true, if_true, if_false, ite_true, ite_false, true_and, and_true, false_and, and_false, Int.reduceLT, Int.reduceLE, Int.reduceEq, Int.reduceSub, Int.reduceAdd, Int.reduceNeg, Int.reduceMul, Classical.not_not, Int.zero_add, Int.add_zero, Int.le_refl, t45_0, m25]
theorem m295 {x0 : Int} : Tq 295 0 [vI x0] [] M Q ↔ Q (.inl (some (vI (b2i (-65536 ≤ x0 ∧ x0 ≤ 65536))))) M := by simp only [kI_v, kL_v, kV_v, kR_v, kX_n, kX_e, bd_e, b2i_e0, b2i_e1, b2i_nb, nb_0, nb_1, cmp_lt, cmp_le, cmp_gt, cmp_ge, cmp_eq, not_true_eq_false, not_false_eq_true, if_true, if_false, ite_true, ite_false, true_and, and_true, false_and, and_false, Int.reduceLT, Int.reduceLE, Int.reduceEq, Int.reduceSub, Int.reduceAdd, Int.reduceNeg, Int.reduceMul, Classical.not_not, Int.zero_add, Int.add_zero, Int.le_refl, t295_0, m189]
theorem m8 {x0 x1 : Int} : Tq 8 0 [vI x0, vI x1] [] M Q ↔ Q (.inl (some (vI (min x0 x1)))) M := by
  simp only [kI_v, kL_v, kV_v, kR_v, kX_n, kX_e, bd_e, b2i_e0, b2i_e1, b2i_nb, nb_0, nb_1, cmp_lt, cmp_le, cmp_gt, cmp_ge, cmp_eq, not_true_eq_false, not_false_eq_true, if_true, if_false, ite_true, ite_false, true_and, and_true, false_and, and_false, Int.reduceLT, Int.reduceLE, Int.reduceEq, Int.reduceSub, Int.reduceAdd, Int.reduceNeg, Int.reduceMul, Classical.not_not, Int.zero_add, Int.add_zero, Int.le_refl, t8_0, t8_1, t8_2]
  by_cases h : x1 < x0
  · rw [if_pos h, show min x0 x1 = x1 by omega]
  · rw [if_neg h, show min x0 x1 = x0 by omega]
theorem m9 {x0 x1 : Int} : Tq 9 0 [vI x0, vI x1] [] M Q ↔ Q (.inl (some (vI (max x0 x1)))) M := by
  simp only [kI_v, kL_v, kV_v, kR_v, kX_n, kX_e, bd_e, b2i_e0, b2i_e1, b2i_nb, nb_0, nb_1, cmp_lt, cmp_le, cmp_gt, cmp_ge, cmp_eq, not_true_eq_false, not_false_eq_true, if_true, if_false, ite_true, ite_false, true_and, and_true, false_and, and_false, Int.reduceLT, Int.reduceLE, Int.reduceEq, Int.reduceSub, Int.reduceAdd, Int.reduceNeg, Int.reduceMul, Classical.not_not, Int.zero_add, Int.add_zero, Int.le_refl, t9_0, t9_1, t9_2]
  by_cases h : x0 < x1
  · rw [if_pos h, show max x0 x1 = x1 by omega]
  · rw [if_neg h, show max x0 x1 = x0 by omega]
theorem m11 {x0 x1 : Int} : Tq 11 0 [vL x0, vJ, vL x1, vJ] [] M Q ↔ Q (.inl (some (vL (min x0 x1)))) M := by
  simp only [kI_v, kL_v, kV_v, kR_v, kX_n, kX_e, bd_e, b2i_e0, b2i_e1, b2i_nb, nb_0, nb_1, cmp_lt, cmp_le, cmp_gt, cmp_ge, cmp_eq, not_true_eq_false, not_false_eq_true, if_true, if_false, ite_true, ite_false, true_and, and_true, false_and, and_false, Int.reduceLT, Int.reduceLE, Int.reduceEq, Int.reduceSub, Int.reduceAdd, Int.reduceNeg, Int.reduceMul, Classical.not_not, Int.zero_add, Int.add_zero, Int.le_refl, t11_0, t11_1, t11_2]
  by_cases h : x1 < x0
  · rw [if_pos h, show min x0 x1 = x1 by omega]
  · rw [if_neg h, show min x0 x1 = x0 by omega]
theorem m12 {x0 x1 : Int} : Tq 12 0 [vL x0, vJ, vL x1, vJ] [] M Q ↔ Q (.inl (some (vL (max x0 x1)))) M := by
  simp only [kI_v, kL_v, kV_v, kR_v, kX_n, kX_e, bd_e, b2i_e0, b2i_e1, b2i_nb, nb_0, nb_1, cmp_lt, cmp_le, cmp_gt, cmp_ge, cmp_eq, not_true_eq_false, not_false_eq_true, if_true, if_false, ite_true, ite_false, true_and, and_true, false_and, and_false, Int.reduceLT, Int.reduceLE, Int.reduceEq, Int.reduceSub, Int.reduceAdd, Int.reduceNeg, Int.reduceMul, Classical.not_not, Int.zero_add, Int.add_zero, Int.le_refl, t12_0, t12_1, t12_2]
  by_cases h : x0 < x1
  · rw [if_pos h, show max x0 x1 = x1 by omega]
  · rw [if_neg h, show max x0 x1 = x0 by omega]
theorem m13 {x0 : Int} : Tq 13 0 [vI x0] [] M Q ↔ Q (.inl (some (vI (if 0 ≤ x0 then x0 else w32 (-x0))))) M := by
  simp only [kI_v, kL_v, kV_v, kR_v, kX_n, kX_e, bd_e, b2i_e0, b2i_e1, b2i_nb, nb_0, nb_1, cmp_lt, cmp_le, cmp_gt, cmp_ge, cmp_eq, not_true_eq_false, not_false_eq_true, if_true, if_false, ite_true, ite_false, true_and, and_true, false_and, and_false, Int.reduceLT, Int.reduceLE, Int.reduceEq, Int.reduceSub, Int.reduceAdd, Int.reduceNeg, Int.reduceMul, Classical.not_not, Int.zero_add, Int.add_zero, Int.le_refl, t13_0, t13_1, t13_2]
  by_cases h : 0 ≤ x0
  · rw [if_pos h, if_pos h]
  · rw [if_neg h, if_neg h]
theorem m14 {x0 : Int} : Tq 14 0 [vL x0, vJ] [] M Q ↔ Q (.inl (some (vL (if 0 ≤ x0 then x0 else w64 (-x0))))) M := by
  simp only [kI_v, kL_v, kV_v, kR_v, kX_n, kX_e, bd_e, b2i_e0, b2i_e1, b2i_nb, nb_0, nb_1, cmp_lt, cmp_le, cmp_gt, cmp_ge, cmp_eq, not_true_eq_false, not_false_eq_true, if_true, if_false, ite_true, ite_false, true_and, and_true, false_and, and_false, Int.reduceLT, Int.reduceLE, Int.reduceEq, Int.reduceSub, Int.reduceAdd, Int.reduceNeg, Int.reduceMul, Classical.not_not, Int.zero_add, Int.add_zero, Int.le_refl, t14_0, t14_1, t14_2]
  by_cases h : 0 ≤ x0
  · rw [if_pos h, if_pos h]
  · rw [if_neg h, if_neg h]
theorem m7 {x0 x1 : Int} : Tq 7 0 [vI x0, vI x1] [] M Q ↔ Q (.inl (some (vI (if x0 < x1 then -1 else if x0 = x1 then 0 else 1)))) M := by
  simp only [kI_v, kL_v, kV_v, kR_v, kX_n, kX_e, bd_e, b2i_e0, b2i_e1, b2i_nb, nb_0, nb_1, cmp_lt, cmp_le, cmp_gt, cmp_ge, cmp_eq, not_true_eq_false, not_false_eq_true, if_true, if_false, ite_true, ite_false, true_and, and_true, false_and, and_false, Int.reduceLT, Int.reduceLE, Int.reduceEq, Int.reduceSub, Int.reduceAdd, Int.reduceNeg, Int.reduceMul, Classical.not_not, Int.zero_add, Int.add_zero, Int.le_refl, t7_0, t7_1, t7_2, t7_3]
  by_cases h : x1 ≤ x0
  · rw [if_pos h, if_neg (by omega : ¬ x0 < x1)]
    by_cases h2 : x0 = x1
    · rw [if_neg (by simpa using h2), if_pos h2]
    · rw [if_pos h2, if_neg h2]
  · rw [if_neg h, if_pos (by omega)]
theorem m16 {x0 : Int} : Tq 16 0 [vR 31 x0] [] M Q ↔ Q (.inl (some (vI (sLen x0)))) M := by
  simp only [kI_v, kL_v, kV_v, kR_v, kX_n, kX_e, bd_e, b2i_e0, b2i_e1, b2i_nb, nb_0, nb_1, cmp_lt, cmp_le, cmp_gt, cmp_ge, cmp_eq, not_true_eq_false, not_false_eq_true, if_true, if_false, ite_true, ite_false, true_and, and_true, false_and, and_false, Int.reduceLT, Int.reduceLE, Int.reduceEq, Int.reduceSub, Int.reduceAdd, Int.reduceNeg, Int.reduceMul, Classical.not_not, Int.zero_add, Int.add_zero, Int.le_refl, t16_0, t17_0, t17_1, t17_2]
  rw [show shr32 (sLen x0) (w8 0) = sLen x0 from by unfold shr32; simp [w8]]
theorem m18 {x0 x1 : Int} : Tq 18 0 [vR 31 x0, vI x1] [] M Q ↔ ((0 ≤ x1 ∧ x1 < sLen x0) ∧ Q (.inl (some (vI (sAt x0 x1 % 256)))) M) := by
  simp only [kI_v, kL_v, kV_v, kR_v, kX_n, kX_e, bd_e, b2i_e0, b2i_e1, b2i_nb, nb_0, nb_1, cmp_lt, cmp_le, cmp_gt, cmp_ge, cmp_eq, not_true_eq_false, not_false_eq_true, if_true, if_false, ite_true, ite_false, true_and, and_true, false_and, and_false, Int.reduceLT, Int.reduceLE, Int.reduceEq, Int.reduceSub, Int.reduceAdd, Int.reduceNeg, Int.reduceMul, Classical.not_not, Int.zero_add, Int.add_zero, Int.le_refl, t18_0, t18_1, t19_0, t19_1, t19_2, t20_0, t21_0, t22_0, t22_1, t22_2, and255]
  have e : sAt x0 x1 % 256 % 65536 = sAt x0 x1 % 256 := by omega
  simp only [e]
  by_cases h : x1 < 0
  · rw [if_pos h]
    exact ⟨fun q => q.elim, fun q => absurd q.1.1 (by omega)⟩
  · rw [if_neg h]
    by_cases h2 : x1 < sLen x0
    · rw [if_pos h2]
    · rw [if_neg h2]
      exact ⟨fun q => q.elim, fun q => absurd q.1.2 h2⟩
end Leaf
