/-! PICKS: mark -/
section Mark
variable {M P : Mem} {Q : AR → Mem → Prop} {s t k w x y l m n a b c d e : Int}
theorem op_mark (hw : WNet P) (hc : CNet M P) (hr : RNet M P) (hI : IPk M) : Op2 SPkC SPk 54 [vR 1 0, vI s, vI t, vI x, vI y] 307 [vR 22 0, vI s, vI t, vI x, vI y] M IPk := by
  obtain ⟨⟨w1, w2⟩, w3, w4⟩ := hw
  obtain ⟨c1, c2, c3⟩ := hc
  obtain ⟨r1, r2, r3⟩ := hr
  have hP := hI
  obtain ⟨i1, i2, i3⟩ := hI
  have i1 : M 18 0 0 = M 22 0 23 := i1
  have r1 : M 22 0 9 = P 22 0 9 := r1
  by_cases hq : (0 ≤ s ∧ s < P 22 0 9) ∧ (0 ≤ t ∧ t ≤ 4095) ∧ (0 ≤ x ∧ x ≤ 1) ∧ 1 ≤ y ∧ y ≤ 9
  · obtain ⟨q1, q2, q3, q4⟩ := hq
    have g2 : ∀ {N Q}, N 22 0 9 = P 22 0 9 → (Tq 307 0 [vR 22 0, vI s, vI t, vI x, vI y] [] N Q ↔ Tq 307 2 [vR 22 0, vI s, vI t, vI x, vI y] [] N Q) := by
      intro N Q hN
      simp only [kI_v, kL_v, kV_v, kR_v, kX_n, kX_e, bd_e, b2i_e0, b2i_e1, b2i_nb, nb_0, nb_1, cmp_lt, cmp_le, cmp_gt, cmp_ge, cmp_eq, not_true_eq_false, not_false_eq_true, if_true, if_false, ite_true, ite_false, true_and, and_true, false_and, and_false, Int.reduceLT, Int.reduceLE, Int.reduceEq, Int.reduceSub, Int.reduceAdd, Int.reduceNeg, Int.reduceMul, Classical.not_not, Int.zero_add, Int.add_zero, Int.le_refl, t307_0, m270 (M := N) (show 0 ≤ N 22 0 9 ∧ N 22 0 9 ≤ 12 by omega), m219, m189]
      rw [if_neg (show ¬ ¬ (0 ≤ s ∧ s < N 22 0 9) by omega), if_neg (show ¬ ¬ (0 ≤ t ∧ t ≤ 4095) by omega), if_neg (show ¬ ¬ (0 ≤ x ∧ x ≤ 1) by omega), if_pos q4]
    unfold Op2
    simp only [kI_v, kL_v, kV_v, kR_v, kX_n, kX_e, bd_e, b2i_e0, b2i_e1, b2i_nb, nb_0, nb_1, cmp_lt, cmp_le, cmp_gt, cmp_ge, cmp_eq, not_true_eq_false, not_false_eq_true, if_true, if_false, ite_true, ite_false, true_and, and_true, false_and, and_false, Int.reduceLT, Int.reduceLE, Int.reduceEq, Int.reduceSub, Int.reduceAdd, Int.reduceNeg, Int.reduceMul, Classical.not_not, Int.zero_add, Int.add_zero, Int.le_refl, t54_0, m353 (M := M) (show 0 ≤ M 5 0 0 ∧ M 5 0 0 ≤ 12 by omega), m34, m52]
    rw [if_neg (show ¬ ¬ (0 ≤ s ∧ s < M 5 0 0) by omega), if_neg (show ¬ ¬ (0 ≤ t ∧ t ≤ 4095) by omega), if_pos ⟨q3, q4⟩, t54_2]
    refine ifg (fun hz => ?_) (fun hz => ?_)
    · rw [t54_3, m147 (by omega) (by omega), kI_v, t54_4, kI_v]
      refine ⟨cpk_fr, ?_⟩
      have e9 : cpk M s t x y 0 22 0 9 = M 22 0 9 := cpk_fr _ _ _ (by simp [SPkC])
      have e23 : cpk M s t x y 0 22 0 23 = M 22 0 23 := cpk_fr _ _ _ (by simp [SPkC])
      rw [g2 (by rw [e9, r1]), t307_2, e23, if_pos (by omega), t307_3, m306 (by omega) (by omega), kI_v, t307_4, kI_v, e23]
      exact ⟨i1, IPk_add hP (by omega) (by omega) q2 q3 q4 (by omega)⟩
    · rw [t54_4, kI_v]
      refine ⟨Fr.refl, ?_⟩
      rw [g2 r1, t307_2, if_neg (by omega), t307_4, kI_v]
      exact ⟨rfl, Fr.refl, hP⟩
  · refine Op2_r (v := -1) (fun Q => ?_) (fun Q => ?_) hP
    · simp only [kI_v, kL_v, kV_v, kR_v, kX_n, kX_e, bd_e, b2i_e0, b2i_e1, b2i_nb, nb_0, nb_1, cmp_lt, cmp_le, cmp_gt, cmp_ge, cmp_eq, not_true_eq_false, not_false_eq_true, if_true, if_false, ite_true, ite_false, true_and, and_true, false_and, and_false, Int.reduceLT, Int.reduceLE, Int.reduceEq, Int.reduceSub, Int.reduceAdd, Int.reduceNeg, Int.reduceMul, Classical.not_not, Int.zero_add, Int.add_zero, Int.le_refl, t54_0, t54_1, m353 (M := M) (show 0 ≤ M 5 0 0 ∧ M 5 0 0 ≤ 12 by omega), m34, m52]
      refine ifi (fun _ => Iff.rfl) (fun d1 => ifi (fun _ => Iff.rfl) (fun d2 => ?_))
      rw [if_neg (by omega)]
    · simp only [kI_v, kL_v, kV_v, kR_v, kX_n, kX_e, bd_e, b2i_e0, b2i_e1, b2i_nb, nb_0, nb_1, cmp_lt, cmp_le, cmp_gt, cmp_ge, cmp_eq, not_true_eq_false, not_false_eq_true, if_true, if_false, ite_true, ite_false, true_and, and_true, false_and, and_false, Int.reduceLT, Int.reduceLE, Int.reduceEq, Int.reduceSub, Int.reduceAdd, Int.reduceNeg, Int.reduceMul, Classical.not_not, Int.zero_add, Int.add_zero, Int.le_refl, t307_0, t307_1, m270 (M := M) (show 0 ≤ M 22 0 9 ∧ M 22 0 9 ≤ 12 by omega), m219, m189]
      refine ifi (fun _ => Iff.rfl) (fun d1 => ifi (fun _ => Iff.rfl) (fun d2 => ifi (fun _ => Iff.rfl) (fun d3 => ?_)))
      rw [if_neg (by omega)]
end Mark
