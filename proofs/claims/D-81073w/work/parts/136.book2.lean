/-! EVENTS: event, version, arrival -/
/-- how many arrivals have a sign -/
def plF (aa : Int → Int) (e s : Int) : Nat → Int
  | 0 => 0
  | k + 1 => plF aa e s k + (if aa (120 * e + 5 * k + 4) = s then 1 else 0)
theorem plF_rng {aa : Int → Int} {e s : Int} : ∀ k : Nat, 0 ≤ plF aa e s k ∧ plF aa e s k ≤ k
  | 0 => ⟨Int.le_refl _, Int.le_refl _⟩
  | k + 1 => by
    have := plF_rng (aa := aa) (e := e) (s := s) k
    unfold plF
    split <;> omega
section Book2
variable {M N P : Mem} {Q : AR → Mem → Prop} {e k w x y s t : Int}
theorem m373 (hw : WBk P) (hc : CBk M P) (he : 0 ≤ e ∧ e < P 22 0 28) : Tq 373 0 [vR 7 e, vI s, vJ, vJ] [] M Q ↔ Q (.inl (some (vI (plF (P 22031 0) e s (P 22030 0 e).toNat)))) M := by
  obtain ⟨w1, w2, w3⟩ := hw
  obtain ⟨c1, c2, c3⟩ := hc
  obtain ⟨v1, v2, -⟩ := w3 e he.1 he.2
  obtain ⟨d1, d2, d3, d4, d5, d6⟩ := c3 e he.1 he.2
  have loop : ∀ (d j : Nat), (j : Int) + d = P 22030 0 e → (Tq 373 1 [vR 7 e, vI s, vI (plF (P 22031 0) e s j), vI j] [] M Q ↔ Q (.inl (some (vI (plF (P 22031 0) e s (P 22030 0 e).toNat)))) M) := by
    intro d
    induction d with
    | zero =>
      intro j hj
      rw [t373_1, d2, if_pos (by omega), t373_4, show (P 22030 0 e).toNat = j by omega]
    | succ d ih =>
      intro j hj
      have rg := plF_rng (aa := P 22031 0) (e := e) (s := s) j
      have nx := ih (j + 1) (by omega)
      have e1 : plF (P 22031 0) e s (j + 1) = plF (P 22031 0) e s j + (if P 22031 0 (120 * e + 5 * j + 4) = s then 1 else 0) := rfl
      rw [t373_1, d2, if_neg (by omega), m371 (by omega) (by omega), kI_v, d6 _ (by omega) (by omega), t373_2, t373_3, t373_3, w32_id (z := (j : Int) + 1) (by omega) (by omega), w32_id (z := plF (P 22031 0) e s j + 0) (by omega) (by omega), w32_id (z := plF (P 22031 0) e s j + 1) (by omega) (by omega), ← Int.add_assoc]
      rw [e1, show ((j + 1 : Nat) : Int) = j + 1 by omega] at nx
      by_cases a1 : P 22031 0 (120 * e + 5 * j + 4) = s
      · rw [if_neg (by simpa using a1)]
        rw [if_pos a1] at nx
        exact nx
      · rw [if_pos a1]
        rw [if_neg a1] at nx
        exact nx
  rw [t373_0]
  exact loop (P 22030 0 e).toNat 0 (by omega)
theorem op_event {I : Mem → Prop} (hw : WBk P) (hc : CBk M P) (hr : RBk M P) (hI : I M) : Op2 S0 S0 69 [vR 1 0, vI e, vI w, vJ] 320 [vR 22 0, vI e, vI w, vJ, vJ] M I := by
  have c1 : M 6 0 1 = P 22 0 28 := hc.1
  have r1 : M 22 0 28 = P 22 0 28 := hr.1
  have w1 : 0 ≤ P 22 0 28 ∧ P 22 0 28 ≤ 24 := hw.1
  by_cases hb : (0 ≤ e ∧ e < P 22 0 28) ∧ 0 ≤ w ∧ w ≤ 4
  · obtain ⟨d1, d2, d3, d4, d5, d6⟩ := hc.2.2 e hb.1.1 hb.1.2
    obtain ⟨f1, f2, f3, f4, f5, f6⟩ := hr.2.2 e hb.1.1 hb.1.2
    obtain ⟨v1, v2, -⟩ := hw.2.2 e hb.1.1 hb.1.2
    refine Op2_ret (v := if w = 0 then P 22032 0 e else if w = 1 then P 22030 0 e else if w = 2 then P 22035 0 e else plF (P 22031 0) e (if w = 3 then 1 else -1) (P 22030 0 e).toNat) (fun Q => ?_) (fun Q => ?_) hI
    · rw [t69_0, m362 (by omega), kI_v, c1, if_neg (by rw [b2i_t hb.1]; decide), m25, kI_v, if_pos (by rw [b2i_t hb.2]; decide), t69_2, d1, t69_3, d2, t69_4, d3, t69_5, t69_6, t69_7, t69_7, m373 hw hc hb.1, kI_v, m373 hw hc hb.1, kI_v]
      simp only [t69_8]
      refine andi (by omega) ?_
      by_cases a0 : w = 0
      · simp (disch := omega) only [kI_v, kL_v, kV_v, kR_v, kX_n, kX_e, bd_e, b2i_e0, b2i_e1, b2i_nb, nb_0, nb_1, cmp_lt, cmp_le, cmp_gt, cmp_ge, cmp_eq, not_true_eq_false, not_false_eq_true, if_true, if_false, ite_true, ite_false, true_and, and_true, false_and, and_false, Int.reduceLT, Int.reduceLE, Int.reduceEq, Int.reduceSub, Int.reduceAdd, Int.reduceNeg, Int.reduceMul, Classical.not_not, Int.zero_add, Int.add_zero, Int.le_refl, lt_T, lt_F, le_T, le_F, eq_T, eq_F, w32_id, ↓reduceIte, mset_3, Nat.reduceEqDiff, reduceCtorEq, and_self, a0]
      · by_cases a1 : w = 1
        · simp (disch := omega) only [kI_v, kL_v, kV_v, kR_v, kX_n, kX_e, bd_e, b2i_e0, b2i_e1, b2i_nb, nb_0, nb_1, cmp_lt, cmp_le, cmp_gt, cmp_ge, cmp_eq, not_true_eq_false, not_false_eq_true, if_true, if_false, ite_true, ite_false, true_and, and_true, false_and, and_false, Int.reduceLT, Int.reduceLE, Int.reduceEq, Int.reduceSub, Int.reduceAdd, Int.reduceNeg, Int.reduceMul, Classical.not_not, Int.zero_add, Int.add_zero, Int.le_refl, lt_T, lt_F, le_T, le_F, eq_T, eq_F, w32_id, ↓reduceIte, mset_3, Nat.reduceEqDiff, reduceCtorEq, and_self, a1]
        · by_cases a2 : w = 2
          · simp (disch := omega) only [kI_v, kL_v, kV_v, kR_v, kX_n, kX_e, bd_e, b2i_e0, b2i_e1, b2i_nb, nb_0, nb_1, cmp_lt, cmp_le, cmp_gt, cmp_ge, cmp_eq, not_true_eq_false, not_false_eq_true, if_true, if_false, ite_true, ite_false, true_and, and_true, false_and, and_false, Int.reduceLT, Int.reduceLE, Int.reduceEq, Int.reduceSub, Int.reduceAdd, Int.reduceNeg, Int.reduceMul, Classical.not_not, Int.zero_add, Int.add_zero, Int.le_refl, lt_T, lt_F, le_T, le_F, eq_T, eq_F, w32_id, ↓reduceIte, mset_3, Nat.reduceEqDiff, reduceCtorEq, and_self, a2]
          · by_cases a3 : w = 3
            · simp (disch := omega) only [kI_v, kL_v, kV_v, kR_v, kX_n, kX_e, bd_e, b2i_e0, b2i_e1, b2i_nb, nb_0, nb_1, cmp_lt, cmp_le, cmp_gt, cmp_ge, cmp_eq, not_true_eq_false, not_false_eq_true, if_true, if_false, ite_true, ite_false, true_and, and_true, false_and, and_false, Int.reduceLT, Int.reduceLE, Int.reduceEq, Int.reduceSub, Int.reduceAdd, Int.reduceNeg, Int.reduceMul, Classical.not_not, Int.zero_add, Int.add_zero, Int.le_refl, lt_T, lt_F, le_T, le_F, eq_T, eq_F, w32_id, ↓reduceIte, mset_3, Nat.reduceEqDiff, reduceCtorEq, and_self, a3]
            · simp (disch := omega) only [kI_v, kL_v, kV_v, kR_v, kX_n, kX_e, bd_e, b2i_e0, b2i_e1, b2i_nb, nb_0, nb_1, cmp_lt, cmp_le, cmp_gt, cmp_ge, cmp_eq, not_true_eq_false, not_false_eq_true, if_true, if_false, ite_true, ite_false, true_and, and_true, false_and, and_false, Int.reduceLT, Int.reduceLE, Int.reduceEq, Int.reduceSub, Int.reduceAdd, Int.reduceNeg, Int.reduceMul, Classical.not_not, Int.zero_add, Int.add_zero, Int.le_refl, lt_T, lt_F, le_T, le_F, eq_T, eq_F, w32_id, ↓reduceIte, mset_3, Nat.reduceEqDiff, reduceCtorEq, and_self, a0, a1, a2, a3]
    · have loop : ∀ (sg : Int), (w = 3 ∧ sg = 1 ∨ w = 4 ∧ sg = -1) → ∀ (d j : Nat), (j : Int) + d = P 22030 0 e → (Tq 320 7 [vR 22 0, vI e, vI w, vI (plF (P 22031 0) e sg j), vI j] [] M Q ↔ Q (.inl (some (vI (plF (P 22031 0) e sg (P 22030 0 e).toNat)))) M) := by
        intro sg hsg d
        induction d with
        | zero =>
          intro j hj
          rw [t320_7, f2, if_pos (by omega), t320_12, show (P 22030 0 e).toNat = j by omega]
          exact andi (by omega) Iff.rfl
        | succ d ih =>
          intro j hj
          have rg := plF_rng (aa := P 22031 0) (e := e) (s := sg) j
          have nx := ih (j + 1) (by omega)
          have e1 : plF (P 22031 0) e sg (j + 1) = plF (P 22031 0) e sg j + (if P 22031 0 (120 * e + 5 * j + 4) = sg then 1 else 0) := rfl
          have f7 := f6 (5 * j + 4) (by omega) (by omega)
          rw [← Int.add_assoc] at f7
          rw [e1, show ((j + 1 : Nat) : Int) = j + 1 by omega] at nx
          have g9 : Tq 320 9 [vR 22 0, vI e, vI w, vJ, vI j] [vI sg, vI (P 22031 0 (120 * e + 5 * j + 4)), vI (plF (P 22031 0) e sg j)] M Q ↔ Q (.inl (some (vI (plF (P 22031 0) e sg (P 22030 0 e).toNat)))) M := by
            rw [t320_9, t320_10, t320_11, t320_11, w32_id (z := (j : Int) + 1) (by omega) (by omega), w32_id (z := plF (P 22031 0) e sg j + 0) (by omega) (by omega), w32_id (z := plF (P 22031 0) e sg j + 1) (by omega) (by omega)]
            by_cases a1 : P 22031 0 (120 * e + 5 * j + 4) = sg
            · rw [if_neg (by simpa using a1)]
              rw [if_pos a1] at nx
              exact nx
            · rw [if_pos a1]
              rw [if_neg a1] at nx
              exact nx
          rw [t320_7, f2, if_neg (by omega), w32_id (z := 24 * e) (by omega) (by omega), w32_id (z := 24 * e + (j : Int)) (by omega) (by omega), w32_id (z := 5 * (24 * e + (j : Int))) (by omega) (by omega), w32_id (z := 5 * (24 * e + (j : Int)) + 4) (by omega) (by omega), show 5 * (24 * e + (j : Int)) + 4 = 120 * e + 5 * j + 4 by omega, f7, t320_8]
          refine andi (by omega) (andi (by omega) ?_)
          rcases hsg with ⟨q1, q2⟩ | ⟨q1, q2⟩
          · rw [if_neg (by omega)]
            rw [q2] at g9 ⊢
            exact g9
          · rw [if_pos (by omega)]
            rw [q2] at g9 ⊢
            exact g9
      rw [t320_0, m213 (by omega), kI_v, r1, if_neg (by rw [b2i_t hb.1]; decide), m189, kI_v, if_pos (by rw [b2i_t hb.2]; decide), t320_2, t320_3, t320_4, t320_6, f1, f2, f3]
      simp only [t320_5]
      by_cases a0 : w = 0
      · simp (disch := omega) only [kI_v, kL_v, kV_v, kR_v, kX_n, kX_e, bd_e, b2i_e0, b2i_e1, b2i_nb, nb_0, nb_1, cmp_lt, cmp_le, cmp_gt, cmp_ge, cmp_eq, not_true_eq_false, not_false_eq_true, if_true, if_false, ite_true, ite_false, true_and, and_true, false_and, and_false, Int.reduceLT, Int.reduceLE, Int.reduceEq, Int.reduceSub, Int.reduceAdd, Int.reduceNeg, Int.reduceMul, Classical.not_not, Int.zero_add, Int.add_zero, Int.le_refl, lt_T, lt_F, le_T, le_F, eq_T, eq_F, w32_id, ↓reduceIte, mset_3, Nat.reduceEqDiff, reduceCtorEq, and_self, a0]
      · by_cases a1 : w = 1
        · simp (disch := omega) only [kI_v, kL_v, kV_v, kR_v, kX_n, kX_e, bd_e, b2i_e0, b2i_e1, b2i_nb, nb_0, nb_1, cmp_lt, cmp_le, cmp_gt, cmp_ge, cmp_eq, not_true_eq_false, not_false_eq_true, if_true, if_false, ite_true, ite_false, true_and, and_true, false_and, and_false, Int.reduceLT, Int.reduceLE, Int.reduceEq, Int.reduceSub, Int.reduceAdd, Int.reduceNeg, Int.reduceMul, Classical.not_not, Int.zero_add, Int.add_zero, Int.le_refl, lt_T, lt_F, le_T, le_F, eq_T, eq_F, w32_id, ↓reduceIte, mset_3, Nat.reduceEqDiff, reduceCtorEq, and_self, a1]
        · by_cases a2 : w = 2
          · simp (disch := omega) only [kI_v, kL_v, kV_v, kR_v, kX_n, kX_e, bd_e, b2i_e0, b2i_e1, b2i_nb, nb_0, nb_1, cmp_lt, cmp_le, cmp_gt, cmp_ge, cmp_eq, not_true_eq_false, not_false_eq_true, if_true, if_false, ite_true, ite_false, true_and, and_true, false_and, and_false, Int.reduceLT, Int.reduceLE, Int.reduceEq, Int.reduceSub, Int.reduceAdd, Int.reduceNeg, Int.reduceMul, Classical.not_not, Int.zero_add, Int.add_zero, Int.le_refl, lt_T, lt_F, le_T, le_F, eq_T, eq_F, w32_id, ↓reduceIte, mset_3, Nat.reduceEqDiff, reduceCtorEq, and_self, a2]
          · have h3 : (3 : Int) ≤ w := by omega
            rw [if_pos h3, if_neg a0, if_neg a1, if_neg a2]
            by_cases a3 : w = 3
            · rw [if_pos a3]
              exact loop 1 (Or.inl ⟨a3, rfl⟩) (P 22030 0 e).toNat 0 (by omega)
            · rw [if_neg a3]
              exact loop (-1) (Or.inr ⟨by omega, rfl⟩) (P 22030 0 e).toNat 0 (by omega)
  · refine Op2_ret (v := -1) (fun Q => ?_) (fun Q => ?_) hI
    · simp only [kI_v, kL_v, kV_v, kR_v, kX_n, kX_e, bd_e, b2i_e0, b2i_e1, b2i_nb, nb_0, nb_1, cmp_lt, cmp_le, cmp_gt, cmp_ge, cmp_eq, not_true_eq_false, not_false_eq_true, if_true, if_false, ite_true, ite_false, true_and, and_true, false_and, and_false, Int.reduceLT, Int.reduceLE, Int.reduceEq, Int.reduceSub, Int.reduceAdd, Int.reduceNeg, Int.reduceMul, Classical.not_not, Int.zero_add, Int.add_zero, Int.le_refl, t69_0, t69_1, m362 (M := M) (show 0 ≤ M 6 0 1 ∧ M 6 0 1 ≤ 24 by omega), m25]
      refine ifi (fun _ => Iff.rfl) (fun d1 => ?_)
      rw [if_neg (by omega)]
    · simp only [kI_v, kL_v, kV_v, kR_v, kX_n, kX_e, bd_e, b2i_e0, b2i_e1, b2i_nb, nb_0, nb_1, cmp_lt, cmp_le, cmp_gt, cmp_ge, cmp_eq, not_true_eq_false, not_false_eq_true, if_true, if_false, ite_true, ite_false, true_and, and_true, false_and, and_false, Int.reduceLT, Int.reduceLE, Int.reduceEq, Int.reduceSub, Int.reduceAdd, Int.reduceNeg, Int.reduceMul, Classical.not_not, Int.zero_add, Int.add_zero, Int.le_refl, t320_0, t320_1, m213 (M := M) (show 0 ≤ M 22 0 28 ∧ M 22 0 28 ≤ 24 by omega), m189]
      refine ifi (fun _ => Iff.rfl) (fun d1 => ?_)
      rw [if_neg (by omega)]
theorem op_version {I : Mem → Prop} (hw : WBk P) (hc : CBk M P) (hr : RBk M P) (hI : I M) : Op2 S0 S0 70 [vR 1 0, vI e, vI k, vI w] 321 [vR 22 0, vI e, vI k, vI w] M I := by
  have c1 : M 6 0 1 = P 22 0 28 := hc.1
  have r1 : M 22 0 28 = P 22 0 28 := hr.1
  have w1 : 0 ≤ P 22 0 28 ∧ P 22 0 28 ≤ 24 := hw.1
  by_cases hb : 0 ≤ e ∧ e < P 22 0 28
  · obtain ⟨d1, d2, d3, d4, d5, d6⟩ := hc.2.2 e hb.1 hb.2
    obtain ⟨f1, f2, f3, f4, f5, f6⟩ := hr.2.2 e hb.1 hb.2
    obtain ⟨v1, v2, -⟩ := hw.2.2 e hb.1 hb.2
    refine Op2_ret (v := if (0 ≤ k ∧ k < P 22032 0 e) ∧ 0 ≤ w ∧ w ≤ 7 then P 22033 0 (128 * e + (8 * k + w)) else -99999999) (fun Q => ?_) (fun Q => ?_) hI
    · rw [t70_0, m362 (by omega), kI_v, c1, if_neg (by rw [b2i_t hb]; decide), d1, w32_id (by omega) (by omega), m25, kI_v, m25, kI_v, t70_1]
      simp only [t70_2, b2i_e0]
      refine andi (by omega) (ifi (fun a1 => by rw [if_neg (by omega)]) (fun a1 => ifi (fun a2 => by rw [if_neg (by omega)]) (fun a2 => andi (by omega) ?_)))
      rw [m370 (by omega) (by omega), kI_v, d5 _ (by omega) (by omega), if_pos (by omega)]
    · rw [t321_0, m213 (by omega), kI_v, r1, if_neg (by rw [b2i_t hb]; decide), f1, w32_id (z := P 22032 0 e - 1) (by omega) (by omega), m189, kI_v, m189, kI_v, t321_1]
      simp only [t321_2, b2i_e0]
      refine andi (by omega) (ifi (fun a1 => by rw [if_neg (by omega)]) (fun a1 => ifi (fun a2 => by rw [if_neg (by omega)]) (fun a2 => ?_)))
      rw [w32_id (z := 16 * e) (by omega) (by omega), w32_id (z := 16 * e + k) (by omega) (by omega), w32_id (z := 8 * (16 * e + k)) (by omega) (by omega), w32_id (z := 8 * (16 * e + k) + w) (by omega) (by omega), show 8 * (16 * e + k) + w = 128 * e + (8 * k + w) by omega, f5 _ (by omega) (by omega), if_pos (by omega)]
      exact andi (by omega) Iff.rfl
  · refine Op2_ret (v := -99999999) (fun Q => ?_) (fun Q => ?_) hI
    · rw [t70_0, m362 (by omega), kI_v, c1, if_pos (by rw [b2i_f hb]), t70_1, t70_2]
    · rw [t321_0, m213 (by omega), kI_v, r1, if_pos (by rw [b2i_f hb]), t321_1, t321_2]
theorem op_arrival {I : Mem → Prop} (hw : WBk P) (hc : CBk M P) (hr : RBk M P) (hI : I M) : Op2 S0 S0 71 [vR 1 0, vI e, vI k, vI w] 322 [vR 22 0, vI e, vI k, vI w] M I := by
  have c1 : M 6 0 1 = P 22 0 28 := hc.1
  have r1 : M 22 0 28 = P 22 0 28 := hr.1
  have w1 : 0 ≤ P 22 0 28 ∧ P 22 0 28 ≤ 24 := hw.1
  by_cases hb : 0 ≤ e ∧ e < P 22 0 28
  · obtain ⟨d1, d2, d3, d4, d5, d6⟩ := hc.2.2 e hb.1 hb.2
    obtain ⟨f1, f2, f3, f4, f5, f6⟩ := hr.2.2 e hb.1 hb.2
    obtain ⟨v1, v2, -⟩ := hw.2.2 e hb.1 hb.2
    refine Op2_ret (v := if (0 ≤ k ∧ k < P 22030 0 e) ∧ 0 ≤ w ∧ w ≤ 4 then P 22031 0 (120 * e + (5 * k + w)) else -99999999) (fun Q => ?_) (fun Q => ?_) hI
    · rw [t71_0, m362 (by omega), kI_v, c1, if_neg (by rw [b2i_t hb]; decide), d2, w32_id (by omega) (by omega), m25, kI_v, m25, kI_v, t71_1]
      simp only [t71_2, b2i_e0]
      refine andi (by omega) (ifi (fun a1 => by rw [if_neg (by omega)]) (fun a1 => ifi (fun a2 => by rw [if_neg (by omega)]) (fun a2 => andi (by omega) ?_)))
      rw [m371 (by omega) (by omega), kI_v, d6 _ (by omega) (by omega), if_pos (by omega)]
    · rw [t322_0, m213 (by omega), kI_v, r1, if_neg (by rw [b2i_t hb]; decide), f2, w32_id (z := P 22030 0 e - 1) (by omega) (by omega), m189, kI_v, m189, kI_v, t322_1]
      simp only [t322_2, b2i_e0]
      refine andi (by omega) (ifi (fun a1 => by rw [if_neg (by omega)]) (fun a1 => ifi (fun a2 => by rw [if_neg (by omega)]) (fun a2 => ?_)))
      rw [w32_id (z := 24 * e) (by omega) (by omega), w32_id (z := 24 * e + k) (by omega) (by omega), w32_id (z := 5 * (24 * e + k)) (by omega) (by omega), w32_id (z := 5 * (24 * e + k) + w) (by omega) (by omega), show 5 * (24 * e + k) + w = 120 * e + (5 * k + w) by omega, f6 _ (by omega) (by omega), if_pos (by omega)]
      exact andi (by omega) Iff.rfl
  · refine Op2_ret (v := -99999999) (fun Q => ?_) (fun Q => ?_) hI
    · rw [t71_0, m362 (by omega), kI_v, c1, if_pos (by rw [b2i_f hb]), t71_1, t71_2]
    · rw [t322_0, m213 (by omega), kI_v, r1, if_pos (by rw [b2i_f hb]), t322_1, t322_2]
end Book2
