/-! PICKS: pick, joined -/
def SPk2 (f : Nat) (i k : Int) : Prop := SPk f i k ∨ f = 22022
section Pick3
variable {M N : Mem} {Q : AR → Mem → Prop} {s t k w x y l m n a b c d e p q : Int}
theorem kpk_mclp {f : Nat} {j i : Int} (h : ¬ f = 22022) : kpk (mclp M w i) a b c d e f j = kpk M a b c d e f j := by
  have e1 : mclp M w i 22 0 = M 22 0 := mclp_r (by decide)
  have e2 : mclp M w i 22024 0 = M 22024 0 := mclp_r (by decide)
  have e3 : mclp M w i f j = M f j := mclp_r h
  unfold kpk
  simp only [mset_2, movl_2, e1, e2, e3]
theorem mclp_IPk {i : Int} (h : IPk M) : IPk (mclp M w i) := IPk_cg (fun f j k hl => by rw [mclp_r (by simp only [LIPk] at hl; omega)]) h
theorem op_pick (hW : IWn M) (hI : IPk M) : Op2 SPkC SPk2 51 [vR 1 0, vI w, vI x, vI a, vI b, vI c, vI p, vI q, vJ, vJ, vJ] 301 [vR 22 0, vI w, vI x, vI a, vI b, vI c, vI p, vI q, vJ, vJ, vJ] M IPk := by
  by_cases hq : (0 ≤ w ∧ w ≤ 5) ∧ (0 ≤ x ∧ x ≤ 1) ∧ ((0 ≤ p ∧ p ≤ 1) ∧ 1 ≤ q ∧ q ≤ 9) ∧ (x = 0 → (1 ≤ a ∧ a ≤ 32) ∧ (a + 1 ≤ b ∧ b ≤ 256) ∧ 17 ≤ c ∧ c ≤ 256)
  · obtain ⟨q1, q2, q3, q4⟩ := hq
    have hw : 0 ≤ w ∧ w < 6 := by omega
    have g1 : ∀ {Q}, Tq 51 0 [vR 1 0, vI w, vI x, vI a, vI b, vI c, vI p, vI q, vJ, vJ, vJ] [] M Q ↔ Tq 51 4 [vR 1 0, vI w, vI x, vI a, vI b, vI c, vI p, vI q, vJ, vJ, vJ] [] M Q := by
      intro Q
      simp only [kI_v, kL_v, kV_v, kR_v, kX_n, kX_e, bd_e, b2i_e0, b2i_e1, b2i_nb, nb_0, nb_1, cmp_lt, cmp_le, cmp_gt, cmp_ge, cmp_eq, not_true_eq_false, not_false_eq_true, if_true, if_false, ite_true, ite_false, true_and, and_true, false_and, and_false, Int.reduceLT, Int.reduceLE, Int.reduceEq, Int.reduceSub, Int.reduceAdd, Int.reduceNeg, Int.reduceMul, Classical.not_not, Int.zero_add, Int.add_zero, Int.le_refl, t51_0, m40, m25, m52]
      rw [if_neg (show ¬ ¬ (0 ≤ w ∧ w ≤ 5) by omega), if_neg (show ¬ ¬ (0 ≤ x ∧ x ≤ 1) by omega), if_pos q3, t51_2]
      refine ifi (fun _ => Iff.rfl) (fun hx => ?_)
      obtain ⟨k1, k2, k3⟩ := q4 (by omega)
      simp only [kI_v, kL_v, kV_v, kR_v, kX_n, kX_e, bd_e, b2i_e0, b2i_e1, b2i_nb, nb_0, nb_1, cmp_lt, cmp_le, cmp_gt, cmp_ge, cmp_eq, not_true_eq_false, not_false_eq_true, if_true, if_false, ite_true, ite_false, true_and, and_true, false_and, and_false, Int.reduceLT, Int.reduceLE, Int.reduceEq, Int.reduceSub, Int.reduceAdd, Int.reduceNeg, Int.reduceMul, Classical.not_not, Int.zero_add, Int.add_zero, Int.le_refl, m25]
      rw [w32_id (z := a + 1) (by omega) (by omega), if_neg (show ¬ ¬ (1 ≤ a ∧ a ≤ 32) by omega), if_neg (show ¬ ¬ (a + 1 ≤ b ∧ b ≤ 256) by omega), if_pos k3]
    have g2 : ∀ {N Q}, Tq 301 0 [vR 22 0, vI w, vI x, vI a, vI b, vI c, vI p, vI q, vJ, vJ, vJ] [] N Q ↔ Tq 301 4 [vR 22 0, vI w, vI x, vI a, vI b, vI c, vI p, vI q, vJ, vJ, vJ] [] N Q := by
      intro N Q
      simp only [kI_v, kL_v, kV_v, kR_v, kX_n, kX_e, bd_e, b2i_e0, b2i_e1, b2i_nb, nb_0, nb_1, cmp_lt, cmp_le, cmp_gt, cmp_ge, cmp_eq, not_true_eq_false, not_false_eq_true, if_true, if_false, ite_true, ite_false, true_and, and_true, false_and, and_false, Int.reduceLT, Int.reduceLE, Int.reduceEq, Int.reduceSub, Int.reduceAdd, Int.reduceNeg, Int.reduceMul, Classical.not_not, Int.zero_add, Int.add_zero, Int.le_refl, t301_0, m289, m189]
      rw [if_neg (show ¬ ¬ (0 ≤ w ∧ w ≤ 5) by omega), if_neg (show ¬ ¬ (0 ≤ x ∧ x ≤ 1) by omega), if_neg (show ¬ ¬ (0 ≤ p ∧ p ≤ 1) by omega), if_pos q3.2, t301_2]
      refine ifi (fun _ => Iff.rfl) (fun hx => ?_)
      obtain ⟨k1, k2, k3⟩ := q4 (by omega)
      simp only [kI_v, kL_v, kV_v, kR_v, kX_n, kX_e, bd_e, b2i_e0, b2i_e1, b2i_nb, nb_0, nb_1, cmp_lt, cmp_le, cmp_gt, cmp_ge, cmp_eq, not_true_eq_false, not_false_eq_true, if_true, if_false, ite_true, ite_false, true_and, and_true, false_and, and_false, Int.reduceLT, Int.reduceLE, Int.reduceEq, Int.reduceSub, Int.reduceAdd, Int.reduceNeg, Int.reduceMul, Classical.not_not, Int.zero_add, Int.add_zero, Int.le_refl, m189]
      rw [if_neg (show ¬ ¬ (1 ≤ a ∧ a ≤ 32) by omega), if_neg (by omega), if_neg (by omega), if_pos k3]
    obtain ⟨a1, a2, a3, a4, a5⟩ := hW w hw.1 hw.2
    have hP := hI
    obtain ⟨i1, i2, i3⟩ := hI
    have i1 : M 18 0 0 = M 22 0 23 := i1
    have g3 : ∀ {N Q}, N 22018 0 w = M 22018 0 w → N 22019 0 w = M 22019 0 w → (Tq 301 4 [vR 22 0, vI w, vI x, vI a, vI b, vI c, vI p, vI q, vJ, vJ, vJ] [] N Q ↔ if M 22018 0 w < (if x = 0 then 1 else 8) ∨ M 22019 0 w = -99999999 then Q (.inl (some (vI (-2)))) N else Tq 301 9 [vR 22 0, vI w, vI x, vI a, vI b, vI c, vI p, vI q, vI (M 22018 0 w), vI 0, vJ] [] N Q) := by
      intro N Q e1 e2
      have g4 : ∀ z : Int, Tq 301 6 [vR 22 0, vI w, vI x, vI a, vI b, vI c, vI p, vI q, vI (M 22018 0 w), vJ, vJ] [vI z, vI (M 22018 0 w)] N Q ↔ if M 22018 0 w < z ∨ M 22019 0 w = -99999999 then Q (.inl (some (vI (-2)))) N else Tq 301 9 [vR 22 0, vI w, vI x, vI a, vI b, vI c, vI p, vI q, vI (M 22018 0 w), vI 0, vJ] [] N Q := by
        intro z
        rw [t301_6, e2, t301_7, t301_8]
        by_cases c1 : M 22018 0 w < z
        · rw [if_pos c1, if_pos (Or.inl c1)]
        · rw [if_neg c1]
          refine andi hw ?_
          by_cases c2 : M 22019 0 w = -99999999
          · rw [if_neg (by simpa using c2), if_pos (Or.inr c2)]
          · rw [if_pos c2, if_neg (by omega)]
      rw [t301_4, e1, t301_5, g4, g4]
      refine andi hw ?_
      by_cases c1 : x = 0
      · simp only [c1, not_true_eq_false, if_false, if_true]
      · simp only [c1, not_false_eq_true, if_false, if_true]
    have g5 : ∀ {Q}, Tq 51 4 [vR 1 0, vI w, vI x, vI a, vI b, vI c, vI p, vI q, vJ, vJ, vJ] [] M Q ↔ if M 22018 0 w < (if x = 0 then 1 else 8) ∨ M 22019 0 w = -99999999 then Q (.inl (some (vI (-2)))) M else Tq 51 7 [vR 1 0, vJ, vI x, vI a, vI b, vI c, vI p, vI q, vR 17 w, vJ, vJ] [] M Q := by
      intro Q
      rw [t51_4, t51_5, t51_6, a1]
      refine andi hw ?_
      by_cases c0 : M 22018 0 w = 0
      · rw [if_pos c0, if_pos (Or.inr (a3 c0))]
      · rw [if_neg c0, (a4 (by omega)).1]
        have hd : (if ¬ M 22019 0 w = -99999999 then Tq 51 7 [vR 1 0, vJ, vI x, vI a, vI b, vI c, vI p, vI q, vR 17 w, vJ, vJ] [] M Q else Q (.inl (some (vI (-2)))) M) ↔ if M 22019 0 w = -99999999 then Q (.inl (some (vI (-2)))) M else Tq 51 7 [vR 1 0, vJ, vI x, vI a, vI b, vI c, vI p, vI q, vR 17 w, vJ, vJ] [] M Q := by
          by_cases c2 : M 22019 0 w = -99999999
          · simp only [c2, not_true_eq_false, if_false, if_true]
          · simp only [c2, not_false_eq_true, if_false, if_true]
        rw [hd]
        by_cases c1 : x = 0
        · rw [if_pos (by omega), if_pos c1]
          by_cases c2 : M 22019 0 w = -99999999
          · rw [if_pos c2, if_pos (Or.inr c2)]
          · rw [if_neg c2, if_neg (by omega)]
        · rw [if_neg (by omega), if_neg c1]
          by_cases c3 : M 22018 0 w < 8
          · rw [if_pos c3, if_pos (Or.inl c3)]
          · rw [if_neg c3]
            by_cases c2 : M 22019 0 w = -99999999
            · rw [if_pos c2, if_pos (Or.inr c2)]
            · rw [if_neg c2, if_neg (by omega)]
    by_cases hno : M 22018 0 w < (if x = 0 then 1 else 8) ∨ M 22019 0 w = -99999999
    · unfold Op2
      rw [g1, g5, if_pos hno, kI_v]
      refine ⟨Fr.refl, ?_⟩
      rw [g2, g3 rfl rfl, if_pos hno, kI_v]
      exact ⟨rfl, Fr.refl, hP⟩
    · have h1n : 0 < M 22018 0 w := by
        by_cases c1 : x = 0
        · rw [if_pos c1] at hno; omega
        · rw [if_neg c1] at hno; omega
      obtain ⟨b1, b2, b3⟩ := a4 h1n
      obtain ⟨v, v0, v1, v2⟩ := pick_at (M := M) (w := w) (x := x) (a := a) (b := b) (c := c) a2 a1 (by
        by_cases c1 : x = 0
        · obtain ⟨k1, k2, k3⟩ := q4 c1
          exact Or.inl ⟨c1, by omega, by omega, k3⟩
        · rw [if_neg c1] at hno
          exact Or.inr ⟨c1, by omega⟩)
      have mod : ∀ {N Q}, N 22018 0 = M 22018 0 → N 22019 0 = M 22019 0 → N 22021 0 = M 22021 0 → (Tq 301 0 [vR 22 0, vI w, vI x, vI a, vI b, vI c, vI p, vI q, vJ, vJ, vJ] [] N Q ↔ Tq 301 12 [vR 22 0, vI w, vJ, vJ, vJ, vJ, vI p, vI q, vJ, vJ, vJ] [vI v] (mclp N w (M 22018 0 w)) Q) := by
        intro N Q e1 e2 e3
        rw [g2, g3 (by rw [e1]) (by rw [e2]), if_neg hno]
        have t := m301_9 (M := N) (Q := Q) (x1 := x) (x2 := a) (x3 := b) (x4 := c) (x5 := p) (x6 := q) hw a2 (M 22018 0 w).toNat 0 (by omega) (by omega)
        rw [mclp_0] at t
        rw [t, v2 _ (fun j j1 j2 => by rw [mclp_b j1 j2, e3, (a5 j j1 j2).1])]
      unfold Op2
      rw [g1, g5, if_neg hno, v1, t51_9, t51_10]
      refine ifg (fun hv => ifg (fun h64 => ?_) (fun h64 => ?_)) (fun hv => ?_)
      · have hv : 0 ≤ v ∧ v < M 22018 0 w := by omega
        generalize hsg : (if v = 0 then 0 else if clip (M 17000 w v) < clip (M 17000 w (v - 1)) then -1 else if clip (M 17000 w v) = clip (M 17000 w (v - 1)) then 0 else 1 : Int) = sg
        have sg1 : -1 ≤ sg ∧ sg ≤ 1 := by
          rw [← hsg]
          split
          · omega
          · split
            · omega
            · split <;> omega
        have c11 : ∀ {Q}, Tq 51 11 [vR 1 0, vJ, vJ, vJ, vJ, vJ, vI p, vI q, vR 17 w, vI v, vJ] [] M Q ↔ Tq 51 13 [vR 1 0, vJ, vJ, vJ, vJ, vJ, vI p, vI q, vR 17 w, vI v, vJ] [vI sg] M Q := by
          intro Q
          rw [t51_11]
          by_cases c0 : v = 0
          · rw [if_neg (by simpa using c0), ← hsg, if_pos c0]
          · rw [if_pos c0, t51_12, m50, kI_v, w32_id (z := v - 1) (by omega) (by omega), m50, kI_v, m7, kI_v, ← hsg, if_neg c0]
            exact andi (by omega) (andi (by omega) Iff.rfl)
        have c14 : ∀ {N Q}, (∀ j : Int, 0 ≤ j → j < M 22018 0 w → N 22022 0 j = clip (M 17000 w j)) → (Tq 301 14 [vR 22 0, vI w, vJ, vJ, vJ, vJ, vI p, vI q, vJ, vI v, vJ] [] N Q ↔ Tq 301 16 [vR 22 0, vI w, vJ, vJ, vJ, vJ, vI p, vI q, vJ, vI v, vJ] [vI sg] N Q) := by
          intro N Q hN
          rw [t301_14]
          by_cases c0 : v = 0
          · rw [if_neg (by simpa using c0), ← hsg, if_pos c0]
          · rw [if_pos c0, t301_15, w32_id (z := v - 1) (by omega) (by omega), m7, kI_v, hN v (by omega) (by omega), hN (v - 1) (by omega) (by omega), ← hsg, if_neg c0]
            exact andi (by omega) (andi (by omega) Iff.rfl)
        rw [c11, t51_13, b1, b2, w32_id (by omega) (by omega), m147 (by omega) (by omega), kI_v, kI_v]
        refine ⟨cpk_fr, ?_⟩
        generalize hM1 : cpk M (M 22019 0 w) (M 22020 0 w + v) p q sg = M1
        have hF : Fr SPkC M M1 := by rw [← hM1]; exact cpk_fr
        have r18 : M1 22018 0 = M 22018 0 := hF.row _ _ (fun _ => by simp [SPkC])
        have r19 : M1 22019 0 = M 22019 0 := hF.row _ _ (fun _ => by simp [SPkC])
        have r20 : M1 22020 0 = M 22020 0 := hF.row _ _ (fun _ => by simp [SPkC])
        have r21 : M1 22021 0 = M 22021 0 := hF.row _ _ (fun _ => by simp [SPkC])
        have r23 : M1 22 0 23 = M 22 0 23 := hF _ _ _ (by simp [SPkC])
        have hN : ∀ j : Int, 0 ≤ j → j < M 22018 0 w → mclp M1 w (M 22018 0 w) 22022 0 j = clip (M 17000 w j) := fun j j1 j2 => by rw [mclp_b j1 j2, r21, (a5 j j1 j2).1]
        have e22 : mclp M1 w (M 22018 0 w) 22 0 = M1 22 0 := mclp_r (by decide)
        have e19 : mclp M1 w (M 22018 0 w) 22019 0 = M1 22019 0 := mclp_r (by decide)
        have e20 : mclp M1 w (M 22018 0 w) 22020 0 = M1 22020 0 := mclp_r (by decide)
        have ad := IPk_add (M := M) (a := M 22019 0 w) (b := M 22020 0 w + v) (c := p) (d := q) (e := sg) hP (by omega) (by omega) (by omega) q3.1 q3.2 sg1
        rw [hM1] at ad
        rw [mod r18 r19 r21, t301_12, if_pos (by omega), t301_13, e22, r23, if_pos (by omega), c14 hN, t301_16, e19, e20, r19, r20, w32_id (by omega) (by omega), m306 (by rw [e22, r23]; omega) (by rw [e22, r23]; omega), kI_v, kI_v, e22, r23]
        refine ⟨hw, hw, i1, ?_, IPk_cg (fun f j k hl => by rw [kpk_mclp (by simp only [LIPk] at hl; omega)]) ad.2⟩
        intro f j k hs
        rw [kpk_mclp (fun h => hs (Or.inr h))]
        exact ad.1 f j k (fun h => hs (Or.inl h))
      · rw [kI_v]
        refine ⟨Fr.refl, ?_⟩
        rw [mod rfl rfl rfl, t301_12, if_pos hv, t301_13, mclp_r (by decide), if_neg (by omega), kI_v]
        exact ⟨rfl, Fr.mrow Fr.refl (fun _ => Or.inr rfl), mclp_IPk hP⟩
      · rw [kI_v]
        refine ⟨Fr.refl, ?_⟩
        rw [mod rfl rfl rfl, t301_12, if_neg hv, kI_v]
        exact ⟨rfl, Fr.mrow Fr.refl (fun _ => Or.inr rfl), mclp_IPk hP⟩
  · have hs : IPk M := hI
    have e2 : ∀ {Q}, Tq 51 0 [vR 1 0, vI w, vI x, vI a, vI b, vI c, vI p, vI q, vJ, vJ, vJ] [] M Q ↔ Q (.inl (some (vI (-1)))) M := by
      intro Q
      simp only [kI_v, kL_v, kV_v, kR_v, kX_n, kX_e, bd_e, b2i_e0, b2i_e1, b2i_nb, nb_0, nb_1, cmp_lt, cmp_le, cmp_gt, cmp_ge, cmp_eq, not_true_eq_false, not_false_eq_true, if_true, if_false, ite_true, ite_false, true_and, and_true, false_and, and_false, Int.reduceLT, Int.reduceLE, Int.reduceEq, Int.reduceSub, Int.reduceAdd, Int.reduceNeg, Int.reduceMul, Classical.not_not, Int.zero_add, Int.add_zero, Int.le_refl, t51_0, t51_1, t51_2, t51_3, m40, m25, m52]
      refine ifi (fun _ => Iff.rfl) (fun d1 => ifi (fun _ => Iff.rfl) (fun d2 => ifi (fun d3 => ?_) (fun _ => Iff.rfl)))
      refine ifi (fun d4 => ?_) (fun d4 => ifi (fun _ => Iff.rfl) (fun d5 => ?_))
      · exact absurd ⟨by omega, by omega, d3, fun q => absurd q d4⟩ hq
      · rw [w32_id (z := a + 1) (by omega) (by omega)]
        refine ifi (fun _ => Iff.rfl) (fun d6 => ?_)
        rw [if_neg (fun d7 => hq ⟨by omega, by omega, d3, fun _ => ⟨by omega, by omega, d7⟩⟩)]
    have e3 : ∀ {Q}, Tq 301 0 [vR 22 0, vI w, vI x, vI a, vI b, vI c, vI p, vI q, vJ, vJ, vJ] [] M Q ↔ Q (.inl (some (vI (-1)))) M := by
      intro Q
      simp only [kI_v, kL_v, kV_v, kR_v, kX_n, kX_e, bd_e, b2i_e0, b2i_e1, b2i_nb, nb_0, nb_1, cmp_lt, cmp_le, cmp_gt, cmp_ge, cmp_eq, not_true_eq_false, not_false_eq_true, if_true, if_false, ite_true, ite_false, true_and, and_true, false_and, and_false, Int.reduceLT, Int.reduceLE, Int.reduceEq, Int.reduceSub, Int.reduceAdd, Int.reduceNeg, Int.reduceMul, Classical.not_not, Int.zero_add, Int.add_zero, Int.le_refl, t301_0, t301_1, t301_2, t301_3, m289, m189]
      refine ifi (fun _ => Iff.rfl) (fun d1 => ifi (fun _ => Iff.rfl) (fun d2 => ifi (fun _ => Iff.rfl) (fun d3 => ifi (fun d3' => ?_) (fun _ => Iff.rfl))))
      refine ifi (fun d4 => ?_) (fun d4 => ifi (fun _ => Iff.rfl) (fun d5 => ifi (fun _ => Iff.rfl) (fun d6 => ifi (fun _ => Iff.rfl) (fun d7 => ?_))))
      · exact absurd ⟨by omega, by omega, ⟨by omega, d3'⟩, fun q => absurd q d4⟩ hq
      · rw [if_neg (fun d8 => hq ⟨by omega, by omega, ⟨by omega, d3'⟩, fun _ => ⟨by omega, by omega, d8⟩⟩)]
    unfold Op2
    rw [e2, kI_v]
    refine ⟨Fr.refl, ?_⟩
    rw [e3, kI_v]
    exact ⟨rfl, Fr.refl, hs⟩
end Pick3
