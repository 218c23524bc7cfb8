/-! EVENTS: merge, whole -/
section Mg4
variable {M N P : Mem} {Q : AR → Mem → Prop} {a b : Int}
theorem CBk_lgw {C : List Int} (h : CBk M P) : CBk (lgw M C) P := CBk_fr h lgw_fr (fun f i k hl => by unfold LCBk at hl; unfold LCLog; omega)
theorem m68 (hw : WBk P) (hc : CBk M P) (hst : P 22 0 9 ≤ 12) (h0 : 0 ≤ M 13 1 1 ∧ M 13 1 1 ≤ 60000) (hr : 0 ≤ M 14 0 1 ∧ M 14 0 1 ≤ 60000) : Tq 68 0 [vR 1 0, vI a, vI b] [] M Q ↔ if ¬ ((0 ≤ a ∧ a < P 22 0 28) ∧ (0 ≤ b ∧ b < P 22 0 28) ∧ ¬ a = b) then Q (.inl (some (vI (-1)))) M else if ¬ (P 22035 0 a = -99999999 ∧ P 22035 0 b = -99999999) then Q (.inl (some (vI (-2)))) M else if 60000 < M 13 1 1 + 15 then Q (.inl (some (vI (-3)))) M else Q (.inl (some (vI (P 22030 0 a + (msl P a b (P 22030 0 b).toNat).length)))) (cmg (lgw M (cont (77, [a, b]))) P a b) := by
  have c1 : M 6 0 1 = P 22 0 28 := hc.1
  have w1 := hw.1
  by_cases q : (0 ≤ a ∧ a < P 22 0 28) ∧ (0 ≤ b ∧ b < P 22 0 28) ∧ ¬ a = b
  · rw [if_neg (fun n => n q)]
    obtain ⟨qa, qb, qab⟩ := q
    obtain ⟨a1, a2, a3, a4, a5, a6⟩ := hc.2.2 a qa.1 qa.2
    obtain ⟨b1, b2, b3, b4, b5, b6⟩ := hc.2.2 b qb.1 qb.2
    rw [t68_0, m362 (by omega), kI_v, c1, b2i_t qa, if_neg (by decide), m362 (by omega), kI_v, c1, b2i_t qb, if_neg (by decide), if_pos qab, t68_2, t68_3, a3, b3]
    refine andi (by omega) ?_
    by_cases d1 : P 22035 0 a = -99999999
    · rw [if_neg (by simpa using d1)]
      refine andi (by omega) ?_
      by_cases d2 : P 22035 0 b = -99999999
      · rw [if_pos d2, if_neg (by simp [d1, d2]), t68_4]
        by_cases d3 : 60000 < M 13 1 1 + 15
        · simp (disch := omega) only [kI_v, kL_v, kV_v, kR_v, kX_n, kX_e, bd_e, b2i_e0, b2i_e1, b2i_nb, nb_0, nb_1, cmp_lt, cmp_le, cmp_gt, cmp_ge, cmp_eq, not_true_eq_false, not_false_eq_true, if_true, if_false, ite_true, ite_false, true_and, and_true, false_and, and_false, Int.reduceLT, Int.reduceLE, Int.reduceEq, Int.reduceSub, Int.reduceAdd, Int.reduceNeg, Int.reduceMul, Classical.not_not, Int.zero_add, Int.add_zero, Int.le_refl, lt_T, lt_F, le_T, le_F, eq_T, eq_F, w32_id, ↓reduceIte, mset_3, Nat.reduceEqDiff, reduceCtorEq, and_self, m119, d3]
        · simp (disch := omega) only [kI_v, kL_v, kV_v, kR_v, kX_n, kX_e, bd_e, b2i_e0, b2i_e1, b2i_nb, nb_0, nb_1, cmp_lt, cmp_le, cmp_gt, cmp_ge, cmp_eq, not_true_eq_false, not_false_eq_true, if_true, if_false, ite_true, ite_false, true_and, and_true, false_and, and_false, Int.reduceLT, Int.reduceLE, Int.reduceEq, Int.reduceSub, Int.reduceAdd, Int.reduceNeg, Int.reduceMul, Classical.not_not, Int.zero_add, Int.add_zero, Int.le_refl, lt_T, lt_F, le_T, le_F, eq_T, eq_F, w32_id, ↓reduceIte, mset_3, Nat.reduceEqDiff, reduceCtorEq, and_self, m119, d3, t68_5, m120, cont2]
          rw [m363 hw (CBk_lgw hc) qa qb qab hst, kV_v]
          have e : cmg (lgw M (cont (77, [a, b]))) P a b 7 a 3 = P 22030 0 a + (msl P a b (P 22030 0 b).toNat).length := by
            unfold cmg
            rw [mset_3, if_neg (by simp), mset_3, if_pos ⟨rfl, rfl, rfl⟩]
          show Q (.inl (some (vI (cmg (lgw M (cont (77, [a, b]))) P a b 7 a 3)))) _ ↔ _
          rw [e]
          exact Iff.rfl
      · rw [if_neg d2, if_pos (by simp [d2])]
    · rw [if_pos d1, if_pos (by simp [d1])]
  · rw [if_pos q, t68_0, m362 (by omega), kI_v, t68_1]
    refine ifi (fun _ => Iff.rfl) (fun d1 => ?_)
    rw [m362 (by omega), kI_v, t68_1]
    refine ifi (fun _ => Iff.rfl) (fun d2 => ?_)
    rw [b2i_e0] at d1 d2
    rw [if_neg (by omega)]
theorem m212 (hw : WBk P) (hr : RBk N P) (hst : P 22 0 9 ≤ 12) (h0 : 0 ≤ N 22 0 5 ∧ N 22 0 5 ≤ 60000) (h6 : 0 ≤ N 22 0 6 ∧ N 22 0 6 ≤ 60000) : Tq 212 0 [vR 22 0, vI a, vI b, vJ, vJ, vJ, vJ, vJ, vJ] [] N Q ↔ if ¬ ((0 ≤ a ∧ a < P 22 0 28) ∧ (0 ≤ b ∧ b < P 22 0 28) ∧ ¬ a = b) then Q (.inl (some (vI (-1)))) N else if ¬ (P 22035 0 a = -99999999 ∧ P 22035 0 b = -99999999) then Q (.inl (some (vI (-2)))) N else if 60000 < N 22 0 5 + 15 then Q (.inl (some (vI (-3)))) N else Q (.inl (some (vI (P 22030 0 a + (msl P a b (P 22030 0 b).toNat).length)))) (kgw (kmg N P a b) (cont (77, [a, b]))) := by
  have c1 : N 22 0 28 = P 22 0 28 := hr.1
  have w1 := hw.1
  by_cases q : (0 ≤ a ∧ a < P 22 0 28) ∧ (0 ≤ b ∧ b < P 22 0 28) ∧ ¬ a = b
  · rw [if_neg (fun n => n q)]
    obtain ⟨qa, qb, qab⟩ := q
    obtain ⟨a1, a2, a3, a4, a5, a6⟩ := hr.2.2 a qa.1 qa.2
    obtain ⟨b1, b2, b3, b4, b5, b6⟩ := hr.2.2 b qb.1 qb.2
    rw [t212_0, m213 (by omega), kI_v, c1, b2i_t qa, if_neg (by decide), m213 (by omega), kI_v, c1, b2i_t qb, if_neg (by decide), if_pos qab, t212_2, t212_3, a3, b3]
    refine andi (by omega) ?_
    by_cases d1 : P 22035 0 a = -99999999
    · rw [if_neg (by simpa using d1)]
      refine andi (by omega) ?_
      by_cases d2 : P 22035 0 b = -99999999
      · rw [if_pos d2, if_neg (by simp [d1, d2]), t212_4]
        by_cases d3 : 60000 < N 22 0 5 + 15
        · simp (disch := omega) only [kI_v, kL_v, kV_v, kR_v, kX_n, kX_e, bd_e, b2i_e0, b2i_e1, b2i_nb, nb_0, nb_1, cmp_lt, cmp_le, cmp_gt, cmp_ge, cmp_eq, not_true_eq_false, not_false_eq_true, if_true, if_false, ite_true, ite_false, true_and, and_true, false_and, and_false, Int.reduceLT, Int.reduceLE, Int.reduceEq, Int.reduceSub, Int.reduceAdd, Int.reduceNeg, Int.reduceMul, Classical.not_not, Int.zero_add, Int.add_zero, Int.le_refl, lt_T, lt_F, le_T, le_F, eq_T, eq_F, w32_id, ↓reduceIte, mset_3, Nat.reduceEqDiff, reduceCtorEq, and_self, m198, d3]
        · simp (disch := omega) only [kI_v, kL_v, kV_v, kR_v, kX_n, kX_e, bd_e, b2i_e0, b2i_e1, b2i_nb, nb_0, nb_1, cmp_lt, cmp_le, cmp_gt, cmp_ge, cmp_eq, not_true_eq_false, not_false_eq_true, if_true, if_false, ite_true, ite_false, true_and, and_true, false_and, and_false, Int.reduceLT, Int.reduceLE, Int.reduceEq, Int.reduceSub, Int.reduceAdd, Int.reduceNeg, Int.reduceMul, Classical.not_not, Int.zero_add, Int.add_zero, Int.le_refl, lt_T, lt_F, le_T, le_F, eq_T, eq_F, w32_id, ↓reduceIte, mset_3, Nat.reduceEqDiff, reduceCtorEq, and_self, m198, d3, t212_5, a2]
          rw [m212_6 hw hr qa qb qab hst, t212_14, bd_e]
          have k5 : ∀ k, kmg N P a b 22 0 k = N 22 0 k := fun k => by unfold kmg; rw [mset_o (by simp), mset_o (by simp), movl_r (by decide)]
          have e : kmg N P a b 22030 0 a = P 22030 0 a + (msl P a b (P 22030 0 b).toNat).length := by
            unfold kmg
            rw [mset_o (by simp), mset_3, if_pos ⟨rfl, rfl, rfl⟩]
          show _ ∧ Tq 199 0 _ [] (kmg N P a b) _ ↔ _
          rw [m199 (by decide) (by decide) (by rw [k5]; omega) (by rw [k5]; omega) (by rw [k5]; omega) (by rw [k5]; omega), kV_v, contL (by decide), kgw_r (by decide) (by decide), e]
          exact andi (by omega) (andi (by omega) Iff.rfl)
      · rw [if_neg d2, if_pos (by simp [d2])]
    · rw [if_pos d1, if_pos (by simp [d1])]
  · rw [if_pos q, t212_0, m213 (by omega), kI_v, t212_1]
    refine ifi (fun _ => Iff.rfl) (fun d1 => ?_)
    rw [m213 (by omega), kI_v, t212_1]
    refine ifi (fun _ => Iff.rfl) (fun d2 => ?_)
    rw [b2i_e0] at d1 d2
    rw [if_neg (by omega)]
theorem pmg_s {k : Int} : pmg P a b 22 0 k = P 22 0 k := by unfold pmg; rw [mset_o (by simp), mset_o (by simp), movl_r (by decide)]
theorem pmg_r {f : Nat} {i : Int} (h1 : ¬ f = 22030) (h2 : ¬ f = 22031) (h3 : ¬ f = 22035) : pmg P a b f i = P f i := by unfold pmg; rw [mset_o (fun q => h3 q.1), mset_o (fun q => h1 q.1), movl_r h2]
theorem kmg_r {f : Nat} {i : Int} (h1 : ¬ f = 22030) (h2 : ¬ f = 22031) (h3 : ¬ f = 22035) : kmg N P a b f i = N f i := by unfold kmg; rw [mset_o (fun q => h3 q.1), mset_o (fun q => h1 q.1), movl_r h2]
theorem kmg_30 : kmg N P a b 22030 0 = fup (N 22030 0) a (P 22030 0 a + (msl P a b (P 22030 0 b).toNat).length) := by unfold kmg; rw [mset_o (by simp), mset_s, movl_r (by decide)]
theorem kmg_31 : kmg N P a b 22031 0 = ovl (N 22031 0) (120 * a + 5 * P 22030 0 a) (mls P a b (P 22030 0 b).toNat) := by unfold kmg; rw [mset_o (by simp), mset_o (by simp), movl_s]
theorem kmg_35 : kmg N P a b 22035 0 = fup (N 22035 0) b a := by unfold kmg; rw [mset_s, mset_o (by simp), movl_r (by decide)]
theorem pmg_k : pmg P a b = kmg P P a b := rfl
theorem mls_len {k : Nat} : ((mls P a b k).length : Int) = 5 * (msl P a b k).length := by
  show (((mgL _ _ _ _).length : Nat) : Int) = _
  rw [mgL_len]
  unfold msl
  omega
theorem RBk_m (hw : WBk P) (hr : RBk N P) (qa : 0 ≤ a ∧ a < P 22 0 28) (qb : 0 ≤ b ∧ b < P 22 0 28) (hst : P 22 0 9 ≤ 12) : RBk (kmg N P a b) (pmg P a b) := by
  have bd := msl_bd (k := (P 22030 0 b).toNat) hw qa qb hst (by have := (hw.2.2 b qb.1 qb.2).1; omega)
  have lm := mls_len (P := P) (a := a) (b := b) (k := (P 22030 0 b).toNat)
  have va := (hw.2.2 a qa.1 qa.2).1
  obtain ⟨c1, c2, c3⟩ := hr
  unfold RBk
  rw [pmg_k]
  rw [kmg_r (f := 22) (by decide) (by decide) (by decide), kmg_r (f := 22032) (by decide) (by decide) (by decide), kmg_r (f := 22033) (by decide) (by decide) (by decide), kmg_r (f := 22034) (by decide) (by decide) (by decide), kmg_30, kmg_31, kmg_35]
  rw [kmg_r (f := 22) (by decide) (by decide) (by decide), kmg_r (f := 22032) (by decide) (by decide) (by decide), kmg_r (f := 22033) (by decide) (by decide) (by decide), kmg_r (f := 22034) (by decide) (by decide) (by decide), kmg_30, kmg_31, kmg_35]
  refine ⟨c1, c2, fun g g1 g2 => ?_⟩
  obtain ⟨d1, d2, d3, d4, d5, d6⟩ := c3 g g1 g2
  have v := (hw.2.2 g g1 g2).1
  refine ⟨d1, ?_, ?_, d4, d5, ?_⟩
  · rw [fup_at, fup_at, d2]
  · rw [fup_at, fup_at, d3]
  · intro k k1 k2
    by_cases c : g = a
    · subst c
      rw [fup_eq] at k2
      by_cases cj : k < 5 * P 22030 0 g
      · rw [ovl_out (by omega), ovl_out (by omega)]
        exact d6 k k1 cj
      · rw [ovl_in (by omega) (by omega), ovl_in (by omega) (by omega)]
    · rw [fup_at, if_neg c] at k2
      rw [ovl_out (by omega), ovl_out (by omega)]
      exact d6 k k1 k2
theorem CBk_m (hw : WBk P) (hc : CBk M P) (qa : 0 ≤ a ∧ a < P 22 0 28) (qb : 0 ≤ b ∧ b < P 22 0 28) (hst : P 22 0 9 ≤ 12) : CBk (cmg M P a b) (pmg P a b) := by
  have bd := msl_bd (k := (P 22030 0 b).toNat) hw qa qb hst (by have := (hw.2.2 b qb.1 qb.2).1; omega)
  have lm := mls_len (P := P) (a := a) (b := b) (k := (P 22030 0 b).toNat)
  have va := (hw.2.2 a qa.1 qa.2).1
  obtain ⟨c1, c2, c3⟩ := hc
  unfold CBk
  rw [pmg_k]
  rw [kmg_r (f := 22) (by decide) (by decide) (by decide), kmg_r (f := 22032) (by decide) (by decide) (by decide), kmg_r (f := 22033) (by decide) (by decide) (by decide), kmg_r (f := 22034) (by decide) (by decide) (by decide), kmg_30, kmg_31, kmg_35]
  have e6 : ∀ k, cmg M P a b 6 0 k = M 6 0 k := fun k => by unfold cmg; rw [mset_o (by simp), mset_o (by simp), movl_r (by decide)]
  have e70 : cmg M P a b 7000 = M 7000 := by funext i; unfold cmg; rw [mset_o (by simp), mset_o (by simp), movl_r (by decide)]
  have e72 : ∀ g, cmg M P a b 7002 g = if g = a then ovl (M 7002 a) (5 * P 22030 0 a) (mls P a b (P 22030 0 b).toNat) else M 7002 g := fun g => by
    unfold cmg
    rw [mset_o (by simp), mset_o (by simp), movl_2]
    by_cases c : g = a
    · subst c; rw [if_pos ⟨rfl, rfl⟩, if_pos rfl]
    · rw [if_neg (fun q => c q.2), if_neg c]
  have e7 : ∀ g k, cmg M P a b 7 g k = if g = b ∧ k = 4 then a else if g = a ∧ k = 3 then P 22030 0 a + (msl P a b (P 22030 0 b).toNat).length else M 7 g k := fun g k => by
    unfold cmg
    rw [mset_3, mset_3, movl_r (by decide)]
    simp only [true_and]
  rw [e6, e6, e70]
  refine ⟨c1, c2, fun g g1 g2 => ?_⟩
  obtain ⟨d1, d2, d3, d4, d5, d6⟩ := c3 g g1 g2
  have v := (hw.2.2 g g1 g2).1
  rw [e7, e7, e7, e7, e72]
  simp only [Int.reduceEq, and_false, and_true, if_false]
  refine ⟨d1, ?_, ?_, d4, d5, ?_⟩
  · rw [fup_at, d2]
  · rw [fup_at, d3]
  · intro k k1 k2
    by_cases c : g = a
    · subst c
      rw [fup_eq] at k2
      rw [if_pos rfl]
      by_cases cj : k < 5 * P 22030 0 g
      · rw [ovl_out (by omega), ovl_out (by omega)]
        exact d6 k k1 cj
      · rw [ovl_in (by omega) (by omega), ovl_in (by omega) (by omega), show 120 * g + k - (120 * g + 5 * P 22030 0 g) = k - 5 * P 22030 0 g by omega]
    · rw [fup_at, if_neg c] at k2
      rw [if_neg c, ovl_out (by omega)]
      exact d6 k k1 k2
theorem WBk_m (hw : WBk P) (qa : 0 ≤ a ∧ a < P 22 0 28) (qb : 0 ≤ b ∧ b < P 22 0 28) (hst : P 22 0 9 ≤ 12) : WBk (bmp (pmg P a b)) := by
  have bd := msl_bd (k := (P 22030 0 b).toNat) hw qa qb hst (by have := (hw.2.2 b qb.1 qb.2).1; omega)
  have lm := mls_len (P := P) (a := a) (b := b) (k := (P 22030 0 b).toNat)
  obtain ⟨f1, f2⟩ := mg_facts hw qa hst
  obtain ⟨g1, g2⟩ := mg_facts hw qb hst
  have ok := mg_ok (k := (P 22030 0 b).toNat) f1 g1 (by omega)
  have ds := mg_dst (k := (P 22030 0 b).toNat) f2 g2 (by omega)
  obtain ⟨w1, w2, w3⟩ := hw
  have va := (w3 a qa.1 qa.2).1
  have b22 : ∀ k, bmp (pmg P a b) 22 0 k = if k = 6 then P 22 0 6 + 1 else P 22 0 k := fun k => by
    unfold bmp
    rw [mset_3, pmg_s, pmg_s]
    simp only [true_and]
  have hb : ∀ {f : Nat}, ¬ f = 22 → bmp (pmg P a b) f 0 = kmg P P a b f 0 := fun h => by unfold bmp; rw [mset_o (fun q => h q.1)]; rfl
  unfold WBk
  rw [b22, b22, b22, b22, b22, hb (by decide), hb (by decide), hb (by decide), hb (by decide), hb (by decide), hb (by decide)]
  rw [kmg_r (f := 22032) (by decide) (by decide) (by decide), kmg_r (f := 22033) (by decide) (by decide) (by decide), kmg_r (f := 22034) (by decide) (by decide) (by decide), kmg_30, kmg_31, kmg_35]
  simp only [Int.reduceEq, if_true, if_false]
  refine ⟨w1, by omega, fun g h1 h2 => ?_⟩
  obtain ⟨v1, v2, v3, v4, v5, v6, v7⟩ := w3 g h1 h2
  by_cases c : g = a
  · subst c
    have eq : ∀ j : Int, 0 ≤ j → j < 5 * (P 22030 0 g + (msl P g b (P 22030 0 b).toNat).length) → ovl (P 22031 0) (120 * g + 5 * P 22030 0 g) (mls P g b (P 22030 0 b).toNat) (120 * g + j) = mgA (arow P g) (arow P b) (P 22030 0 g).toNat (P 22030 0 b).toNat j := fun j j1 j2 => by
      unfold mgA
      rw [show 5 * (((P 22030 0 g).toNat : Nat) : Int) = 5 * P 22030 0 g by omega]
      show _ = ovl (arow P g) _ (mls P g b (P 22030 0 b).toNat) j
      by_cases cj : j < 5 * P 22030 0 g
      · rw [ovl_out (by omega), ovl_out (by omega)]
        rfl
      · rw [ovl_in (by omega) (by omega), ovl_in (by omega) (by omega), show 120 * g + j - (120 * g + 5 * P 22030 0 g) = j - 5 * P 22030 0 g by omega]
    simp only [fup_eq]
    have hl : (((P 22030 0 g).toNat + (sel (arow P g) (arow P b) (P 22030 0 g).toNat (P 22030 0 b).toNat).length : Nat) : Int) = P 22030 0 g + (msl P g b (P 22030 0 b).toNat).length := by unfold msl; omega
    refine ⟨by omega, v2, v3, ?_, fun k k1 k2 => ?_, fun i k i1 i2 i3 => ?_, v7⟩
    · rw [fup_at]
      split
      · exact Or.inr ⟨by omega, by omega⟩
      · exact v4
    · obtain ⟨q, rfl⟩ : ∃ q : Nat, k = q := ⟨k.toNat, by omega⟩
      have := ok q (by omega)
      rw [Int.add_assoc, Int.add_assoc, Int.add_assoc, Int.add_assoc, eq _ (by omega) (by omega), eq _ (by omega) (by omega), eq _ (by omega) (by omega), eq _ (by omega) (by omega), eq _ (by omega) (by omega)]
      exact this
    · obtain ⟨q, rfl⟩ : ∃ q : Nat, k = q := ⟨k.toNat, by omega⟩
      obtain ⟨u, rfl⟩ : ∃ u : Nat, i = u := ⟨i.toNat, by omega⟩
      have := ds u q (by omega) (by omega)
      rw [Int.add_assoc, Int.add_assoc, eq _ (by omega) (by omega), eq _ (by omega) (by omega), eq _ (by omega) (by omega), eq _ (by omega) (by omega)]
      exact this
  · have out : ∀ j, 0 ≤ j → j < 120 → ovl (P 22031 0) (120 * a + 5 * P 22030 0 a) (mls P a b (P 22030 0 b).toNat) (120 * g + j) = P 22031 0 (120 * g + j) := fun j j1 j2 => ovl_out (by omega)
    rw [fup_at, if_neg c]
    refine ⟨v1, v2, v3, ?_, fun k k1 k2 => ?_, fun i k i1 i2 i3 => ?_, v7⟩
    · rw [fup_at]
      split
      · exact Or.inr ⟨by omega, by omega⟩
      · exact v4
    · have := v5 k k1 k2
      rw [Int.add_assoc, Int.add_assoc, Int.add_assoc, Int.add_assoc] at this
      rw [Int.add_assoc, Int.add_assoc, Int.add_assoc, Int.add_assoc, out _ (by omega) (by omega), out _ (by omega) (by omega), out _ (by omega) (by omega), out _ (by omega) (by omega), out _ (by omega) (by omega)]
      exact this
    · have := v6 i k i1 i2 i3
      rw [Int.add_assoc, Int.add_assoc] at this
      rw [Int.add_assoc, Int.add_assoc, out _ (by omega) (by omega), out _ (by omega) (by omega), out _ (by omega) (by omega), out _ (by omega) (by omega)]
      exact this
end Mg4
