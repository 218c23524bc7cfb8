/-! GAUGES: what rows make of both sides -/
section GauUp2
variable {M N P : Mem} {Q : AR → Mem → Prop} {x y a b c d : Int}
theorem pga_43 : pga P 22 0 43 = P 22 0 43 + 1 := by unfold pga; rw [mset_3, if_pos ⟨rfl, rfl, rfl⟩]
theorem pga_22 {k : Int} (h : ¬ k = 43) : pga P 22 0 k = P 22 0 k := by unfold pga; rw [mset_3, if_neg (by simp [h]), mrow_2, if_neg (by simp), mset_o (by simp), mset_o (by simp)]
theorem pga_46 : pga P 22046 0 = fup (P 22046 0) (P 22 0 43) 0 := by unfold pga; rw [mset_o (by simp), mrow_2, if_neg (by simp), mset_o (by simp), mset_s]
theorem pga_47 : pga P 22047 0 = fup (P 22047 0) (P 22 0 43) 0 := by unfold pga; rw [mset_o (by simp), mrow_2, if_neg (by simp), mset_s, mset_o (by simp)]
theorem pga_48 : pga P 22048 0 = P 22048 0 := by unfold pga; rw [mset_o (by simp), mrow_2, if_neg (by simp), mset_o (by simp), mset_o (by simp)]
theorem pga_49 : pga P 22049 0 = (fun k => if 4096 * P 22 0 43 ≤ k ∧ k < 4096 * P 22 0 43 + 4096 then -99999999 else P 22049 0 k) := by unfold pga; rw [mset_o (by simp), mrow_2, if_pos ⟨rfl, rfl⟩]
theorem pga_in {t : Int} (h0 : 0 ≤ t) (h1 : t < 4096) : pga P 22049 0 (4096 * P 22 0 43 + t) = -99999999 := by
  rw [pga_49]
  exact if_pos (by omega)
theorem pga_out {k : Int} (h : k < 4096 * P 22 0 43) : pga P 22049 0 k = P 22049 0 k := by
  rw [pga_49]
  exact if_neg (by omega)
theorem OkLt_cg {l l' : Int → Int} {bs ck v : Int} (hc : ck ≤ 4095) (h : ∀ t, 0 ≤ t → t < 4096 → l' (bs + t) = l (bs + t)) (q : OkLt l bs ck v) : OkLt l' bs ck v := by
  rcases q with ⟨q1, q2⟩ | ⟨q1, q2, q3, q4⟩
  · exact Or.inl ⟨q1, fun t t1 t2 => by rw [h t t1 (by omega)]; exact q2 t t1 t2⟩
  · exact Or.inr ⟨q1, q2, by rw [h v q1 (by omega)]; exact q3, fun t t1 t2 => by rw [h t (by omega) (by omega)]; exact q4 t t1 t2⟩
theorem CGa_g (h : CGa M P) (hn : 0 ≤ P 22 0 43 ∧ P 22 0 43 < 4) (hk : P 22 0 81 ≤ 4095) : CGa (cga M) (pga P) := by
  obtain ⟨h1, h2, h3⟩ := h
  have h1 : M 8 0 0 = P 22 0 43 := h1
  have hi := @pga_in P
  have ho := @pga_out P
  unfold CGa
  rw [pga_43, pga_46, pga_47, pga_48, pga_22 (by decide)]
  generalize pga P 22049 0 = L' at hi ho
  unfold cga
  simp (disch := omega) only [kI_v, kL_v, kV_v, kR_v, kX_n, kX_e, bd_e, b2i_e0, b2i_e1, b2i_nb, nb_0, nb_1, cmp_lt, cmp_le, cmp_gt, cmp_ge, cmp_eq, not_true_eq_false, not_false_eq_true, if_true, if_false, ite_true, ite_false, true_and, and_true, false_and, and_false, Int.reduceLT, Int.reduceLE, Int.reduceEq, Int.reduceSub, Int.reduceAdd, Int.reduceNeg, Int.reduceMul, Classical.not_not, Int.zero_add, Int.add_zero, Int.le_refl, lt_T, lt_F, le_T, le_F, eq_T, eq_F, w32_id, ↓reduceIte, mset_3, Nat.reduceEqDiff, reduceCtorEq, and_self, mset_2]
  refine ⟨by omega, fun g g1 g2 => ?_, fun k k1 k2 => h3 k (by omega) k2⟩
  simp only [fup_at, h1]
  by_cases e : g = P 22 0 43
  · rw [if_pos e, if_pos e, if_pos e, if_pos e, if_pos e, e]
    refine ⟨rfl, rfl, fun k k1 k2 => by omega, fun t t1 t2 => Or.inl ⟨hi t1 t2, h3 _ (by omega) (by omega)⟩, Or.inl ⟨rfl, fun t t1 t2 => hi t1 (by omega)⟩⟩
  · rw [if_neg e, if_neg e, if_neg e, if_neg e, if_neg e]
    obtain ⟨a1, a2, a3, a4, a5⟩ := h2 g g1 (by omega)
    refine ⟨a1, a2, a3, fun t t1 t2 => ?_, OkLt_cg hk (fun t t1 t2 => ho (by omega)) a5⟩
    rw [ho (by omega)]
    exact a4 t t1 t2
theorem RGa_g (h : RGa M P) (hn : 0 ≤ P 22 0 43 ∧ P 22 0 43 < 4) : RGa (kga M x y) (pga P) := by
  obtain ⟨h1, h2⟩ := h
  have h1 : M 22 0 43 = P 22 0 43 := h1
  have hi := @pga_in P
  have ho := @pga_out P
  have ki := @pga_in (mset (mset M 22044 0 (M 22 0 43) x) 22045 0 (M 22 0 43) y)
  have ko := @pga_out (mset (mset M 22044 0 (M 22 0 43) x) 22045 0 (M 22 0 43) y)
  unfold RGa kga
  rw [pga_43, pga_46, pga_47, pga_48, pga_43, pga_46, pga_47, pga_48]
  have r : ∀ {f : Nat} {i : Int}, ¬ f = 22044 → ¬ f = 22045 → mset (mset M 22044 0 (M 22 0 43) x) 22045 0 (M 22 0 43) y f i = M f i := fun q1 q2 => by rw [mset_o (fun q => q2 q.1), mset_o (fun q => q1 q.1)]
  rw [r (by decide) (by decide), r (by decide) (by decide)] at ko
  rw [r (by decide) (by decide)] at ki
  generalize pga P 22049 0 = L' at hi ho
  generalize pga (mset (mset M 22044 0 (M 22 0 43) x) 22045 0 (M 22 0 43) y) 22049 0 = L2 at ki ko
  rw [r (by decide) (by decide), r (by decide) (by decide), r (by decide) (by decide), r (by decide) (by decide), h1]
  rw [h1] at ki ko
  refine ⟨rfl, fun g g1 g2 => ?_⟩
  simp only [fup_at]
  by_cases e : g = P 22 0 43
  · rw [if_pos e, if_pos e, if_pos e, if_pos e, e]
    exact ⟨rfl, rfl, fun k k1 k2 => by omega, fun t t1 t2 => by rw [hi t1 t2, ki t1 t2]⟩
  · rw [if_neg e, if_neg e, if_neg e, if_neg e]
    obtain ⟨a1, a2, a3, a4⟩ := h2 g g1 (by omega)
    refine ⟨a1, a2, a3, fun t t1 t2 => ?_⟩
    rw [ho (by omega), ko (by omega)]
    exact a4 t t1 t2
theorem WGa_g (h : WGa P) (hn : P 22 0 43 < 4) : WGa (pga P) := by
  obtain ⟨h1, h2⟩ := h
  have hi := @pga_in P
  have ho := @pga_out P
  unfold WGa
  rw [pga_43, pga_46, pga_47, pga_48]
  generalize pga P 22049 0 = L' at hi ho
  refine ⟨by omega, fun g g1 g2 => ?_⟩
  simp only [fup_at]
  by_cases e : g = P 22 0 43
  · rw [if_pos e, if_pos e, e]
    exact ⟨by omega, by omega, fun t t1 t2 => Or.inl (hi t1 t2)⟩
  · rw [if_neg e, if_neg e]
    obtain ⟨a1, a2, a3⟩ := h2 g g1 (by omega)
    refine ⟨a1, a2, fun t t1 t2 => ?_⟩
    rw [ho (by omega)]
    exact a3 t t1 t2
/-! the mean -/
theorem CGa_n (h : CGa M P) : CGa (mset M 8001 0 a b) (mset P 22046 0 a b) := by
  obtain ⟨h1, h2, h3⟩ := h
  unfold CGa
  simp (disch := omega) only [kI_v, kL_v, kV_v, kR_v, kX_n, kX_e, bd_e, b2i_e0, b2i_e1, b2i_nb, nb_0, nb_1, cmp_lt, cmp_le, cmp_gt, cmp_ge, cmp_eq, not_true_eq_false, not_false_eq_true, if_true, if_false, ite_true, ite_false, true_and, and_true, false_and, and_false, Int.reduceLT, Int.reduceLE, Int.reduceEq, Int.reduceSub, Int.reduceAdd, Int.reduceNeg, Int.reduceMul, Classical.not_not, Int.zero_add, Int.add_zero, Int.le_refl, lt_T, lt_F, le_T, le_F, eq_T, eq_F, w32_id, ↓reduceIte, mset_3, Nat.reduceEqDiff, reduceCtorEq, and_self, mset_2]
  refine ⟨h1, fun g g1 g2 => ?_, h3⟩
  obtain ⟨a1, a2, a3, a4, a5⟩ := h2 g g1 g2
  refine ⟨?_, a2, a3, a4, a5⟩
  rw [fup_at, fup_at, a1]
theorem RGa_n (h : RGa M P) : RGa (mset M 22046 0 a b) (mset P 22046 0 a b) := by
  obtain ⟨h1, h2⟩ := h
  unfold RGa
  simp (disch := omega) only [kI_v, kL_v, kV_v, kR_v, kX_n, kX_e, bd_e, b2i_e0, b2i_e1, b2i_nb, nb_0, nb_1, cmp_lt, cmp_le, cmp_gt, cmp_ge, cmp_eq, not_true_eq_false, not_false_eq_true, if_true, if_false, ite_true, ite_false, true_and, and_true, false_and, and_false, Int.reduceLT, Int.reduceLE, Int.reduceEq, Int.reduceSub, Int.reduceAdd, Int.reduceNeg, Int.reduceMul, Classical.not_not, Int.zero_add, Int.add_zero, Int.le_refl, lt_T, lt_F, le_T, le_F, eq_T, eq_F, w32_id, ↓reduceIte, mset_3, Nat.reduceEqDiff, reduceCtorEq, and_self, mset_2]
  refine ⟨h1, fun g g1 g2 => ?_⟩
  obtain ⟨a1, a2, a3, a4⟩ := h2 g g1 g2
  refine ⟨?_, a2, a3, a4⟩
  rw [fup_at, fup_at, a1]
theorem WGa_n (h : WGa P) (hb : -20000 ≤ b ∧ b ≤ 20000) : WGa (mset P 22046 0 a b) := by
  obtain ⟨h1, h2⟩ := h
  unfold WGa
  simp (disch := omega) only [kI_v, kL_v, kV_v, kR_v, kX_n, kX_e, bd_e, b2i_e0, b2i_e1, b2i_nb, nb_0, nb_1, cmp_lt, cmp_le, cmp_gt, cmp_ge, cmp_eq, not_true_eq_false, not_false_eq_true, if_true, if_false, ite_true, ite_false, true_and, and_true, false_and, and_false, Int.reduceLT, Int.reduceLE, Int.reduceEq, Int.reduceSub, Int.reduceAdd, Int.reduceNeg, Int.reduceMul, Classical.not_not, Int.zero_add, Int.add_zero, Int.le_refl, lt_T, lt_F, le_T, le_F, eq_T, eq_F, w32_id, ↓reduceIte, mset_3, Nat.reduceEqDiff, reduceCtorEq, and_self, mset_2]
  refine ⟨h1, fun g g1 g2 => ?_⟩
  obtain ⟨a1, a2, a3⟩ := h2 g g1 g2
  refine ⟨?_, a2, a3⟩
  rw [fup_at]
  split
  · exact hb
  · exact a1
/-! a constituent -/
theorem ppt_r {f : Nat} {i : Int} (h1 : ¬ f = 22047) (h2 : ¬ f = 22048) : ppt P a b c d f i = P f i := by unfold ppt; rw [mset_o (fun q => h1 q.1), movl_r h2]
theorem ppt_47 : ppt P a b c d 22047 0 = fup (P 22047 0) a (P 22047 0 a + 1) := by unfold ppt; rw [mset_s, movl_r (by decide)]
theorem ppt_48 : ppt P a b c d 22048 0 = ovl (P 22048 0) (18 * a + 3 * P 22047 0 a) [b, c, d] := by unfold ppt; rw [mset_o (by simp), movl_s]
theorem o3 {g : Int → Int} {p q : Int} : ovl g p [b, c, d] q = if q = p then b else if q = p + 1 then c else if q = p + 2 then d else g q := by
  by_cases e0 : q = p
  · rw [if_pos e0, ovl_in (by omega) (by simp; omega), show (q - p).toNat = 0 by omega]; rfl
  · rw [if_neg e0]
    by_cases e1 : q = p + 1
    · rw [if_pos e1, ovl_in (by omega) (by simp; omega), show (q - p).toNat = 1 by omega]; rfl
    · rw [if_neg e1]
      by_cases e2 : q = p + 2
      · rw [if_pos e2, ovl_in (by omega) (by simp; omega), show (q - p).toNat = 2 by omega]; rfl
      · rw [if_neg e2, ovl_out (by simp; omega)]
theorem CGa_c (h : CGa M P) (hw : WGa P) (ha : 0 ≤ a ∧ a < P 22 0 43) (h6 : P 22047 0 a < 6) : CGa (cpt M a b c d) (ppt P a b c d) := by
  obtain ⟨h1, h2, h3⟩ := h
  obtain ⟨w1, w2⟩ := hw
  have hpa := (h2 a ha.1 ha.2).2.1
  unfold CGa
  rw [ppt_r (by decide) (by decide), ppt_r (by decide) (by decide), ppt_r (f := 22049) (by decide) (by decide), ppt_47, ppt_48]
  unfold cpt
  rw [hpa]
  simp (disch := omega) only [kI_v, kL_v, kV_v, kR_v, kX_n, kX_e, bd_e, b2i_e0, b2i_e1, b2i_nb, nb_0, nb_1, cmp_lt, cmp_le, cmp_gt, cmp_ge, cmp_eq, not_true_eq_false, not_false_eq_true, if_true, if_false, ite_true, ite_false, true_and, and_true, false_and, and_false, Int.reduceLT, Int.reduceLE, Int.reduceEq, Int.reduceSub, Int.reduceAdd, Int.reduceNeg, Int.reduceMul, Classical.not_not, Int.zero_add, Int.add_zero, Int.le_refl, lt_T, lt_F, le_T, le_F, eq_T, eq_F, w32_id, ↓reduceIte, mset_3, Nat.reduceEqDiff, reduceCtorEq, and_self, mset_2]
  refine ⟨h1, fun g g1 g2 => ?_, h3⟩
  obtain ⟨a1, a2, a3, a4, a5⟩ := h2 g g1 g2
  have wg := w2 g g1 g2
  have wa := w2 a ha.1 ha.2
  refine ⟨a1, by simp only [fup_at]; split; rfl; exact a2, fun k k1 k2 => ?_, a4, a5⟩
  simp only [fup_at] at k2 ⊢
  rw [o3, o3, o3]
  by_cases e : g = a
  · subst e
    rw [if_pos rfl] at k2
    by_cases ek : k = P 22047 0 g
    · simp (disch := omega) only [kI_v, kL_v, kV_v, kR_v, kX_n, kX_e, bd_e, b2i_e0, b2i_e1, b2i_nb, nb_0, nb_1, cmp_lt, cmp_le, cmp_gt, cmp_ge, cmp_eq, not_true_eq_false, not_false_eq_true, if_true, if_false, ite_true, ite_false, true_and, and_true, false_and, and_false, Int.reduceLT, Int.reduceLE, Int.reduceEq, Int.reduceSub, Int.reduceAdd, Int.reduceNeg, Int.reduceMul, Classical.not_not, Int.zero_add, Int.add_zero, Int.le_refl, lt_T, lt_F, le_T, le_F, eq_T, eq_F, w32_id, ↓reduceIte, mset_3, Nat.reduceEqDiff, reduceCtorEq, and_self]
    · simp (disch := omega) only [kI_v, kL_v, kV_v, kR_v, kX_n, kX_e, bd_e, b2i_e0, b2i_e1, b2i_nb, nb_0, nb_1, cmp_lt, cmp_le, cmp_gt, cmp_ge, cmp_eq, not_true_eq_false, not_false_eq_true, if_true, if_false, ite_true, ite_false, true_and, and_true, false_and, and_false, Int.reduceLT, Int.reduceLE, Int.reduceEq, Int.reduceSub, Int.reduceAdd, Int.reduceNeg, Int.reduceMul, Classical.not_not, Int.zero_add, Int.add_zero, Int.le_refl, lt_T, lt_F, le_T, le_F, eq_T, eq_F, w32_id, ↓reduceIte, mset_3, Nat.reduceEqDiff, reduceCtorEq, and_self]
      exact a3 k k1 (by omega)
  · rw [if_neg e] at k2
    simp (disch := omega) only [kI_v, kL_v, kV_v, kR_v, kX_n, kX_e, bd_e, b2i_e0, b2i_e1, b2i_nb, nb_0, nb_1, cmp_lt, cmp_le, cmp_gt, cmp_ge, cmp_eq, not_true_eq_false, not_false_eq_true, if_true, if_false, ite_true, ite_false, true_and, and_true, false_and, and_false, Int.reduceLT, Int.reduceLE, Int.reduceEq, Int.reduceSub, Int.reduceAdd, Int.reduceNeg, Int.reduceMul, Classical.not_not, Int.zero_add, Int.add_zero, Int.le_refl, lt_T, lt_F, le_T, le_F, eq_T, eq_F, w32_id, ↓reduceIte, mset_3, Nat.reduceEqDiff, reduceCtorEq, and_self]
    exact a3 k k1 k2
theorem RGa_c (h : RGa M P) (hw : WGa P) (ha : 0 ≤ a ∧ a < P 22 0 43) (h6 : P 22047 0 a < 6) : RGa (ppt M a b c d) (ppt P a b c d) := by
  obtain ⟨h1, h2⟩ := h
  obtain ⟨w1, w2⟩ := hw
  have hpa := (h2 a ha.1 ha.2).2.1
  unfold RGa
  rw [ppt_r (by decide) (by decide), ppt_r (by decide) (by decide), ppt_r (f := 22049) (by decide) (by decide), ppt_47, ppt_48, ppt_r (P := P) (by decide) (by decide), ppt_r (P := P) (by decide) (by decide), ppt_r (P := P) (f := 22049) (by decide) (by decide), ppt_47, ppt_48, hpa]
  refine ⟨h1, fun g g1 g2 => ?_⟩
  obtain ⟨a1, a2, a3, a4⟩ := h2 g g1 g2
  have wg := w2 g g1 g2
  have wa := w2 a ha.1 ha.2
  refine ⟨a1, by simp only [fup_at]; split; rfl; exact a2, fun k k1 k2 => ?_, a4⟩
  simp only [fup_at] at k2
  rw [o3, o3]
  by_cases e : g = a
  · subst e
    rw [if_pos rfl] at k2
    by_cases ek : k < 3 * P 22047 0 g
    · rw [a3 k k1 ek]
    · by_cases e0 : 18 * g + k = 18 * g + 3 * P 22047 0 g
      · rw [if_pos e0, if_pos e0]
      · rw [if_neg e0, if_neg e0]
        by_cases e1 : 18 * g + k = 18 * g + 3 * P 22047 0 g + 1
        · rw [if_pos e1, if_pos e1]
        · rw [if_neg e1, if_neg e1, if_pos (by omega), if_pos (by omega)]
  · rw [if_neg e] at k2
    rw [a3 k k1 k2]
theorem WGa_c (hw : WGa P) (ha : 0 ≤ a ∧ a < P 22 0 43) (h6 : P 22047 0 a < 6) : WGa (ppt P a b c d) := by
  obtain ⟨w1, w2⟩ := hw
  unfold WGa
  rw [ppt_r (by decide) (by decide), ppt_r (by decide) (by decide), ppt_r (f := 22049) (by decide) (by decide), ppt_47, ppt_48]
  refine ⟨w1, fun g g1 g2 => ?_⟩
  obtain ⟨a1, a2, a3⟩ := w2 g g1 g2
  refine ⟨a1, ?_, a3⟩
  simp only [fup_at]
  split
  · rename_i e; subst e; omega
  · exact a2
/-! a level -/
theorem CGa_l (h : CGa M P) (ha : 0 ≤ a ∧ a < P 22 0 43) (hb : 0 ≤ b ∧ b ≤ 4095) (hk : 0 ≤ P 22 0 81 ∧ P 22 0 81 ≤ 4095) (hc : ¬ c = -99999999) (h4 : P 22 0 43 ≤ 4) : CGa (ctl M a b c (P 22 0 81)) (mset P 22049 0 (4096 * a + b) c) := by
  obtain ⟨h1, h2, h3⟩ := h
  unfold CGa ctl
  simp (disch := omega) only [kI_v, kL_v, kV_v, kR_v, kX_n, kX_e, bd_e, b2i_e0, b2i_e1, b2i_nb, nb_0, nb_1, cmp_lt, cmp_le, cmp_gt, cmp_ge, cmp_eq, not_true_eq_false, not_false_eq_true, if_true, if_false, ite_true, ite_false, true_and, and_true, false_and, and_false, Int.reduceLT, Int.reduceLE, Int.reduceEq, Int.reduceSub, Int.reduceAdd, Int.reduceNeg, Int.reduceMul, Classical.not_not, Int.zero_add, Int.add_zero, Int.le_refl, lt_T, lt_F, le_T, le_F, eq_T, eq_F, w32_id, ↓reduceIte, mset_3, Nat.reduceEqDiff, reduceCtorEq, and_self, mset_2]
  refine ⟨h1, fun g g1 g2 => ?_, fun k k1 k2 => ?_⟩
  · obtain ⟨a1, a2, a3, a4, a5⟩ := h2 g g1 g2
    refine ⟨a1, a2, a3, fun t t1 t2 => ?_, ?_⟩
    · simp only [fup_at]
      by_cases e : 4096 * g + t = 4096 * a + b
      · rw [if_pos e, if_pos e, if_pos e]
        exact Or.inr ⟨hc, rfl, rfl⟩
      · rw [if_neg e, if_neg e, if_neg e]
        exact a4 t t1 t2
    · by_cases e : g = a
      · subst e
        rw [fup_eq]
        by_cases cb : P 22 0 81 < b
        · rw [if_pos cb]
          rcases a5 with ⟨q1, q2⟩ | ⟨q1, q2, q3, q4⟩
          · exact Or.inl ⟨q1, fun t t1 t2 => by rw [fup_ne (by omega)]; exact q2 t t1 t2⟩
          · exact Or.inr ⟨q1, q2, by rw [fup_ne (by omega)]; exact q3, fun t t1 t2 => by rw [fup_ne (by omega)]; exact q4 t t1 t2⟩
        · rw [if_neg cb]
          right
          rcases a5 with ⟨q1, q2⟩ | ⟨q1, q2, q3, q4⟩
          · rw [q1, show max (-99999999) b = b by omega]
            exact ⟨by omega, by omega, by rw [fup_eq]; exact hc, fun t t1 t2 => by rw [fup_ne (by omega)]; exact q2 t (by omega) t2⟩
          · by_cases cm : M 8008 0 g ≤ b
            · rw [show max (M 8008 0 g) b = b by omega]
              exact ⟨by omega, by omega, by rw [fup_eq]; exact hc, fun t t1 t2 => by rw [fup_ne (by omega)]; exact q4 t (by omega) t2⟩
            · rw [show max (M 8008 0 g) b = M 8008 0 g by omega]
              exact ⟨q1, q2, by rw [fup_ne (by omega)]; exact q3, fun t t1 t2 => by rw [fup_ne (by omega)]; exact q4 t t1 t2⟩
      · rw [fup_ne e]
        exact OkLt_cg hk.2 (fun t t1 t2 => by rw [fup_ne (by omega)]) a5
  · rw [fup_ne (by omega)]
    exact h3 k k1 k2
theorem RGa_l (h : RGa M P) : RGa (mset M 22049 0 (4096 * a + b) c) (mset P 22049 0 (4096 * a + b) c) := by
  obtain ⟨h1, h2⟩ := h
  unfold RGa
  simp (disch := omega) only [kI_v, kL_v, kV_v, kR_v, kX_n, kX_e, bd_e, b2i_e0, b2i_e1, b2i_nb, nb_0, nb_1, cmp_lt, cmp_le, cmp_gt, cmp_ge, cmp_eq, not_true_eq_false, not_false_eq_true, if_true, if_false, ite_true, ite_false, true_and, and_true, false_and, and_false, Int.reduceLT, Int.reduceLE, Int.reduceEq, Int.reduceSub, Int.reduceAdd, Int.reduceNeg, Int.reduceMul, Classical.not_not, Int.zero_add, Int.add_zero, Int.le_refl, lt_T, lt_F, le_T, le_F, eq_T, eq_F, w32_id, ↓reduceIte, mset_3, Nat.reduceEqDiff, reduceCtorEq, and_self, mset_2]
  refine ⟨h1, fun g g1 g2 => ?_⟩
  obtain ⟨a1, a2, a3, a4⟩ := h2 g g1 g2
  refine ⟨a1, a2, a3, fun t t1 t2 => ?_⟩
  rw [fup_at, fup_at, a4 t t1 t2]
theorem WGa_l (h : WGa P) (hc : -20000 ≤ c ∧ c ≤ 20000) : WGa (mset P 22049 0 (4096 * a + b) c) := by
  obtain ⟨h1, h2⟩ := h
  unfold WGa
  simp (disch := omega) only [kI_v, kL_v, kV_v, kR_v, kX_n, kX_e, bd_e, b2i_e0, b2i_e1, b2i_nb, nb_0, nb_1, cmp_lt, cmp_le, cmp_gt, cmp_ge, cmp_eq, not_true_eq_false, not_false_eq_true, if_true, if_false, ite_true, ite_false, true_and, and_true, false_and, and_false, Int.reduceLT, Int.reduceLE, Int.reduceEq, Int.reduceSub, Int.reduceAdd, Int.reduceNeg, Int.reduceMul, Classical.not_not, Int.zero_add, Int.add_zero, Int.le_refl, lt_T, lt_F, le_T, le_F, eq_T, eq_F, w32_id, ↓reduceIte, mset_3, Nat.reduceEqDiff, reduceCtorEq, and_self, mset_2]
  refine ⟨h1, fun g g1 g2 => ?_⟩
  obtain ⟨a1, a2, a3⟩ := h2 g g1 g2
  refine ⟨a1, a2, fun t t1 t2 => ?_⟩
  rw [fup_at]
  split
  · exact Or.inr hc
  · exact a3 t t1 t2
end GauUp2
