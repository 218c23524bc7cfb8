/-! EVENTS: versions, new events -/
section BookUp
variable {M N P : Mem} {Q : AR → Mem → Prop} {e ck x y z o m s n : Int} {L A : List Int}
def cvs (M : Mem) (e : Int) (L : List Int) (ck : Int) : Mem := mset (mset (mset (movl M 7000 e (8 * M 7 e 1) (L ++ [ck])) 7 e 1 (M 7 e 1 + 1)) 6 0 2 (M 6 0 2 + 1)) 7 e 5 (M 6 0 2 + 1)
def pvs (P : Mem) (e : Int) (L : List Int) : Mem := mset (mset (mset (movl P 22033 0 (128 * e + 8 * P 22032 0 e) (L ++ [P 22 0 81])) 22032 0 e (P 22032 0 e + 1)) 22 0 29 (P 22 0 29 + 1)) 22034 0 e (P 22 0 29 + 1)
/-- seven numbers copied, and the clock -/
theorem cpy7 {f : Nat} (hf : ¬ f = 7000) (hl : L.length = 7) (hL : ∀ j : Nat, j < 7 → M f 0 j = L.getD j 0) (x : Int) : mset (mcpy M f 0 0 7000 e x 7) 7000 e (x + 7) ck = movl M 7000 e x (L ++ [ck]) := by
  rw [mcpy_row, mset_mrow]
  unfold movl
  congr 1
  funext k
  have ll : ((L ++ [ck]).length : Int) = 8 := by rw [List.length_append, hl]; rfl
  rw [fup_at]
  by_cases c : k = x + 7
  · rw [if_pos c, ovl_in (by omega) (by omega), List.getD_eq_getElem?_getD, List.getElem?_append_right (by omega), show (k - x).toNat - L.length = 0 by omega]
    rfl
  · rw [if_neg c]
    by_cases d : x ≤ k ∧ k < x + 7
    · rw [if_pos d, ovl_in (by omega) (by omega), List.getD_eq_getElem?_getD, List.getElem?_append_left (by omega), ← List.getD_eq_getElem?_getD, ← hL (k - x).toNat (by omega), show 0 + (k - x) = (((k - x).toNat : Nat) : Int) by omega]
    · rw [if_neg d, ovl_out (by omega)]
theorem m361_1014 (hm : 0 ≤ M 7 e 1 ∧ M 7 e 1 < 16) (hd : 0 ≤ M 6 0 2 ∧ M 6 0 2 ≤ 60000) (hl : L.length = 7) (hL : ∀ j : Nat, j < 7 → M 1014 0 j = L.getD j 0) : Tq 361 0 [vR 6 0, vR 7 e, vR 1014 0, vI ck] [] M Q ↔ Q (.inl none) (cvs M e L ck) := by
  have r : ∀ {g : Nat} {i x n : Int}, ¬ g = 7000 → mcpy M 1014 0 0 7000 e x n g i = M g i := fun h => by rw [mcpy_row, mrow_2, if_neg (fun q => h q.1)]
  rw [t361_0_1014, w32_id (z := 8 * M 7 e 1) (by omega) (by omega), bd_e, r (by decide), w32_id (z := 8 * M 7 e 1) (by omega) (by omega), w32_id (z := 8 * M 7 e 1 + 7) (by omega) (by omega), bd_e, cpy7 (by decide) hl hL, bd_e, movl_r (by decide), w32_id (z := M 7 e 1 + 1) (by omega) (by omega), bd_e, mset_3 (f' := 6), if_neg (by simp), movl_r (by decide), w64_id (by omega) (by omega), bd_e, mset_3 (f' := 6), if_pos ⟨rfl, rfl, rfl⟩]
  exact andi (by omega) (andi (by omega) Iff.rfl)
theorem m361_4009 (hm : 0 ≤ M 7 e 1 ∧ M 7 e 1 < 16) (hd : 0 ≤ M 6 0 2 ∧ M 6 0 2 ≤ 60000) (hl : L.length = 7) (hL : ∀ j : Nat, j < 7 → M 4009 0 j = L.getD j 0) : Tq 361 0 [vR 6 0, vR 7 e, vR 4009 0, vI ck] [] M Q ↔ Q (.inl none) (cvs M e L ck) := by
  have r : ∀ {g : Nat} {i x n : Int}, ¬ g = 7000 → mcpy M 4009 0 0 7000 e x n g i = M g i := fun h => by rw [mcpy_row, mrow_2, if_neg (fun q => h q.1)]
  rw [t361_0_4009, w32_id (z := 8 * M 7 e 1) (by omega) (by omega), bd_e, r (by decide), w32_id (z := 8 * M 7 e 1) (by omega) (by omega), w32_id (z := 8 * M 7 e 1 + 7) (by omega) (by omega), bd_e, cpy7 (by decide) hl hL, bd_e, movl_r (by decide), w32_id (z := M 7 e 1 + 1) (by omega) (by omega), bd_e, mset_3 (f' := 6), if_neg (by simp), movl_r (by decide), w64_id (by omega) (by omega), bd_e, mset_3 (f' := 6), if_pos ⟨rfl, rfl, rfl⟩]
  exact andi (by omega) (andi (by omega) Iff.rfl)
theorem m208 {k : Int} (he : 0 ≤ e ∧ e < 24) (hm : 0 ≤ M 22032 0 e ∧ M 22032 0 e < 16) (hd : 0 ≤ M 22 0 29 ∧ M 22 0 29 ≤ 60000) : Tq 208 0 [vR 22 0, vI e, vI k, vI x, vI y, vI z, vI o, vI m, vI s, vJ] [] M Q ↔ Q (.inl none) (pvs M e [k, x, y, z, o, m, s]) := by
  rw [t208_0, w32_id (z := 16 * e) (by omega) (by omega), w32_id (z := 16 * e + M 22032 0 e) (by omega) (by omega), w32_id (z := 8 * (16 * e + M 22032 0 e)) (by omega) (by omega), show 8 * (16 * e + M 22032 0 e) = 128 * e + 8 * M 22032 0 e by omega]
  simp (disch := omega) only [kI_v, kL_v, kV_v, kR_v, kX_n, kX_e, bd_e, b2i_e0, b2i_e1, b2i_nb, nb_0, nb_1, cmp_lt, cmp_le, cmp_gt, cmp_ge, cmp_eq, not_true_eq_false, not_false_eq_true, if_true, if_false, ite_true, ite_false, true_and, and_true, false_and, and_false, Int.reduceLT, Int.reduceLE, Int.reduceEq, Int.reduceSub, Int.reduceAdd, Int.reduceNeg, Int.reduceMul, Classical.not_not, Int.zero_add, Int.add_zero, Int.le_refl, lt_T, lt_F, le_T, le_F, eq_T, eq_F, w32_id, ↓reduceIte, mset_3, Nat.reduceEqDiff, reduceCtorEq, and_self]
  have ek : mset (mset (mset (mset (mset (mset (mset (mset M 22033 0 (128 * e + 8 * M 22032 0 e) k) 22033 0 (128 * e + 8 * M 22032 0 e + 1) x) 22033 0 (128 * e + 8 * M 22032 0 e + 2) y) 22033 0 (128 * e + 8 * M 22032 0 e + 3) z) 22033 0 (128 * e + 8 * M 22032 0 e + 4) o) 22033 0 (128 * e + 8 * M 22032 0 e + 5) m) 22033 0 (128 * e + 8 * M 22032 0 e + 6) s) 22033 0 (128 * e + 8 * M 22032 0 e + 7) (M 22 0 81) = movl M 22033 0 (128 * e + 8 * M 22032 0 e) ([k, x, y, z, o, m, s] ++ [M 22 0 81]) := by
    rw [mset_movl (M := M), mset_app (by simp), mset_app (by simp), mset_app (by simp), mset_app (by simp), mset_app (by simp), mset_app (by simp), mset_app (by simp)]
    rfl
  rw [ek]
  rfl
/-! new events -/
def cne (M : Mem) : Mem := mset (mset (mset (mset M 7 (M 6 0 1) 1 0) 7 (M 6 0 1) 3 0) 7 (M 6 0 1) 4 (-99999999)) 6 0 1 (M 6 0 1 + 1)
def pne (P : Mem) : Mem := mset (mset (mset (mset P 22030 0 (P 22 0 28) 0) 22032 0 (P 22 0 28) 0) 22035 0 (P 22 0 28) (-99999999)) 22 0 28 (P 22 0 28 + 1)
theorem m360 (h : 0 ≤ M 6 0 1 ∧ M 6 0 1 < 24) : Tq 360 0 [vR 6 0, vJ] [] M Q ↔ Q (.inl (some (vR 7 (M 6 0 1)))) (cne M) := by
  rw [t360_0, t367_0]
  simp (disch := omega) only [kI_v, kL_v, kV_v, kR_v, kX_n, kX_e, bd_e, b2i_e0, b2i_e1, b2i_nb, nb_0, nb_1, cmp_lt, cmp_le, cmp_gt, cmp_ge, cmp_eq, not_true_eq_false, not_false_eq_true, if_true, if_false, ite_true, ite_false, true_and, and_true, false_and, and_false, Int.reduceLT, Int.reduceLE, Int.reduceEq, Int.reduceSub, Int.reduceAdd, Int.reduceNeg, Int.reduceMul, Classical.not_not, Int.zero_add, Int.add_zero, Int.le_refl, lt_T, lt_F, le_T, le_F, eq_T, eq_F, w32_id, ↓reduceIte, mset_3, Nat.reduceEqDiff, reduceCtorEq, and_self]
  rfl
theorem m207 (h : 0 ≤ M 22 0 28 ∧ M 22 0 28 < 24) : Tq 207 0 [vR 22 0] [] M Q ↔ Q (.inl (some (vI (M 22 0 28)))) (pne M) := by
  simp (disch := omega) only [kI_v, kL_v, kV_v, kR_v, kX_n, kX_e, bd_e, b2i_e0, b2i_e1, b2i_nb, nb_0, nb_1, cmp_lt, cmp_le, cmp_gt, cmp_ge, cmp_eq, not_true_eq_false, not_false_eq_true, if_true, if_false, ite_true, ite_false, true_and, and_true, false_and, and_false, Int.reduceLT, Int.reduceLE, Int.reduceEq, Int.reduceSub, Int.reduceAdd, Int.reduceNeg, Int.reduceMul, Classical.not_not, Int.zero_add, Int.add_zero, Int.le_refl, lt_T, lt_F, le_T, le_F, eq_T, eq_F, w32_id, ↓reduceIte, mset_3, Nat.reduceEqDiff, reduceCtorEq, and_self, t207_0]
  rw [show M 22 0 28 + 1 - 1 = M 22 0 28 by omega]
  rfl
/-- a whole new event: arrivals A, n of them, the first version -/
def cev (M : Mem) (A : List Int) (n : Int) (L : List Int) (ck : Int) : Mem := cvs (mset (movl (cne M) 7002 (M 6 0 1) 0 A) 7 (M 6 0 1) 3 n) (M 6 0 1) L ck
def pev (P : Mem) (A : List Int) (n : Int) (L : List Int) : Mem := pvs (mset (movl (pne P) 22031 0 (120 * P 22 0 28) A) 22030 0 (P 22 0 28) n) (P 22 0 28) L
/-! what they make of both sides -/
theorem pvs_s {k : Int} : pvs P e L 22 0 k = if k = 29 then P 22 0 29 + 1 else P 22 0 k := by
  unfold pvs
  by_cases c : k = 29
  · rw [mset_3, if_neg (by simp), mset_3, if_pos ⟨rfl, rfl, c⟩, if_pos c]
  · rw [mset_3, if_neg (by simp), mset_3, if_neg (by simp [c]), mset_3, if_neg (by simp), movl_r (by decide), if_neg c]
theorem pvs_r {f : Nat} {i : Int} (h1 : ¬ f = 22) (h2 : ¬ f = 22032) (h3 : ¬ f = 22033) (h4 : ¬ f = 22034) : pvs P e L f i = P f i := by
  unfold pvs
  rw [mset_o (fun q => h4 q.1), mset_o (fun q => h1 q.1), mset_o (fun q => h2 q.1), movl_r h3]
theorem pvs_32 : pvs P e L 22032 0 = fup (P 22032 0) e (P 22032 0 e + 1) := by unfold pvs; rw [mset_o (by simp), mset_o (by simp), mset_s, movl_r (by decide)]
theorem pvs_33 : pvs P e L 22033 0 = ovl (P 22033 0) (128 * e + 8 * P 22032 0 e) (L ++ [P 22 0 81]) := by unfold pvs; rw [mset_o (by simp), mset_o (by simp), mset_o (by simp), movl_s]
theorem pvs_34 : pvs P e L 22034 0 = fup (P 22034 0) e (P 22 0 29 + 1) := by unfold pvs; rw [mset_s, mset_o (by simp), mset_o (by simp), movl_r (by decide)]
/-- versions go behind: on the one side -/
theorem CBk_v0 (hl : L.length = 7) (he : 0 ≤ e ∧ e < P 22 0 28) (h0 : ∀ g, 0 ≤ g → g < P 22 0 28 → 0 ≤ P 22032 0 g ∧ P 22032 0 g ≤ 16) (h16 : P 22032 0 e < 16) (hc : CBk M P) : CBk (cvs M e L (P 22 0 81)) (pvs P e L) := by
  obtain ⟨c1, c2, c3⟩ := hc
  have c2 : M 6 0 2 = P 22 0 29 := c2
  have hm := (c3 e he.1 he.2).1
  unfold CBk
  rw [pvs_s, pvs_s, if_pos rfl, if_neg (by decide), pvs_r (by decide) (by decide) (by decide) (by decide), pvs_r (by decide) (by decide) (by decide) (by decide), pvs_r (f := 22035) (by decide) (by decide) (by decide) (by decide), pvs_32, pvs_33, pvs_34]
  have ll : ((L ++ [P 22 0 81]).length : Int) = 8 := by rw [List.length_append, hl]; rfl
  have q7 : ∀ g, cvs M e L (P 22 0 81) 7 g = if g = e then fup (fup (M 7 e) 1 (M 7 e 1 + 1)) 5 (M 6 0 2 + 1) else M 7 g := fun g => by
    unfold cvs
    by_cases c : g = e
    · subst c; rw [if_pos rfl, mset_s, mset_o (by simp), mset_s, movl_r (by decide)]
    · rw [if_neg c, mset_o (fun q => c q.2), mset_o (by simp), mset_o (fun q => c q.2), movl_r (by decide)]
  have q70 : ∀ g, cvs M e L (P 22 0 81) 7000 g = if g = e then ovl (M 7000 e) (8 * M 7 e 1) (L ++ [P 22 0 81]) else M 7000 g := fun g => by
    unfold cvs
    rw [mset_o (by simp), mset_o (by simp), mset_o (by simp), movl_2]
    by_cases c : g = e
    · rw [if_pos ⟨rfl, c⟩, if_pos c]
    · rw [if_neg (fun q => c q.2), if_neg c]
  have q72 : ∀ g, cvs M e L (P 22 0 81) 7002 g = M 7002 g := fun g => by
    unfold cvs
    rw [mset_o (by simp), mset_o (by simp), mset_o (by simp), movl_r (by decide)]
  refine ⟨?_, ?_, fun g g1 g2 => ?_⟩
  · unfold cvs
    rw [mset_3, if_neg (by simp), mset_3, if_neg (by simp), mset_3, if_neg (by simp), movl_r (by decide)]
    exact c1
  · unfold cvs
    rw [mset_3, if_neg (by simp), mset_3, if_pos ⟨rfl, rfl, rfl⟩, c2]
  · obtain ⟨d1, d2, d3, d4, d5, d6⟩ := c3 g g1 g2
    have hg := h0 g g1 g2
    have he0 := h0 e he.1 he.2
    rw [q7, q70, q72]
    by_cases c : g = e
    · subst c
      simp only [if_true, fup_at]
      simp (disch := omega) only [kI_v, kL_v, kV_v, kR_v, kX_n, kX_e, bd_e, b2i_e0, b2i_e1, b2i_nb, nb_0, nb_1, cmp_lt, cmp_le, cmp_gt, cmp_ge, cmp_eq, not_true_eq_false, not_false_eq_true, if_true, if_false, ite_true, ite_false, true_and, and_true, false_and, and_false, Int.reduceLT, Int.reduceLE, Int.reduceEq, Int.reduceSub, Int.reduceAdd, Int.reduceNeg, Int.reduceMul, Classical.not_not, Int.zero_add, Int.add_zero, Int.le_refl, lt_T, lt_F, le_T, le_F, eq_T, eq_F, w32_id, ↓reduceIte, mset_3, Nat.reduceEqDiff, reduceCtorEq, and_self]
      refine ⟨fun k k1 k2 => ?_, d6⟩
      by_cases ck : k < 8 * P 22032 0 g
      · rw [ovl_out (by omega), ovl_out (by omega)]
        exact d5 k k1 ck
      · rw [ovl_in (by omega) (by omega), ovl_in (by omega) (by omega), hm, show 128 * g + k - (128 * g + 8 * P 22032 0 g) = k - 8 * P 22032 0 g by omega]
    · simp only [c, if_false, fup_at]
      refine ⟨d1, d2, d3, d4, fun k k1 k2 => ?_, d6⟩
      rw [ovl_out (by omega)]
      exact d5 k k1 k2
theorem RBk_v0 (hl : L.length = 7) (he : 0 ≤ e ∧ e < P 22 0 28) (h0 : ∀ g, 0 ≤ g → g < P 22 0 28 → 0 ≤ P 22032 0 g ∧ P 22032 0 g ≤ 16) (h16 : P 22032 0 e < 16) (hck : M 22 0 81 = P 22 0 81) (hr : RBk M P) : RBk (pvs M e L) (pvs P e L) := by
  obtain ⟨c1, c2, c3⟩ := hr
  have c1 : M 22 0 28 = P 22 0 28 := c1
  have c2 : M 22 0 29 = P 22 0 29 := c2
  have hm := (c3 e he.1 he.2).1
  have ll : ((L ++ [P 22 0 81]).length : Int) = 8 := by rw [List.length_append, hl]; rfl
  unfold RBk
  rw [pvs_s, pvs_s, if_pos rfl, if_neg (by decide), pvs_s, pvs_s, if_pos rfl, if_neg (by decide)]
  rw [pvs_r (by decide) (by decide) (by decide) (by decide), pvs_r (by decide) (by decide) (by decide) (by decide), pvs_r (f := 22035) (by decide) (by decide) (by decide) (by decide), pvs_32, pvs_33, pvs_34]
  rw [pvs_r (P := P) (by decide) (by decide) (by decide) (by decide), pvs_r (P := P) (by decide) (by decide) (by decide) (by decide), pvs_r (P := P) (f := 22035) (by decide) (by decide) (by decide) (by decide), pvs_32, pvs_33, pvs_34, hm, hck, c2]
  refine ⟨c1, rfl, fun g g1 g2 => ?_⟩
  obtain ⟨d1, d2, d3, d4, d5, d6⟩ := c3 g g1 g2
  have hg := h0 g g1 g2
  have he0 := h0 e he.1 he.2
  simp only [fup_at]
  by_cases c : g = e
  · subst c
    simp (disch := omega) only [kI_v, kL_v, kV_v, kR_v, kX_n, kX_e, bd_e, b2i_e0, b2i_e1, b2i_nb, nb_0, nb_1, cmp_lt, cmp_le, cmp_gt, cmp_ge, cmp_eq, not_true_eq_false, not_false_eq_true, if_true, if_false, ite_true, ite_false, true_and, and_true, false_and, and_false, Int.reduceLT, Int.reduceLE, Int.reduceEq, Int.reduceSub, Int.reduceAdd, Int.reduceNeg, Int.reduceMul, Classical.not_not, Int.zero_add, Int.add_zero, Int.le_refl, lt_T, lt_F, le_T, le_F, eq_T, eq_F, w32_id, ↓reduceIte, mset_3, Nat.reduceEqDiff, reduceCtorEq, and_self]
    refine ⟨fun k k1 k2 => ?_, d6⟩
    by_cases ck : k < 8 * P 22032 0 g
    · rw [ovl_out (by omega), ovl_out (by omega)]
      exact d5 k k1 ck
    · rw [ovl_in (by omega) (by omega), ovl_in (by omega) (by omega)]
  · simp only [c, if_false]
    refine ⟨d1, d2, d3, d4, fun k k1 k2 => ?_, d6⟩
    rw [ovl_out (by omega), ovl_out (by omega)]
    exact d5 k k1 k2
end BookUp
