/-! EVENTS: what rows E and V make -/
section BookUp2
variable {M N P : Mem} {Q : AR → Mem → Prop} {e ck x y z o m s n k0 : Int} {L A : List Int}
theorem o8 {g : Int → Int} {p q a0 a1 a2 a3 a4 a5 a6 a7 : Int} : ovl g p [a0, a1, a2, a3, a4, a5, a6, a7] q = if q = p then a0 else if q = p + 1 then a1 else if q = p + 2 then a2 else if q = p + 3 then a3 else if q = p + 4 then a4 else if q = p + 5 then a5 else if q = p + 6 then a6 else if q = p + 7 then a7 else g q := by
  by_cases c : p ≤ q ∧ q < p + 8
  · rw [ovl_in c.1 (by simp; omega)]
    obtain ⟨j, hj⟩ : ∃ j : Nat, q = p + j := ⟨(q - p).toNat, by omega⟩
    subst hj
    rw [show (p + (j : Int) - p).toNat = j by omega]
    rcases (show j = 0 ∨ j = 1 ∨ j = 2 ∨ j = 3 ∨ j = 4 ∨ j = 5 ∨ j = 6 ∨ j = 7 by omega) with rfl | rfl | rfl | rfl | rfl | rfl | rfl | rfl
    all_goals simp (disch := omega) only [kI_v, kL_v, kV_v, kR_v, kX_n, kX_e, bd_e, b2i_e0, b2i_e1, b2i_nb, nb_0, nb_1, cmp_lt, cmp_le, cmp_gt, cmp_ge, cmp_eq, not_true_eq_false, not_false_eq_true, if_true, if_false, ite_true, ite_false, true_and, and_true, false_and, and_false, Int.reduceLT, Int.reduceLE, Int.reduceEq, Int.reduceSub, Int.reduceAdd, Int.reduceNeg, Int.reduceMul, Classical.not_not, Int.zero_add, Int.add_zero, Int.le_refl, lt_T, lt_F, le_T, le_F, eq_T, eq_F, w32_id, ↓reduceIte, mset_3, Nat.reduceEqDiff, reduceCtorEq, and_self]
    all_goals rfl
  · rw [ovl_out (by simp; omega)]
    simp (disch := omega) only [kI_v, kL_v, kV_v, kR_v, kX_n, kX_e, bd_e, b2i_e0, b2i_e1, b2i_nb, nb_0, nb_1, cmp_lt, cmp_le, cmp_gt, cmp_ge, cmp_eq, not_true_eq_false, not_false_eq_true, if_true, if_false, ite_true, ite_false, true_and, and_true, false_and, and_false, Int.reduceLT, Int.reduceLE, Int.reduceEq, Int.reduceSub, Int.reduceAdd, Int.reduceNeg, Int.reduceMul, Classical.not_not, Int.zero_add, Int.add_zero, Int.le_refl, lt_T, lt_F, le_T, le_F, eq_T, eq_F, w32_id, ↓reduceIte, mset_3, Nat.reduceEqDiff, reduceCtorEq, and_self]
theorem WBk_v (hw : WBk P) (he : 0 ≤ e ∧ e < P 22 0 28) (h16 : P 22032 0 e < 16) (hv : OkV k0 x y z o m s (P 22 0 81) (P 22 0 81)) : WBk (bmp (pvs P e [k0, x, y, z, o, m, s])) := by
  obtain ⟨w1, w2, w3⟩ := hw
  have b22 : ∀ k, bmp (pvs P e [k0, x, y, z, o, m, s]) 22 0 k = if k = 6 then P 22 0 6 + 1 else if k = 29 then P 22 0 29 + 1 else P 22 0 k := fun k => by
    unfold bmp
    rw [mset_3, pvs_s, pvs_s]
    by_cases c : k = 6
    · simp (disch := omega) only [kI_v, kL_v, kV_v, kR_v, kX_n, kX_e, bd_e, b2i_e0, b2i_e1, b2i_nb, nb_0, nb_1, cmp_lt, cmp_le, cmp_gt, cmp_ge, cmp_eq, not_true_eq_false, not_false_eq_true, if_true, if_false, ite_true, ite_false, true_and, and_true, false_and, and_false, Int.reduceLT, Int.reduceLE, Int.reduceEq, Int.reduceSub, Int.reduceAdd, Int.reduceNeg, Int.reduceMul, Classical.not_not, Int.zero_add, Int.add_zero, Int.le_refl, lt_T, lt_F, le_T, le_F, eq_T, eq_F, w32_id, ↓reduceIte, mset_3, Nat.reduceEqDiff, reduceCtorEq, and_self, c]
    · rw [if_neg (by simp [c]), if_neg c]
  have b : ∀ {f : Nat}, ¬ f = 22 → bmp (pvs P e [k0, x, y, z, o, m, s]) f 0 = pvs P e [k0, x, y, z, o, m, s] f 0 := fun h => by unfold bmp; rw [mset_o (fun q => h q.1)]
  unfold WBk
  rw [b22, b22, b22, b22, b22, b (by decide), b (by decide), b (by decide), b (by decide), b (by decide), b (by decide), pvs_r (f := 22030) (by decide) (by decide) (by decide) (by decide), pvs_r (f := 22031) (by decide) (by decide) (by decide) (by decide), pvs_r (f := 22035) (by decide) (by decide) (by decide) (by decide), pvs_32, pvs_33, pvs_34]
  simp (disch := omega) only [kI_v, kL_v, kV_v, kR_v, kX_n, kX_e, bd_e, b2i_e0, b2i_e1, b2i_nb, nb_0, nb_1, cmp_lt, cmp_le, cmp_gt, cmp_ge, cmp_eq, not_true_eq_false, not_false_eq_true, if_true, if_false, ite_true, ite_false, true_and, and_true, false_and, and_false, Int.reduceLT, Int.reduceLE, Int.reduceEq, Int.reduceSub, Int.reduceAdd, Int.reduceNeg, Int.reduceMul, Classical.not_not, Int.zero_add, Int.add_zero, Int.le_refl, lt_T, lt_F, le_T, le_F, eq_T, eq_F, w32_id, ↓reduceIte, mset_3, Nat.reduceEqDiff, reduceCtorEq, and_self]
  refine ⟨w1, by omega, fun g g1 g2 => ?_⟩
  obtain ⟨v1, v2, v3, v4, v5, v6, v7⟩ := w3 g g1 g2
  obtain ⟨u1, u2, u3, -⟩ := w3 e he.1 he.2
  refine ⟨v1, ?_, ?_, v4, v5, v6, fun k k1 k2 => ?_⟩
  · rw [fup_at]; split
    · rename_i q; subst q; omega
    · exact v2
  · rw [fup_at]; split
    · omega
    · omega
  · rw [fup_at] at k2
    show OkV (ovl (P 22033 0) (128 * e + 8 * P 22032 0 e) [k0, x, y, z, o, m, s, P 22 0 81] _) (ovl (P 22033 0) (128 * e + 8 * P 22032 0 e) [k0, x, y, z, o, m, s, P 22 0 81] _) (ovl (P 22033 0) (128 * e + 8 * P 22032 0 e) [k0, x, y, z, o, m, s, P 22 0 81] _) (ovl (P 22033 0) (128 * e + 8 * P 22032 0 e) [k0, x, y, z, o, m, s, P 22 0 81] _) (ovl (P 22033 0) (128 * e + 8 * P 22032 0 e) [k0, x, y, z, o, m, s, P 22 0 81] _) (ovl (P 22033 0) (128 * e + 8 * P 22032 0 e) [k0, x, y, z, o, m, s, P 22 0 81] _) (ovl (P 22033 0) (128 * e + 8 * P 22032 0 e) [k0, x, y, z, o, m, s, P 22 0 81] _) (ovl (P 22033 0) (128 * e + 8 * P 22032 0 e) [k0, x, y, z, o, m, s, P 22 0 81] _) _
    by_cases c : g = e ∧ k = P 22032 0 e
    · obtain ⟨rfl, rfl⟩ := c
      simp only [o8]
      simp (disch := omega) only [kI_v, kL_v, kV_v, kR_v, kX_n, kX_e, bd_e, b2i_e0, b2i_e1, b2i_nb, nb_0, nb_1, cmp_lt, cmp_le, cmp_gt, cmp_ge, cmp_eq, not_true_eq_false, not_false_eq_true, if_true, if_false, ite_true, ite_false, true_and, and_true, false_and, and_false, Int.reduceLT, Int.reduceLE, Int.reduceEq, Int.reduceSub, Int.reduceAdd, Int.reduceNeg, Int.reduceMul, Classical.not_not, Int.zero_add, Int.add_zero, Int.le_refl, lt_T, lt_F, le_T, le_F, eq_T, eq_F, w32_id, ↓reduceIte, mset_3, Nat.reduceEqDiff, reduceCtorEq, and_self]
      exact hv
    · have hlt : 128 * g + 8 * k + 7 < 128 * e + 8 * P 22032 0 e ∨ 128 * e + 8 * P 22032 0 e + 8 ≤ 128 * g + 8 * k := by
        by_cases ge : g = e
        · rw [if_pos ge] at k2; subst ge; omega
        · rw [if_neg ge] at k2; omega
      have out : ∀ j, 0 ≤ j → j < 8 → ovl (P 22033 0) (128 * e + 8 * P 22032 0 e) [k0, x, y, z, o, m, s, P 22 0 81] (128 * g + 8 * k + j) = P 22033 0 (128 * g + 8 * k + j) := fun j j1 j2 => ovl_out (by simp; omega)
      have o0 := out 0 (by decide) (by decide)
      rw [Int.add_zero] at o0
      rw [o0, out 1 (by decide) (by decide), out 2 (by decide) (by decide), out 3 (by decide) (by decide), out 4 (by decide) (by decide), out 5 (by decide) (by decide), out 6 (by decide) (by decide), out 7 (by decide) (by decide)]
      refine v7 k k1 ?_
      by_cases ge : g = e
      · rw [if_pos ge] at k2; subst ge; omega
      · rw [if_neg ge] at k2; exact k2
/-- an event laid down, without its version yet -/
def ce1 (M : Mem) (A : List Int) (n : Int) : Mem := mset (movl (cne M) 7002 (M 6 0 1) 0 A) 7 (M 6 0 1) 3 n
def pe1 (P : Mem) (A : List Int) (n : Int) : Mem := mset (movl (pne P) 22031 0 (120 * P 22 0 28) A) 22030 0 (P 22 0 28) n
theorem pe1_s {k : Int} : pe1 P A n 22 0 k = if k = 28 then P 22 0 28 + 1 else P 22 0 k := by
  unfold pe1 pne
  rw [mset_o (by simp), movl_r (by decide), mset_3]
  by_cases c : k = 28
  · rw [if_pos ⟨rfl, rfl, c⟩, if_pos c]
  · rw [if_neg (by simp [c]), if_neg c, mset_o (by simp), mset_o (by simp), mset_o (by simp)]
theorem pe1_30 : pe1 P A n 22030 0 = fup (P 22030 0) (P 22 0 28) n := by
  unfold pe1 pne
  rw [mset_s, movl_r (by decide), mset_o (by simp), mset_o (by simp), mset_o (by simp), mset_s]
  funext k
  unfold fup
  split <;> rfl
theorem pe1_31 : pe1 P A n 22031 0 = ovl (P 22031 0) (120 * P 22 0 28) A := by
  unfold pe1 pne
  rw [mset_o (by simp), movl_s, mset_o (by simp), mset_o (by simp), mset_o (by simp), mset_o (by simp)]
theorem pe1_32 : pe1 P A n 22032 0 = fup (P 22032 0) (P 22 0 28) 0 := by
  unfold pe1 pne
  rw [mset_o (by simp), movl_r (by decide), mset_o (by simp), mset_o (by simp), mset_s, mset_o (by simp)]
theorem pe1_35 : pe1 P A n 22035 0 = fup (P 22035 0) (P 22 0 28) (-99999999) := by
  unfold pe1 pne
  rw [mset_o (by simp), movl_r (by decide), mset_o (by simp), mset_s, mset_o (by simp), mset_o (by simp)]
theorem pe1_r {f : Nat} {i : Int} (h1 : ¬ f = 22) (h2 : ¬ f = 22030) (h3 : ¬ f = 22031) (h4 : ¬ f = 22032) (h5 : ¬ f = 22035) : pe1 P A n f i = P f i := by
  unfold pe1 pne
  rw [mset_o (fun q => h2 q.1), movl_r h3, mset_o (fun q => h1 q.1), mset_o (fun q => h5 q.1), mset_o (fun q => h4 q.1), mset_o (fun q => h2 q.1)]
theorem CBk_e (hc : CBk M P) (hw : WBk P) (hn : 0 ≤ n ∧ n ≤ 24) (hA : (A.length : Int) = 5 * n) (hl : L.length = 7) (h24 : P 22 0 28 < 24) : CBk (cev M A n L (P 22 0 81)) (pev P A n L) := by
  obtain ⟨c1, c2, c3⟩ := hc
  have c1 : M 6 0 1 = P 22 0 28 := c1
  obtain ⟨w1, w2, w3⟩ := hw
  -- the one side with an event laid down; its madeAt is put right by the version
  have key : CBk (mset (ce1 M A n) 7 (P 22 0 28) 5 (P 22034 0 (P 22 0 28))) (pe1 P A n) := by
    unfold CBk
    rw [pe1_s, pe1_s, if_pos rfl, if_neg (by decide), pe1_30, pe1_31, pe1_32, pe1_35, pe1_r (by decide) (by decide) (by decide) (by decide) (by decide), pe1_r (by decide) (by decide) (by decide) (by decide) (by decide)]
    have q7 : ∀ g, mset (ce1 M A n) 7 (P 22 0 28) 5 (P 22034 0 (P 22 0 28)) 7 g = if g = P 22 0 28 then fup (fup (fup (fup (fup (M 7 g) 1 0) 3 0) 4 (-99999999)) 3 n) 5 (P 22034 0 (P 22 0 28)) else M 7 g := fun g => by
      unfold ce1 cne
      rw [c1]
      by_cases c : g = P 22 0 28
      · subst c; rw [if_pos rfl, mset_s, mset_s, movl_r (by decide), mset_o (by simp), mset_s, mset_s, mset_s]
      · rw [if_neg c, mset_o (fun q => c q.2), mset_o (fun q => c q.2), movl_r (by decide), mset_o (by simp), mset_o (fun q => c q.2), mset_o (fun q => c q.2), mset_o (fun q => c q.2)]
    have q72 : ∀ g, mset (ce1 M A n) 7 (P 22 0 28) 5 (P 22034 0 (P 22 0 28)) 7002 g = if g = P 22 0 28 then ovl (M 7002 g) 0 A else M 7002 g := fun g => by
      unfold ce1 cne
      rw [c1, mset_o (by simp), mset_o (by simp), movl_2]
      by_cases c : g = P 22 0 28
      · subst c; rw [if_pos ⟨rfl, rfl⟩, if_pos rfl, mset_o (by simp), mset_o (by simp), mset_o (by simp), mset_o (by simp)]
      · rw [if_neg (fun q => c q.2), if_neg c, mset_o (by simp), mset_o (by simp), mset_o (by simp), mset_o (by simp)]
    have q70 : ∀ g, mset (ce1 M A n) 7 (P 22 0 28) 5 (P 22034 0 (P 22 0 28)) 7000 g = M 7000 g := fun g => by
      unfold ce1 cne
      rw [mset_o (by simp), mset_o (by simp), movl_r (by decide), mset_o (by simp), mset_o (by simp), mset_o (by simp), mset_o (by simp)]
    refine ⟨?_, ?_, fun g g1 g2 => ?_⟩
    · unfold ce1 cne
      rw [mset_3, if_neg (by simp), mset_3, if_neg (by simp), movl_r (by decide), mset_3, if_pos ⟨rfl, rfl, rfl⟩, c1]
    · unfold ce1 cne
      rw [mset_3, if_neg (by simp), mset_3, if_neg (by simp), movl_r (by decide), mset_3, if_neg (by simp), mset_o (by simp), mset_o (by simp), mset_o (by simp)]
      exact c2
    · rw [q7, q70, q72]
      by_cases c : g = P 22 0 28
      · simp only [c, if_true, fup_at]
        simp (disch := omega) only [kI_v, kL_v, kV_v, kR_v, kX_n, kX_e, bd_e, b2i_e0, b2i_e1, b2i_nb, nb_0, nb_1, cmp_lt, cmp_le, cmp_gt, cmp_ge, cmp_eq, not_true_eq_false, not_false_eq_true, if_true, if_false, ite_true, ite_false, true_and, and_true, false_and, and_false, Int.reduceLT, Int.reduceLE, Int.reduceEq, Int.reduceSub, Int.reduceAdd, Int.reduceNeg, Int.reduceMul, Classical.not_not, Int.zero_add, Int.add_zero, Int.le_refl, lt_T, lt_F, le_T, le_F, eq_T, eq_F, w32_id, ↓reduceIte, mset_3, Nat.reduceEqDiff, reduceCtorEq, and_self]
        refine ⟨fun k k1 k2 => by omega, fun k k1 k2 => ?_⟩
        rw [ovl_in (by omega) (by omega), ovl_in (by omega) (by omega), show 120 * P 22 0 28 + k - 120 * P 22 0 28 = k - 0 by omega]
      · obtain ⟨d1, d2, d3, d4, d5, d6⟩ := c3 g g1 (by omega)
        have v := w3 g g1 (by omega)
        simp only [c, if_false, fup_at]
        refine ⟨d1, d2, d3, d4, d5, fun k k1 k2 => ?_⟩
        rw [ovl_out (by omega)]
        exact d6 k k1 k2
  have p28 : pe1 P A n 22 0 28 = P 22 0 28 + 1 := by rw [pe1_s, if_pos rfl]
  have p81 : pe1 P A n 22 0 81 = P 22 0 81 := by rw [pe1_s, if_neg (by decide)]
  have v0 := CBk_v0 (L := L) (e := P 22 0 28) hl (by rw [p28]; omega) (fun g g1 g2 => by
    rw [pe1_32, fup_at]
    split
    · omega
    · rw [p28] at g2
      have := (w3 g g1 (by omega)).2.1
      omega) (by rw [pe1_32, fup_eq]; omega) key
  rw [p81] at v0
  have em : cvs (mset (ce1 M A n) 7 (P 22 0 28) 5 (P 22034 0 (P 22 0 28))) (P 22 0 28) L (P 22 0 81) = cev M A n L (P 22 0 81) := by
    unfold cev
    rw [show mset (movl (cne M) 7002 (M 6 0 1) 0 A) 7 (M 6 0 1) 3 n = ce1 M A n from rfl, c1]
    have r1 : mset (ce1 M A n) 7 (P 22 0 28) 5 (P 22034 0 (P 22 0 28)) 7 (P 22 0 28) 1 = ce1 M A n 7 (P 22 0 28) 1 := by rw [mset_3, if_neg (by simp)]
    have r2 : mset (ce1 M A n) 7 (P 22 0 28) 5 (P 22034 0 (P 22 0 28)) 6 0 2 = ce1 M A n 6 0 2 := by rw [mset_3, if_neg (by simp)]
    unfold cvs
    rw [r1, r2, ← mset_movl_comm (by simp)]
    funext f i k
    simp only [mset_3]
    by_cases q : f = 7 ∧ i = P 22 0 28 ∧ k = 5
    · rw [if_pos q, if_pos q]
    · rw [if_neg q, if_neg q, if_neg q]
  rw [em] at v0
  exact v0
theorem RBk_e (hr : RBk M P) (hw : WBk P) (hn : 0 ≤ n ∧ n ≤ 24) (hA : (A.length : Int) = 5 * n) (hl : L.length = 7) (h24 : P 22 0 28 < 24) (hck : M 22 0 81 = P 22 0 81) : RBk (pev M A n L) (pev P A n L) := by
  obtain ⟨c1, c2, c3⟩ := hr
  have c1 : M 22 0 28 = P 22 0 28 := c1
  obtain ⟨w1, w2, w3⟩ := hw
  have key : RBk (mset (pe1 M A n) 22034 0 (P 22 0 28) (P 22034 0 (P 22 0 28))) (pe1 P A n) := by
    have r : ∀ {f : Nat} {i : Int}, ¬ f = 22034 → mset (pe1 M A n) 22034 0 (P 22 0 28) (P 22034 0 (P 22 0 28)) f i = pe1 M A n f i := fun h => by rw [mset_o (fun q => h q.1)]
    unfold RBk
    rw [r (f := 22) (by decide), r (f := 22030) (by decide), r (f := 22031) (by decide), r (f := 22032) (by decide), r (f := 22033) (by decide), r (f := 22035) (by decide), mset_s, pe1_s, pe1_s, if_pos rfl, if_neg (by decide), pe1_30, pe1_31, pe1_32, pe1_35, pe1_r (by decide) (by decide) (by decide) (by decide) (by decide), pe1_r (by decide) (by decide) (by decide) (by decide) (by decide)]
    rw [pe1_s, pe1_s, if_pos rfl, if_neg (by decide), pe1_30, pe1_31, pe1_32, pe1_35, pe1_r (P := P) (by decide) (by decide) (by decide) (by decide) (by decide), pe1_r (P := P) (by decide) (by decide) (by decide) (by decide) (by decide), c1]
    refine ⟨rfl, c2, fun g g1 g2 => ?_⟩
    by_cases c : g = P 22 0 28
    · simp only [c, fup_at, if_true]
      refine ⟨trivial, trivial, trivial, trivial, fun k k1 k2 => by omega, fun k k1 k2 => ?_⟩
      rw [ovl_in (by omega) (by omega), ovl_in (by omega) (by omega)]
    · obtain ⟨d1, d2, d3, d4, d5, d6⟩ := c3 g g1 (by omega)
      have v := w3 g g1 (by omega)
      simp only [c, if_false, fup_at]
      refine ⟨d1, d2, d3, d4, d5, fun k k1 k2 => ?_⟩
      rw [ovl_out (by omega), ovl_out (by omega)]
      exact d6 k k1 k2
  have p28 : pe1 P A n 22 0 28 = P 22 0 28 + 1 := by rw [pe1_s, if_pos rfl]
  have v0 := RBk_v0 (L := L) (e := P 22 0 28) hl (by rw [p28]; omega) (fun g g1 g2 => by
    rw [pe1_32, fup_at]
    split
    · omega
    · rw [p28] at g2
      have := (w3 g g1 (by omega)).2.1
      omega) (by rw [pe1_32, fup_eq]; omega) (by rw [mset_o (by simp), pe1_s, pe1_s, if_neg (by decide), if_neg (by decide), hck]) key
  have em : pvs (mset (pe1 M A n) 22034 0 (P 22 0 28) (P 22034 0 (P 22 0 28))) (P 22 0 28) L = pev M A n L := by
    unfold pev
    rw [show mset (movl (pne M) 22031 0 (120 * M 22 0 28) A) 22030 0 (M 22 0 28) n = pe1 M A n from rfl, c1]
    have r : ∀ {f : Nat} {i : Int}, ¬ f = 22034 → mset (pe1 M A n) 22034 0 (P 22 0 28) (P 22034 0 (P 22 0 28)) f i = pe1 M A n f i := fun h => by rw [mset_o (fun q => h q.1)]
    unfold pvs
    rw [r (by decide), r (by decide), ← mset_movl_comm (by simp)]
    funext f i k
    simp only [mset_3]
    by_cases q : f = 22034 ∧ i = 0 ∧ k = P 22 0 28
    · rw [if_pos q, if_pos q]
    · rw [if_neg q, if_neg q, if_neg q]
  rw [em] at v0
  exact v0
/-- what a list of arrivals has to be -/
def OkAL (A : List Int) (n st : Int) : Prop := (A.length : Int) = 5 * n ∧ (∀ k : Nat, (k : Int) < n → OkA (A.getD (5 * k) 0) (A.getD (5 * k + 1) 0) (A.getD (5 * k + 2) 0) (A.getD (5 * k + 3) 0) (A.getD (5 * k + 4) 0) st) ∧ (∀ i k : Nat, i < k → (k : Int) < n → ¬ (A.getD (5 * i) 0 = A.getD (5 * k) 0 ∧ A.getD (5 * i + 2) 0 = A.getD (5 * k + 2) 0))
theorem WBk_e (hw : WBk P) (hn : 0 ≤ n ∧ n ≤ 24) (hA : OkAL A n (P 22 0 9)) (h24 : P 22 0 28 < 24) (hv : OkV k0 x y z o m s (P 22 0 81) (P 22 0 81)) : WBk (bmp (pev P A n [k0, x, y, z, o, m, s])) := by
  obtain ⟨w1, w2, w3⟩ := hw
  obtain ⟨a1, a2, a3⟩ := hA
  have hpev : pev P A n [k0, x, y, z, o, m, s] = pvs (pe1 P A n) (P 22 0 28) [k0, x, y, z, o, m, s] := rfl
  have b22 : ∀ k, bmp (pev P A n [k0, x, y, z, o, m, s]) 22 0 k = if k = 6 then P 22 0 6 + 1 else if k = 29 then P 22 0 29 + 1 else if k = 28 then P 22 0 28 + 1 else P 22 0 k := fun k => by
    rw [hpev]
    unfold bmp
    rw [mset_3, pvs_s, pvs_s, pe1_s, pe1_s, pe1_s]
    by_cases c : k = 6
    · simp (disch := omega) only [kI_v, kL_v, kV_v, kR_v, kX_n, kX_e, bd_e, b2i_e0, b2i_e1, b2i_nb, nb_0, nb_1, cmp_lt, cmp_le, cmp_gt, cmp_ge, cmp_eq, not_true_eq_false, not_false_eq_true, if_true, if_false, ite_true, ite_false, true_and, and_true, false_and, and_false, Int.reduceLT, Int.reduceLE, Int.reduceEq, Int.reduceSub, Int.reduceAdd, Int.reduceNeg, Int.reduceMul, Classical.not_not, Int.zero_add, Int.add_zero, Int.le_refl, lt_T, lt_F, le_T, le_F, eq_T, eq_F, w32_id, ↓reduceIte, mset_3, Nat.reduceEqDiff, reduceCtorEq, and_self, c]
    · rw [if_neg (by simp [c]), if_neg c]
      simp (disch := omega) only [kI_v, kL_v, kV_v, kR_v, kX_n, kX_e, bd_e, b2i_e0, b2i_e1, b2i_nb, nb_0, nb_1, cmp_lt, cmp_le, cmp_gt, cmp_ge, cmp_eq, not_true_eq_false, not_false_eq_true, if_true, if_false, ite_true, ite_false, true_and, and_true, false_and, and_false, Int.reduceLT, Int.reduceLE, Int.reduceEq, Int.reduceSub, Int.reduceAdd, Int.reduceNeg, Int.reduceMul, Classical.not_not, Int.zero_add, Int.add_zero, Int.le_refl, lt_T, lt_F, le_T, le_F, eq_T, eq_F, w32_id, ↓reduceIte, mset_3, Nat.reduceEqDiff, reduceCtorEq, and_self]
  have b : ∀ {f : Nat}, ¬ f = 22 → bmp (pev P A n [k0, x, y, z, o, m, s]) f 0 = pvs (pe1 P A n) (P 22 0 28) [k0, x, y, z, o, m, s] f 0 := fun h => by rw [hpev]; unfold bmp; rw [mset_o (fun q => h q.1)]
  unfold WBk
  rw [b22, b22, b22, b22, b22, b (by decide), b (by decide), b (by decide), b (by decide), b (by decide), b (by decide), pvs_r (f := 22030) (by decide) (by decide) (by decide) (by decide), pvs_r (f := 22031) (by decide) (by decide) (by decide) (by decide), pvs_r (f := 22035) (by decide) (by decide) (by decide) (by decide), pvs_32, pvs_33, pvs_34, pe1_30, pe1_31, pe1_32, pe1_35, pe1_r (f := 22033) (by decide) (by decide) (by decide) (by decide) (by decide), pe1_r (f := 22034) (by decide) (by decide) (by decide) (by decide) (by decide), pe1_s, pe1_s]
  simp (disch := omega) only [kI_v, kL_v, kV_v, kR_v, kX_n, kX_e, bd_e, b2i_e0, b2i_e1, b2i_nb, nb_0, nb_1, cmp_lt, cmp_le, cmp_gt, cmp_ge, cmp_eq, not_true_eq_false, not_false_eq_true, if_true, if_false, ite_true, ite_false, true_and, and_true, false_and, and_false, Int.reduceLT, Int.reduceLE, Int.reduceEq, Int.reduceSub, Int.reduceAdd, Int.reduceNeg, Int.reduceMul, Classical.not_not, Int.zero_add, Int.add_zero, Int.le_refl, lt_T, lt_F, le_T, le_F, eq_T, eq_F, w32_id, ↓reduceIte, mset_3, Nat.reduceEqDiff, reduceCtorEq, and_self, fup_eq]
  refine ⟨by omega, by omega, fun g g1 g2 => ?_⟩
  by_cases c : g = P 22 0 28
  · simp only [fup_at, c, if_true]
    simp (disch := omega) only [kI_v, kL_v, kV_v, kR_v, kX_n, kX_e, bd_e, b2i_e0, b2i_e1, b2i_nb, nb_0, nb_1, cmp_lt, cmp_le, cmp_gt, cmp_ge, cmp_eq, not_true_eq_false, not_false_eq_true, if_true, if_false, ite_true, ite_false, true_and, and_true, false_and, and_false, Int.reduceLT, Int.reduceLE, Int.reduceEq, Int.reduceSub, Int.reduceAdd, Int.reduceNeg, Int.reduceMul, Classical.not_not, Int.zero_add, Int.add_zero, Int.le_refl, lt_T, lt_F, le_T, le_F, eq_T, eq_F, w32_id, ↓reduceIte, mset_3, Nat.reduceEqDiff, reduceCtorEq, and_self, true_or]
    have inA : ∀ j : Nat, (j : Int) < 5 * n → ovl (P 22031 0) (120 * P 22 0 28) A (120 * P 22 0 28 + j) = A.getD j 0 := fun j hj => by rw [ovl_in (by omega) (by omega), show (120 * P 22 0 28 + (j : Int) - 120 * P 22 0 28).toNat = j by omega]
    refine ⟨fun k k1 k2 => ?_, fun i k i1 i2 i3 => ?_, fun k k1 k2 => ?_⟩
    · obtain ⟨q, rfl⟩ : ∃ q : Nat, k = q := ⟨k.toNat, by omega⟩
      have t0 := inA (5 * q) (by omega)
      have t1 := inA (5 * q + 1) (by omega)
      have t2 := inA (5 * q + 2) (by omega)
      have t3 := inA (5 * q + 3) (by omega)
      have t4 := inA (5 * q + 4) (by omega)
      rw [show 120 * P 22 0 28 + ((5 * q : Nat) : Int) = 120 * P 22 0 28 + 5 * q by omega] at t0
      rw [show 120 * P 22 0 28 + ((5 * q + 1 : Nat) : Int) = 120 * P 22 0 28 + 5 * q + 1 by omega] at t1
      rw [show 120 * P 22 0 28 + ((5 * q + 2 : Nat) : Int) = 120 * P 22 0 28 + 5 * q + 2 by omega] at t2
      rw [show 120 * P 22 0 28 + ((5 * q + 3 : Nat) : Int) = 120 * P 22 0 28 + 5 * q + 3 by omega] at t3
      rw [show 120 * P 22 0 28 + ((5 * q + 4 : Nat) : Int) = 120 * P 22 0 28 + 5 * q + 4 by omega] at t4
      rw [t0, t1, t2, t3, t4]
      exact a2 q k2
    · obtain ⟨q, rfl⟩ : ∃ q : Nat, k = q := ⟨k.toNat, by omega⟩
      obtain ⟨u, rfl⟩ : ∃ u : Nat, i = u := ⟨i.toNat, by omega⟩
      have t0 := inA (5 * q) (by omega)
      have t2 := inA (5 * q + 2) (by omega)
      have s0 := inA (5 * u) (by omega)
      have s2 := inA (5 * u + 2) (by omega)
      rw [show 120 * P 22 0 28 + ((5 * q : Nat) : Int) = 120 * P 22 0 28 + 5 * q by omega] at t0
      rw [show 120 * P 22 0 28 + ((5 * q + 2 : Nat) : Int) = 120 * P 22 0 28 + 5 * q + 2 by omega] at t2
      rw [show 120 * P 22 0 28 + ((5 * u : Nat) : Int) = 120 * P 22 0 28 + 5 * u by omega] at s0
      rw [show 120 * P 22 0 28 + ((5 * u + 2 : Nat) : Int) = 120 * P 22 0 28 + 5 * u + 2 by omega] at s2
      rw [t0, t2, s0, s2]
      exact a3 u q (by omega) i3
    · have k0' : k = 0 := by omega
      subst k0'
      show OkV (ovl (P 22033 0) (128 * P 22 0 28) [k0, x, y, z, o, m, s, P 22 0 81] _) (ovl (P 22033 0) (128 * P 22 0 28) [k0, x, y, z, o, m, s, P 22 0 81] _) (ovl (P 22033 0) (128 * P 22 0 28) [k0, x, y, z, o, m, s, P 22 0 81] _) (ovl (P 22033 0) (128 * P 22 0 28) [k0, x, y, z, o, m, s, P 22 0 81] _) (ovl (P 22033 0) (128 * P 22 0 28) [k0, x, y, z, o, m, s, P 22 0 81] _) (ovl (P 22033 0) (128 * P 22 0 28) [k0, x, y, z, o, m, s, P 22 0 81] _) (ovl (P 22033 0) (128 * P 22 0 28) [k0, x, y, z, o, m, s, P 22 0 81] _) (ovl (P 22033 0) (128 * P 22 0 28) [k0, x, y, z, o, m, s, P 22 0 81] _) _
      simp only [o8]
      simp (disch := omega) only [kI_v, kL_v, kV_v, kR_v, kX_n, kX_e, bd_e, b2i_e0, b2i_e1, b2i_nb, nb_0, nb_1, cmp_lt, cmp_le, cmp_gt, cmp_ge, cmp_eq, not_true_eq_false, not_false_eq_true, if_true, if_false, ite_true, ite_false, true_and, and_true, false_and, and_false, Int.reduceLT, Int.reduceLE, Int.reduceEq, Int.reduceSub, Int.reduceAdd, Int.reduceNeg, Int.reduceMul, Classical.not_not, Int.zero_add, Int.add_zero, Int.le_refl, lt_T, lt_F, le_T, le_F, eq_T, eq_F, w32_id, ↓reduceIte, mset_3, Nat.reduceEqDiff, reduceCtorEq, and_self]
      exact hv
  · obtain ⟨v1, v2, v3, v4, v5, v6, v7⟩ := w3 g g1 (by omega)
    simp only [fup_at, c, if_false]
    have out : ∀ j, j < 120 * P 22 0 28 → ovl (P 22031 0) (120 * P 22 0 28) A j = P 22031 0 j := fun j hj => ovl_out (Or.inl hj)
    have out2 : ∀ j, j < 128 * P 22 0 28 → ovl (P 22033 0) (128 * P 22 0 28) ([k0, x, y, z, o, m, s] ++ [P 22 0 81]) j = P 22033 0 j := fun j hj => ovl_out (Or.inl (by omega))
    refine ⟨v1, v2, by omega, v4, fun k k1 k2 => ?_, fun i k i1 i2 i3 => ?_, fun k k1 k2 => ?_⟩
    · rw [out _ (by omega), out _ (by omega), out _ (by omega), out _ (by omega), out _ (by omega)]
      exact v5 k k1 k2
    · rw [out _ (by omega), out _ (by omega), out _ (by omega), out _ (by omega)]
      exact v6 i k i1 i2 i3
    · rw [out2 _ (by omega), out2 _ (by omega), out2 _ (by omega), out2 _ (by omega), out2 _ (by omega), out2 _ (by omega), out2 _ (by omega), out2 _ (by omega)]
      exact v7 k k1 k2
end BookUp2
