/-! EARTH: the component's costs -/
def EdE (sl : Int → Int) (u v c : Int) : Prop := (0 ≤ u ∧ u < 1440) ∧ (0 ≤ v ∧ v < 1440) ∧ ¬ ln (v % 90 - u % 90) (v / 90 - u / 90) = 0 ∧ c = ln (v % 90 - u % 90) (v / 90 - u / 90) * (sl (u / 90) + sl (v / 90))
def SlO (sl : Int → Int) : Prop := ∀ z, 0 ≤ z → z < 16 → 1 ≤ sl z ∧ sl z ≤ 999
theorem ln_mul {dx dy s : Int} (h : 0 ≤ s ∧ s ≤ 1998) : 0 ≤ ln dx dy * s ∧ ln dx dy * s ≤ 155844 := by
  unfold ln
  split <;> (try split) <;> (try split) <;> omega
theorem EdE_R {sl : Int → Int} (h : SlO sl) : EdR (EdE sl) 1440 := by
  rintro u v c ⟨h1, h2, h3, rfl⟩
  refine ⟨h1, h2, ?_⟩
  have a := h (u / 90) (by omega) (by omega)
  have b := h (v / 90) (by omega) (by omega)
  exact ln_mul (by omega)
def lnk (k : Int) : Int := if k < 4 then 35 else if k < 8 then 49 else 78
theorem mv_ln0 : ∀ k : Fin 16, (-2 ≤ stA 30000 (k.val : Int) ∧ stA 30000 (k.val : Int) ≤ 2) ∧ (-2 ≤ stA 30001 (k.val : Int) ∧ stA 30001 (k.val : Int) ≤ 2) ∧ ln (stA 30000 (k.val : Int)) (stA 30001 (k.val : Int)) = lnk (k.val : Int) := by decide
theorem mv_ln {k : Int} (h0 : 0 ≤ k) (h1 : k < 16) : (-2 ≤ stA 30000 k ∧ stA 30000 k ≤ 2) ∧ (-2 ≤ stA 30001 k ∧ stA 30001 k ≤ 2) ∧ ln (stA 30000 k) (stA 30001 k) = lnk k := by
  have := mv_ln0 ⟨k.toNat, by omega⟩
  rw [show (((⟨k.toNat, by omega⟩ : Fin 16).val : Nat) : Int) = k by show ((k.toNat : Nat) : Int) = k; omega] at this
  exact this
theorem mv_sur0 : ∀ a b : Fin 5, ¬ ln ((a.val : Int) - 2) ((b.val : Int) - 2) = 0 → ∃ k : Fin 16, stA 30000 (k.val : Int) = (a.val : Int) - 2 ∧ stA 30001 (k.val : Int) = (b.val : Int) - 2 := by decide
theorem mv_sur {dx dy : Int} (h : ¬ ln dx dy = 0) : ∃ k, 0 ≤ k ∧ k < 16 ∧ stA 30000 k = dx ∧ stA 30001 k = dy := by
  have hr := ln_near h
  have := mv_sur0 ⟨(dx + 2).toNat, by omega⟩ ⟨(dy + 2).toNat, by omega⟩
  rw [show ((((⟨(dx + 2).toNat, by omega⟩ : Fin 5).val : Nat) : Int) - 2) = dx by show (((dx + 2).toNat : Nat) : Int) - 2 = dx; omega, show ((((⟨(dy + 2).toNat, by omega⟩ : Fin 5).val : Nat) : Int) - 2) = dy by show (((dy + 2).toNat : Nat) : Int) - 2 = dy; omega] at this
  obtain ⟨k, k1, k2⟩ := this h
  exact ⟨(k.val : Int), by omega, by have := k.isLt; omega, k1, k2⟩
theorem lnk_v {k : Int} : lnk k = 35 ∨ lnk k = 49 ∨ lnk k = 78 := by unfold lnk; split <;> (try split) <;> omega
theorem m106 {k : Int} {M : Mem} {Q : AR → Mem → Prop} : Tq 106 0 [vI k] [] M Q ↔ Q (.inl (some (vI (lnk k)))) M := by
  unfold lnk
  by_cases a : k < 4
  · simp (disch := omega) only [kI_v, kL_v, kV_v, kR_v, kX_n, kX_e, bd_e, b2i_e0, b2i_e1, b2i_nb, nb_0, nb_1, cmp_lt, cmp_le, cmp_gt, cmp_ge, cmp_eq, not_true_eq_false, not_false_eq_true, if_true, if_false, ite_true, ite_false, true_and, and_true, false_and, and_false, Int.reduceLT, Int.reduceLE, Int.reduceEq, Int.reduceSub, Int.reduceAdd, Int.reduceNeg, Int.reduceMul, Classical.not_not, Int.zero_add, Int.add_zero, Int.le_refl, lt_T, lt_F, le_T, le_F, eq_T, eq_F, w32_id, ↓reduceIte, mset_3, Nat.reduceEqDiff, reduceCtorEq, and_self, t106_0, t106_1, t106_2, t106_3, a]
  · by_cases b : k < 8
    · simp (disch := omega) only [kI_v, kL_v, kV_v, kR_v, kX_n, kX_e, bd_e, b2i_e0, b2i_e1, b2i_nb, nb_0, nb_1, cmp_lt, cmp_le, cmp_gt, cmp_ge, cmp_eq, not_true_eq_false, not_false_eq_true, if_true, if_false, ite_true, ite_false, true_and, and_true, false_and, and_false, Int.reduceLT, Int.reduceLE, Int.reduceEq, Int.reduceSub, Int.reduceAdd, Int.reduceNeg, Int.reduceMul, Classical.not_not, Int.zero_add, Int.add_zero, Int.le_refl, lt_T, lt_F, le_T, le_F, eq_T, eq_F, w32_id, ↓reduceIte, mset_3, Nat.reduceEqDiff, reduceCtorEq, and_self, t106_0, t106_1, t106_2, t106_3, a, b]
    · simp (disch := omega) only [kI_v, kL_v, kV_v, kR_v, kX_n, kX_e, bd_e, b2i_e0, b2i_e1, b2i_nb, nb_0, nb_1, cmp_lt, cmp_le, cmp_gt, cmp_ge, cmp_eq, not_true_eq_false, not_false_eq_true, if_true, if_false, ite_true, ite_false, true_and, and_true, false_and, and_false, Int.reduceLT, Int.reduceLE, Int.reduceEq, Int.reduceSub, Int.reduceAdd, Int.reduceNeg, Int.reduceMul, Classical.not_not, Int.zero_add, Int.add_zero, Int.le_refl, lt_T, lt_F, le_T, le_F, eq_T, eq_F, w32_id, ↓reduceIte, mset_3, Nat.reduceEqDiff, reduceCtorEq, and_self, t106_0, t106_1, t106_2, t106_3, a, b]
theorem dvn {z n : Int} (h0 : 0 ≤ z) (h1 : z ≤ 2000000000) (hn : 1 ≤ n) : div32 z n = z / n := by
  unfold div32
  rw [Int.tdiv_eq_ediv_of_nonneg h0]
  have h2 : 0 ≤ z / n := Int.ediv_nonneg h0 (by omega)
  have h3 : z / n ≤ z := Int.ediv_le_self n h0
  exact w32_id (by omega) (by omega)
theorem rmn {z n : Int} (h0 : 0 ≤ z) : rem32 z n = z % n := by
  unfold rem32
  rw [Int.tmod_eq_emod_of_nonneg h0]
def SDj (f : Nat) (_ k : Int) : Prop := f = 3001 ∨ f = 2000 ∨ (f = 2 ∧ k = 1)
def RmE (sl : Int → Int) (v0 k w c : Int) : Prop := EdE sl v0 w c ∧ ∃ j, 0 ≤ j ∧ j < k ∧ stA 30000 j = w % 90 - v0 % 90 ∧ stA 30001 j = w / 90 - v0 / 90
section EarthC
variable {ph v0 b c0 sz0 : Int} {sl : Int → Int} {D : Int → Prop}
theorem m165_1 (hph : ph = 0 ∨ ph = 1) (hsl : SlO sl) (hv : 0 ≤ v0 ∧ v0 < 1440) (hb : D v0 ∨ c0 + 155844 ≤ b) (hx : b < 2147000000) (hc0 : 0 ≤ c0 ∧ c0 ≤ 2147000000) (hz : 0 ≤ sz0 ∧ sz0 + 16 ≤ 26000) : ∀ (r : Nat) (k : Int) (M : Mem), k + r = 16 → 0 ≤ k → (∀ z, 0 ≤ z → z < 16 → M 3000 0 (16 * ph + z) = sl z) → Hp (M 2000 0) (M 2 0 1) → M 3001 0 v0 = c0 → (0 ≤ M 2 0 1 ∧ M 2 0 1 ≤ sz0 + k) → (D v0 → M 2 0 1 ≤ sz0) → SPI (EdE sl) 0 1440 (M 3001 0) (Mb (M 2000 0) (M 2 0 1)) D v0 b (RmE sl v0 k) →
    ∃ M', Fr SDj M M' ∧ Hp (M' 2000 0) (M' 2 0 1) ∧ M' 3001 0 v0 = c0 ∧ (0 ≤ M' 2 0 1 ∧ M' 2 0 1 ≤ sz0 + 16) ∧ (D v0 → M' 2 0 1 ≤ sz0) ∧ SPI (EdE sl) 0 1440 (M' 3001 0) (Mb (M' 2000 0) (M' 2 0 1)) D v0 b (RmE sl v0 16) ∧ ∀ Q : AR → Mem → Prop, (Tq 165 1 [vR 3 0, vI ph, vI v0, vI k, vJ, vJ, vJ] [] M Q ↔ Q (.inl none) M') := by
  intro r
  induction r with
  | zero =>
    intro k M hk h0 hM hp h1 h2 h3 h4
    have hk : k = 16 := by omega
    subst hk
    refine ⟨M, Fr.refl, hp, h1, h2, h3, h4, fun Q => ?_⟩
    rw [t165_1, if_pos (by omega), t165_3]
  | succ r ih =>
    intro k M hk h0 hM hp h1 h2 h3 h4
    have hk : k < 16 := by omega
    obtain ⟨⟨x1, x2⟩, ⟨y1, y2⟩, hln⟩ := mv_ln h0 hk
    have hR : ∀ w c, RmE sl v0 (k + 1) w c → RmE sl v0 k w c ∨ (EdE sl v0 w c ∧ stA 30000 k = w % 90 - v0 % 90 ∧ stA 30001 k = w / 90 - v0 / 90) := by
      rintro w c ⟨q1, j, j1, j2, j3, j4⟩
      by_cases q : j = k
      · subst q
        exact Or.inr ⟨q1, j3, j4⟩
      · exact Or.inl ⟨q1, j, j1, by omega, j3, j4⟩
    generalize hdx : stA 30000 k = dx at x1 x2 hln hR
    generalize hdy : stA 30001 k = dy at y1 y2 hln hR
    have nx : ∀ (M : Mem) (Q : AR → Mem → Prop), Tq 165 2 [vR 3 0, vI ph, vI v0, vI k, vJ, vJ, vJ] [] M Q ↔ Tq 165 1 [vR 3 0, vI ph, vI v0, vI (k + 1), vJ, vJ, vJ] [] M Q := fun M Q => by rw [t165_2, w32_id (z := k + 1) (by omega) (by omega)]
    by_cases hin : (0 ≤ v0 % 90 + dx ∧ v0 % 90 + dx ≤ 89) ∧ (0 ≤ v0 / 90 + dy ∧ v0 / 90 + dy ≤ 15)
    · -- the move stays within
      generalize hw : (v0 / 90 + dy) * 90 + (v0 % 90 + dx) = w
      have w1 : w % 90 = v0 % 90 + dx := by omega
      have w2 : w / 90 = v0 / 90 + dy := by omega
      have s1 := hsl (v0 / 90) (by omega) (by omega)
      have s2 := hsl (v0 / 90 + dy) (by omega) (by omega)
      generalize hc : lnk k * (sl (v0 / 90) + sl (v0 / 90 + dy)) = c
      have cb : 0 ≤ c ∧ c ≤ 155844 := by rw [← hc, ← hln]; exact ln_mul (by omega)
      have hE : EdE sl v0 w c := by
        refine ⟨hv, by omega, ?_, ?_⟩
        · rw [w1, w2, show v0 % 90 + dx - v0 % 90 = dx by omega, show v0 / 90 + dy - v0 / 90 = dy by omega, hln]
          have := @lnk_v k
          omega
        · rw [w1, w2, show v0 % 90 + dx - v0 % 90 = dx by omega, show v0 / 90 + dy - v0 / 90 = dy by omega, hln]
          exact hc.symm
      have hR2 : ∀ w' c', RmE sl v0 (k + 1) w' c' → RmE sl v0 k w' c' ∨ (w' = w ∧ c' = c) := fun w' c' q => by
        rcases hR w' c' q with q | ⟨q1, q2, q3⟩
        · exact Or.inl q
        · refine Or.inr ?_
          have e1 : w' = w := by omega
          refine ⟨e1, ?_⟩
          rw [q1.2.2.2, hE.2.2.2, e1]
      have run : ∀ Q : AR → Mem → Prop, (Tq 165 1 [vR 3 0, vI ph, vI v0, vI k, vJ, vJ, vJ] [] M Q ↔ if M 3001 0 w ≤ c0 + c then Tq 165 2 [vR 3 0, vI ph, vI v0, vI k, vJ, vJ, vJ] [] M Q else Tq 104 0 [vR 2 0, vI (c0 + c), vI w, vJ, vJ, vJ] [] (mset M 3001 0 w (c0 + c)) (kV fun M5 => Tq 165 2 [vR 3 0, vI ph, vI v0, vI k, vJ, vJ, vJ] [] M5 Q)) := fun Q => by
        have e1 := hM (v0 / 90) (by omega) (by omega)
        have e2 := hM (v0 / 90 + dy) (by omega) (by omega)
        rw [t165_1, if_neg (by omega), hdx, hdy, rmn hv.1, dvn hv.1 (by omega) (by omega), w32_id (z := v0 % 90 + dx) (by omega) (by omega), w32_id (z := v0 / 90 + dy) (by omega) (by omega), m25, kI_v, b2i_t hin.1, if_neg (by decide), m25, kI_v, b2i_t hin.2, if_neg (by decide), m106, kI_v, w32_id (z := ph * 16) (by omega) (by omega), w32_id (z := ph * 16 + v0 / 90) (by omega) (by omega), w32_id (z := ph * 16 + (v0 / 90 + dy)) (by omega) (by omega), w32_id (z := (v0 / 90 + dy) * 90) (by omega) (by omega), w32_id (z := (v0 / 90 + dy) * 90 + (v0 % 90 + dx)) (by omega) (by omega), hw, show ph * 16 = 16 * ph by omega, e1, e2, w32_id (z := sl (v0 / 90) + sl (v0 / 90 + dy)) (by omega) (by omega), hc, w32_id (z := c) (by omega) (by omega), h1, w32_id (z := c0 + c) (by omega) (by omega), bd_e]
        refine andi (by decide) (andi (by omega) (andi (by decide) (andi (by omega) (andi (by omega) (andi (by decide) (andi (by omega) (andi (by omega) (andi (by omega) ?_))))))))
        by_cases q : M 3001 0 w ≤ c0 + c
        · rw [if_pos q, if_pos q]
        · rw [if_neg q, if_neg q]
          exact andi (by omega) Iff.rfl
      by_cases hle : M 3001 0 w ≤ c0 + c
      · obtain ⟨M', a1, a2, a3, a4, a5, a6, a7⟩ := ih (k + 1) M (by omega) (by omega) hM hp h1 (by omega) h3 (SPI_R (SPI_no h4 (w := w) (c := c) (by rw [h1]; exact hle)) hR2)
        refine ⟨M', a1, a2, a3, a4, a5, a6, fun Q => ?_⟩
        rw [run Q, if_pos hle, nx, a7 Q]
      · have hyes := fun H' hH => SPI_yes (H' := H') (EdE_R hsl) h4 hE (by rw [h1]; omega) (by
            rcases hb with q | q
            · have := (h4.2.2.2.1 v0 q).2.2.2 w c hE
              omega
            · omega) (by omega) hH
        rw [h1] at hyes
        have e2 : mset M 3001 0 w (c0 + c) 2 0 1 = M 2 0 1 := by rw [mset_3, if_neg (by simp)]
        have e2000 : mset M 3001 0 w (c0 + c) 2000 0 = M 2000 0 := by rw [mset_o (by simp)]
        obtain ⟨g', g1, g2, g3⟩ := m104 (M := mset M 3001 0 w (c0 + c)) (c := c0 + c) (x := w) (by rw [e2]; omega) (by rw [e2, e2000]; exact hp) (by omega) (by omega)
        rw [e2] at g1 g2 g3
        rw [e2000] at g2
        obtain ⟨hs, hnD⟩ := hyes (Mb g' (M 2 0 1 + 1)) g2
        generalize hM5 : mrow (mset (mset M 3001 0 w (c0 + c)) 2 0 1 (M 2 0 1 + 1)) 2000 0 g' = M5 at g3
        have f1 : M5 2000 0 = g' := by rw [← hM5, mrow_s]
        have f2 : M5 2 0 1 = M 2 0 1 + 1 := by rw [← hM5, mrow_n (by simp), mset_3, if_pos ⟨rfl, rfl, rfl⟩]
        have f3 : M5 3001 0 = fup (M 3001 0) w (c0 + c) := by rw [← hM5, mrow_n (by simp), mset_o (by simp), mset_s]
        have f4 : M5 3000 0 = M 3000 0 := by rw [← hM5, mrow_n (by simp), mset_o (by simp), mset_o (by simp)]
        have wv : ¬ v0 = w := fun q => by rw [← q] at hle; omega
        obtain ⟨M', a1, a2, a3, a4, a5, a6, a7⟩ := ih (k + 1) M5 (by omega) (by omega) (by rw [f4]; exact hM) (by rw [f1, f2]; exact g1) (by rw [f3, fup_ne wv]; exact h1) (by rw [f2]; omega) (fun q => absurd q hnD) (by rw [f1, f2, f3]; exact SPI_R hs hR2)
        refine ⟨M', Fr.trans ?_ a1, a2, a3, a4, a5, a6, fun Q => ?_⟩
        · rw [← hM5]
          intro f i j q
          unfold SDj at q
          rw [mrow_n (by omega), mset_3, if_neg (by omega), mset_3, if_neg (by omega)]
        · rw [run Q, if_neg hle, g3, kV_v, nx, a7 Q]
    · have hR2 : ∀ w' c', RmE sl v0 (k + 1) w' c' → RmE sl v0 k w' c' := fun w' c' q => by
        rcases hR w' c' q with q | ⟨q1, q2, q3⟩
        · exact q
        · have := q1.2.1
          omega
      obtain ⟨M', a1, a2, a3, a4, a5, a6, a7⟩ := ih (k + 1) M (by omega) (by omega) hM hp h1 (by omega) h3 (SPI_R h4 hR2)
      refine ⟨M', a1, a2, a3, a4, a5, a6, fun Q => ?_⟩
      rw [t165_1, if_neg (by omega), hdx, hdy, rmn hv.1, dvn hv.1 (by omega) (by omega), w32_id (z := v0 % 90 + dx) (by omega) (by omega), w32_id (z := v0 / 90 + dy) (by omega) (by omega), m25, kI_v]
      refine andi (by decide) (andi (by omega) (andi (by decide) (andi (by omega) ?_)))
      by_cases q1 : 0 ≤ v0 % 90 + dx ∧ v0 % 90 + dx ≤ 89
      · rw [b2i_t q1, if_neg (by decide), m25, kI_v, b2i_f (by omega), if_pos rfl, nx, a7 Q]
      · rw [b2i_f q1, if_pos rfl, nx, a7 Q]
end EarthC
