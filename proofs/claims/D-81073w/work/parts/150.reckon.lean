/-! EARTH: the model's costs -/
theorem m265 {i j : Int} {M : Mem} {Q : AR → Mem → Prop} (hi : -2 ≤ i ∧ i ≤ 2) (hj : -2 ≤ j ∧ j ≤ 2) : Tq 265 0 [vI i, vI j, vJ] [] M Q ↔ Q (.inl (some (vI (ln i j)))) M := by
  rcases (show i = -2 ∨ i = -1 ∨ i = 0 ∨ i = 1 ∨ i = 2 by omega) with rfl | rfl | rfl | rfl | rfl <;> rcases (show j = -2 ∨ j = -1 ∨ j = 0 ∨ j = 1 ∨ j = 2 by omega) with rfl | rfl | rfl | rfl | rfl <;> (simp (disch := omega) only [kI_v, kL_v, kV_v, kR_v, kX_n, kX_e, bd_e, b2i_e0, b2i_e1, b2i_nb, nb_0, nb_1, cmp_lt, cmp_le, cmp_gt, cmp_ge, cmp_eq, not_true_eq_false, not_false_eq_true, if_true, if_false, ite_true, ite_false, true_and, and_true, false_and, and_false, Int.reduceLT, Int.reduceLE, Int.reduceEq, Int.reduceSub, Int.reduceAdd, Int.reduceNeg, Int.reduceMul, Classical.not_not, Int.zero_add, Int.add_zero, Int.le_refl, lt_T, lt_F, le_T, le_F, eq_T, eq_F, w32_id, ↓reduceIte, mset_3, Nat.reduceEqDiff, reduceCtorEq, and_self, t265_0, t265_1, t265_2, t265_3, t265_4, m13]; rfl)
def dN (N : Mem) (ph : Int) : Int → Int := fun k => N 22026 0 (1440 * ph + k)
def SLs (a : Int) (f : Nat) (i k : Int) : Prop := f = 22026 ∧ i = 0 ∧ k = a
def LSI (sl : Int → Int) (ph v : Int) (N0 N : Mem) (R : Int → Int → Prop) : Prop := Fr (SLs (1440 * ph + v)) N0 N ∧ BF (EdE sl) 0 1440 (dN N ph) ∧ dN N ph v ≤ dN N0 ph v ∧ ∀ o c, R o c → ¬ dN N ph o = 2147483647 → dN N ph v ≤ dN N ph o + c
def RmM (sl : Int → Int) (v i j o c : Int) : Prop := EdE sl o v c ∧ (o % 90 - v % 90 < i ∨ (o % 90 - v % 90 = i ∧ o / 90 - v / 90 < j))
theorem LSI_R {sl : Int → Int} {ph v : Int} {N0 N : Mem} {R R' : Int → Int → Prop} (h : LSI sl ph v N0 N R) (hR : ∀ o c, R' o c → R o c) : LSI sl ph v N0 N R' := ⟨h.1, h.2.1, h.2.2.1, fun o c q => h.2.2.2 o c (hR o c q)⟩
section Less
variable {ph x z : Int} {sl : Int → Int} {N0 : Mem}
theorem m264_2s {N : Mem} {i j h : Int} (hph : ph = 0 ∨ ph = 1) (hsl : SlO sl) (hx : 0 ≤ x ∧ x < 90) (hz : 0 ≤ z ∧ z < 16) (hi : -2 ≤ i ∧ i ≤ 2) (hj : -2 ≤ j ∧ j ≤ 2) (hN : ∀ z, 0 ≤ z → z < 16 → N0 22025 0 (16 * ph + z) = sl z) (hL : LSI sl ph (90 * z + x) N0 N (RmM sl (90 * z + x) i j)) : ∃ N', LSI sl ph (90 * z + x) N0 N' (RmM sl (90 * z + x) i (j + 1)) ∧ ∀ Q : AR → Mem → Prop, (Tq 264 2 [vR 22 0, vI ph, vI x, vI z, vI (1440 * ph + (90 * z + x)), vI h, vI i, vI j, vJ, vJ, vJ] [] N Q ↔ Tq 264 2 [vR 22 0, vI ph, vI x, vI z, vI (1440 * ph + (90 * z + x)), vI h, vI i, vI (j + 1), vJ, vJ, vJ] [] N' Q) := by
  have e25 : N 22025 0 = N0 22025 0 := hL.1.row 22025 0 (by simp [SLs])
  have nx : ∀ (N : Mem) (Q : AR → Mem → Prop), Tq 264 5 [vR 22 0, vI ph, vI x, vI z, vI (1440 * ph + (90 * z + x)), vI h, vI i, vI j, vJ, vJ, vJ] [] N Q ↔ Tq 264 2 [vR 22 0, vI ph, vI x, vI z, vI (1440 * ph + (90 * z + x)), vI h, vI i, vI (j + 1), vJ, vJ, vJ] [] N Q := fun N Q => by rw [t264_5, w32_id (z := j + 1) (by omega) (by omega)]
  -- what is gone over anew
  have hR : ∀ o c, RmM sl (90 * z + x) i (j + 1) o c → RmM sl (90 * z + x) i j o c ∨ (EdE sl o (90 * z + x) c ∧ o % 90 - x = i ∧ o / 90 - z = j) := by
    rintro o c ⟨q1, q2⟩
    by_cases q : o % 90 - x = i ∧ o / 90 - z = j
    · exact Or.inr ⟨q1, q⟩
    · exact Or.inl ⟨q1, by omega⟩
  by_cases hin : 0 < ln i j ∧ (0 ≤ x + i ∧ x + i ≤ 89) ∧ (0 ≤ z + j ∧ z + j ≤ 15)
  · obtain ⟨i1, i2, i3⟩ := hin
    generalize hw : 90 * (z + j) + (x + i) = w
    have w1 : w % 90 = x + i := by omega
    have w2 : w / 90 = z + j := by omega
    have s1 := hsl z hz.1 (by omega)
    have s2 := hsl (z + j) (by omega) (by omega)
    have m1 := hN z hz.1 (by omega)
    have m2 := hN (z + j) (by omega) (by omega)
    have cb := ln_mul (dx := i) (dy := j) (s := sl z + sl (z + j)) (by omega)
    generalize hc : ln i j * (sl z + sl (z + j)) = c at cb
    have eln : ln ((90 * z + x) % 90 - w % 90) ((90 * z + x) / 90 - w / 90) = ln i j := by
      rw [w1, w2, show (90 * z + x) % 90 - (x + i) = -i by omega, show (90 * z + x) / 90 - (z + j) = -j by omega, ln_neg]
    have hE : EdE sl w (90 * z + x) c := by
      refine ⟨by omega, by omega, ?_, ?_⟩
      · rw [eln]; omega
      · rw [eln, w2, show (90 * z + x) / 90 = z by omega, Int.add_comm (sl (z + j)), hc]
    have hR2 : ∀ o c', RmM sl (90 * z + x) i (j + 1) o c' → RmM sl (90 * z + x) i j o c' ∨ (o = w ∧ c' = c) := fun o c' q => by
      rcases hR o c' q with q | ⟨q1, q2, q3⟩
      · exact Or.inl q
      · refine Or.inr ?_
        have e1 : o = w := by omega
        refine ⟨e1, ?_⟩
        rw [q1.2.2.2, hE.2.2.2, e1]
    have bfw := BF_rng (v := w) hL.2.1 (by decide) (by omega) (by omega)
    have dw : dN N ph w = N 22026 0 (1440 * ph + w) := rfl
    have dv : dN N ph (90 * z + x) = N 22026 0 (1440 * ph + (90 * z + x)) := rfl
    have run : ∀ Q : AR → Mem → Prop, (Tq 264 2 [vR 22 0, vI ph, vI x, vI z, vI (1440 * ph + (90 * z + x)), vI h, vI i, vI j, vJ, vJ, vJ] [] N Q ↔ Tq 264 2 [vR 22 0, vI ph, vI x, vI z, vI (1440 * ph + (90 * z + x)), vI h, vI i, vI (j + 1), vJ, vJ, vJ] [] (mset N 22026 0 (1440 * ph + (90 * z + x)) (if dN N ph w = 2147483647 then dN N ph (90 * z + x) else if dN N ph (90 * z + x) ≤ dN N ph w + c then dN N ph (90 * z + x) else dN N ph w + c)) Q) := fun Q => by
      rw [t264_2, if_neg (by omega), m265 hi hj, kI_v, if_neg (by omega), w32_id (z := x + i) (by omega) (by omega), m189, kI_v, b2i_t i2, if_neg (by decide), w32_id (z := z + j) (by omega) (by omega), m189, kI_v, b2i_t i3, if_neg (by decide), w32_id (z := 1440 * ph) (by omega) (by omega), w32_id (z := 90 * (z + j)) (by omega) (by omega), w32_id (z := 1440 * ph + 90 * (z + j)) (by omega) (by omega), w32_id (z := 1440 * ph + 90 * (z + j) + x) (by omega) (by omega), w32_id (z := 1440 * ph + 90 * (z + j) + x + i) (by omega) (by omega), show 1440 * ph + 90 * (z + j) + x + i = 1440 * ph + w by omega, w32_id (z := 16 * ph) (by omega) (by omega), w32_id (z := 16 * ph + z) (by omega) (by omega), w32_id (z := 16 * ph + z + j) (by omega) (by omega), show 16 * ph + z + j = 16 * ph + (z + j) by omega, e25, m1, m2, w32_id (z := sl z + sl (z + j)) (by omega) (by omega), hc, w32_id (z := c) (by omega) (by omega), ← dw]
      refine andi (by omega) (andi (by omega) (andi (by omega) ?_))
      by_cases q : dN N ph w = 2147483647
      · rw [if_pos q, if_pos q, t264_3, t264_4, bd_e, nx]
        exact andi (by omega) (andi (by omega) Iff.rfl)
      · rw [if_neg q, if_neg q, w32_id (z := dN N ph w + c) (by omega) (by omega), ← dv]
        by_cases q2 : dN N ph (90 * z + x) ≤ dN N ph w + c
        · rw [if_pos q2, if_pos q2, t264_3, t264_4, bd_e, nx]
          exact andi (by omega) (andi (by omega) (andi (by omega) Iff.rfl))
        · rw [if_neg q2, if_neg q2, t264_4, bd_e, nx]
          exact andi (by omega) (andi (by omega) Iff.rfl)
    have same : mset N 22026 0 (1440 * ph + (90 * z + x)) (dN N ph (90 * z + x)) = N := by
      funext f i k
      rw [mset_3]
      split
      · rename_i q
        obtain ⟨rfl, rfl, rfl⟩ := q
        rfl
      · rfl
    by_cases q : dN N ph w = 2147483647
    · refine ⟨N, ⟨hL.1, hL.2.1, hL.2.2.1, fun o c' qr qm => ?_⟩, fun Q => ?_⟩
      · rcases hR2 o c' qr with q' | ⟨rfl, rfl⟩
        · exact hL.2.2.2 o c' q' qm
        · exact absurd q qm
      · rw [run Q, if_pos q, same]
    · by_cases q2 : dN N ph (90 * z + x) ≤ dN N ph w + c
      · refine ⟨N, ⟨hL.1, hL.2.1, hL.2.2.1, fun o c' qr qm => ?_⟩, fun Q => ?_⟩
        · rcases hR2 o c' qr with q' | ⟨rfl, rfl⟩
          · exact hL.2.2.2 o c' q' qm
          · exact q2
        · rw [run Q, if_neg q, if_pos q2, same]
      · refine ⟨mset N 22026 0 (1440 * ph + (90 * z + x)) (dN N ph w + c), ?_, fun Q => ?_⟩
        · have ed : dN (mset N 22026 0 (1440 * ph + (90 * z + x)) (dN N ph w + c)) ph = fup (dN N ph) (90 * z + x) (dN N ph w + c) := by
            funext k
            unfold fup
            show mset N 22026 0 _ _ 22026 0 (1440 * ph + k) = _
            rw [mset_3]
            by_cases qk : k = 90 * z + x
            · rw [if_pos (by omega), if_pos qk]
            · rw [if_neg (by omega), if_neg qk]
              rfl
          have wv : ¬ w = 90 * z + x := fun qw => by rw [qw] at q2; omega
          refine ⟨Fr.mset hL.1 (by simp [SLs]), ?_, ?_, fun o c' qr qm => ?_⟩
          · rw [ed]
            exact BF_step (EdE_R hsl) (by decide) hL.2.1 hE q (by omega)
          · rw [ed, fup_eq]
            have := hL.2.2.1
            omega
          · rw [ed] at qm ⊢
            have ov : ¬ o = 90 * z + x := fun qo => by
              have := qr.1.2.2.1
              rw [qo, Int.sub_self, Int.sub_self] at this
              exact this rfl
            rw [fup_ne ov] at qm
            rw [fup_eq, fup_ne ov]
            rcases hR2 o c' qr with q' | ⟨rfl, rfl⟩
            · have := hL.2.2.2 o c' q' qm
              omega
            · exact Int.le_refl _
        · rw [run Q, if_neg q, if_neg q2]
  · refine ⟨N, ⟨hL.1, hL.2.1, hL.2.2.1, fun o c' qr qm => ?_⟩, fun Q => ?_⟩
    · rcases hR o c' qr with q' | ⟨q1, q2, q3⟩
      · exact hL.2.2.2 o c' q' qm
      · have h1 := q1.1
        have h2 := q1.2.2.1
        rw [show (90 * z + x) % 90 - o % 90 = -i by omega, show (90 * z + x) / 90 - o / 90 = -j by omega, ln_neg] at h2
        have h3 := ln_rng i j
        omega
    · rw [t264_2, if_neg (by omega), m265 hi hj, kI_v]
      by_cases q1 : ln i j ≤ 0
      · rw [if_pos q1, nx]
      · rw [if_neg q1, w32_id (z := x + i) (by omega) (by omega), m189, kI_v]
        by_cases q2 : 0 ≤ x + i ∧ x + i ≤ 89
        · rw [b2i_t q2, if_neg (by decide), w32_id (z := z + j) (by omega) (by omega), m189, kI_v, b2i_f (by omega), if_pos rfl, nx]
        · rw [b2i_f q2, if_pos rfl, nx]
theorem m264_2 {i h : Int} (hph : ph = 0 ∨ ph = 1) (hsl : SlO sl) (hx : 0 ≤ x ∧ x < 90) (hz : 0 ≤ z ∧ z < 16) (hi : -2 ≤ i ∧ i ≤ 2) (hN : ∀ z, 0 ≤ z → z < 16 → N0 22025 0 (16 * ph + z) = sl z) : ∀ (r : Nat) (j : Int) (N : Mem), j + r = 3 → -2 ≤ j → LSI sl ph (90 * z + x) N0 N (RmM sl (90 * z + x) i j) → ∃ N', LSI sl ph (90 * z + x) N0 N' (RmM sl (90 * z + x) (i + 1) (-2)) ∧ ∀ Q : AR → Mem → Prop, (Tq 264 2 [vR 22 0, vI ph, vI x, vI z, vI (1440 * ph + (90 * z + x)), vI h, vI i, vI j, vJ, vJ, vJ] [] N Q ↔ Tq 264 1 [vR 22 0, vI ph, vI x, vI z, vI (1440 * ph + (90 * z + x)), vI h, vI (i + 1), vJ, vJ, vJ, vJ] [] N' Q) := by
  intro r
  induction r with
  | zero =>
    intro j N h1 h2 hL
    refine ⟨N, LSI_R hL (fun o c q => ⟨q.1, ?_⟩), fun Q => ?_⟩
    · have h3 := ln_near q.1.2.2.1
      have := q.2
      omega
    · rw [t264_2, if_pos (by omega), t264_6, w32_id (z := i + 1) (by omega) (by omega)]
  | succ r ih =>
    intro j N h1 h2 hL
    obtain ⟨N1, a1, a2⟩ := m264_2s (h := h) hph hsl hx hz hi (by omega) hN hL
    obtain ⟨N2, b1, b2⟩ := ih (j + 1) N1 (by omega) (by omega) a1
    exact ⟨N2, b1, fun Q => by rw [a2 Q, b2 Q]⟩
theorem m264_1 {h : Int} (hph : ph = 0 ∨ ph = 1) (hsl : SlO sl) (hx : 0 ≤ x ∧ x < 90) (hz : 0 ≤ z ∧ z < 16) (hN : ∀ z, 0 ≤ z → z < 16 → N0 22025 0 (16 * ph + z) = sl z) : ∀ (r : Nat) (i : Int) (N : Mem), i + r = 3 → -2 ≤ i → LSI sl ph (90 * z + x) N0 N (RmM sl (90 * z + x) i (-2)) → ∃ N', LSI sl ph (90 * z + x) N0 N' (fun o c => EdE sl o (90 * z + x) c) ∧ ∀ Q : AR → Mem → Prop, (Tq 264 1 [vR 22 0, vI ph, vI x, vI z, vI (1440 * ph + (90 * z + x)), vI h, vI i, vJ, vJ, vJ, vJ] [] N Q ↔ Tq 264 7 [vR 22 0, vJ, vJ, vJ, vI (1440 * ph + (90 * z + x)), vI h, vJ, vJ, vJ, vJ, vJ] [] N' Q) := by
  intro r
  induction r with
  | zero =>
    intro i N h1 h2 hL
    refine ⟨N, LSI_R hL (fun o c q => ⟨q, ?_⟩), fun Q => ?_⟩
    · have h3 := ln_near q.2.2.1
      omega
    · rw [t264_1, if_pos (by omega)]
  | succ r ih =>
    intro i N h1 h2 hL
    obtain ⟨N1, a1, a2⟩ := m264_2 (h := h) hph hsl hx hz (i := i) (by omega) hN 5 (-2) N (by omega) (by omega) hL
    obtain ⟨N2, b1, b2⟩ := ih (i + 1) N1 (by omega) (by omega) a1
    exact ⟨N2, b1, fun Q => by rw [t264_1, if_neg (by omega), a2 Q, b2 Q]⟩
theorem m264 {N : Mem} (hph : ph = 0 ∨ ph = 1) (hsl : SlO sl) (hx : 0 ≤ x ∧ x < 90) (hz : 0 ≤ z ∧ z < 16) (hN : ∀ z, 0 ≤ z → z < 16 → N 22025 0 (16 * ph + z) = sl z) (hB : BF (EdE sl) 0 1440 (dN N ph)) : ∃ N', LSI sl ph (90 * z + x) N N' (fun o c => EdE sl o (90 * z + x) c) ∧ ∀ Q : AR → Mem → Prop, (Tq 264 0 [vR 22 0, vI ph, vI x, vI z, vJ, vJ, vJ, vJ, vJ, vJ, vJ] [] N Q ↔ Q (.inl (some (vI (b2i (dN N' ph (90 * z + x) < dN N ph (90 * z + x)))))) N') := by
  obtain ⟨N', a1, a2⟩ := m264_1 (N0 := N) (h := dN N ph (90 * z + x)) hph hsl hx hz hN 5 (-2) N (by omega) (by omega) ⟨Fr.refl, hB, Int.le_refl _, fun o c q => by
    have h3 := ln_near q.1.2.2.1
    have := q.2
    omega⟩
  refine ⟨N', a1, fun Q => ?_⟩
  rw [t264_0, w32_id (z := 1440 * ph) (by omega) (by omega), w32_id (z := 90 * z) (by omega) (by omega), w32_id (z := 1440 * ph + 90 * z) (by omega) (by omega), w32_id (z := 1440 * ph + 90 * z + x) (by omega) (by omega), show 1440 * ph + 90 * z + x = 1440 * ph + (90 * z + x) by omega]
  have := a2 Q
  show _ ∧ Tq 264 1 [vR 22 0, vI ph, vI x, vI z, vI (1440 * ph + (90 * z + x)), vI (dN N ph (90 * z + x)), vI (-2), vJ, vJ, vJ, vJ] [] N Q ↔ _
  rw [this, t264_7, t264_8, t264_9, t264_9]
  refine andi (by omega) (andi (by omega) ?_)
  show (if dN N ph (90 * z + x) ≤ dN N' ph (90 * z + x) then _ else _) ↔ _
  by_cases q : dN N' ph (90 * z + x) < dN N ph (90 * z + x)
  · rw [if_neg (by omega), b2i_t q]
    exact Iff.rfl
  · rw [if_pos (by omega), b2i_f q]
    exact Iff.rfl
end Less
