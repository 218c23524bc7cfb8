/-! LINES: hear, step by step -/
def hd (e : Int → Int) (a st : Int) : Prop := e (a + 1) % 256 < st ∧ e (a + 3) % 256 ≤ 2 ∧ (1 ≤ e (a + 6) % 256 ∧ e (a + 6) % 256 ≤ 56) ∧ tw e (a + 4) + e (a + 6) % 256 ≤ 4096
theorem hd_cg {e e' : Int → Int} {a b st : Int} (h : ∀ k, 0 ≤ k → k < 8 → e' (b + k) = e (a + k)) : hd e' b st ↔ hd e a st := by
  unfold hd
  rw [h 1 (by decide) (by decide), h 3 (by decide) (by decide), h 6 (by decide) (by decide), tw_cg (h 4 (by decide) (by decide)) (by rw [show b + 4 + 1 = b + 5 by omega, show a + 4 + 1 = a + 5 by omega]; exact h 5 (by decide) (by decide))]
theorem nor_165 {b : Int} (h : w8 b = b) : b = -91 ↔ b % 256 = 165 := by
  have := w8_rng b
  rw [h] at this
  omega
section Hear
variable {M N : Mem} {Q : AR → Mem → Prop} {x p b st : Int}
theorem m30 {j : Int} (hst : M 5 0 0 = st) (h12 : 0 ≤ st ∧ st ≤ 12) (hp : 0 ≤ p) (hS : p + 8 ≤ M 13 j 1) (hb : M 13 j 1 ≤ bLen j) [Decidable (hd (M 13000 j) p st)] : Tq 30 0 [vR 1 0, vR 13 j, vI p, vJ] [] M Q ↔ Q (.inl (some (vI (b2i (hd (M 13000 j) p st))))) M := by
  have hl := bLen_rng j
  have tr := @tw_rng (M 13000 j) (p + 4)
  rw [t30_0, w32_id (z := p + 6) (by omega) (by omega), m114 (by omega), kI_v, w32_id (z := p + 1) (by omega) (by omega), m114 (by omega), kI_v, bat_v (by omega) (by omega), bat_v (by omega) (by omega), m353 (by omega), kI_v, hst, w32_id (z := p + 3) (by omega) (by omega), m114 (by omega), kI_v, bat_v (by omega) (by omega), m25, kI_v, w32_id (z := p + 4) (by omega) (by omega), m116 (by omega) (by omega), kI_v, w32_id (z := tw (M 13000 j) (p + 4) + M 13000 j (p + 6) % 256) (by omega) (by omega)]
  simp only [t30_1, t30_2, nb_0, nb_1, b2i_e0]
  by_cases c : hd (M 13000 j) p st
  · have c' := c
    unfold hd at c'
    rw [b2i_t c, if_neg (by omega), if_neg (by omega), if_neg (by omega), if_neg (by omega)]
  · rw [b2i_f c]
    refine ifi (fun _ => Iff.rfl) (fun d1 => ifi (fun _ => Iff.rfl) (fun d2 => ifi (fun _ => Iff.rfl) (fun d3 => ?_)))
    rw [if_pos]
    unfold hd at c
    omega
theorem m276 {E : Int} (hst : N 22 0 9 = st) (h12 : 0 ≤ st ∧ st ≤ 12) (hE : 0 ≤ E ∧ E ≤ 3000) [Decidable (hd (N 22016 0) E st)] : Tq 276 0 [vR 22 0, vI E, vJ] [] N Q ↔ Q (.inl (some (vI (b2i (hd (N 22016 0) E st))))) N := by
  have tr := @tw_rng (N 22016 0) (E + 4)
  rw [t276_0, w32_id (z := E + 6) (by omega) (by omega), w32_id (z := E + 1) (by omega) (by omega), w32_id (z := E + 3) (by omega) (by omega), w32_id (z := E + 4) (by omega) (by omega), and255, and255, and255, m192_ear (by omega) (by omega), kI_v, hst, w32_id (z := tw (N 22016 0) (E + 4) + N 22016 0 (E + 6) % 256) (by omega) (by omega), w32_id (z := tw (N 22016 0) (E + 4) + N 22016 0 (E + 6) % 256 - 1) (by omega) (by omega)]
  simp only [t276_1, t276_2, nb_0, nb_1]
  refine andi (by omega) (andi (by omega) ?_)
  by_cases c : hd (N 22016 0) E st
  · have c' := c
    unfold hd at c'
    rw [b2i_t c, if_neg (by omega), if_neg (by omega), if_neg (by omega), if_neg (by omega), if_neg (by omega)]
    exact andi (by omega) Iff.rfl
  · rw [b2i_f c]
    refine ifi (fun _ => Iff.rfl) (fun d1 => andi (by omega) (ifi (fun _ => Iff.rfl) (fun d2 => ifi (fun _ => Iff.rfl) (fun d3 => ifi (fun _ => Iff.rfl) (fun d4 => ?_)))))
    rw [if_pos]
    unfold hd at c
    omega
/-- one turn on the one side -/
theorem h6 (hx : 0 ≤ x ∧ x < 4) (hst : M 5 0 0 = st) (h12 : 0 ≤ st ∧ st ≤ 12) (hp : 0 ≤ p) (hpS : p < M 13 (3 + x) 1) (hS : M 13 (3 + x) 1 ≤ 800) [Decidable (hd (M 13000 (3 + x)) p st)] : Tq 29 6 [vR 1 0, vJ, vR 16 x, vI b, vI p, vI 1, vJ, vJ, vJ, vJ] [] M Q ↔ if M 13000 (3 + x) p % 256 = 165 ∧ (M 13 (3 + x) 1 - p < 8 ∨ (hd (M 13000 (3 + x)) p st ∧ M 13 (3 + x) 1 - p < 12 + M 13000 (3 + x) (p + 7) % 256)) then Tq 29 20 [vJ, vJ, vR 16 x, vI b, vI p, vJ, vJ, vJ, vJ, vJ] [] M Q else if M 13000 (3 + x) p % 256 = 165 ∧ hd (M 13000 (3 + x)) p st ∧ sumF (M 13000 (3 + x)) (8 + M 13000 (3 + x) (p + 7) % 256).toNat p 0 = fo (M 13000 (3 + x)) (p + (8 + M 13000 (3 + x) (p + 7) % 256)) then Tq 31 0 [vR 1 0, vR 16 x, vI p, vJ, vJ, vJ, vJ, vJ] [] M (kV fun M3 => Tq 29 17 [vR 1 0, vJ, vR 16 x, vI b, vI (p + (12 + M 13000 (3 + x) (p + 7) % 256)), vI 1, vJ, vJ, vJ, vJ] [] M3 Q) else Tq 29 17 [vR 1 0, vJ, vR 16 x, vI b, vI (p + 1), vI 1, vJ, vJ, vJ, vJ] [] (mset M 16001 x 1 (w32 (M 16001 x 1 + 1))) Q := by
  have h8 : bLen (3 + x) = 800 := bLen_ear hx.1 hx.2
  have g16 : Tq 29 16 [vR 1 0, vJ, vR 16 x, vI b, vI p, vI 1, vJ, vJ, vJ, vJ] [] M Q ↔ Tq 29 17 [vR 1 0, vJ, vR 16 x, vI b, vI (p + 1), vI 1, vJ, vJ, vJ, vJ] [] (mset M 16001 x 1 (w32 (M 16001 x 1 + 1))) Q := by
    rw [t29_16, w32_id (z := p + 1) (by omega) (by omega)]
    exact andi (by decide) (andi (by decide) Iff.rfl)
  -- no mark, or no head: an odd byte
  have g10 : Tq 29 10 [vR 1 0, vJ, vR 16 x, vI b, vI p, vI 1, vI (M 13 (3 + x) 1 - p), vJ, vJ, vJ] [] M Q ↔ Tq 29 17 [vR 1 0, vJ, vR 16 x, vI b, vI (p + 1), vI 1, vJ, vJ, vJ, vJ] [] (mset M 16001 x 1 (w32 (M 16001 x 1 + 1))) Q := by
    rw [t29_10, t29_11, t29_12]
    refine ifi (fun h => ?_) (fun h => ?_)
    · rw [w32_id (z := p + 7) (by omega) (by omega), m114 (by omega), kI_v, t29_13, if_pos rfl, t29_15, if_pos rfl, g16]
    · rw [t29_13, if_pos rfl, t29_15, if_pos rfl, g16]
  rw [t29_6, if_neg (by decide), m114 (by omega), kI_v, bat_v hp hpS, w32_id (z := M 13 (3 + x) 1 - p) (by omega) (by omega)]
  by_cases cm : M 13000 (3 + x) p % 256 = 165
  · rw [if_neg (by simpa using cm), t29_8, if_neg (by decide)]
    by_cases c8 : M 13 (3 + x) 1 - p < 8
    · rw [if_pos c8, if_pos ⟨cm, Or.inl c8⟩, t29_9, t29_11, if_neg (by omega), t29_13, if_neg (by decide), if_pos c8, t29_14, t29_17, if_neg (by omega), t29_19, show and32 0 1 = 0 from rfl, t29_6, if_pos rfl]
    · rw [if_neg c8, m30 hst h12 hp (by omega) (by omega), kI_v]
      by_cases ch : hd (M 13000 (3 + x)) p st
      · rw [b2i_t ch, if_neg (by decide), t29_9, t29_11, if_pos (by omega), t29_12, w32_id (z := p + 7) (by omega) (by omega), m114 (by omega), kI_v, bat_v (by omega) (by omega), w32_id (z := 12 + M 13000 (3 + x) (p + 7) % 256) (by omega) (by omega), t29_13, if_neg (by decide), if_neg c8]
        by_cases cs : M 13 (3 + x) 1 - p < 12 + M 13000 (3 + x) (p + 7) % 256
        · rw [if_neg (by omega), if_pos ⟨cm, Or.inr ⟨ch, cs⟩⟩, t29_14, t29_17, if_neg (by omega), t29_19, show and32 0 1 = 0 from rfl, t29_6, if_pos rfl]
        · rw [if_pos (by omega), if_neg (by omega), t29_15, if_neg (by decide), w32_id (z := p + (12 + M 13000 (3 + x) (p + 7) % 256)) (by omega) (by omega), w32_id (z := p + (12 + M 13000 (3 + x) (p + 7) % 256) - 4) (by omega) (by omega), m115 hp (by omega) (by omega), kI_v, m117 (by omega) (by omega), kI_v, show p + (12 + M 13000 (3 + x) (p + 7) % 256) - 4 = p + (8 + M 13000 (3 + x) (p + 7) % 256) by omega, show p + (8 + M 13000 (3 + x) (p + 7) % 256) - p = 8 + M 13000 (3 + x) (p + 7) % 256 by omega]
          by_cases cq : sumF (M 13000 (3 + x)) (8 + M 13000 (3 + x) (p + 7) % 256).toNat p 0 = fo (M 13000 (3 + x)) (p + (8 + M 13000 (3 + x) (p + 7) % 256))
          · rw [if_neg (by simpa using cq), if_pos ⟨cm, ch, cq⟩]
          · rw [if_pos cq, if_neg (fun q => cq q.2.2), g16]
      · rw [b2i_f ch, if_pos rfl, g10, if_neg (fun q => by rcases q.2 with q | q; exact c8 q; exact ch q.1), if_neg (fun q => ch q.2.1)]
  · rw [if_pos cm, t29_7, t29_8, if_pos rfl, g10, if_neg (fun q => cm q.1), if_neg (fun q => cm q.1)]
/-- one turn on the model's side -/
theorem h275 {E z : Int} (hx : 0 ≤ x ∧ x < 4) (hE : E = 1000 * x) (hst : N 22 0 9 = st) (h12 : 0 ≤ st ∧ st ≤ 12) (hz : N 22014 0 (10 * x) = z) (hz0 : 0 ≤ z ∧ z ≤ 800) (hnor : 0 < z → w8 (N 22016 0 E) = N 22016 0 E) [Decidable (hd (N 22016 0) E st)] : Tq 275 4 [vR 22 0, vI x, vI (10 * x), vI E, vI b, vI 1, vJ, vJ, vJ] [] N Q ↔ if z = 0 ∨ (N 22016 0 E % 256 = 165 ∧ (z < 8 ∨ (hd (N 22016 0) E st ∧ z < 12 + N 22016 0 (E + 7) % 256))) then Tq 275 16 [vR 22 0, vJ, vI (10 * x), vJ, vI b, vJ, vJ, vJ, vJ] [] N Q else if N 22016 0 E % 256 = 165 ∧ hd (N 22016 0) E st ∧ sumF (N 22016 0) (8 + N 22016 0 (E + 7) % 256).toNat E 0 = fo (N 22016 0) (E + (8 + N 22016 0 (E + 7) % 256)) then Tq 277 0 [vR 22 0, vI x, vI E, vJ, vJ, vJ, vJ, vJ, vJ, vJ, vJ, vJ, vJ, vJ, vJ, vJ, vJ] [] N (kV fun N1 => Tq 282 0 [vR 22 0, vI x, vI (12 + N 22016 0 (E + 7) % 256), vJ, vJ] [] N1 (kV fun N2 => Tq 275 4 [vR 22 0, vI x, vI (10 * x), vI E, vI b, vI 1, vJ, vJ, vJ] [] N2 Q)) else Tq 282 0 [vR 22 0, vI x, vI 1, vJ, vJ] [] N (kV fun N1 => Tq 275 4 [vR 22 0, vI x, vI (10 * x), vI E, vI b, vI 1, vJ, vJ, vJ] [] (mset N1 22014 0 (10 * x + 1) (w32 (N1 22014 0 (10 * x + 1) + 1))) Q) := by
  have fin : ∀ N' : Mem, Tq 275 14 [vR 22 0, vI x, vI (10 * x), vI E, vI b, vI 1, vJ, vJ, vI 1] [] N' Q ↔ Tq 282 0 [vR 22 0, vI x, vI 1, vJ, vJ] [] N' (kV fun N1 => Tq 275 4 [vR 22 0, vI x, vI (10 * x), vI E, vI b, vI 1, vJ, vJ, vJ] [] (mset N1 22014 0 (10 * x + 1) (w32 (N1 22014 0 (10 * x + 1) + 1))) Q) := by
    intro N'
    rw [t275_14, if_neg (by decide)]
    simp only [w32_id (z := 10 * x + 1) (by omega) (by omega), bd_e, t275_15]
    rw [show ((0 ≤ 10 * x + 1 ∧ 10 * x + 1 < 40) : Prop) = True from eq_true (by omega)]
    simp only [true_and]
  have stop : ∀ s : Int, Tq 275 13 [vR 22 0, vI x, vI (10 * x), vI E, vI b, vJ, vJ, vJ, vI 0] [] N Q ↔ Tq 275 16 [vR 22 0, vJ, vI (10 * x), vJ, vI b, vJ, vJ, vJ, vJ] [] N Q := by
    intro s
    rw [t275_13, t275_14, if_pos rfl, t275_15, t275_4, if_pos rfl]
  -- isOdd by the head
  have g8 : ∀ w : Int, Tq 275 8 [vR 22 0, vI x, vI (10 * x), vI E, vI b, vI 1, vI z, vI w, vJ] [] N Q ↔ Tq 282 0 [vR 22 0, vI x, vI 1, vJ, vJ] [] N (kV fun N1 => Tq 275 4 [vR 22 0, vI x, vI (10 * x), vI E, vI b, vI 1, vJ, vJ, vJ] [] (mset N1 22014 0 (10 * x + 1) (w32 (N1 22014 0 (10 * x + 1) + 1))) Q) := by
    intro w
    rw [t275_8, t275_10, if_pos (by decide), t275_13, fin]
  have g6 : ∀ w : Int, (8 ≤ z → w = 12 + N 22016 0 (E + 7) % 256) → (Tq 275 6 [vR 22 0, vI x, vI (10 * x), vI E, vI b, vI 1, vI z, vJ, vJ] [vI w] N Q ↔ if z = 0 ∨ (N 22016 0 E % 256 = 165 ∧ (z < 8 ∨ (hd (N 22016 0) E st ∧ z < 12 + N 22016 0 (E + 7) % 256))) then Tq 275 16 [vR 22 0, vJ, vI (10 * x), vJ, vI b, vJ, vJ, vJ, vJ] [] N Q else if N 22016 0 E % 256 = 165 ∧ hd (N 22016 0) E st ∧ sumF (N 22016 0) (8 + N 22016 0 (E + 7) % 256).toNat E 0 = fo (N 22016 0) (E + (8 + N 22016 0 (E + 7) % 256)) then Tq 277 0 [vR 22 0, vI x, vI E, vJ, vJ, vJ, vJ, vJ, vJ, vJ, vJ, vJ, vJ, vJ, vJ, vJ, vJ] [] N (kV fun N1 => Tq 282 0 [vR 22 0, vI x, vI (12 + N 22016 0 (E + 7) % 256), vJ, vJ] [] N1 (kV fun N2 => Tq 275 4 [vR 22 0, vI x, vI (10 * x), vI E, vI b, vI 1, vJ, vJ, vJ] [] N2 Q)) else Tq 282 0 [vR 22 0, vI x, vI 1, vJ, vJ] [] N (kV fun N1 => Tq 275 4 [vR 22 0, vI x, vI (10 * x), vI E, vI b, vI 1, vJ, vJ, vJ] [] (mset N1 22014 0 (10 * x + 1) (w32 (N1 22014 0 (10 * x + 1) + 1))) Q)) := by
    intro w hw
    have g7 : N 22016 0 E % 256 = 165 ∧ 0 < z → (Tq 275 7 [vR 22 0, vI x, vI (10 * x), vI E, vI b, vI 1, vI z, vI w, vJ] [] N Q ↔ if z = 0 ∨ (N 22016 0 E % 256 = 165 ∧ (z < 8 ∨ (hd (N 22016 0) E st ∧ z < 12 + N 22016 0 (E + 7) % 256))) then Tq 275 16 [vR 22 0, vJ, vI (10 * x), vJ, vI b, vJ, vJ, vJ, vJ] [] N Q else if N 22016 0 E % 256 = 165 ∧ hd (N 22016 0) E st ∧ sumF (N 22016 0) (8 + N 22016 0 (E + 7) % 256).toNat E 0 = fo (N 22016 0) (E + (8 + N 22016 0 (E + 7) % 256)) then Tq 277 0 [vR 22 0, vI x, vI E, vJ, vJ, vJ, vJ, vJ, vJ, vJ, vJ, vJ, vJ, vJ, vJ, vJ, vJ] [] N (kV fun N1 => Tq 282 0 [vR 22 0, vI x, vI (12 + N 22016 0 (E + 7) % 256), vJ, vJ] [] N1 (kV fun N2 => Tq 275 4 [vR 22 0, vI x, vI (10 * x), vI E, vI b, vI 1, vJ, vJ, vJ] [] N2 Q)) else Tq 282 0 [vR 22 0, vI x, vI 1, vJ, vJ] [] N (kV fun N1 => Tq 275 4 [vR 22 0, vI x, vI (10 * x), vI E, vI b, vI 1, vJ, vJ, vJ] [] (mset N1 22014 0 (10 * x + 1) (w32 (N1 22014 0 (10 * x + 1) + 1))) Q)) := by
      rintro ⟨cm, cz⟩
      rw [t275_7]
      by_cases c8 : z < 8
      · rw [if_pos c8, if_pos (Or.inr ⟨cm, Or.inl c8⟩), t275_9, t275_10, if_neg (by decide), if_pos c8, stop 0]
      · rw [if_neg c8, m276 hst h12 (by omega), kI_v]
        by_cases ch : hd (N 22016 0) E st
        · have hw := hw (by omega)
          rw [b2i_t ch, if_pos (by decide), t275_9, t275_10, if_neg (by decide), if_neg c8]
          by_cases cs : z < 12 + N 22016 0 (E + 7) % 256
          · rw [if_pos (by omega), if_pos (Or.inr ⟨cm, Or.inr ⟨ch, cs⟩⟩), stop 0]
          · rw [if_neg (by omega), if_neg (by omega), hw, w32_id (z := 12 + N 22016 0 (E + 7) % 256 - 4) (by omega) (by omega), m203_ear (by omega) (by omega) (by omega), kI_v, w32_id (z := E + (12 + N 22016 0 (E + 7) % 256)) (by omega) (by omega), w32_id (z := E + (12 + N 22016 0 (E + 7) % 256) - 4) (by omega) (by omega), m195_ear (by omega) (by omega), kI_v, show E + (12 + N 22016 0 (E + 7) % 256) - 4 = E + (8 + N 22016 0 (E + 7) % 256) by omega, show 12 + N 22016 0 (E + 7) % 256 - 4 = 8 + N 22016 0 (E + 7) % 256 by omega]
            by_cases cq : sumF (N 22016 0) (8 + N 22016 0 (E + 7) % 256).toNat E 0 = fo (N 22016 0) (E + (8 + N 22016 0 (E + 7) % 256))
            · rw [if_pos cq, if_pos ⟨cm, ch, cq⟩, t275_11, t275_12, if_neg (by decide)]
              simp only [t275_14, if_true, t275_15]
            · rw [if_neg cq, if_neg (fun q => cq q.2.2), t275_12, if_pos (by decide), fin]
        · rw [b2i_f ch, if_neg (by decide), g8, if_neg (fun q => by rcases q with q | q; omega; rcases q.2 with q | q; exact c8 q; exact ch q.1), if_neg (fun q => ch q.2.1)]
    rw [t275_6]
    by_cases cz : z ≤ 0
    · rw [if_pos cz, if_pos (Or.inl (by omega)), t275_7, if_pos (by omega), t275_9, t275_10, if_neg (by decide), if_pos (by omega), stop 0]
    · rw [if_neg cz]
      refine andi (by omega) ?_
      have hn := nor_165 (hnor (by omega))
      by_cases cm : N 22016 0 E = -91
      · rw [if_neg (by simpa using cm), g7 ⟨hn.mp cm, by omega⟩]
      · have cm' : ¬ N 22016 0 E % 256 = 165 := fun q => cm (hn.mpr q)
        rw [if_pos cm, g8, if_neg (fun q => by rcases q with q | q; omega; exact cm' q.1), if_neg (fun q => cm' q.1)]
  rw [t275_4, if_neg (by decide), hz]
  refine andi (by omega) ?_
  by_cases c8 : 8 ≤ z
  · rw [if_pos c8, t275_5, w32_id (z := E + 7) (by omega) (by omega), and255, w32_id (z := 12 + N 22016 0 (E + 7) % 256) (by omega) (by omega), g6 _ (fun _ => rfl)]
    exact andi (by omega) Iff.rfl
  · rw [if_neg c8, g6 0 (fun h => absurd h c8)]
end Hear
