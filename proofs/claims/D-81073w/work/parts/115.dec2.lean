/-! DECODINGS: steps, joined -/
section Dec2
variable {g : Int → Int} {z n : Int}
theorem mw4 {c : Int} (h : 1 ≤ c ∧ c ≤ 3) : wid c * mny c = 4 ∧ 1 ≤ mny c ∧ mny c ≤ 4 := by
  rcases (show c = 1 ∨ c = 2 ∨ c = 3 by omega) with rfl | rfl | rfl <;> decide
theorem mw0 : mny 0 = 0 ∧ wid 0 = 4 := by decide
/-- one code on the one side -/
theorem code_C {M : Mem} {Q : AR → Mem → Prop} {j B p k w c : Int} {L : List Int} (hB : BdC g z M j B) (hz : z ≤ 255) (hp : 0 ≤ p ∧ p ≤ z) (hL : 1 ≤ L.length) (hLn : (L.length : Int) ≤ n) (hn : n ≤ 56) (hk : 0 ≤ k ∧ k < 4) (hc : c = and32 (shr32 w (6 - 2 * k)) 3) (hc3 : 0 ≤ c ∧ c ≤ 3) : Tq 126 4 [vR 15 0, vR 13 j, vI B, vJ, vI n, vI (B + z), vI (B + p), vI L.length, vI w, vI k, vJ, vJ, vJ] [] (movl M 15000 0 0 L) Q ↔ if (c = 0 ∧ ¬ (L.length : Int) = n) ∨ (¬ c = 0 ∧ (n < L.length + mny c ∨ z < p + 4)) then Q (.inl (some (vI 0))) (movl M 15000 0 0 L) else Tq 126 4 [vR 15 0, vR 13 j, vI B, vJ, vI n, vI (B + z), vI (B + p + wid c * mny c), vI (L.length + mny c), vI w, vI (k + 1), vJ, vJ, vJ] [] (movl M 15000 0 0 (stL g c p L (mny c).toNat)) Q := by
  have hl := bLen_rng j
  have hb2 := hB.2.1
  have hb1 := hB.1
  rw [t126_4, if_neg (by omega), w32_id (z := 2 * k) (by omega) (by omega), w32_id (z := 6 - 2 * k) (by omega) (by omega), ← hc, m127, kI_v]
  by_cases c0 : c = 0
  · have e0 := mw0
    have g8 : Tq 126 8 [vR 15 0, vR 13 j, vI B, vJ, vI n, vI (B + z), vI (B + p), vI L.length, vI w, vI k, vI c, vI (mny c), vJ] [vI 1, vI 1] (movl M 15000 0 0 L) Q ↔ Tq 126 4 [vR 15 0, vR 13 j, vI B, vJ, vI n, vI (B + z), vI (B + p + wid c * mny c), vI (L.length + mny c), vI w, vI (k + 1), vJ, vJ, vJ] [] (movl M 15000 0 0 (stL g c p L (mny c).toNat)) Q := by
      subst c0
      rw [t126_8, if_neg (by decide), w32_id (z := n - L.length) (by omega) (by omega), e0.1, if_neg (by omega), m128, kI_v, e0.2, w32_id (z := 0 * 4) (by decide) (by decide), w32_id (z := B + p + 0 * 4) (by omega) (by omega), if_pos (by omega), t126_10, t126_11, if_pos (by decide), t126_12, w32_id (z := k + 1) (by omega) (by omega), show B + p + 4 * 0 = B + p by omega, Int.add_zero]
      rfl
    rw [if_neg (by simpa using c0), t126_6]
    by_cases cn : (L.length : Int) = n
    · rw [if_neg (by simpa using cn), if_neg (by omega), g8]
    · rw [if_pos cn, if_pos (Or.inl ⟨c0, cn⟩), t126_7, t126_8, if_pos (by decide), t126_9, nb_0]
  · have e4 := mw4 (c := c) (by omega)
    rw [if_pos c0, t126_5, t126_6]
    by_cases cn : (L.length : Int) = n
    · rw [if_neg (by simpa using cn), if_pos (Or.inr ⟨c0, by omega⟩), t126_8, if_pos (by decide), t126_9, nb_0]
    · rw [if_pos cn, t126_7, t126_8, if_neg (by decide), w32_id (z := n - L.length) (by omega) (by omega), m128, kI_v, Int.mul_comm (mny c), e4.1, w32_id (z := 4) (by decide) (by decide), w32_id (z := B + p + 4) (by omega) (by omega), t126_9, nb_0]
      by_cases d1 : n - L.length < mny c
      · rw [if_pos d1, if_pos (Or.inr ⟨c0, by omega⟩)]
      · rw [if_neg d1]
        by_cases d2 : B + p + 4 ≤ B + z
        · have hs := step_C (Q := Q) (n := n) (x2 := B) (x5 := B + z) (x8 := w) (x9 := k) (L := L) (p := p) hB hz hp.1 hL hc3.1 (by omega) (by omega) (mny c).toNat 0 (by omega)
          rw [show ((0 : Nat) : Int) = 0 from rfl, Int.mul_zero, Int.add_zero, Int.add_zero, show stL g c p L 0 = L from rfl, e4.1] at hs
          rw [if_pos d2, if_neg (by omega), t126_10, hs, t126_12, w32_id (z := k + 1) (by omega) (by omega)]
        · rw [if_neg d2, if_pos (Or.inr ⟨c0, by omega⟩)]
theorem code_M {N : Mem} {Q : AR → Mem → Prop} {E p k w c : Int} {L : List Int} (hE : BdM g z N E) (hz : z ≤ 255) (hp : 0 ≤ p ∧ p ≤ z) (hL : 1 ≤ L.length) (hLn : (L.length : Int) ≤ n) (hn : n ≤ 56) (hk : 0 ≤ k ∧ k < 4) (hc : c = and32 (shr32 w (6 - 2 * k)) 3) (hc3 : 0 ≤ c ∧ c ≤ 3) : Tq 279 4 [vR 22 0, vI E, vJ, vI n, vI (E + p), vI (E + z), vI L.length, vI w, vI (6 - 2 * k), vJ, vJ, vJ, vJ] [] (movl N 22017 0 0 L) Q ↔ if (c = 0 ∧ ¬ (L.length : Int) = n) ∨ (¬ c = 0 ∧ (n < L.length + mny c ∨ z < p + 4)) then Q (.inl (some (vI 0))) (movl N 22017 0 0 L) else Tq 279 4 [vR 22 0, vI E, vJ, vI n, vI (E + p + wid c * mny c), vI (E + z), vI (L.length + mny c), vI w, vI (6 - 2 * (k + 1)), vJ, vJ, vJ, vJ] [] (movl N 22017 0 0 (stL g c p L (mny c).toNat)) Q := by
  have hb2 := hE.2.1
  have hb1 := hE.1
  have e6 : w32 (6 - 2 * k + -2) = 6 - 2 * (k + 1) := by rw [w32_id (by omega) (by omega)]; omega
  rw [t279_4, if_neg (by omega), ← hc]
  by_cases c0 : c = 0
  · have e0 := mw0
    rw [if_neg (by simpa using c0), t279_8, if_neg (by simpa using c0)]
    by_cases cn : (L.length : Int) = n
    · subst c0
      rw [if_pos (by omega), if_neg (by omega), t279_11, t279_12, if_pos (by decide), t279_16, if_neg (by decide), t279_18, e6, e0.1, e0.2, w32_id (z := E + p + 0) (by omega) (by omega), show E + p + 4 * 0 = E + p + 0 by omega, Int.add_zero]
      rfl
    · rw [if_neg (by omega), if_pos (Or.inl ⟨c0, cn⟩), t279_10, nb_0]
  · have e4 := mw4 (c := c) (by omega)
    have g8 : ∀ s : Int, s = mny c → (Tq 279 8 [vR 22 0, vI E, vJ, vI n, vI (E + p), vI (E + z), vI L.length, vI w, vI (6 - 2 * k), vI c, vJ, vJ, vJ] [vI s] (movl N 22017 0 0 L) Q ↔ if (c = 0 ∧ ¬ (L.length : Int) = n) ∨ (¬ c = 0 ∧ (n < L.length + mny c ∨ z < p + 4)) then Q (.inl (some (vI 0))) (movl N 22017 0 0 L) else Tq 279 4 [vR 22 0, vI E, vJ, vI n, vI (E + p + wid c * mny c), vI (E + z), vI (L.length + mny c), vI w, vI (6 - 2 * (k + 1)), vJ, vJ, vJ, vJ] [] (movl N 22017 0 0 (stL g c p L (mny c).toNat)) Q) := by
      intro s hs
      subst hs
      rw [t279_8, if_pos c0, t279_9, w32_id (z := (L.length : Int) + mny c) (by omega) (by omega), w32_id (z := E + p + 4) (by omega) (by omega), t279_10, nb_0]
      by_cases d1 : n < L.length + mny c
      · rw [if_pos d1, if_pos (Or.inr ⟨c0, Or.inl d1⟩)]
      · rw [if_neg d1]
        by_cases d2 : E + p + 4 ≤ E + z
        · have hs := step_M (c := c) (Q := Q) (n := n) (x1 := E) (x5 := E + z) (x7 := w) (x8 := 6 - 2 * k) (L := L) (p := p) hE hz hp.1 hL (by omega) (by omega) (by omega) (mny c).toNat 0 (by omega)
          rw [show ((0 : Nat) : Int) = 0 from rfl, Int.add_zero, show stL g c p L 0 = L from rfl] at hs
          rw [if_pos d2, if_neg (by omega), t279_11, hs, t279_16, if_pos c0, t279_17, t279_18, e6, w32_id (z := E + p + 4) (by omega) (by omega), e4.1]
        · rw [if_neg d2, if_pos (Or.inr ⟨c0, by omega⟩)]
    rw [if_pos c0, t279_5]
    by_cases c1 : c = 1
    · rw [if_neg (by simpa using c1), g8 4 (by rw [c1]; rfl)]
    · rw [if_pos c1, t279_6]
      by_cases c2 : c = 2
      · rw [if_neg (by simpa using c2), g8 2 (by rw [c2]; rfl)]
      · rw [if_pos c2, t279_7, g8 1 (by rw [show c = 3 by omega]; rfl)]
def UC (g : Int → Int) (z n p : Int) (L : List Int) (ok : Int) (L' : List Int) : Prop := ∀ M j B, BdC g z M j B → ∀ Q, Tq 126 2 [vR 15 0, vR 13 j, vI B, vJ, vI n, vI (B + z), vI (B + p), vI L.length, vJ, vJ, vJ, vJ, vJ] [] (movl M 15000 0 0 L) Q ↔ Q (.inl (some (vI ok))) (movl M 15000 0 0 L')
def UM (g : Int → Int) (z n p : Int) (L : List Int) (ok : Int) (L' : List Int) : Prop := ∀ N E, BdM g z N E → ∀ Q, Tq 279 2 [vR 22 0, vI E, vJ, vI n, vI (E + p), vI (E + z), vI L.length, vJ, vJ, vJ, vJ, vJ, vJ] [] (movl N 22017 0 0 L) Q ↔ Q (.inl (some (vI ok))) (movl N 22017 0 0 L')
theorem unstep_in {w : Int} (hz : z ≤ 255) (hn : n ≤ 56) (F : Nat) (ih : ∀ p L, 8 ≤ p → p ≤ z → z - p ≤ F → 1 ≤ L.length → (L.length : Int) ≤ n → (∀ v ∈ L, I32 v) → ∃ ok L', (ok = 0 ∨ ok = 1) ∧ L'.length ≤ 56 ∧ (ok = 1 → (L'.length : Int) = n ∧ ∀ v ∈ L', I32 v) ∧ UC g z n p L ok L' ∧ UM g z n p L ok L') : ∀ (d : Nat) (k p : Int) (L : List Int), 0 ≤ k → k + d = 4 → 8 ≤ p → p ≤ z → z - p ≤ F → 1 ≤ L.length → (L.length : Int) ≤ n → (∀ v ∈ L, I32 v) → ∃ ok L', (ok = 0 ∨ ok = 1) ∧ L'.length ≤ 56 ∧ (ok = 1 → (L'.length : Int) = n ∧ ∀ v ∈ L', I32 v) ∧ (∀ M j B, BdC g z M j B → ∀ Q, Tq 126 4 [vR 15 0, vR 13 j, vI B, vJ, vI n, vI (B + z), vI (B + p), vI L.length, vI w, vI k, vJ, vJ, vJ] [] (movl M 15000 0 0 L) Q ↔ Q (.inl (some (vI ok))) (movl M 15000 0 0 L')) ∧ (∀ N E, BdM g z N E → ∀ Q, Tq 279 4 [vR 22 0, vI E, vJ, vI n, vI (E + p), vI (E + z), vI L.length, vI w, vI (6 - 2 * k), vJ, vJ, vJ, vJ] [] (movl N 22017 0 0 L) Q ↔ Q (.inl (some (vI ok))) (movl N 22017 0 0 L')) := by
  intro d
  induction d with
  | zero =>
    intro k p L k1 k2 p1 p2 p3 l1 l2 l3
    obtain ⟨ok, L', q1, q2, q3, q4, q5⟩ := ih p L p1 p2 p3 l1 l2 l3
    refine ⟨ok, L', q1, q2, q3, fun M j B hB Q => ?_, fun N E hE Q => ?_⟩
    · rw [t126_4, if_pos (by omega), t126_13]
      exact q4 M j B hB Q
    · rw [t279_4, if_pos (by omega), t279_19]
      exact q5 N E hE Q
  | succ d hd =>
    intro k p L k1 k2 p1 p2 p3 l1 l2 l3
    generalize hc : and32 (shr32 w (6 - 2 * k)) 3 = c
    have hc3 : 0 ≤ c ∧ c ≤ 3 := by rw [← hc, and3]; omega
    by_cases bad : (c = 0 ∧ ¬ (L.length : Int) = n) ∨ (¬ c = 0 ∧ (n < L.length + mny c ∨ z < p + 4))
    · refine ⟨0, L, Or.inl rfl, by omega, fun h => by omega, fun M j B hB Q => ?_, fun N E hE Q => ?_⟩
      · rw [code_C hB hz (by omega) l1 l2 hn (by omega) hc.symm hc3, if_pos bad]
      · rw [code_M hE hz (by omega) l1 l2 hn (by omega) hc.symm hc3, if_pos bad]
    · have hm : 0 ≤ mny c ∧ wid c * mny c ≤ 4 ∧ 0 ≤ wid c * mny c ∧ (¬ c = 0 → wid c * mny c = 4) := by
        rcases (show c = 0 ∨ c = 1 ∨ c = 2 ∨ c = 3 by omega) with rfl | rfl | rfl | rfl <;> decide
      have hl : ((stL g c p L (mny c).toNat).length : Int) = L.length + mny c := by rw [stL_len]; omega
      have hp0 : c = 0 → mny c = 0 ∧ wid c * mny c = 0 := fun h => by rw [h]; decide
      obtain ⟨ok, L', q1, q2, q3, q4, q5⟩ := hd (k + 1) (p + wid c * mny c) (stL g c p L (mny c).toNat) (by omega) (by omega) (by omega) (by omega) (by omega) (by omega) (by rw [hl]; omega) (stL_32 l3 _)
      refine ⟨ok, L', q1, q2, q3, fun M j B hB Q => ?_, fun N E hE Q => ?_⟩
      · have := q4 M j B hB Q
        rw [hl, ← Int.add_assoc B] at this
        rw [code_C hB hz (by omega) l1 l2 hn (by omega) hc.symm hc3, if_neg bad]
        exact this
      · have := q5 N E hE Q
        rw [hl, ← Int.add_assoc E] at this
        rw [code_M hE hz (by omega) l1 l2 hn (by omega) hc.symm hc3, if_neg bad]
        exact this
theorem unstep_loop (hz : z ≤ 255) (hn : n ≤ 56) : ∀ (F : Nat) (p : Int) (L : List Int), 8 ≤ p → p ≤ z → z - p ≤ F → 1 ≤ L.length → (L.length : Int) ≤ n → (∀ v ∈ L, I32 v) → ∃ ok L', (ok = 0 ∨ ok = 1) ∧ L'.length ≤ 56 ∧ (ok = 1 → (L'.length : Int) = n ∧ ∀ v ∈ L', I32 v) ∧ UC g z n p L ok L' ∧ UM g z n p L ok L' := by
  intro F
  induction F with
  | zero =>
    intro p L p1 p2 p3 l1 l2 l3
    by_cases c : n ≤ L.length
    · refine ⟨if L.getD (n - 1).toNat 0 = fo g 4 then 1 else 0, L, by split <;> simp, by omega, fun _ => ⟨by omega, l3⟩, fun M j B hB Q => ?_, fun N E hE Q => ?_⟩
      · obtain ⟨b1, b2, b3⟩ := hB
        have hl := bLen_rng j
        rw [t126_2, if_pos c, t126_14, if_neg (by omega), w32_id (z := n - 1) (by omega) (by omega), w32_id (z := B + 4) (by omega) (by omega), m117 (by omega) (by omega), kI_v, movl_r (g := 13000) (by decide), movl_0g (by omega) (by omega), t126_15, t126_16, t126_16, nb_0, nb_1]
        rw [fo_cg (g := g) (a := 4) (fun u u1 u2 => by rw [show B + 4 + u = B + (4 + u) by omega, b3 _ (by omega) (by omega)])]
        refine andi (by omega) (ifi (fun h => ?_) (fun h => ?_))
        · rw [if_neg h]
        · rw [if_pos (by omega)]
      · obtain ⟨b1, b2, b3⟩ := hE
        rw [t279_2, if_pos c, t279_20, if_neg (by omega), w32_id (z := n - 1) (by omega) (by omega), w32_id (z := E + 4) (by omega) (by omega), m195_ear (by omega) (by omega), kI_v, movl_r (g := 22016) (by decide), movl_0g (by omega) (by omega), t279_21, t279_22, t279_22, nb_0, nb_1]
        rw [fo_cg (g := g) (a := 4) (fun u u1 u2 => by rw [show E + 4 + u = E + (4 + u) by omega, b3 _ (by omega) (by omega)])]
        refine andi (by omega) (ifi (fun h => ?_) (fun h => ?_))
        · rw [if_neg h]
        · rw [if_pos (by omega)]
    · refine ⟨0, L, Or.inl rfl, by omega, fun h => by omega, fun M j B hB Q => ?_, fun N E hE Q => ?_⟩
      · rw [t126_2, if_neg c, if_neg (by omega), nb_0]
      · rw [t279_2, if_neg c, if_neg (by omega), nb_0]
  | succ F ih =>
    intro p L p1 p2 p3 l1 l2 l3
    by_cases hpz : p = z
    · exact ih p L p1 p2 (by omega) l1 l2 l3
    · by_cases c : n ≤ L.length
      · refine ⟨0, L, Or.inl rfl, by omega, fun h => by omega, fun M j B hB Q => ?_, fun N E hE Q => ?_⟩
        · rw [t126_2, if_pos c, t126_14, if_pos (by omega), t126_15, t126_16, nb_0]
        · rw [t279_2, if_pos c, t279_20, if_pos (by omega), t279_21, t279_22, nb_0]
      · obtain ⟨ok, L', q1, q2, q3, q4, q5⟩ := unstep_in (g := g) (w := and32 (g p) 255) hz hn F ih 4 0 (p + 1) L (by omega) (by omega) (by omega) (by omega) (by omega) l1 l2 l3
        refine ⟨ok, L', q1, q2, q3, fun M j B hB Q => ?_, fun N E hE Q => ?_⟩
        · have := q4 M j B hB Q
          have hb3 := hB.2.2 p (by omega) (by omega)
          have hb1 := hB.1
          have hb2 := hB.2.1
          have hl := bLen_rng j
          rw [t126_2, if_neg c, if_pos (by omega), t126_3, movl_r (g := 13000) (by decide), hb3, w32_id (z := B + p + 1) (by omega) (by omega), Int.add_assoc B p 1]
          exact andi (by omega) this
        · have := q5 N E hE Q
          have hb3 := hE.2.2 p (by omega) (by omega)
          have hb1 := hE.1
          have hb2 := hE.2.1
          rw [t279_2, if_neg c, if_pos (by omega), t279_3, movl_r (g := 22016) (by decide), hb3, w32_id (z := E + p + 1) (by omega) (by omega), Int.add_assoc E p 1]
          rw [show (6 : Int) - 2 * 0 = 6 by decide] at this
          exact andi (by omega) this
theorem step_dec (hn : 1 ≤ n ∧ n ≤ 56) (hz : 0 ≤ z ∧ z ≤ 255) : ∃ (ok : Int) (L : List Int), (ok = 0 ∨ ok = 1) ∧ L.length ≤ 56 ∧ (ok = 1 → (L.length : Int) = n ∧ ∀ v ∈ L, I32 v) ∧ (∀ M j B, BdC g z M j B → ∀ Q, Tq 126 0 [vR 15 0, vR 13 j, vI B, vI z, vI n, vJ, vJ, vJ, vJ, vJ, vJ, vJ, vJ] [] M Q ↔ Q (.inl (some (vI ok))) (movl M 15000 0 0 L)) ∧ (∀ N E, BdM g z N E → ∀ Q, Tq 279 0 [vR 22 0, vI E, vI z, vI n, vJ, vJ, vJ, vJ, vJ, vJ, vJ, vJ, vJ] [] N Q ↔ Q (.inl (some (vI ok))) (movl N 22017 0 0 L)) := by
  by_cases h8 : 8 ≤ z
  · obtain ⟨ok, L', q1, q2, q3, q4, q5⟩ := unstep_loop (g := g) hz.2 hn.2 (z - 8).toNat 8 [fo g 0] (by omega) h8 (by omega) (by simp) (by simp; omega) (by
      intro v hv
      rw [List.mem_singleton.mp hv]
      exact fo_rng)
    refine ⟨ok, L', q1, q2, q3, fun M j B hB Q => ?_, fun N E hE Q => ?_⟩
    · have := q4 M j B hB Q
      obtain ⟨b1, b2, b3⟩ := hB
      have hl := bLen_rng j
      rw [t126_0, if_pos h8, t126_1, m117 b1 (by omega), kI_v, bd_e, w32_id (z := B + z) (by omega) (by omega), w32_id (z := B + 8) (by omega) (by omega), mset_movl]
      rw [fo_cg (g := g) (a := 0) (fun u u1 u2 => by rw [Int.zero_add, b3 _ (by omega) (by omega)])]
      exact andi (by decide) this
    · have := q5 N E hE Q
      obtain ⟨b1, b2, b3⟩ := hE
      rw [t279_0, if_pos h8, t279_1, m195_ear b1 (by omega), kI_v, bd_e, w32_id (z := E + z) (by omega) (by omega), w32_id (z := E + 8) (by omega) (by omega), mset_movl]
      rw [fo_cg (g := g) (a := 0) (fun u u1 u2 => by rw [Int.zero_add, b3 _ (by omega) (by omega)])]
      exact andi (by decide) this
  · refine ⟨0, [], Or.inl rfl, by simp, fun h => by omega, fun M j B hB Q => ?_, fun N E hE Q => ?_⟩
    · rw [t126_0, if_neg h8, nb_0, movl_nil]
    · rw [t279_0, if_neg h8, nb_0, movl_nil]
end Dec2
