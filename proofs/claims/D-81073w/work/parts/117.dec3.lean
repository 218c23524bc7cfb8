/-! DECODINGS: packed -/
section Dec3
variable {g : Int → Int} {z n w : Int}
/-- the sample that w bits are -/
def sgx (w v : Int) : Int := shr32 (shl32 (w32 v) (32 - w)) (32 - w)
theorem shr32_rng {a k : Int} (h : I32 a) : I32 (shr32 a k) := by
  unfold shr32 I32 at *
  have hp : (0 : Int) < 2 ^ (k % 32).toNat := Int.pow_pos (by decide)
  constructor
  · rw [Int.le_ediv_iff_mul_le hp]
    have : (-2147483648) * 2 ^ (k % 32).toNat ≤ (-2147483648 : Int) * 1 := by
      have : (1 : Int) ≤ 2 ^ (k % 32).toNat := by omega
      omega
    omega
  · rw [Int.ediv_lt_iff_lt_mul hp]
    have : (2147483648 : Int) * 1 ≤ 2147483648 * 2 ^ (k % 32).toNat := by
      have : (1 : Int) ≤ 2 ^ (k % 32).toNat := by omega
      omega
    omega
theorem sgx_32 {v : Int} : I32 (sgx w v) := shr32_rng (w32_rng _)
theorem or32_1 {v b : Int} (hb : b = 0 ∨ b = 1) : or32 (shl32 (w32 v) 1) b = w32 (2 * v + b) := by
  have := @or_disj (w32 v) b 1 (by decide) (by omega) (by rcases hb with rfl | rfl <;> decide)
  unfold shl32
  rw [show (2 : Int) ^ ((1 : Int) % 32).toNat = 2 ^ 1 from rfl, this]
  refine w32_cg ?_
  have := w32_mod v
  rw [show (2 : Int) ^ 1 = 2 from rfl]
  omega
theorem w64_pm {x : Int} (h1 : 0 < x) (h2 : x ≤ 256) : w64 (x - 1) = x - 1 ∧ w64 x = x := ⟨w64_id (by omega) (by omega), w64_id (by omega) (by omega)⟩
theorem pow_256 {c : Nat} (h : c ≤ 8) : (0 : Int) < 2 ^ c ∧ (2 : Int) ^ c ≤ 256 := by
  refine ⟨Int.pow_pos (by decide), ?_⟩
  have : (2 : Nat) ^ c ≤ 2 ^ 8 := Nat.pow_le_pow_right (by decide) h
  have := Int.ofNat_le.mpr this
  rw [Int.natCast_pow] at this
  exact this
/-- the samples -/
def pkL (g : Int → Int) (w : Int) (i : Nat) : List Int := row (fun k => sgx w (bv g (8 + w * k) w.toNat)) 0 i
theorem pkL_s {i : Nat} : pkL g w (i + 1) = pkL g w i ++ [sgx w (bv g (8 + w * i) w.toNat)] := by
  show row _ 0 i ++ [sgx w (bv g (8 + w * (0 + (i : Int))) w.toNat)] = _
  rw [Int.zero_add]
  rfl
theorem pkL_len {i : Nat} : (pkL g w i).length = i := row_len _
theorem pkL_32 {i : Nat} : ∀ v ∈ pkL g w i, I32 v := by
  intro v hv
  obtain ⟨k, k1, k2⟩ := row_mem _ _ hv
  rw [k2]
  exact sgx_32
/-- bytes come until there are bits enough -/
theorem fill_C {M : Mem} {Q : AR → Mem → Prop} {j B a k : Int} (hB : BdC g z M j B) (hz : z ≤ 255) (hw : 1 ≤ w ∧ w ≤ 32) (ha : 0 ≤ a) (haw : a + w ≤ 8 * z) : ∀ (F : Nat) (b : Nat) (p : Int), w + 8 ≤ b + F → 8 * p = a + b → (b : Int) < w + 8 → ∃ (b' : Nat) (p' : Int), w ≤ b' ∧ (b' : Int) < w + 8 ∧ 8 * p' = a + b' ∧ (w ≤ b → b' = b) ∧ (Tq 130 6 [vR 15 0, vR 13 j, vJ, vJ, vI n, vI w, vL (bv g a b), vJ, vI b, vI (B + p), vI k] [] M Q ↔ Tq 130 7 [vR 15 0, vR 13 j, vJ, vJ, vI n, vI w, vL (bv g a b'), vJ, vI b', vI (B + p'), vI k] [] M Q) := by
  obtain ⟨b1, b2, b3⟩ := hB
  have hl := bLen_rng j
  intro F
  induction F with
  | zero =>
    intro b p h1 h2 h3
    exact ⟨b, p, by omega, by omega, h2, fun _ => rfl, by rw [t130_6, if_pos (by omega)]⟩
  | succ F ih =>
    intro b p h1 h2 h3
    by_cases c : w ≤ b
    · exact ⟨b, p, c, h3, h2, fun _ => rfl, by rw [t130_6, if_pos c]⟩
    · obtain ⟨b', p', q1, q2, q3, q4, q5⟩ := ih (b + 8) (p + 1) (by omega) (by omega) (by omega)
      refine ⟨b', p', q1, q2, q3, fun h => by omega, ?_⟩
      rw [← q5, t130_6, if_neg c, b3 p (by omega) (by omega), and255]
      have hr := bv_rng (g := g) (a := a) b
      have hp : (2 : Int) ^ b ≤ 2 ^ 40 := by
        have : (2 : Nat) ^ b ≤ 2 ^ 40 := Nat.pow_le_pow_right (by decide) (by omega)
        have := Int.ofNat_le.mpr this
        rw [Int.natCast_pow] at this
        exact this
      have h40 : (2 : Int) ^ 40 = 1099511627776 := by decide
      rw [or64_8 hr.1 (by omega) (by omega) (by omega), w32_id (z := (b : Int) + 8) (by omega) (by omega), w32_id (z := B + p + 1) (by omega) (by omega)]
      rw [bv_app (g := g) (a := a) (n := b) 8, show a + (b : Int) = 8 * p by omega, bv_byte, show (2 : Int) ^ 8 = 256 from rfl, show B + (p + 1) = B + p + 1 by omega]
      exact andi (by omega) Iff.rfl
theorem unpack_C {M : Mem} {Q : AR → Mem → Prop} {j B : Int} (hB : BdC g z M j B) (hz : z ≤ 255) (hw : 1 ≤ w ∧ w ≤ 32) (hn : 1 ≤ n ∧ n ≤ 56) (hs : z = 1 + (n * w + 7) / 8) : ∀ (d i b : Nat) (p : Int), (i : Int) + d = n → 8 * p = 8 + w * i + b → b < 8 → (Tq 130 5 [vR 15 0, vR 13 j, vJ, vJ, vI n, vI w, vL (bv g (8 + w * i) b), vJ, vI b, vI (B + p), vI i] [] (movl M 15000 0 0 (pkL g w i)) Q ↔ Q (.inl (some (vI (b2i (bv g (8 + w * n) (8 * z - 8 - w * n).toNat = 0))))) (movl M 15000 0 0 (pkL g w n.toNat))) := by
  have hl := bLen_rng j
  have hb2 := hB.2.1
  have hb1 := hB.1
  intro d
  induction d with
  | zero =>
    intro i b p h1 h2 h3
    have e1 : n * w = w * i := by rw [Int.mul_comm, show n = i by omega]
    have e2 : w * n = w * i := by rw [show n = i by omega]
    rw [t130_5, if_pos (by omega), t130_8, t130_9, t130_10, t130_10, show n.toNat = i by omega, e2, show (8 * z - 8 - w * i).toNat = b by omega, nb_0, nb_1]
    refine ifi (fun h => ?_) (fun h => ?_)
    · rw [b2i_f (fun q => h (cmp_eq.mpr q))]
    · rw [b2i_t (cmp_eq.mp (Classical.not_not.mp h))]
  | succ d ih =>
    intro i b p h1 h2 h3
    have e1 : w * i + w ≤ n * w := by
      rw [show w * i + w = w * (i + 1) by rw [Int.mul_add, Int.mul_one], Int.mul_comm n w]
      exact Int.mul_le_mul_of_nonneg_left (by omega) (by omega)
    have e0 : 0 ≤ w * i := Int.mul_nonneg (by omega) (by omega)
    have hB' : BdC g z (movl M 15000 0 0 (pkL g w i)) j B := ⟨hb1, hb2, fun k k1 k2 => by rw [movl_r (g := 13000) (by decide)]; exact hB.2.2 k k1 k2⟩
    obtain ⟨b', p', q1, q2, q3, q4, q5⟩ := fill_C (Q := Q) (n := n) (k := i) (w := w) (a := 8 + w * i) hB' hz hw (by omega) (by omega) (w + 8).toNat b p (by omega) (by omega) (by omega)
    rw [t130_5, if_neg (by omega), q5, t130_7]
    obtain ⟨c, rfl⟩ : ∃ c : Nat, b' = w.toNat + c := ⟨b' - w.toNat, by omega⟩
    have ec : ((w.toNat + c : Nat) : Int) - w = c := by omega
    have tp := bv_top (g := g) (a := 8 + w * i) (n := w.toNat) (m := c)
    have es : shr64 (bv g (8 + w * i) (w.toNat + c)) c = bv g (8 + w * i) w.toNat := by
      unfold shr64
      rw [show ((c : Int) % 64).toNat = c by omega]
      exact tp.1
    have em : and64 (bv g (8 + w * i) (w.toNat + c)) (w64 (shl64 1 c - 1)) = bv g (8 + w * i + w) c := by
      have hp := pow_256 (c := c) (by omega)
      have : shl64 1 c = 2 ^ c := by
        unfold shl64
        rw [show ((c : Int) % 64).toNat = c by omega, Int.one_mul]
        exact (w64_pm hp.1 hp.2).2
      rw [this, (w64_pm hp.1 hp.2).1, and64_low _ c (by omega), tp.2, show 8 + w * i + ((w.toNat : Nat) : Int) = 8 + w * i + w by omega]
    rw [ec, w32_id (z := (c : Int)) (by omega) (by omega), es, em, w32_id (z := 32 - w) (by omega) (by omega), w32_id (z := (i : Int) + 1) (by omega) (by omega), bd_e, mset_app0 (by rw [pkL_len])]
    have := ih (i + 1) c p' (by omega) (by rw [show ((i + 1 : Nat) : Int) = i + 1 by omega, Int.mul_add, Int.mul_one]; omega) (by omega)
    rw [pkL_s, show 8 + w * ((i + 1 : Nat) : Int) = 8 + w * i + w by rw [show ((i + 1 : Nat) : Int) = i + 1 by omega, Int.mul_add, Int.mul_one]; omega] at this
    exact andi (by omega) this
theorem bits_M {N : Mem} {Q : AR → Mem → Prop} {E k a : Int} (hE : BdM g z N E) (hw : 1 ≤ w ∧ w ≤ 32) (ha : 0 ≤ a) (haw : a + w ≤ 8 * z) : ∀ (d i : Nat), (i : Int) + d = w → (Tq 280 6 [vR 22 0, vI E, vI z, vI n, vI w, vI (8 * E + a + i), vI k, vI (w32 (bv g a i)), vI i] [] N Q ↔ Tq 280 7 [vR 22 0, vI E, vI z, vI n, vI w, vI (8 * E + a + w), vI k, vI (w32 (bv g a w.toNat)), vJ] [] N Q) := by
  obtain ⟨b1, b2, b3⟩ := hE
  intro d
  induction d with
  | zero =>
    intro i h1
    rw [t280_6, if_pos (by omega), show w.toNat = i by omega, show w = i by omega]
  | succ d ih =>
    intro i h1
    rw [t280_6, if_neg (by omega), m281 (by omega) (by omega), kI_v, show 8 * E + a + (i : Int) = 8 * E + (a + i) by omega, bt_cg (g := g) (b3 _ (by omega) (by omega)), or32_1 (bt_01 _ _), w32_id (z := 8 * E + (a + i) + 1) (by omega) (by omega), w32_id (z := (i : Int) + 1) (by omega) (by omega), ← bv_s]
    have := ih (i + 1) (by omega)
    rw [show 8 * E + a + ((i + 1 : Nat) : Int) = 8 * E + (a + i) + 1 by omega] at this
    exact this
theorem rest_M {N : Mem} {Q : AR → Mem → Prop} {E : Int} (hE : BdM g z N E) (hz : 0 ≤ z) : ∀ (d : Nat) (a : Int), 0 ≤ a → a + d = 8 * z → (Tq 280 8 [vR 22 0, vI E, vI z, vJ, vJ, vI (8 * E + a), vJ, vJ, vJ] [] N Q ↔ Q (.inl (some (vI (b2i (bv g a d = 0))))) N) := by
  obtain ⟨b1, b2, b3⟩ := hE
  intro d
  induction d with
  | zero =>
    intro a h0 h1
    rw [t280_8, w32_id (z := E + z) (by omega) (by omega), w32_id (z := 8 * (E + z)) (by omega) (by omega), if_pos (by omega), t280_10, nb_1, b2i_t (show bv g a 0 = 0 from rfl)]
  | succ d ih =>
    intro a h0 h1
    rw [t280_8, w32_id (z := E + z) (by omega) (by omega), w32_id (z := 8 * (E + z)) (by omega) (by omega), if_neg (by omega), m281 (by omega) (by omega), kI_v, bt_cg (g := g) (b3 _ (by omega) (by omega)), t280_9, w32_id (z := 8 * E + a + 1) (by omega) (by omega), show 8 * E + a + 1 = 8 * E + (a + 1) by omega, ih (a + 1) (by omega) (by omega), nb_0]
    have e : bv g a (d + 1) = 0 ↔ bt g a = 0 ∧ bv g (a + 1) d = 0 := by
      rw [bv_zero, bv_zero]
      constructor
      · intro q
        refine ⟨by have := q 0 (by omega) (by omega); rw [Int.add_zero] at this; exact this, fun i i1 i2 => ?_⟩
        have := q (i + 1) (by omega) (by omega)
        rw [show a + (i + 1) = a + 1 + i by omega] at this
        exact this
      · intro q i i1 i2
        by_cases e : i = 0
        · rw [e, Int.add_zero]; exact q.1
        · have := q.2 (i - 1) (by omega) (by omega)
          rw [show a + 1 + (i - 1) = a + i by omega] at this
          exact this
    have hb := bt_01 g a
    refine ifi (fun h => ?_) (fun h => ?_)
    · rw [b2i_cg e]
      rw [b2i_cg (show (bt g a = 0 ∧ bv g (a + 1) d = 0) ↔ bv g (a + 1) d = 0 from ⟨fun q => q.2, fun q => ⟨by omega, q⟩⟩)]
    · rw [b2i_f (fun q => by have := (e.mp q).1; omega)]
theorem unpack_M {N : Mem} {Q : AR → Mem → Prop} {E : Int} (hE : BdM g z N E) (hz : z ≤ 255) (hw : 1 ≤ w ∧ w ≤ 32) (hn : 1 ≤ n ∧ n ≤ 56) (hs : z = 1 + (n * w + 7) / 8) : ∀ (d i : Nat), (i : Int) + d = n → (Tq 280 5 [vR 22 0, vI E, vI z, vI n, vI w, vI (8 * E + (8 + w * i)), vI i, vJ, vJ] [] (movl N 22017 0 0 (pkL g w i)) Q ↔ Q (.inl (some (vI (b2i (bv g (8 + w * n) (8 * z - 8 - w * n).toNat = 0))))) (movl N 22017 0 0 (pkL g w n.toNat))) := by
  have hb2 := hE.2.1
  have hb1 := hE.1
  intro d
  induction d with
  | zero =>
    intro i h1
    have e1 : n * w = w * i := by rw [Int.mul_comm, show n = i by omega]
    have e2 : w * n = w * i := by rw [show n = i by omega]
    have e0 : 0 ≤ w * i := Int.mul_nonneg (by omega) (by omega)
    have hE' : BdM g z (movl N 22017 0 0 (pkL g w i)) E := ⟨hb1, hb2, fun k k1 k2 => by rw [movl_r (g := 22016) (by decide)]; exact hE.2.2 k k1 k2⟩
    rw [t280_5, if_pos (by omega), rest_M hE' (by omega) (8 * z - 8 - w * i).toNat (8 + w * i) (by omega) (by omega), show n.toNat = i by omega, e2]
  | succ d ih =>
    intro i h1
    have e1 : w * i + w ≤ n * w := by
      rw [show w * i + w = w * (i + 1) by rw [Int.mul_add, Int.mul_one], Int.mul_comm n w]
      exact Int.mul_le_mul_of_nonneg_left (by omega) (by omega)
    have e0 : 0 ≤ w * i := Int.mul_nonneg (by omega) (by omega)
    have hE' : BdM g z (movl N 22017 0 0 (pkL g w i)) E := ⟨hb1, hb2, fun k k1 k2 => by rw [movl_r (g := 22016) (by decide)]; exact hE.2.2 k k1 k2⟩
    have hb := bits_M (Q := Q) (n := n) (k := i) (w := w) (a := 8 + w * i) hE' hw (by omega) (by omega) w.toNat 0 (by omega)
    rw [show ((0 : Nat) : Int) = 0 from rfl, Int.add_zero, show w32 (bv g (8 + w * i) 0) = 0 from rfl, Int.add_assoc (8 * E)] at hb
    rw [t280_5, if_neg (by omega), hb, t280_7, w32_id (z := 32 - w) (by omega) (by omega), w32_id (z := (i : Int) + 1) (by omega) (by omega), bd_e, mset_app0 (by rw [pkL_len])]
    have := ih (i + 1) (by omega)
    rw [pkL_s, show 8 + w * ((i + 1 : Nat) : Int) = 8 + w * i + w by rw [show ((i + 1 : Nat) : Int) = i + 1 by omega, Int.mul_add, Int.mul_one]; omega] at this
    exact andi (by omega) this
theorem pack_dec (hn : 1 ≤ n ∧ n ≤ 56) (hz : 0 ≤ z ∧ z ≤ 255) : ∃ (ok : Int) (L : List Int), (ok = 0 ∨ ok = 1) ∧ L.length ≤ 56 ∧ (ok = 1 → (L.length : Int) = n ∧ ∀ v ∈ L, I32 v) ∧ (∀ M j B, BdC g z M j B → ∀ Q, Tq 130 0 [vR 15 0, vR 13 j, vI B, vI z, vI n, vJ, vJ, vJ, vJ, vJ, vJ] [] M Q ↔ Q (.inl (some (vI ok))) (movl M 15000 0 0 L)) ∧ (∀ N E, BdM g z N E → ∀ Q, Tq 280 0 [vR 22 0, vI E, vI z, vI n, vJ, vJ, vJ, vJ, vJ] [] N Q ↔ Q (.inl (some (vI ok))) (movl N 22017 0 0 L)) := by
  generalize hw : (if z ≤ 0 then 0 else g 0 % 256) = w
  have gC : ∀ M j B, BdC g z M j B → ∀ Q, Tq 130 0 [vR 15 0, vR 13 j, vI B, vI z, vI n, vJ, vJ, vJ, vJ, vJ, vJ] [] M Q ↔ Tq 130 2 [vR 15 0, vR 13 j, vI B, vI z, vI n, vJ, vJ, vJ, vJ, vJ, vJ] [vI w] M Q := by
    intro M j B hB Q
    obtain ⟨b1, b2, b3⟩ := hB
    rw [t130_0, t130_1]
    by_cases c : z ≤ 0
    · rw [if_pos c] at hw ⊢
      rw [← hw]
    · rw [if_neg c] at hw ⊢
      have := b3 0 (by omega) (by omega)
      rw [Int.add_zero] at this
      rw [this, and255, hw]
      exact andi (by omega) Iff.rfl
  have gM : ∀ N E, BdM g z N E → ∀ Q, Tq 280 0 [vR 22 0, vI E, vI z, vI n, vJ, vJ, vJ, vJ, vJ] [] N Q ↔ Tq 280 2 [vR 22 0, vI E, vI z, vI n, vJ, vJ, vJ, vJ, vJ] [vI w] N Q := by
    intro N E hE Q
    obtain ⟨b1, b2, b3⟩ := hE
    rw [t280_0, t280_1]
    by_cases c : z ≤ 0
    · rw [if_pos c] at hw
      rw [if_neg (by omega), ← hw]
    · rw [if_neg c] at hw
      have := b3 0 (by omega) (by omega)
      rw [Int.add_zero] at this
      rw [if_pos (by omega), this, and255, hw]
      exact andi (by omega) Iff.rfl
  by_cases c1 : 1 ≤ w ∧ w ≤ 32
  · have hnw : 0 ≤ n * w ∧ n * w ≤ 1792 := by
      have := Int.mul_le_mul hn.2 c1.2 (by omega) (by omega)
      have := Int.mul_nonneg (a := n) (b := w) (by omega) (by omega)
      omega
    have ed : w32 (1 + div32 (w32 (w32 (n * w) + 7)) 8) = 1 + (n * w + 7) / 8 := by
      rw [w32_id (z := n * w) (by omega) (by omega), w32_id (z := n * w + 7) (by omega) (by omega), div32_nn (by omega) (by omega) (by omega), w32_id (by omega) (by omega)]
    by_cases c2 : z = 1 + (n * w + 7) / 8
    · refine ⟨b2i (bv g (8 + w * n) (8 * z - 8 - w * n).toNat = 0), pkL g w n.toNat, b2i_01, by rw [pkL_len]; omega, fun _ => ⟨by rw [pkL_len]; omega, pkL_32⟩, fun M j B hB Q => ?_, fun N E hE Q => ?_⟩
      · have := unpack_C (Q := Q) hB hz.2 c1 hn c2 n.toNat 0 0 1 (by omega) (by simp) (by decide)
        rw [show pkL g w 0 = [] from rfl, movl_nil] at this
        have hb2 := hB.2.1
        have hb1 := hB.1
        have hl := bLen_rng j
        rw [gC M j B hB, t130_2, m25, kI_v, ed, if_neg (by rw [b2i_t c1]; decide), if_pos c2, t130_4, w32_id (z := B + 1) (by omega) (by omega)]
        exact andi (by decide) this
      · have := unpack_M (Q := Q) hE hz.2 c1 hn c2 n.toNat 0 (by omega)
        rw [show pkL g w 0 = [] from rfl, movl_nil, show ((0 : Nat) : Int) = 0 from rfl, Int.mul_zero, Int.add_zero] at this
        have hb2 := hE.2.1
        have hb1 := hE.1
        rw [gM N E hE, t280_2, ed, if_neg (by omega), if_neg (by omega), if_pos c2, t280_4, w32_id (z := 8 * E) (by omega) (by omega), w32_id (z := 8 * E + 8) (by omega) (by omega)]
        exact andi (by decide) this
    · refine ⟨0, [], Or.inl rfl, by simp, fun h => by omega, fun M j B hB Q => ?_, fun N E hE Q => ?_⟩
      · rw [gC M j B hB, t130_2, m25, kI_v, ed, if_neg (by rw [b2i_t c1]; decide), if_neg c2, t130_3, nb_0, movl_nil]
        exact andi (by decide) Iff.rfl
      · rw [gM N E hE, t280_2, ed, if_neg (by omega), if_neg (by omega), if_neg c2, t280_3, nb_0, movl_nil]
        exact andi (by decide) Iff.rfl
  · refine ⟨0, [], Or.inl rfl, by simp, fun h => by omega, fun M j B hB Q => ?_, fun N E hE Q => ?_⟩
    · rw [gC M j B hB, t130_2, m25, kI_v, if_pos (by rw [b2i_f c1]), t130_3, nb_0, movl_nil]
    · rw [gM N E hE, t280_2, t280_3, nb_0, movl_nil]
      refine ifi (fun _ => Iff.rfl) (fun d => ?_)
      rw [if_pos (by omega)]
end Dec3
