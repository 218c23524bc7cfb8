/-! RECORDS WRITTEN: packed -/
def bw (β : Int → Int) (a : Int) : Nat → Int
  | 0 => 0
  | n + 1 => 2 * bw β a n + β (a + n)
theorem bw_s {β : Int → Int} {a : Int} {n : Nat} : bw β a (n + 1) = 2 * bw β a n + β (a + n) := rfl
theorem bw_rng {β : Int → Int} (h : ∀ q, β q = 0 ∨ β q = 1) {a : Int} : ∀ n : Nat, 0 ≤ bw β a n ∧ bw β a n < 2 ^ n
  | 0 => ⟨Int.le_refl _, (by show (0 : Int) < 1; decide)⟩
  | n + 1 => by
    have h1 := bw_rng h (a := a) n
    have hb := h (a + n)
    rw [bw_s, Int.pow_succ]
    omega
theorem bw_app {β : Int → Int} {a : Int} {n : Nat} : ∀ m : Nat, bw β a (n + m) = bw β a n * 2 ^ m + bw β (a + n) m
  | 0 => by simp [bw]
  | m + 1 => by
    rw [show n + (m + 1) = n + m + 1 from rfl, bw_s, bw_app m, bw_s, Int.pow_succ, show a + ((n + m : Nat) : Int) = a + n + m by omega]
    rw [← Int.mul_assoc (bw β a n)]
    omega
theorem bw_top {β : Int → Int} (hβ : ∀ q, β q = 0 ∨ β q = 1) {a : Int} {n m : Nat} : bw β a (n + m) / 2 ^ m = bw β a n ∧ bw β a (n + m) % 2 ^ m = bw β (a + n) m := by
  have h := bw_rng hβ (a := a + n) m
  have hp : (0 : Int) < 2 ^ m := by omega
  rw [bw_app]
  constructor
  · rw [Int.add_comm, Int.add_mul_ediv_right _ _ (by omega), Int.ediv_eq_zero_of_lt h.1 h.2, Int.zero_add]
  · rw [Int.add_comm, Int.add_mul_emod_self_right, Int.emod_eq_of_lt h.1 h.2]
theorem bw_cg {β β' : Int → Int} {a : Int} : ∀ n : Nat, (∀ q, a ≤ q → q < a + n → β q = β' q) → bw β a n = bw β' a n
  | 0, _ => rfl
  | n + 1, h => by rw [bw_s, bw_s, bw_cg n (fun q h1 h2 => h q h1 (by omega)), h (a + n) (by omega) (by omega)]
theorem bw_zero {β : Int → Int} {a : Int} : ∀ n : Nat, (∀ q, a ≤ q → q < a + n → β q = 0) → bw β a n = 0
  | 0, _ => rfl
  | n + 1, h => by rw [bw_s, bw_zero n (fun q h1 h2 => h q h1 (by omega)), h (a + n) (by omega) (by omega)]; rfl
theorem mod2p {y p : Int} (hp : 0 < p) : y % (2 * p) = 2 * (y / 2 % p) + y % 2 := by
  have h1 := Int.emod_nonneg (y / 2) (b := p) (by omega)
  have h2 := Int.emod_lt_of_pos (y / 2) hp
  have e : y = 2 * (y / 2 % p) + y % 2 + 2 * p * (y / 2 / p) := by
    have := Int.mul_ediv_add_emod (y / 2) p
    rw [Int.mul_assoc]
    omega
  have e2 : y % (2 * p) = (2 * (y / 2 % p) + y % 2 + 2 * p * (y / 2 / p)) % (2 * p) := by rw [← e]
  rw [e2, Int.add_mul_emod_self_left, Int.emod_eq_of_lt (by omega) (by omega)]
/-- the bits of samples, w each -/
def bP (a : Int → Int) (n w q : Int) : Int := if 0 ≤ q ∧ q < n * w then a (q / w) / 2 ^ (w - 1 - q % w).toNat % 2 else 0
theorem bP_01 {a : Int → Int} {n w q : Int} : bP a n w q = 0 ∨ bP a n w q = 1 := by
  unfold bP
  split
  · omega
  · exact Or.inl rfl
theorem bP_at {a : Int → Int} {n w k : Int} {i : Nat} (hw : 1 ≤ w) (hk : 0 ≤ k ∧ k < n) (hi : (i : Int) < w) : bP a n w (k * w + i) = a k / 2 ^ (w - 1 - i).toNat % 2 := by
  have h0 : 0 ≤ k * w := Int.mul_nonneg hk.1 (by omega)
  have h1 : (k + 1) * w ≤ n * w := Int.mul_le_mul_of_nonneg_right (by omega) (by omega)
  rw [Int.add_mul, Int.one_mul] at h1
  unfold bP
  rw [if_pos (by omega), Int.add_comm, Int.add_mul_ediv_right _ _ (by omega), Int.add_mul_emod_self_right, Int.ediv_eq_zero_of_lt (by omega) hi, Int.emod_eq_of_lt (by omega) hi, Int.zero_add]
theorem bw_smp {a : Int → Int} {n w k : Int} (hw : 1 ≤ w) (hk : 0 ≤ k ∧ k < n) : ∀ m : Nat, (m : Int) ≤ w → bw (bP a n w) (k * w) m = a k / 2 ^ (w - m).toNat % 2 ^ m := by
  intro m
  induction m with
  | zero =>
    intro _
    show (0 : Int) = _ % 1
    omega
  | succ m ih =>
    intro hm
    rw [bw_s, ih (by omega), bP_at hw hk (by omega), Int.pow_succ, Int.mul_comm (2 ^ m) 2, mod2p (Int.pow_pos (by decide))]
    have e1 : (w - ((m + 1 : Nat) : Int)).toNat = (w - 1 - m).toNat := by omega
    have e2 : a k / 2 ^ (w - 1 - (m : Int)).toNat / 2 = a k / 2 ^ (w - m).toNat := by
      rw [Int.ediv_ediv_of_nonneg (Int.pow_nonneg (by decide)), ← Int.pow_succ, show (w - 1 - (m : Int)).toNat.succ = (w - m).toNat by omega]
    rw [e1, e2]
theorem or64_w {a b : Int} {w : Nat} (hw : w ≤ 32) (h0 : 0 ≤ a) (h1 : a < 256) (h2 : 0 ≤ b) (h3 : b < 2 ^ w) : or64 (shl64 a w) b = a * 2 ^ w + b := by
  have hp : (2 : Nat) ^ w ≤ 2 ^ 32 := Nat.pow_le_pow_right (by decide) hw
  have hq : 0 < (2 : Nat) ^ w := Nat.pow_pos (by decide)
  have e0 : ((2 : Int) ^ w) = ((2 ^ w : Nat) : Int) := by rw [Int.natCast_pow]; rfl
  rw [e0] at h3 ⊢
  have hpI : ((2 ^ w : Nat) : Int) ≤ 4294967296 := Int.ofNat_le.mpr hp
  have hqI : (0 : Int) < ((2 ^ w : Nat) : Int) := Int.ofNat_lt.mpr hq
  have hm : a * ((2 ^ w : Nat) : Int) ≤ 255 * 4294967296 := Int.mul_le_mul (by omega) hpI (by omega) (by omega)
  have hm0 : 0 ≤ a * ((2 ^ w : Nat) : Int) := Int.mul_nonneg h0 (by omega)
  have e : shl64 a w = a * ((2 ^ w : Nat) : Int) := by
    unfold shl64
    rw [show (((w : Int)) % 64).toNat = w by omega, e0]
    exact w64_id (by omega) (by omega)
  rw [e, u64_or]
  have e1 : (a * ((2 ^ w : Nat) : Int) % 18446744073709551616).toNat = 2 ^ w * a.toNat := by
    rw [Int.emod_eq_of_lt hm0 (by omega)]
    obtain ⟨x, rfl⟩ := Int.eq_ofNat_of_zero_le h0
    rw [← Int.natCast_mul, Int.toNat_natCast, Nat.mul_comm]
    rfl
  have e2 : (b % 18446744073709551616).toNat = b.toNat := by omega
  have hb : b.toNat < 2 ^ w := by omega
  rw [e1, e2, ← Nat.two_pow_add_eq_or_of_lt hb]
  have e3 : ((2 ^ w * a.toNat + b.toNat : Nat) : Int) = a * ((2 ^ w : Nat) : Int) + b := by
    rw [Int.natCast_add, Int.natCast_mul, Int.toNat_of_nonneg h0, Int.toNat_of_nonneg h2, Int.mul_comm]
  rw [e3]
  exact w64_id (by omega) (by omega)
theorem shr_0 {v : Int} (h : I32 v) : shr32 (shl32 v 0) 0 = v := by
  unfold shr32 shl32
  rw [show (2 : Int) ^ ((0 : Int) % 32).toNat = 1 from rfl, Int.mul_one, Int.ediv_one]
  exact w32_id h.1 h.2
section Enc3
variable {M N : Mem} {Q : AR → Mem → Prop} {a : Int → Int} {n w : Int}
/-- the width grows on both sides alike -/
theorem grow_k {k : Int} (hn : n ≤ 56) (hk : 0 ≤ k ∧ k < n) (h32 : I32 (a k)) : ∀ (d : Nat) (w : Int), 1 ≤ w → w + d = 32 → ∃ w', w ≤ w' ∧ w' ≤ 32 ∧ (∀ M Q, SmC a n M → (Tq 135 2 [vR 15 0, vR 13 0, vI n, vI w, vI k, vJ, vJ, vJ] [] M Q ↔ Tq 135 3 [vR 15 0, vR 13 0, vI n, vI w', vI k, vJ, vJ, vJ] [] M Q)) ∧ (∀ N f Q, SmM a n f N → (Tq 287 2 [vR 22 0, vI f, vI n, vI w, vI k, vJ, vJ, vJ] [] N Q ↔ Tq 287 3 [vR 22 0, vI f, vI n, vI w', vI k, vJ, vJ, vJ] [] N Q)) := by
  intro d
  induction d with
  | zero =>
    intro w w1 w2
    have w3 : w = 32 := by omega
    subst w3
    refine ⟨32, by omega, by omega, fun M Q hS => ?_, fun N f Q hS => ?_⟩
    · rw [t135_2, if_pos (by decide)]
    · obtain ⟨s1, s2, s3⟩ := hS
      rw [t287_2, w32_id (z := f + k) (by omega) (by omega), s3 k hk.1 hk.2, show w32 (32 - 32) = 0 from rfl, shr_0 h32, if_pos rfl]
      exact andi (by omega) (andi (by omega) Iff.rfl)
  | succ d ih =>
    intro w w1 w2
    by_cases c : shr32 (shl32 (a k) (32 - w)) (32 - w) = a k
    · refine ⟨w, by omega, by omega, fun M Q hS => ?_, fun N f Q hS => ?_⟩
      · rw [t135_2, if_neg (by omega), hS k hk.1 hk.2, w32_id (z := 32 - w) (by omega) (by omega), if_pos c]
        exact andi (by omega) (andi (by omega) Iff.rfl)
      · obtain ⟨s1, s2, s3⟩ := hS
        rw [t287_2, w32_id (z := f + k) (by omega) (by omega), s3 k hk.1 hk.2, w32_id (z := 32 - w) (by omega) (by omega), if_pos c]
        exact andi (by omega) (andi (by omega) Iff.rfl)
    · obtain ⟨w', g1, g2, g3, g4⟩ := ih (w + 1) (by omega) (by omega)
      refine ⟨w', by omega, g2, fun M Q hS => ?_, fun N f Q hS => ?_⟩
      · rw [← g3 M Q hS, t135_2, if_neg (by omega), hS k hk.1 hk.2, w32_id (z := 32 - w) (by omega) (by omega), if_neg c, w32_id (z := w + 1) (by omega) (by omega)]
        exact andi (by omega) (andi (by omega) Iff.rfl)
      · rw [← g4 N f Q hS]
        obtain ⟨s1, s2, s3⟩ := hS
        rw [t287_2, w32_id (z := f + k) (by omega) (by omega), s3 k hk.1 hk.2, w32_id (z := 32 - w) (by omega) (by omega), if_neg c, w32_id (z := w + 1) (by omega) (by omega)]
        exact andi (by omega) (andi (by omega) Iff.rfl)
theorem grow_all (hn : n ≤ 56) (h32 : ∀ k, 0 ≤ k → k < n → I32 (a k)) : ∀ (d : Nat) (k w : Int), 0 ≤ k → k + d = n → 1 ≤ w → w ≤ 32 → ∃ w', 1 ≤ w' ∧ w' ≤ 32 ∧ (∀ M Q, SmC a n M → (Tq 135 1 [vR 15 0, vR 13 0, vI n, vI w, vI k, vJ, vJ, vJ] [] M Q ↔ Tq 135 4 [vR 15 0, vR 13 0, vI n, vI w', vJ, vJ, vJ, vJ] [] M Q)) ∧ (∀ N f Q, SmM a n f N → (Tq 287 1 [vR 22 0, vI f, vI n, vI w, vI k, vJ, vJ, vJ] [] N Q ↔ Tq 287 4 [vR 22 0, vI f, vI n, vI w', vJ, vJ, vJ, vJ] [] N Q)) := by
  intro d
  induction d with
  | zero =>
    intro k w k1 k2 w1 w2
    exact ⟨w, w1, w2, fun M Q _ => by rw [t135_1, if_pos (by omega)], fun N f Q _ => by rw [t287_1, if_pos (by omega)]⟩
  | succ d ih =>
    intro k w k1 k2 w1 w2
    obtain ⟨u, u1, u2, u3, u4⟩ := grow_k (a := a) hn (show 0 ≤ k ∧ k < n by omega) (h32 k k1 (by omega)) (32 - w).toNat w w1 (by omega)
    obtain ⟨w', g1, g2, g3, g4⟩ := ih (k + 1) u (by omega) (by omega) (by omega) u2
    refine ⟨w', g1, g2, fun M Q hS => ?_, fun N f Q hS => ?_⟩
    · rw [t135_1, if_neg (by omega), u3 M Q hS, t135_3, w32_id (z := k + 1) (by omega) (by omega), g3 M Q hS]
    · rw [t287_1, if_neg (by omega), u4 N f Q hS, t287_3, w32_id (z := k + 1) (by omega) (by omega), g4 N f Q hS]
/-- the bytes -/
def pkB (a : Int → Int) (n w : Int) (e : Nat) : List Int := row (fun j => w8 (bw (bP a n w) (8 * j) 8)) 0 e
theorem pkB_s {e : Nat} : pkB a n w (e + 1) = pkB a n w e ++ [w8 (bw (bP a n w) (8 * e) 8)] := by
  show row _ 0 e ++ [w8 (bw (bP a n w) (8 * (0 + (e : Int))) 8)] = _
  rw [Int.zero_add]
  rfl
theorem w8_w32 {v : Int} : w8 (w32 v) = w8 v := by
  have h := w32_mod v
  have : w32 v % 256 = v % 256 := by omega
  unfold w8
  rw [← Int.emod_bmod (w32 v) 256, ← Int.emod_bmod v 256]
  show Int.bmod (w32 v % 256) 256 = Int.bmod (v % 256) 256
  rw [this]
theorem emit_C {L : List Int} {k : Int} (h0 : M 13 0 1 = 0) (hw : 1 ≤ w ∧ w ≤ 32) : ∀ (F : Nat) (b e : Nat), b ≤ F → b ≤ 39 → (L.length : Int) + e + b ≤ 380 → ∃ b' e' : Nat, b' < 8 ∧ 8 * e' + b' = 8 * e + b ∧ (Tq 135 6 [vR 15 0, vR 13 0, vI n, vI w, vL (bw (bP a n w) (8 * e) b), vJ, vI b, vI k] [] (bapp M 0 (L ++ pkB a n w e)) Q ↔ Tq 135 7 [vR 15 0, vR 13 0, vI n, vI w, vL (bw (bP a n w) (8 * e') b'), vJ, vI b', vI k] [] (bapp M 0 (L ++ pkB a n w e')) Q) := by
  intro F
  induction F with
  | zero =>
    intro b e h1 h2 h3
    exact ⟨b, e, by omega, rfl, by rw [t135_6, if_pos (by omega)]⟩
  | succ F ih =>
    intro b e h1 h2 h3
    by_cases c : b < 8
    · exact ⟨b, e, c, rfl, by rw [t135_6, if_pos (by omega)]⟩
    · obtain ⟨d, rfl⟩ : ∃ d, b = 8 + d := ⟨b - 8, by omega⟩
      obtain ⟨b', e', g1, g2, g3⟩ := ih d (e + 1) (by omega) (by omega) (by omega)
      refine ⟨b', e', g1, by omega, ?_⟩
      have tp := bw_top (β := bP a n w) (fun q => bP_01) (a := 8 * e) (n := 8) (m := d)
      have es : shr64 (bw (bP a n w) (8 * e) (8 + d)) d = bw (bP a n w) (8 * e) 8 := by
        unfold shr64
        rw [show ((d : Int) % 64).toNat = d by omega]
        exact tp.1
      have sh1 : shl64 1 d = 2 ^ d ∧ w64 (2 ^ d - 1) = 2 ^ d - 1 := by
        have hp0 : (0 : Int) < 2 ^ d := Int.pow_pos (by decide)
        have hp : (2 : Int) ^ d ≤ 4294967296 := by
          have : (2 : Nat) ^ d ≤ 2 ^ 32 := Nat.pow_le_pow_right (by decide) (by omega)
          have := Int.ofNat_le.mpr this
          rw [Int.natCast_pow] at this
          exact this
        unfold shl64
        rw [show ((d : Int) % 64).toNat = d by omega, Int.one_mul]
        generalize (2 : Int) ^ d = x at hp0 hp
        exact ⟨w64_id (by omega) (by omega), w64_id (by omega) (by omega)⟩
      have em : and64 (bw (bP a n w) (8 * e) (8 + d)) (w64 (shl64 1 d - 1)) = bw (bP a n w) (8 * (e + 1 : Nat)) d := by
        rw [sh1.1, sh1.2, and64_low _ d (by omega), tp.2]
        rw [show 8 * (e : Int) + ((8 : Nat) : Int) = 8 * ((e + 1 : Nat) : Int) by omega]
      have sz : bapp M 0 (L ++ pkB a n w e) 13 0 1 = L.length + e := by
        rw [bapp_sz, h0, List.length_append, Int.natCast_add, show (pkB a n w e).length = e from row_len _]
        omega
      rw [← g3, t135_6, if_neg (by omega), show ((8 + d : Nat) : Int) + -8 = d by omega, w32_id (z := (d : Int)) (by omega) (by omega), es, em, m113 (by omega) (by rw [sz, bLen_0]; omega), kV_v, bapp_app, w8_w32, List.append_assoc, ← pkB_s]
theorem pack_C {L : List Int} (hS : SmC a n M) (h0 : M 13 0 1 = 0) (hn : 1 ≤ n ∧ n ≤ 56) (hw : 1 ≤ w ∧ w ≤ 32) (hL : L.length ≤ 9) : ∀ (d k b e : Nat), (k : Int) + d = n → b < 8 → (8 * e + b : Int) = k * w → (Tq 135 5 [vR 15 0, vR 13 0, vI n, vI w, vL (bw (bP a n w) (8 * e) b), vJ, vI b, vI k] [] (bapp M 0 (L ++ pkB a n w e)) Q ↔ Q (.inl none) (bapp M 0 (L ++ pkB a n w ((n * w + 7) / 8).toNat))) := by
  have hnw : 0 ≤ n * w ∧ n * w ≤ 1792 := by
    have := Int.mul_le_mul hn.2 hw.2 (by omega) (by omega)
    have := Int.mul_nonneg (a := n) (b := w) (by omega) (by omega)
    omega
  intro d
  induction d with
  | zero =>
    intro k b e h1 h2 h3
    have hk : (k : Int) = n := by omega
    rw [hk] at h3
    have sz : bapp M 0 (L ++ pkB a n w e) 13 0 1 = L.length + e := by
      rw [bapp_sz, h0, List.length_append, Int.natCast_add, show (pkB a n w e).length = e from row_len _]
      omega
    rw [t135_5, if_pos (by omega), t135_8, t135_9]
    by_cases c : (b : Int) ≤ 0
    · rw [if_pos c, show ((n * w + 7) / 8).toNat = e by omega]
    · have hr := bw_rng (β := bP a n w) (fun q => bP_01) (a := 8 * e) b
      have hp : (2 : Int) ^ b ≤ 256 := (pow_256 (c := b) (by omega)).2
      have e8 : bw (bP a n w) (8 * e) 8 = bw (bP a n w) (8 * e) b * 2 ^ (8 - b) := by
        rw [show (8 : Nat) = b + (8 - b) by omega, bw_app, bw_zero (8 - b) (fun q q1 q2 => by unfold bP; rw [if_neg (by omega)]), Int.add_zero, show b + (8 - b) - b = 8 - b by omega]
      have hr8 := bw_rng (β := bP a n w) (fun q => bP_01) (a := 8 * e) 8
      have es : shl64 (bw (bP a n w) (8 * e) b) (8 - b) = bw (bP a n w) (8 * e) 8 := by
        unfold shl64
        rw [show ((8 - (b : Int)) % 64).toNat = 8 - b by omega, ← e8]
        have : (2 : Int) ^ 8 = 256 := rfl
        exact w64_id (by omega) (by omega)
      rw [if_neg c, w32_id (z := 8 - (b : Int)) (by omega) (by omega), es, m113 (by omega) (by rw [sz, bLen_0]; omega), kV_v, bapp_app, w8_w32, List.append_assoc, ← pkB_s, t135_9, show ((n * w + 7) / 8).toNat = e + 1 by omega]
  | succ d ih =>
    intro k b e h1 h2 h3
    have e1 : (k : Int) * w + w ≤ n * w := by
      rw [show (k : Int) * w + w = (k + 1) * w by rw [Int.add_mul, Int.one_mul]]
      exact Int.mul_le_mul_of_nonneg_right (by omega) (by omega)
    have hr := bw_rng (β := bP a n w) (fun q => bP_01) (a := 8 * e) b
    have hp : (2 : Int) ^ b ≤ 256 := (pow_256 (c := b) (by omega)).2
    have hS' := SmC_bapp (L := L ++ pkB a n w e) hS
    obtain ⟨W, rfl⟩ : ∃ W : Nat, w = W := ⟨w.toNat, by omega⟩
    have sm := bw_smp (a := a) (n := n) (w := W) (k := k) hw.1 (by omega) W (Int.le_refl _)
    rw [show ((W : Int) - W).toNat = 0 by omega, show (2 : Int) ^ 0 = 1 from rfl, Int.ediv_one] at sm
    have sh1 : shl64 1 W = 2 ^ W ∧ w64 (2 ^ W - 1) = 2 ^ W - 1 := by
      have hp0 : (0 : Int) < 2 ^ W := Int.pow_pos (by decide)
      have hp : (2 : Int) ^ W ≤ 4294967296 := by
        have : (2 : Nat) ^ W ≤ 2 ^ 32 := Nat.pow_le_pow_right (by decide) (by omega)
        have := Int.ofNat_le.mpr this
        rw [Int.natCast_pow] at this
        exact this
      unfold shl64
      rw [show ((W : Int) % 64).toNat = W by omega, Int.one_mul]
      generalize (2 : Int) ^ W = x at hp0 hp
      exact ⟨w64_id (by omega) (by omega), w64_id (by omega) (by omega)⟩
    have hrk := bw_rng (β := bP a n W) (fun q => bP_01) (a := k * W) W
    have ev : or64 (shl64 (bw (bP a n W) (8 * e) b) W) (and64 (a k) (w64 (shl64 1 W - 1))) = bw (bP a n W) (8 * e) (b + W) := by
      rw [sh1.1, sh1.2, and64_low _ W (by omega), ← sm, or64_w (by omega) hr.1 (by omega) hrk.1 hrk.2, bw_app, show 8 * (e : Int) + b = k * W by omega]
    obtain ⟨b', e', g1, g2, g3⟩ := emit_C (Q := Q) (M := M) (L := L) (a := a) (n := n) (w := W) (k := k) h0 hw (b + W) (b + W) e (by omega) (by omega) (by omega)
    rw [t135_5, if_neg (by omega), hS' k (by omega) (by omega), ev, w32_id (z := (b : Int) + W) (by omega) (by omega)]
    rw [show (b : Int) + W = ((b + W : Nat) : Int) by omega, g3, t135_7, w32_id (z := (k : Int) + 1) (by omega) (by omega)]
    refine andi (by omega) ?_
    exact ih (k + 1) b' e' (by omega) g1 (by
      have : ((k + 1 : Nat) : Int) * W = k * W + W := by rw [show ((k + 1 : Nat) : Int) = k + 1 by omega, Int.add_mul, Int.one_mul]
      rw [this]
      omega)
end Enc3
