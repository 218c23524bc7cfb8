/-! BITS of a row of bytes -/
theorem and64_low (a : Int) (n : Nat) (hn : n ≤ 62) : and64 a (2 ^ n - 1) = a % 2 ^ n := by
  have hp : (2 : Nat) ^ n ≤ 2 ^ 62 := Nat.pow_le_pow_right (by decide) hn
  have hq : 0 < (2 : Nat) ^ n := Nat.pow_pos (by decide)
  have e0 : ((2 : Int) ^ n) = ((2 ^ n : Nat) : Int) := by rw [Int.natCast_pow]; rfl
  rw [u64_and, e0]
  have hb : ((2 ^ n : Nat) : Int) ≤ 4611686018427387904 := Int.ofNat_le.mpr hp
  have e1 : ((((2 ^ n : Nat) : Int) - 1) % 18446744073709551616).toNat = 2 ^ n - 1 := by
    have : (1 : Int) ≤ ((2 ^ n : Nat) : Int) := Int.ofNat_le.mpr hq
    omega
  rw [e1, Nat.and_two_pow_sub_one_eq_mod]
  have e2 : (((a % 18446744073709551616).toNat % 2 ^ n : Nat) : Int) = a % ((2 ^ n : Nat) : Int) := by
    rw [Int.natCast_emod, Int.toNat_of_nonneg (by omega)]
    refine Int.emod_emod_of_dvd a ?_
    have : (2 ^ n : Nat) ∣ 2 ^ 64 := Nat.pow_dvd_pow 2 (by omega)
    exact Int.natCast_dvd_natCast.mpr this
  rw [e2]
  refine w64_id ?_ ?_
  · have := Int.emod_nonneg a (b := ((2 ^ n : Nat) : Int)) (by omega)
    omega
  · have := Int.emod_lt_of_pos a (b := ((2 ^ n : Nat) : Int)) (by omega)
    omega
theorem or64_8 {a b : Int} (h0 : 0 ≤ a) (h1 : a < 72057594037927936 / 2) (h2 : 0 ≤ b) (h3 : b < 256) : or64 (shl64 a 8) b = a * 256 + b := by
  have e : shl64 a 8 = a * 256 := by
    unfold shl64
    rw [show (2 : Int) ^ ((8 : Int) % 64).toNat = 256 from rfl]
    exact w64_id (by omega) (by omega)
  rw [e, u64_or]
  have e1 : (a * 256 % 18446744073709551616).toNat = 2 ^ 8 * a.toNat := by omega
  have e2 : (b % 18446744073709551616).toNat = b.toNat := by omega
  rw [e1, e2, ← Nat.two_pow_add_eq_or_of_lt (by omega)]
  rw [w64_id (by omega) (by omega)]
  omega
/-- bit q of bytes -/
def bt (g : Int → Int) (q : Int) : Int := g (q / 8) % 256 / 2 ^ (7 - q % 8).toNat % 2
theorem bt_01 (g : Int → Int) (q : Int) : bt g q = 0 ∨ bt g q = 1 := by unfold bt; omega
def bv (g : Int → Int) (a : Int) : Nat → Int
  | 0 => 0
  | n + 1 => 2 * bv g a n + bt g (a + n)
theorem bv_s {g : Int → Int} {a : Int} {n : Nat} : bv g a (n + 1) = 2 * bv g a n + bt g (a + n) := rfl
theorem bv_rng {g : Int → Int} {a : Int} : ∀ n : Nat, 0 ≤ bv g a n ∧ bv g a n < 2 ^ n
  | 0 => ⟨Int.le_refl _, (by show (0 : Int) < 1; decide)⟩
  | n + 1 => by
    have h := bv_rng (g := g) (a := a) n
    have hb := bt_01 g (a + n)
    rw [bv_s, Int.pow_succ]
    omega
theorem bv_app {g : Int → Int} {a : Int} {n : Nat} : ∀ m : Nat, bv g a (n + m) = bv g a n * 2 ^ m + bv g (a + n) m
  | 0 => by simp [bv]
  | m + 1 => by
    rw [show n + (m + 1) = n + m + 1 from rfl, bv_s, bv_app m, bv_s, Int.pow_succ, show a + ((n + m : Nat) : Int) = a + n + m by omega]
    rw [← Int.mul_assoc (bv g a n)]
    omega
theorem bv_byte {g : Int → Int} {p : Int} : bv g (8 * p) 8 = g p % 256 := by
  have e : ∀ i : Nat, i < 8 → bt g (8 * p + i) = g p % 256 / 2 ^ (7 - i) % 2 := by
    intro i hi
    unfold bt
    rw [show (8 * p + (i : Int)) / 8 = p by omega, show (7 - (8 * p + (i : Int)) % 8).toNat = 7 - i by omega]
  show 2 * (2 * (2 * (2 * (2 * (2 * (2 * (2 * 0 + bt g (8 * p + (0 : Nat))) + bt g (8 * p + (1 : Nat))) + bt g (8 * p + (2 : Nat))) + bt g (8 * p + (3 : Nat))) + bt g (8 * p + (4 : Nat))) + bt g (8 * p + (5 : Nat))) + bt g (8 * p + (6 : Nat))) + bt g (8 * p + (7 : Nat)) = _
  rw [e 0 (by decide), e 1 (by decide), e 2 (by decide), e 3 (by decide), e 4 (by decide), e 5 (by decide), e 6 (by decide), e 7 (by decide)]
  have hb : 0 ≤ g p % 256 ∧ g p % 256 < 256 := by omega
  generalize g p % 256 = b at hb
  have p7 : (2 : Int) ^ (7 - 0) = 128 := rfl
  have p6 : (2 : Int) ^ (7 - 1) = 64 := rfl
  have p5 : (2 : Int) ^ (7 - 2) = 32 := rfl
  have p4 : (2 : Int) ^ (7 - 3) = 16 := rfl
  have p3 : (2 : Int) ^ (7 - 4) = 8 := rfl
  have p2 : (2 : Int) ^ (7 - 5) = 4 := rfl
  have p1 : (2 : Int) ^ (7 - 6) = 2 := rfl
  have p0 : (2 : Int) ^ (7 - 7) = 1 := rfl
  rw [p7, p6, p5, p4, p3, p2, p1, p0]
  omega
theorem bv_top {g : Int → Int} {a : Int} {n m : Nat} : bv g a (n + m) / 2 ^ m = bv g a n ∧ bv g a (n + m) % 2 ^ m = bv g (a + n) m := by
  have h := bv_rng (g := g) (a := a + n) m
  have hp : (0 : Int) < 2 ^ m := by omega
  rw [bv_app]
  constructor
  · rw [Int.add_comm, Int.add_mul_ediv_right _ _ (by omega), Int.ediv_eq_zero_of_lt h.1 h.2, Int.zero_add]
  · rw [Int.add_comm, Int.add_mul_emod_self_right, Int.emod_eq_of_lt h.1 h.2]
theorem bv_zero {g : Int → Int} {a : Int} : ∀ n : Nat, bv g a n = 0 ↔ ∀ i : Int, 0 ≤ i → i < n → bt g (a + i) = 0
  | 0 => ⟨fun _ i h1 h2 => by omega, fun _ => rfl⟩
  | n + 1 => by
    have h := bv_rng (g := g) (a := a) n
    have hb := bt_01 g (a + n)
    rw [bv_s]
    constructor
    · intro q i h1 h2
      by_cases e : i = n
      · rw [e]; omega
      · exact (bv_zero n).mp (by omega) i h1 (by omega)
    · intro q
      have := (bv_zero (g := g) (a := a) n).mpr (fun i h1 h2 => q i h1 (by omega))
      have := q n (by omega) (by omega)
      omega
theorem bt_cg {g h : Int → Int} {q e : Int} (hq : h (e + q / 8) = g (q / 8)) : bt h (8 * e + q) = bt g q := by
  unfold bt
  rw [show (8 * e + q) / 8 = e + q / 8 by omega, show (8 * e + q) % 8 = q % 8 by omega, hq]
/-- a bit as it is taken -/
theorem bit_at {s k : Int} (h : 0 ≤ k ∧ k ≤ 7) : and32 (shr32 s k) 1 = s % 256 / 2 ^ k.toNat % 2 := by
  rw [and1]
  unfold shr32
  rcases (show k = 0 ∨ k = 1 ∨ k = 2 ∨ k = 3 ∨ k = 4 ∨ k = 5 ∨ k = 6 ∨ k = 7 by omega) with rfl | rfl | rfl | rfl | rfl | rfl | rfl | rfl
  · show s / 1 % 2 = s % 256 / 1 % 2; omega
  · show s / 2 % 2 = s % 256 / 2 % 2; omega
  · show s / 4 % 2 = s % 256 / 4 % 2; omega
  · show s / 8 % 2 = s % 256 / 8 % 2; omega
  · show s / 16 % 2 = s % 256 / 16 % 2; omega
  · show s / 32 % 2 = s % 256 / 32 % 2; omega
  · show s / 64 % 2 = s % 256 / 64 % 2; omega
  · show s / 128 % 2 = s % 256 / 128 % 2; omega
theorem rem32_nn {a b : Int} (h0 : 0 ≤ a) : rem32 a b = a % b := by unfold rem32; exact Int.tmod_eq_emod_of_nonneg h0
theorem m281 {M : Mem} {Q : AR → Mem → Prop} {x : Int} (h0 : 0 ≤ x) (h1 : x < 32000) : Tq 281 0 [vR 22 0, vI x] [] M Q ↔ Q (.inl (some (vI (bt (M 22016 0) x)))) M := by
  rw [t281_0, div32_nn (by omega) (by omega) (by omega), rem32_nn h0, w32_id (z := 7 - x % 8) (by omega) (by omega), bit_at (by omega)]
  unfold bt
  exact andi (by decide) (andi (by omega) (andi (by decide) Iff.rfl))
