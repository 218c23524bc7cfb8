/-! the logarithm, the sine -/
section Lg
variable {M : Mem} {Q : AR → Mem → Prop}
theorem ush32_nn {x k : Int} (hx : 0 ≤ x) (hx2 : x < 2147483648) (hk : 0 ≤ k) (hk2 : k < 32) : ush32 x k = x / 2 ^ k.toNat := by
  unfold ush32
  rw [show x % 4294967296 = x by omega, show k % 32 = k by omega]
  have hp : (1 : Int) ≤ 2 ^ k.toNat := Int.pow_pos (by decide)
  refine w32_id ?_ ?_
  · have := Int.ediv_nonneg hx (show (0 : Int) ≤ 2 ^ k.toNat by omega)
    omega
  · have := Int.ediv_le_self (2 ^ k.toNat) hx
    omega
theorem ush_16 {x : Int} (hx : 0 ≤ x) (hx2 : x < 2147483648) : ush32 x 16 = x / 65536 := ush32_nn hx hx2 (by decide) (by decide)
theorem ush_8 {x : Int} (hx : 0 ≤ x) (hx2 : x < 2147483648) : ush32 x 8 = x / 256 := ush32_nn hx hx2 (by decide) (by decide)
theorem ush_4 {x : Int} (hx : 0 ≤ x) (hx2 : x < 2147483648) : ush32 x 4 = x / 16 := ush32_nn hx hx2 (by decide) (by decide)
theorem ush_2 {x : Int} (hx : 0 ≤ x) (hx2 : x < 2147483648) : ush32 x 2 = x / 4 := ush32_nn hx hx2 (by decide) (by decide)
theorem ush_1 {x : Int} (hx : 0 ≤ x) (hx2 : x < 2147483648) : ush32 x 1 = x / 2 := ush32_nn hx hx2 (by decide) (by decide)
/-- the greatest power of two in a number -/
def lb (n : Int) : Int := n.toNat.log2
theorem lb_uniq {n : Int} {k : Nat} (h1 : (2 : Int) ^ k ≤ n) (h2 : n < 2 ^ (k + 1)) : lb n = k := by
  have hp : (1 : Int) ≤ 2 ^ k := Int.pow_pos (by decide)
  have e1 : ((2 : Int) ^ k) = ((2 ^ k : Nat) : Int) := by rw [Int.natCast_pow]; rfl
  have e2 : ((2 : Int) ^ (k + 1)) = ((2 ^ (k + 1) : Nat) : Int) := by rw [Int.natCast_pow]; rfl
  rw [e1] at h1
  rw [e2] at h2
  unfold lb
  have := (Nat.log2_eq_iff (n := n.toNat) (k := k) (by omega)).mpr ⟨by omega, by omega⟩
  rw [this]
theorem lb_spec {n : Int} (h : 0 < n) : ∃ k : Nat, lb n = k ∧ (2 : Int) ^ k ≤ n ∧ n < 2 ^ (k + 1) := by
  refine ⟨n.toNat.log2, rfl, ?_, ?_⟩
  · have := Nat.log2_self_le (n := n.toNat) (by omega)
    have e1 : ((2 : Int) ^ n.toNat.log2) = ((2 ^ n.toNat.log2 : Nat) : Int) := by rw [Int.natCast_pow]; rfl
    omega
  · have := Nat.lt_log2_self (n := n.toNat)
    have e1 : ((2 : Int) ^ (n.toNat.log2 + 1)) = ((2 ^ (n.toNat.log2 + 1) : Nat) : Int) := by rw [Int.natCast_pow]; rfl
    omega
theorem lb_half {n : Int} {s : Nat} (h : (2 : Int) ^ s ≤ n) : lb (n / 2 ^ s) = lb n - s := by
  have hp : (1 : Int) ≤ 2 ^ s := Int.pow_pos (by decide)
  obtain ⟨k, h1, h2, h3⟩ := lb_spec (n := n) (by omega)
  have hk : s ≤ k := by
    rcases Nat.lt_or_ge k s with hlt | hge
    · have : (2 : Int) ^ (k + 1) ≤ 2 ^ s := by
        have := Nat.pow_le_pow_right (n := 2) (by decide) (show k + 1 ≤ s by omega)
        have e1 : ((2 : Int) ^ (k + 1)) = ((2 ^ (k + 1) : Nat) : Int) := by rw [Int.natCast_pow]; rfl
        have e2 : ((2 : Int) ^ s) = ((2 ^ s : Nat) : Int) := by rw [Int.natCast_pow]; rfl
        omega
      omega
    · exact hge
  obtain ⟨d, rfl⟩ := Nat.le.dest hk
  rw [h1, @lb_uniq (n / 2 ^ s) d]
  · omega
  · rw [Int.le_ediv_iff_mul_le (by omega), ← Int.pow_add, Nat.add_comm]
    exact h2
  · rw [Int.ediv_lt_iff_lt_mul (by omega), ← Int.pow_add, show d + 1 + s = s + d + 1 by omega]
    exact h3
theorem m6_7 {x n : Int} (h1 : 1 ≤ x) (h2 : x < 4) (hn : 0 ≤ n) (hn2 : n ≤ 31) : Tq 6 7 [vI x, vI n] [] M Q ↔ Q (.inl (some (vI (n - lb x)))) M := by
  rw [t6_7, ush_1 (by omega) (by omega), w32_id (by omega) (by omega)]
  rcases (show x = 1 ∨ x = 2 ∨ x = 3 by omega) with rfl | rfl | rfl <;> rfl
theorem m6_6 {x n : Int} (h1 : 1 ≤ x) (h2 : x < 16) (hn : 2 ≤ n) (hn2 : n ≤ 31) : Tq 6 6 [vI x, vI n] [] M Q ↔ Q (.inl (some (vI (n - lb x)))) M := by
  rw [t6_6]
  by_cases h : x < 4
  · rw [if_pos h, m6_7 h1 h (by omega) hn2]
  · have e := @lb_half x 2 (by show (4 : Int) ≤ x; omega)
    rw [if_neg h, ush_2 (by omega) (by omega), w32_id (by omega) (by omega), m6_7 (by omega) (by omega) (by omega) (by omega)]
    rw [show x / 4 = x / 2 ^ 2 from rfl, e, show n + -2 - (lb x - (2 : Nat)) = n - lb x by omega]
theorem m6_5 {x n : Int} (h1 : 1 ≤ x) (h2 : x < 256) (hn : 6 ≤ n) (hn2 : n ≤ 31) : Tq 6 5 [vI x, vI n] [] M Q ↔ Q (.inl (some (vI (n - lb x)))) M := by
  rw [t6_5]
  by_cases h : x < 16
  · rw [if_pos h, m6_6 h1 h (by omega) hn2]
  · have e := @lb_half x 4 (by show (16 : Int) ≤ x; omega)
    rw [if_neg h, ush_4 (by omega) (by omega), w32_id (by omega) (by omega), m6_6 (by omega) (by omega) (by omega) (by omega)]
    rw [show x / 16 = x / 2 ^ 4 from rfl, e, show n + -4 - (lb x - (4 : Nat)) = n - lb x by omega]
theorem m6_4 {x n : Int} (h1 : 1 ≤ x) (h2 : x < 65536) (hn : 14 ≤ n) (hn2 : n ≤ 31) : Tq 6 4 [vI x, vI n] [] M Q ↔ Q (.inl (some (vI (n - lb x)))) M := by
  rw [t6_4]
  by_cases h : x < 256
  · rw [if_pos h, m6_5 h1 h (by omega) hn2]
  · have e := @lb_half x 8 (by show (256 : Int) ≤ x; omega)
    rw [if_neg h, ush_8 (by omega) (by omega), w32_id (by omega) (by omega), m6_5 (by omega) (by omega) (by omega) (by omega)]
    rw [show x / 256 = x / 2 ^ 8 from rfl, e, show n + -8 - (lb x - (8 : Nat)) = n - lb x by omega]
theorem m6 {x : Int} (h1 : 1 ≤ x) (h2 : x < 2147483648) : Tq 6 0 [vI x, vJ] [] M Q ↔ Q (.inl (some (vI (31 - lb x)))) M := by
  rw [t6_0, if_pos (by omega), t6_3]
  by_cases h : x < 65536
  · rw [if_pos h, m6_4 h1 h (by decide) (by decide)]
  · have e := @lb_half x 16 (by show (65536 : Int) ≤ x; omega)
    rw [if_neg h, ush_16 (by omega) (by omega), w32_id (by omega) (by omega), m6_4 (by omega) (by omega) (by decide) (by decide)]
    rw [show x / 65536 = x / 2 ^ 16 from rfl, e, show (31 : Int) + -16 - (lb x - (16 : Nat)) = 31 - lb x by omega]
theorem m6_neg {x : Int} (h1 : x < 0) : Tq 6 0 [vI x, vJ] [] M Q ↔ Q (.inl (some (vI 0))) M := by
  rw [t6_0, if_neg (by omega), if_pos (by omega), t6_1, t6_2]
theorem ush64_32 {x : Int} (hx : 0 ≤ x) (hx2 : x < 9223372036854775808) : ush64 x 32 = x / 4294967296 := by
  unfold ush64
  rw [show x % 18446744073709551616 = x by omega]
  show w64 (x / 4294967296) = _
  exact w64_id (by omega) (by omega)
theorem m15 {x : Int} (h1 : 1 ≤ x) (h2 : x < 9223372036854775808) : Tq 15 0 [vL x, vJ, vJ] [] M Q ↔ Q (.inl (some (vI (63 - lb x)))) M := by
  rw [t15_0, ush64_32 (by omega) h2, w32_id (z := x / 4294967296) (by omega) (by omega)]
  by_cases h : x / 4294967296 = 0
  · rw [if_neg (by simpa using h)]
    by_cases hs : x < 2147483648
    · have hl : 0 ≤ lb x ∧ lb x ≤ 30 := by
        obtain ⟨k, k1, k2, k3⟩ := lb_spec (n := x) (by omega)
        rw [k1]
        refine ⟨by omega, ?_⟩
        rcases Nat.lt_or_ge 30 k with hk | hk
        · have : (2 : Int) ^ 31 ≤ 2 ^ k := by
            have := Nat.pow_le_pow_right (n := 2) (by decide) (show 31 ≤ k by omega)
            have e2 : ((2 : Int) ^ k) = ((2 ^ k : Nat) : Int) := by rw [Int.natCast_pow]; rfl
            omega
          omega
        · omega
      rw [w32_id (z := x) (by omega) (by omega), m6 h1 hs, kI_v, t15_2, w32_id (by omega) (by omega), show (32 : Int) + (31 - lb x) = 63 - lb x by omega]
    · have e : lb x = 31 := @lb_uniq x 31 (by show (2147483648 : Int) ≤ x; omega) (by show x < 4294967296; omega)
      rw [w32_eq (a := x) (b := x - 4294967296) ⟨1, by omega⟩ (by omega) (by omega), m6_neg (by omega), kI_v, t15_2, e]
      rfl
  · have e := @lb_half x 32 (by show (4294967296 : Int) ≤ x; omega)
    rw [if_pos h, t15_1, m6 (by omega) (by omega), kI_v, t15_2, show x / 4294967296 = x / 2 ^ 32 from rfl, e, show (31 : Int) - (lb x - (32 : Nat)) = 63 - lb x by omega]
theorem lb_rng {x : Int} (h1 : 1 ≤ x) (h2 : x < 9223372036854775808) : 0 ≤ lb x ∧ lb x ≤ 62 := by
  obtain ⟨k, k1, k2, k3⟩ := lb_spec (n := x) (by omega)
  rw [k1]
  refine ⟨by omega, ?_⟩
  rcases Nat.lt_or_ge 62 k with hk | hk
  · have : (2 : Int) ^ 63 ≤ 2 ^ k := by
      have := Nat.pow_le_pow_right (n := 2) (by decide) (show 63 ≤ k by omega)
      have e2 : ((2 : Int) ^ k) = ((2 ^ k : Nat) : Int) := by rw [Int.natCast_pow]; rfl
      omega
    omega
  · omega
/-- the bits behind the point -/
def lgl : Nat → Int → Int → Int
  | 0, _, b => b
  | n + 1, m, b => if shr64 (w64 (m * m)) 30 < 2147483648 then lgl n (shr64 (w64 (m * m)) 30) (w32 (2 * b)) else lgl n (shr64 (shr64 (w64 (m * m)) 30) 1) (w32 (w32 (2 * b) + 1))
def lgm (n : Int) : Int := if lb n ≤ 30 then shl64 n (30 - lb n) else shr64 n (lb n - 30)
def lgv (n : Int) : Int := w32 (w32 (256 * lb n) + lgl 8 (lgm n) 0)
theorem shr64_0 (x : Int) : shr64 x 0 = x := by
  show x / 1 = x
  exact Int.ediv_one x
theorem m53_3 {b : Int} : ∀ (n : Nat) (k m t : Int), k + n = 8 → 0 ≤ k → -2147483648 ≤ t → t < 2147483648 → (Tq 53 3 [vJ, vJ, vI b, vL m, vJ, vI t, vI k, vJ] [] M Q ↔ Q (.inl (some (vI (w32 (w32 (256 * b) + lgl n m t))))) M)
  | 0, k, m, t, h1, h2, _, _ => by
    rw [t53_3, if_pos (by omega), t53_6]
    rfl
  | n + 1, k, m, t, h1, h2, h3, h4 => by
    rw [t53_3, if_neg (by omega)]
    simp only [kI_v, kL_v, kV_v, kR_v, kX_n, kX_e, bd_e, b2i_e0, b2i_e1, b2i_nb, nb_0, nb_1, cmp_lt, cmp_le, cmp_gt, cmp_ge, cmp_eq, not_true_eq_false, not_false_eq_true, if_true, if_false, ite_true, ite_false, true_and, and_true, false_and, and_false, Int.reduceLT, Int.reduceLE, Int.reduceEq, Int.reduceSub, Int.reduceAdd, Int.reduceNeg, Int.reduceMul, Classical.not_not, Int.zero_add, Int.add_zero, Int.le_refl, t53_4, t53_5, shr64_0, w32_w32]
    have hr := w32_rng (2 * t)
    have hr2 := w32_rng (w32 (2 * t) + 1)
    rw [w32_id (z := k + 1) (by omega) (by omega)]
    show _ ↔ Q (.inl (some (vI (w32 (w32 (256 * b) + (if shr64 (w64 (m * m)) 30 < 2147483648 then lgl n (shr64 (w64 (m * m)) 30) (w32 (2 * t)) else lgl n (shr64 (shr64 (w64 (m * m)) 30) 1) (w32 (w32 (2 * t) + 1)))))))) M
    by_cases h : shr64 (w64 (m * m)) 30 < 2147483648
    · rw [if_pos h, if_pos h, m53_3 n (k + 1) _ _ (by omega) (by omega) hr.1 hr.2]
    · rw [if_neg h, if_neg h, m53_3 n (k + 1) _ _ (by omega) (by omega) hr2.1 hr2.2]
theorem m53 {n : Int} (h1 : 1 ≤ n) (h2 : n < 9223372036854775808) : Tq 53 0 [vL n, vJ, vJ, vJ, vJ, vJ, vJ, vJ] [] M Q ↔ Q (.inl (some (vI (lgv n)))) M := by
  have hr := lb_rng h1 h2
  rw [t53_0, m15 h1 h2, kI_v, show (63 : Int) - (63 - lb n) = lb n by omega, w32_id (z := lb n) (by omega) (by omega), w32_id (z := lb n - 30) (by omega) (by omega)]
  unfold lgv lgm
  by_cases h : lb n ≤ 30
  · rw [if_pos h, if_pos h, t53_1, t53_2, w32_id (z := 30 - lb n) (by omega) (by omega), m53_3 8 0 _ _ (by decide) (by decide) (by decide) (by decide)]
  · rw [if_neg h, if_neg h, t53_2, m53_3 8 0 _ _ (by decide) (by decide) (by decide) (by decide)]
theorem m305_5 {b : Int} : ∀ (n : Nat) (k m t : Int), k + n = 8 → 0 ≤ k → -2147483648 ≤ t → t < 2147483648 → (Tq 305 5 [vJ, vJ, vI b, vL m, vJ, vI t, vI k] [] M Q ↔ Q (.inl (some (vI (w32 (w32 (256 * b) + lgl n m t))))) M)
  | 0, k, m, t, h1, h2, _, _ => by
    rw [t305_5, if_pos (by omega), t305_7]
    rfl
  | n + 1, k, m, t, h1, h2, h3, h4 => by
    rw [t305_5, if_neg (by omega)]
    simp only [kI_v, kL_v, kV_v, kR_v, kX_n, kX_e, bd_e, b2i_e0, b2i_e1, b2i_nb, nb_0, nb_1, cmp_lt, cmp_le, cmp_gt, cmp_ge, cmp_eq, not_true_eq_false, not_false_eq_true, if_true, if_false, ite_true, ite_false, true_and, and_true, false_and, and_false, Int.reduceLT, Int.reduceLE, Int.reduceEq, Int.reduceSub, Int.reduceAdd, Int.reduceNeg, Int.reduceMul, Classical.not_not, Int.zero_add, Int.add_zero, Int.le_refl, t305_6]
    rw [Int.mul_comm t 2]
    have hr := w32_rng (2 * t)
    have hr2 := w32_rng (w32 (2 * t) + 1)
    rw [w32_id (z := k + 1) (by omega) (by omega)]
    show _ ↔ Q (.inl (some (vI (w32 (w32 (256 * b) + (if shr64 (w64 (m * m)) 30 < 2147483648 then lgl n (shr64 (w64 (m * m)) 30) (w32 (2 * t)) else lgl n (shr64 (shr64 (w64 (m * m)) 30) 1) (w32 (w32 (2 * t) + 1)))))))) M
    by_cases h : shr64 (w64 (m * m)) 30 < 2147483648
    · rw [if_pos h, if_pos h, m305_5 n (k + 1) _ _ (by omega) (by omega) hr.1 hr.2]
    · rw [if_neg h, if_neg h, m305_5 n (k + 1) _ _ (by omega) (by omega) hr2.1 hr2.2]
theorem shr64_lb {n b : Int} (hn : 1 ≤ n) (hb : 0 ≤ b) (hb2 : b ≤ 62) : shr64 n b ≤ 1 ↔ lb n ≤ b := by
  unfold shr64
  rw [show b % 64 = b by omega]
  have hp : (1 : Int) ≤ 2 ^ b.toNat := Int.pow_pos (by decide)
  obtain ⟨k, k1, k2, k3⟩ := lb_spec (n := n) (by omega)
  rw [k1, show (n / 2 ^ b.toNat ≤ 1) ↔ (n / 2 ^ b.toNat < 2) by omega, Int.ediv_lt_iff_lt_mul (by omega)]
  have e : (2 : Int) * 2 ^ b.toNat = 2 ^ (b.toNat + 1) := by rw [Int.pow_succ, Int.mul_comm]
  rw [e]
  have mono : ∀ a c : Nat, a ≤ c → (2 : Int) ^ a ≤ 2 ^ c := by
    intro a c hac
    have := Nat.pow_le_pow_right (n := 2) (by decide) hac
    have e1 : ((2 : Int) ^ a) = ((2 ^ a : Nat) : Int) := by rw [Int.natCast_pow]; rfl
    have e2 : ((2 : Int) ^ c) = ((2 ^ c : Nat) : Int) := by rw [Int.natCast_pow]; rfl
    omega
  constructor
  · intro h
    rcases Nat.lt_or_ge b.toNat k with hk | hk
    · have := mono (b.toNat + 1) k (by omega)
      omega
    · omega
  · intro h
    have := mono (k + 1) (b.toNat + 1) (by omega)
    omega
theorem m305_1 {n : Int} (h1 : 1 ≤ n) (h2 : n < 9223372036854775808) : ∀ (d : Nat) (b : Int), 0 ≤ b → lb n = b + d → (Tq 305 1 [vL n, vJ, vI b, vJ, vJ, vJ, vJ] [] M Q ↔ Tq 305 2 [vL n, vJ, vI (lb n), vJ, vJ, vJ, vJ] [] M Q) := by
  have hr := lb_rng h1 h2
  intro d
  induction d with
  | zero =>
    intro b hb hd
    rw [t305_1, if_pos (cmp_le.mpr ((shr64_lb h1 hb (by omega)).mpr (by omega))), show b = lb n by omega]
  | succ d ih =>
    intro b hb hd
    rw [t305_1, if_neg (fun q => by have := (shr64_lb h1 hb (by omega)).mp (cmp_le.mp q); omega), w32_id (by omega) (by omega)]
    exact ih (b + 1) (by omega) (by omega)
theorem m305 {n : Int} (h1 : 1 ≤ n) (h2 : n < 9223372036854775808) : Tq 305 0 [vL n, vJ, vJ, vJ, vJ, vJ, vJ] [] M Q ↔ Q (.inl (some (vI (lgv n)))) M := by
  have hr := lb_rng h1 h2
  rw [t305_0, m305_1 h1 h2 (lb n).toNat 0 (by omega) (by omega), t305_2, w32_id (z := lb n - 30) (by omega) (by omega)]
  unfold lgv lgm
  by_cases h : lb n ≤ 30
  · rw [if_pos h, if_pos h, t305_3, t305_4, w32_id (z := 30 - lb n) (by omega) (by omega), m305_5 8 0 _ _ (by decide) (by decide) (by decide) (by decide)]
  · rw [if_neg h, if_neg h, t305_4, m305_5 8 0 _ _ (by decide) (by decide) (by decide) (by decide)]
theorem lgl_rng : ∀ (n : Nat) (m b : Int), 0 ≤ b → b ≤ 255 → (b + 1) * 2 ^ n ≤ 256 → 0 ≤ lgl n m b ∧ lgl n m b ≤ 255
  | 0, _, _, h1, h2, _ => ⟨h1, h2⟩
  | n + 1, m, b, h1, h2, h3 => by
    have hp : (1 : Int) ≤ 2 ^ n := Int.pow_pos (by decide)
    have h4 : (b + 1) * 2 ^ (n + 1) = (2 * b + 2) * 2 ^ n := by rw [Int.pow_succ]; grind
    rw [h4] at h3
    have h5 : 2 * b + 2 ≤ (2 * b + 2) * 2 ^ n := by
      have := Int.mul_le_mul_of_nonneg_left hp (show 0 ≤ 2 * b + 2 by omega)
      omega
    have h6 : (2 * b + 1) * 2 ^ n ≤ (2 * b + 2) * 2 ^ n := Int.mul_le_mul_of_nonneg_right (by omega) (by omega)
    unfold lgl
    rw [w32_id (z := 2 * b) (by omega) (by omega), w32_id (z := 2 * b + 1) (by omega) (by omega)]
    split
    · exact lgl_rng n _ _ (by omega) (by omega) (by omega)
    · refine lgl_rng n _ _ (by omega) (by omega) ?_
      rw [show 2 * b + 1 + 1 = 2 * b + 2 by omega]
      omega
theorem lgv_rng {n : Int} (h1 : 1 ≤ n) (h2 : n < 9223372036854775808) : 0 ≤ lgv n ∧ lgv n ≤ 16127 := by
  have hr := lb_rng h1 h2
  have hl := lgl_rng 8 (lgm n) 0 (by decide) (by decide) (by decide)
  unfold lgv
  rw [w32_id (z := 256 * lb n) (by omega) (by omega), w32_id (by omega) (by omega)]
  omega
/-! the sine -/
theorem nat_bit (n k : Nat) : n &&& 2 ^ k = n / 2 ^ k % 2 * 2 ^ k := by
  have hb : n.testBit k = decide (n / 2 ^ k % 2 = 1) := Nat.testBit_eq_decide_div_mod_eq
  have hlt : n / 2 ^ k % 2 < 2 := Nat.mod_lt _ (by decide)
  rcases (show n / 2 ^ k % 2 = 0 ∨ n / 2 ^ k % 2 = 1 by omega) with h | h
  · rw [h, Nat.zero_mul]
    refine Nat.eq_of_testBit_eq (fun i => ?_)
    rw [Nat.testBit_and, Nat.testBit_two_pow, Nat.zero_testBit]
    by_cases hi : k = i
    · rw [← hi, hb, h]
      rfl
    · rw [decide_eq_false hi, Bool.and_false]
  · rw [h, Nat.one_mul]
    refine Nat.eq_of_testBit_eq (fun i => ?_)
    rw [Nat.testBit_and, Nat.testBit_two_pow]
    by_cases hi : k = i
    · rw [← hi, hb, h]
      rfl
    · rw [decide_eq_false hi, Bool.and_false]
theorem and_bit15 (a : Int) : and32 a 32768 = a / 32768 % 2 * 32768 := by
  rw [u32_and, show ((32768 : Int) % 4294967296).toNat = 2 ^ 15 from rfl, nat_bit]
  rw [show (2 : Nat) ^ 15 = 32768 from rfl, w32_id (by omega) (by omega)]
  omega
def sinp (u : Int) : Int := w64 (u % 32768 * w64 (32768 - u % 32768))
def sins (u : Int) : Int := w32 (div64 (w64 (524272 * sinp u)) (w64 (5368709120 - w64 (4 * sinp u))))
def sinv (u : Int) : Int := if u / 32768 % 2 = 0 then sins u else w32 (-sins u)
theorem sinp_rng (u : Int) : 0 ≤ sinp u ∧ sinp u ≤ 1073709056 := by
  unfold sinp
  have h1 : 0 ≤ u % 32768 ∧ u % 32768 ≤ 32767 := by omega
  have h2 : u % 32768 * (32768 - u % 32768) ≤ 32767 * 32768 := Int.mul_le_mul (by omega) (by omega) (by omega) (by omega)
  have h3 : 0 ≤ u % 32768 * (32768 - u % 32768) := Int.mul_nonneg (by omega) (by omega)
  rw [w64_id (z := 32768 - u % 32768) (by omega) (by omega), w64_id (by omega) (by omega)]
  omega
theorem sin_den (u : Int) : ¬ w64 (5368709120 - w64 (4 * sinp u)) = 0 := by
  have := sinp_rng u
  rw [w64_id (z := 4 * sinp u) (by omega) (by omega), w64_id (by omega) (by omega)]
  omega
theorem m77 {u : Int} : Tq 77 0 [vI u, vJ, vJ, vJ, vJ, vJ] [] M Q ↔ Q (.inl (some (vI (sinv u)))) M := by
  simp only [kI_v, kL_v, kV_v, kR_v, kX_n, kX_e, bd_e, b2i_e0, b2i_e1, b2i_nb, nb_0, nb_1, cmp_lt, cmp_le, cmp_gt, cmp_ge, cmp_eq, not_true_eq_false, not_false_eq_true, if_true, if_false, ite_true, ite_false, true_and, and_true, false_and, and_false, Int.reduceLT, Int.reduceLE, Int.reduceEq, Int.reduceSub, Int.reduceAdd, Int.reduceNeg, Int.reduceMul, Classical.not_not, Int.zero_add, Int.add_zero, Int.le_refl, t77_0, t77_1, t77_2, and32767, and_bit15]
  have hd := sin_den u
  unfold sinv sins
  unfold sinp at hd ⊢
  rw [and_iff_right hd]
  by_cases h : u / 32768 % 2 = 0
  · rw [if_neg (by simp [h]), if_pos h]
  · rw [if_pos (by omega), if_neg h]
theorem m244 {u : Int} : Tq 244 0 [vI u, vJ, vJ, vJ, vJ, vJ, vJ] [] M Q ↔ Q (.inl (some (vI (sinv u)))) M := by
  have e : rem32 (u % 65536) 32768 = u % 32768 := by
    unfold rem32
    rw [Int.tmod_eq_emod_of_nonneg (by omega)]
    omega
  simp only [kI_v, kL_v, kV_v, kR_v, kX_n, kX_e, bd_e, b2i_e0, b2i_e1, b2i_nb, nb_0, nb_1, cmp_lt, cmp_le, cmp_gt, cmp_ge, cmp_eq, not_true_eq_false, not_false_eq_true, if_true, if_false, ite_true, ite_false, true_and, and_true, false_and, and_false, Int.reduceLT, Int.reduceLE, Int.reduceEq, Int.reduceSub, Int.reduceAdd, Int.reduceNeg, Int.reduceMul, Classical.not_not, Int.zero_add, Int.add_zero, Int.le_refl, t244_0, t244_1, t244_2, and65535, e]
  have hd := sin_den u
  unfold sinv sins
  unfold sinp at hd ⊢
  rw [and_iff_right hd]
  by_cases h : u / 32768 % 2 = 0
  · rw [if_pos (by omega), if_pos h]
  · rw [if_neg (by omega), if_neg h]
end Lg
