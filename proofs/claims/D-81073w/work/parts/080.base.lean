/-! THE PURE LEVEL: words for contracts -/
def b2i (p : Prop) [Decidable p] : Int := if p then 1 else 0
theorem b2i_t {p : Prop} [Decidable p] (h : p) : b2i p = 1 := if_pos h
theorem b2i_f {p : Prop} [Decidable p] (h : ¬ p) : b2i p = 0 := if_neg h
theorem b2i_e0 {p : Prop} [Decidable p] : (b2i p = 0) ↔ ¬ p := by unfold b2i; split <;> simp_all
theorem b2i_e1 {p : Prop} [Decidable p] : (b2i p = 1) ↔ p := by unfold b2i; split <;> simp_all
theorem b2i_nb {p : Prop} [Decidable p] : nb (b2i p) = b2i p := by unfold b2i nb; split <;> rfl
theorem b2i_01 {p : Prop} [Decidable p] : b2i p = 0 ∨ b2i p = 1 := by unfold b2i; split <;> simp
theorem b2i_cg {p q : Prop} [Decidable p] [Decidable q] (h : p ↔ q) : b2i p = b2i q := by
  unfold b2i; by_cases hp : p
  · rw [if_pos hp, if_pos (h.mp hp)]
  · rw [if_neg hp, if_neg (fun hq => hp (h.mpr hq))]
theorem b2i_rng {p : Prop} [Decidable p] : 0 ≤ b2i p ∧ b2i p ≤ 1 := by unfold b2i; split <;> simp
theorem nb_0 : nb 0 = 0 := rfl
theorem nb_1 : nb 1 = 1 := rfl
theorem nb_id {z : Int} (h : z = 0 ∨ z = 1) : nb z = z := by rcases h with rfl | rfl <;> rfl
theorem kI_v {K : Int → Mem → Prop} {x : Int} {M : Mem} : kI K (.inl (some (.inl x))) M ↔ K x M := Iff.rfl
theorem kL_v {K : Int → Mem → Prop} {x : Int} {M : Mem} : kL K (.inl (some (.inr (.inl x)))) M ↔ K x M := Iff.rfl
theorem kV_v {K : Mem → Prop} {M : Mem} : kV K (.inl none) M ↔ K M := Iff.rfl
theorem kR_v {f : Nat} {K : Int → Mem → Prop} {x : Int} {M : Mem} : kR f K (.inl (some (.inr (.inr (f, x))))) M ↔ K x M := by unfold kR; simp
theorem kX_n {E : Int → Mem → Prop} {N : AR → Mem → Prop} {v : Option AV} {M : Mem} : kX E N (.inl v) M ↔ N (.inl v) M := Iff.rfl
theorem kX_e {E : Int → Mem → Prop} {N : AR → Mem → Prop} {e : Int} {M : Mem} : kX E N (.inr e) M ↔ E e M := Iff.rfl
/-- one function, changed at a place -/
def fup (g : Int → Int) (k v : Int) : Int → Int := fun j => if j = k then v else g j
theorem fup_at {g : Int → Int} {k v j : Int} : fup g k v j = if j = k then v else g j := rfl
theorem fup_eq {g : Int → Int} {k v : Int} : fup g k v k = v := if_pos rfl
theorem fup_ne {g : Int → Int} {k v j : Int} (h : ¬ j = k) : fup g k v j = g j := if_neg h
theorem mset_3 {M : Mem} {f : Nat} {i k v : Int} {f' : Nat} {i' k' : Int} : mset M f i k v f' i' k' = if f' = f ∧ i' = i ∧ k' = k then v else M f' i' k' := by
  unfold mset
  by_cases h1 : f' = f
  · by_cases h2 : i' = i
    · by_cases h3 : k' = k
      · simp [h1, h2, h3]
      · simp [h1, h2, h3]
    · simp [h1, h2]
  · simp [h1]
theorem mset_o {M : Mem} {f : Nat} {i k v : Int} {f' : Nat} {i' : Int} (h : ¬ (f' = f ∧ i' = i)) : mset M f i k v f' i' = M f' i' := by
  funext k'
  rw [mset_3]
  exact if_neg (fun q => h ⟨q.1, q.2.1⟩)
theorem mset_f {M : Mem} {f : Nat} {i k v : Int} {f' : Nat} (h : ¬ f' = f) : mset M f i k v f' = M f' := by
  funext i'
  exact mset_o (fun q => h q.1)
theorem mset_s {M : Mem} {f : Nat} {i k v : Int} : mset M f i k v f i = fup (M f i) k v := by
  funext k'
  rw [mset_3]
  unfold fup
  by_cases h : k' = k <;> simp [h]
theorem mset_2 {M : Mem} {f : Nat} {i k v : Int} {f' : Nat} {i' : Int} : mset M f i k v f' i' = if f' = f ∧ i' = i then fup (M f i) k v else M f' i' := by
  by_cases h : f' = f ∧ i' = i
  · rw [if_pos h, h.1, h.2, mset_s]
  · rw [if_neg h, mset_o h]
/-- a whole array's row, changed -/
def mrow (M : Mem) (f : Nat) (i : Int) (g : Int → Int) : Mem := fun f' => if f' = f then (fun i' => if i' = i then g else M f i') else M f'
theorem mrow_2 {M : Mem} {f : Nat} {i : Int} {g : Int → Int} {f' : Nat} {i' : Int} : mrow M f i g f' i' = if f' = f ∧ i' = i then g else M f' i' := by
  unfold mrow
  by_cases h1 : f' = f
  · by_cases h2 : i' = i <;> simp [h1, h2]
  · simp [h1]
theorem mset_row {M : Mem} {f : Nat} {i k v : Int} : mset M f i k v = mrow M f i (fup (M f i) k v) := by
  funext f' i'
  rw [mset_2, mrow_2]
theorem mrow_row {M : Mem} {f : Nat} {i : Int} {g g' : Int → Int} : mrow (mrow M f i g) f i g' = mrow M f i g' := by
  funext f' i'
  simp only [mrow_2]
  split <;> rfl
theorem mset_mrow {M : Mem} {f : Nat} {i k v : Int} {g : Int → Int} : mset (mrow M f i g) f i k v = mrow M f i (fup g k v) := by
  rw [mset_row, mrow_row, mrow_2, if_pos ⟨rfl, rfl⟩]
theorem mrow_self {M : Mem} {f : Nat} {i : Int} : mrow M f i (M f i) = M := by
  funext f' i'
  rw [mrow_2]
  split
  · rename_i h; rw [h.1, h.2]
  · rfl
theorem mcpy_row {M : Mem} {f : Nat} {i sp : Int} {g : Nat} {j dp n : Int} : mcpy M f i sp g j dp n = mrow M g j (fun k => if dp ≤ k ∧ k < dp + n then M f i (sp + (k - dp)) else M g j k) := by
  funext f' i'
  rw [mrow_2]
  unfold mcpy
  by_cases h1 : f' = g
  · by_cases h2 : i' = j <;> simp [h1, h2]
  · simp [h1]
theorem mrow_comm {M : Mem} {f f' : Nat} {i i' : Int} {g g' : Int → Int} (h : ¬ (f = f' ∧ i = i')) : mrow (mrow M f i g) f' i' g' = mrow (mrow M f' i' g') f i g := by
  funext a b
  simp only [mrow_2]
  by_cases h1 : a = f' ∧ b = i'
  · rw [if_pos h1]
    by_cases h2 : a = f ∧ b = i
    · exact absurd ⟨h2.1.symm.trans h1.1, h2.2.symm.trans h1.2⟩ h
    · rw [if_neg h2, if_pos h1]
  · rw [if_neg h1, if_neg h1]
theorem cmp_lt {a b : Int} : cmp64 a b < 0 ↔ a < b := by unfold cmp64; split <;> (try split) <;> omega
theorem cmp_le {a b : Int} : cmp64 a b ≤ 0 ↔ a ≤ b := by unfold cmp64; split <;> (try split) <;> omega
theorem cmp_gt {a b : Int} : 0 < cmp64 a b ↔ b < a := by unfold cmp64; split <;> (try split) <;> omega
theorem cmp_ge {a b : Int} : 0 ≤ cmp64 a b ↔ b ≤ a := by unfold cmp64; split <;> (try split) <;> omega
theorem cmp_eq {a b : Int} : cmp64 a b = 0 ↔ a = b := by unfold cmp64; split <;> (try split) <;> omega
/-! bits -/
theorem u32_and (a b : Int) : and32 a b = w32 (((a % 4294967296).toNat &&& (b % 4294967296).toNat : Nat) : Int) := by
  unfold and32
  refine i32_bv _ _ ?_
  have e : ∀ z : Int, (Int32.ofInt z).toBitVec.toNat = (z % 4294967296).toNat := fun z => by
    show (BitVec.ofInt 32 z).toNat = _
    rw [BitVec.toNat_ofInt]
    rfl
  rw [show (Int32.ofInt a &&& Int32.ofInt b).toBitVec = (Int32.ofInt a).toBitVec &&& (Int32.ofInt b).toBitVec from rfl, BitVec.toNat_and, e, e]
  refine (Nat.mod_eq_of_lt ?_).symm
  exact Nat.lt_of_le_of_lt Nat.and_le_left (by omega)
theorem u32_or (a b : Int) : or32 a b = w32 (((a % 4294967296).toNat ||| (b % 4294967296).toNat : Nat) : Int) := by
  unfold or32
  refine i32_bv _ _ ?_
  have e : ∀ z : Int, (Int32.ofInt z).toBitVec.toNat = (z % 4294967296).toNat := fun z => by
    show (BitVec.ofInt 32 z).toNat = _
    rw [BitVec.toNat_ofInt]
    rfl
  rw [show (Int32.ofInt a ||| Int32.ofInt b).toBitVec = (Int32.ofInt a).toBitVec ||| (Int32.ofInt b).toBitVec from rfl, BitVec.toNat_or, e, e]
  refine (Nat.mod_eq_of_lt ?_).symm
  exact Nat.or_lt_two_pow (n := 32) (by omega) (by omega)
theorem u64_and (a b : Int) : and64 a b = w64 (((a % 18446744073709551616).toNat &&& (b % 18446744073709551616).toNat : Nat) : Int) := by
  unfold and64
  refine i64_bv _ _ ?_
  have e : ∀ z : Int, (Int64.ofInt z).toBitVec.toNat = (z % 18446744073709551616).toNat := fun z => by
    show (BitVec.ofInt 64 z).toNat = _
    rw [BitVec.toNat_ofInt]
    rfl
  rw [show (Int64.ofInt a &&& Int64.ofInt b).toBitVec = (Int64.ofInt a).toBitVec &&& (Int64.ofInt b).toBitVec from rfl, BitVec.toNat_and, e, e]
  refine (Nat.mod_eq_of_lt ?_).symm
  exact Nat.lt_of_le_of_lt Nat.and_le_left (by omega)
theorem u64_or (a b : Int) : or64 a b = w64 (((a % 18446744073709551616).toNat ||| (b % 18446744073709551616).toNat : Nat) : Int) := by
  unfold or64
  refine i64_bv _ _ ?_
  have e : ∀ z : Int, (Int64.ofInt z).toBitVec.toNat = (z % 18446744073709551616).toNat := fun z => by
    show (BitVec.ofInt 64 z).toNat = _
    rw [BitVec.toNat_ofInt]
    rfl
  rw [show (Int64.ofInt a ||| Int64.ofInt b).toBitVec = (Int64.ofInt a).toBitVec ||| (Int64.ofInt b).toBitVec from rfl, BitVec.toNat_or, e, e]
  refine (Nat.mod_eq_of_lt ?_).symm
  exact Nat.or_lt_two_pow (n := 64) (by omega) (by omega)
/-- the low n bits -/
theorem and32_low (a : Int) (n : Nat) (hn : n ≤ 31) : and32 a (2 ^ n - 1) = a % 2 ^ n := by
  have hp : (2 : Nat) ^ n ≤ 2 ^ 31 := Nat.pow_le_pow_right (by decide) hn
  have hq : 0 < (2 : Nat) ^ n := Nat.pow_pos (by decide)
  have e0 : ((2 : Int) ^ n) = ((2 ^ n : Nat) : Int) := by rw [Int.natCast_pow]; rfl
  rw [u32_and, e0]
  have e1 : ((((2 ^ n : Nat) : Int) - 1) % 4294967296).toNat = 2 ^ n - 1 := by
    have : ((2 ^ n : Nat) : Int) ≤ 2147483648 := Int.ofNat_le.mpr hp
    have : (1 : Int) ≤ ((2 ^ n : Nat) : Int) := Int.ofNat_le.mpr hq
    omega
  rw [e1, Nat.and_two_pow_sub_one_eq_mod]
  have e2 : (((a % 4294967296).toNat % 2 ^ n : Nat) : Int) = a % ((2 ^ n : Nat) : Int) := by
    rw [Int.natCast_emod, Int.toNat_of_nonneg (by omega)]
    refine Int.emod_emod_of_dvd a ?_
    have : (2 ^ n : Nat) ∣ 2 ^ 32 := Nat.pow_dvd_pow 2 (by omega)
    exact Int.natCast_dvd_natCast.mpr this
  rw [e2]
  refine w32_id ?_ ?_
  · have := Int.emod_nonneg a (b := ((2 ^ n : Nat) : Int)) (by omega)
    omega
  · have := Int.emod_lt_of_pos a (b := ((2 ^ n : Nat) : Int)) (by omega)
    have : ((2 ^ n : Nat) : Int) ≤ 2147483648 := Int.ofNat_le.mpr hp
    omega
theorem and255 (a : Int) : and32 a 255 = a % 256 := and32_low a 8 (by decide)
theorem and63 (a : Int) : and32 a 63 = a % 64 := and32_low a 6 (by decide)
theorem and3 (a : Int) : and32 a 3 = a % 4 := and32_low a 2 (by decide)
theorem and1 (a : Int) : and32 a 1 = a % 2 := and32_low a 1 (by decide)
theorem and32767 (a : Int) : and32 a 32767 = a % 32768 := and32_low a 15 (by decide)
theorem and65535 (a : Int) : and32 a 65535 = a % 65536 := and32_low a 16 (by decide)
