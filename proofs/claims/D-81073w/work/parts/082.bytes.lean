/-! BYTES: rows of numbers laid over rows; both sides' bytes -/
def ovl (g : Int → Int) (a : Int) (L : List Int) : Int → Int := fun k => if a ≤ k ∧ k < a + L.length then L.getD (k - a).toNat 0 else g k
theorem ovl_nil {g : Int → Int} {a : Int} : ovl g a [] = g := by
  funext k
  unfold ovl
  exact if_neg (fun h => by
    have := h.1
    have := h.2
    simp at this
    omega)
theorem ovl_out {g : Int → Int} {a k : Int} {L : List Int} (h : k < a ∨ a + L.length ≤ k) : ovl g a L k = g k := if_neg (by omega)
theorem ovl_in {g : Int → Int} {a k : Int} {L : List Int} (h1 : a ≤ k) (h2 : k < a + L.length) : ovl g a L k = L.getD (k - a).toNat 0 := if_pos ⟨h1, h2⟩
theorem ovl_app {g : Int → Int} {a b : Int} {L L' : List Int} (h : b = a + L.length) : ovl (ovl g a L) b L' = ovl g a (L ++ L') := by
  funext k
  have hl : ((L ++ L').length : Int) = L.length + L'.length := by simp
  by_cases h1 : k < a ∨ a + (L ++ L').length ≤ k
  · rw [ovl_out h1, ovl_out (by omega), ovl_out (by omega)]
  · rw [ovl_in (g := g) (L := L ++ L') (by omega) (by omega)]
    by_cases h2 : k < b
    · rw [ovl_out (Or.inl h2), ovl_in (by omega) (by omega), List.getD_eq_getElem?_getD, List.getD_eq_getElem?_getD, List.getElem?_append_left (by omega)]
    · rw [ovl_in (by omega) (by omega), List.getD_eq_getElem?_getD, List.getD_eq_getElem?_getD, List.getElem?_append_right (by omega)]
      rw [show (k - b).toNat = (k - a).toNat - L.length by omega]
theorem fup_ovl {g : Int → Int} {k v : Int} : fup g k v = ovl g k [v] := by
  funext j
  unfold fup ovl
  by_cases h : j = k
  · rw [if_pos h, if_pos (by simp; omega), h]
    simp
  · rw [if_neg h, if_neg (by simp; omega)]
theorem w8_w8 (z : Int) : w8 (w8 z) = w8 z := by unfold w8; simp
theorem w8_mod (z : Int) : w8 z % 256 = z % 256 := Int.bmod_emod
theorem w32_mod (z : Int) : w32 z % 4294967296 = z % 4294967296 := Int.bmod_emod
theorem w32_w32 (z : Int) : w32 (w32 z) = w32 z := by unfold w32; simp
theorem w32_cg {a b : Int} (h : a % 4294967296 = b % 4294967296) : w32 a = w32 b := by
  unfold w32
  rw [← Int.emod_bmod, ← Int.emod_bmod (x := b)]
  show Int.bmod (a % 4294967296) _ = Int.bmod (b % 4294967296) _
  rw [h]
theorem shr32_16 (a : Int) : shr32 a 16 = a / 65536 := rfl
theorem shr32_8 (a : Int) : shr32 a 8 = a / 256 := rfl
theorem or_disj {a b : Int} (k : Nat) (hk : k ≤ 31) (h1 : 0 ≤ b) (h2 : b < 2 ^ k) : or32 (w32 (a * 2 ^ k)) b = w32 (a * 2 ^ k + b) := by
  have hp : (2 : Nat) ^ k ≤ 2 ^ 31 := Nat.pow_le_pow_right (by decide) hk
  have e0 : ((2 : Int) ^ k) = ((2 ^ k : Nat) : Int) := by rw [Int.natCast_pow]; rfl
  rw [u32_or, w32_mod]
  rw [e0] at h2 ⊢
  have hp' : ((2 ^ k : Nat) : Int) ≤ 2147483648 := Int.ofNat_le.mpr hp
  have e1 : (b % 4294967296).toNat = b.toNat := by omega
  have hb : b.toNat < 2 ^ k := by omega
  obtain ⟨c, hc⟩ : (2 ^ k : Nat) ∣ 2 ^ 32 := Nat.pow_dvd_pow 2 (by omega)
  have hc' : (4294967296 : Int) = ((2 ^ k : Nat) : Int) * c := by
    have : ((2 ^ 32 : Nat) : Int) = ((2 ^ k * c : Nat) : Int) := by rw [hc]
    rw [Int.natCast_mul] at this
    exact this
  have e2 : (a * ((2 ^ k : Nat) : Int)) % 4294967296 = ((2 ^ k : Nat) : Int) * (a % c) := by
    rw [hc', Int.mul_comm a, Int.mul_emod_mul_of_pos]
    exact Int.ofNat_lt.mpr (Nat.pow_pos (by decide))
  have hcp : (0 : Int) < c := by
    rcases Nat.eq_zero_or_pos c with h | h
    · rw [h] at hc
      simp at hc
    · exact Int.ofNat_lt.mpr h
  have e3 : ((a * ((2 ^ k : Nat) : Int)) % 4294967296).toNat = 2 ^ k * (a % c).toNat := by
    rw [e2]
    have h3 : 0 ≤ a % c := Int.emod_nonneg _ (by omega)
    obtain ⟨n, hn⟩ := Int.eq_ofNat_of_zero_le h3
    rw [hn]
    rw [← Int.natCast_mul]
    rfl
  rw [e1, e3, ← Nat.two_pow_add_eq_or_of_lt hb]
  refine w32_cg ?_
  rw [Int.natCast_add, ← e3, Int.toNat_of_nonneg (Int.emod_nonneg _ (by decide)), Int.toNat_of_nonneg h1]
  omega
/-- two bytes, four bytes, as they are laid and read -/
def be2 (v : Int) : List Int := [w8 (shr32 v 8), w8 v]
def be4 (v : Int) : List Int := [w8 (shr32 (shr32 v 16) 8), w8 (shr32 v 16), w8 (shr32 v 8), w8 v]
def tw (g : Int → Int) (i : Int) : Int := or32 (shl32 (and32 (g i) 255) 8) (and32 (g (i + 1)) 255)
def fo (g : Int → Int) (i : Int) : Int := or32 (shl32 (tw g i) 16) (tw g (i + 2))
theorem be4_eq {v : Int} : be4 v = be2 (shr32 v 16) ++ be2 v := rfl
theorem tw_val {g : Int → Int} {i : Int} : tw g i = g i % 256 * 256 + g (i + 1) % 256 := by
  unfold tw
  rw [and255, and255]
  have := @or_disj (g i % 256) (g (i + 1) % 256) 8 (by decide) (by omega) (by omega)
  unfold shl32
  refine this.trans ?_
  rw [w32_id (by omega) (by omega)]
  omega
theorem tw_rng {g : Int → Int} {i : Int} : 0 ≤ tw g i ∧ tw g i ≤ 65535 := by rw [tw_val]; omega
theorem fo_val {g : Int → Int} {i : Int} : fo g i = w32 (tw g i * 65536 + tw g (i + 2)) := by
  unfold fo
  have h := @tw_rng g (i + 2)
  exact @or_disj (tw g i) (tw g (i + 2)) 16 (by decide) h.1 (by omega)
theorem fo_rng {g : Int → Int} {i : Int} : -2147483648 ≤ fo g i ∧ fo g i < 2147483648 := by rw [fo_val]; exact w32_rng _
theorem tw_be2 {g : Int → Int} {i v : Int} (h1 : 0 ≤ v) (h2 : v ≤ 65535) (e1 : g i = w8 (shr32 v 8)) (e2 : g (i + 1) = w8 v) : tw g i = v := by
  rw [tw_val, e1, e2, w8_mod, w8_mod, shr32_8]
  omega
theorem fo_be4 {g : Int → Int} {i v : Int} (h1 : -2147483648 ≤ v) (h2 : v < 2147483648) (e1 : g i = w8 (shr32 (shr32 v 16) 8)) (e2 : g (i + 1) = w8 (shr32 v 16)) (e3 : g (i + 2) = w8 (shr32 v 8)) (e4 : g (i + 3) = w8 v) : fo g i = v := by
  rw [fo_val, tw_val, tw_val, e1, e2, e3, show i + 2 + 1 = i + 3 by omega, e4, w8_mod, w8_mod, w8_mod, w8_mod, shr32_16, shr32_8, shr32_8]
  refine w32_eq ?_ h1 h2
  refine ⟨-(v / 4294967296), ?_⟩
  omega
/-- the sum -/
def sstep (s b : Int) : Int := w32 (or32 (shl32 (xor32 s (and32 b 255)) 17) (ush32 (xor32 s (and32 b 255)) 15) * 374761393)
def sumF (g : Int → Int) : Nat → Int → Int → Int
  | 0, _, s => s
  | n + 1, a, s => sumF g n (a + 1) (sstep s (g a))
def sumL (L : List Int) : Int := L.foldl sstep 0
theorem sumF_L {g : Int → Int} : ∀ (L : List Int) (a s : Int), (∀ k : Nat, k < L.length → g (a + k) = L.getD k 0) → sumF g L.length a s = L.foldl sstep s
  | [], _, _, _ => rfl
  | b :: L, a, s, h => by
    have h0 := h 0 (by simp)
    have h0 : g a = b := by simpa using h0
    show sumF g L.length (a + 1) (sstep s (g a)) = _
    rw [h0, List.foldl_cons]
    refine sumF_L L (a + 1) _ (fun k hk => ?_)
    have := h (k + 1) (by simp; omega)
    rw [show a + 1 + (k : Int) = a + ((k + 1 : Nat) : Int) by omega, this]
    rfl
theorem sumF_rng {g : Int → Int} : ∀ (n : Nat) (a s : Int), -2147483648 ≤ s → s < 2147483648 → -2147483648 ≤ sumF g n a s ∧ sumF g n a s < 2147483648
  | 0, _, _, h1, h2 => ⟨h1, h2⟩
  | n + 1, a, s, _, _ => sumF_rng n (a + 1) _ (w32_rng _).1 (w32_rng _).2
theorem sumF_cg {g g' : Int → Int} : ∀ (n : Nat) (a b s : Int), (∀ k : Int, 0 ≤ k → k < n → g (a + k) = g' (b + k)) → sumF g n a s = sumF g' n b s
  | 0, _, _, _, _ => rfl
  | n + 1, a, b, s, h => by
    show sumF g n (a + 1) _ = sumF g' n (b + 1) _
    have h0 := h 0 (by omega) (by omega)
    rw [Int.add_zero, Int.add_zero] at h0
    rw [h0]
    refine sumF_cg n _ _ _ (fun k h1 h2 => ?_)
    have := h (k + 1) (by omega) (by omega)
    rw [show a + 1 + k = a + (k + 1) by omega, show b + 1 + k = b + (k + 1) by omega, this]
theorem bLen_rng (i : Int) : 0 ≤ bLen i ∧ bLen i ≤ 60000 := by
  unfold bLen
  generalize i.toNat = n
  unfold bLenT
  rcases n with _ | _ | _ | _ | _ | _ | _ | _ | _ | _ | _ | _ | _ | _ | _ | _ | n <;> first | decide | (simp [List.getD_eq_getElem?_getD])
