/-! LINES: the first bytes of an ear go; bytes of the tape come -/
section Hear2
variable {M N : Mem} {Q : AR → Mem → Prop} {x p b st d z : Int}
def kgo (N : Mem) (x d i : Int) : Mem := mrow N 22016 0 (fun k => if 1000 * x ≤ k ∧ k < 1000 * x + i then N 22016 0 (k + d) else N 22016 0 k)
theorem kgo_r {f : Nat} {j i : Int} (h : ¬ f = 22016) : kgo N x d i f j = N f j := by unfold kgo; rw [mrow_2, if_neg (fun q => h q.1)]
theorem kgo_s {i k : Int} : kgo N x d i 22016 0 k = if 1000 * x ≤ k ∧ k < 1000 * x + i then N 22016 0 (k + d) else N 22016 0 k := by unfold kgo; rw [mrow_2, if_pos ⟨rfl, rfl⟩]
theorem m282_1 (hx : 0 ≤ x ∧ x < 4) (hd : 0 ≤ d) (hz : 0 ≤ z) (hzd : z + d ≤ 1000) (hb : ∀ k, 0 ≤ k → k < z → w8 (N 22016 0 (1000 * x + d + k)) = N 22016 0 (1000 * x + d + k)) : ∀ (n : Nat) (i : Int), 0 ≤ i → i + n = z → (Tq 282 1 [vR 22 0, vI x, vI d, vI z, vI i] [] (kgo N x d i) Q ↔ Tq 282 2 [vR 22 0, vI x, vJ, vI z, vJ] [] (kgo N x d z) Q) := by
  intro n
  induction n with
  | zero =>
    intro i h1 h2
    rw [t282_1, if_pos (by omega), show i = z by omega]
  | succ n ih =>
    intro i h1 h2
    rw [t282_1, if_neg (by omega), w32_id (z := 1000 * x) (by omega) (by omega), w32_id (z := 1000 * x + d) (by omega) (by omega), w32_id (z := 1000 * x + d + i) (by omega) (by omega), w32_id (z := 1000 * x + i) (by omega) (by omega), w32_id (z := i + 1) (by omega) (by omega), kgo_s, if_neg (by omega), hb i h1 (by omega), bd_e]
    have e : mset (kgo N x d i) 22016 0 (1000 * x + i) (N 22016 0 (1000 * x + d + i)) = kgo N x d (i + 1) := by
      unfold kgo
      rw [mset_mrow]
      congr 1
      funext k
      rw [fup_at]
      by_cases hk : k = 1000 * x + i
      · rw [if_pos hk, if_pos (by omega), hk, show 1000 * x + d + i = 1000 * x + i + d by omega]
      · rw [if_neg hk]
        by_cases hk2 : 1000 * x ≤ k ∧ k < 1000 * x + i
        · rw [if_pos hk2, if_pos (by omega)]
        · rw [if_neg hk2, if_neg (by omega)]
    rw [e]
    exact andi (by omega) (andi (by omega) (ih (i + 1) (by omega) (by omega)))
theorem kgo_0 : kgo N x d 0 = N := by
  unfold kgo
  rw [show (fun k : Int => if 1000 * x ≤ k ∧ k < 1000 * x + 0 then N 22016 0 (k + d) else N 22016 0 k) = N 22016 0 from by funext k; rw [if_neg (by omega)], mrow_self]
theorem m282 (hx : 0 ≤ x ∧ x < 4) (hd : 0 ≤ d) (hs : d ≤ N 22014 0 (10 * x)) (hs2 : N 22014 0 (10 * x) ≤ 1000) (hb : ∀ k, 0 ≤ k → k < N 22014 0 (10 * x) → w8 (N 22016 0 (1000 * x + k)) = N 22016 0 (1000 * x + k)) : Tq 282 0 [vR 22 0, vI x, vI d, vJ, vJ] [] N Q ↔ Q (.inl none) (mset (kgo N x d (N 22014 0 (10 * x) - d)) 22014 0 (10 * x) (N 22014 0 (10 * x) - d)) := by
  have l := m282_1 (Q := Q) (N := N) (z := N 22014 0 (10 * x) - d) hx hd (by omega) (by omega) (fun k k1 k2 => by rw [Int.add_assoc]; exact hb (d + k) (by omega) (by omega)) (N 22014 0 (10 * x) - d).toNat 0 (by omega) (by omega)
  rw [kgo_0] at l
  rw [t282_0, w32_id (z := 10 * x) (by omega) (by omega), w32_id (z := N 22014 0 (10 * x) - d) (by omega) (by omega), l, t282_2, w32_id (z := 10 * x) (by omega) (by omega), bd_e]
  exact andi (by omega) (andi (by omega) Iff.rfl)
/-- the tape's bytes go behind an ear -/
theorem m29_2 (hx : 0 ≤ x ∧ x < 4) (ht : M 13 0 1 ≤ 400) : ∀ (n k : Nat), (k : Int) + n = M 13 0 1 → 0 ≤ M 13 (3 + x) 1 → M 13 (3 + x) 1 + M 13 0 1 ≤ 800 → (Tq 29 2 [vR 1 0, vJ, vR 16 x, vI k, vJ, vJ, vJ, vJ, vJ, vJ] [] (bapp M (3 + x) (row (fun k => w8 (M 13000 0 k)) 0 k)) Q ↔ Tq 29 3 [vR 1 0, vJ, vR 16 x, vJ, vJ, vJ, vJ, vJ, vJ, vJ] [] (bapp M (3 + x) (row (fun k => w8 (M 13000 0 k)) 0 (M 13 0 1).toNat)) Q) := by
  have h8 : bLen (3 + x) = 800 := bLen_ear hx.1 hx.2
  intro n
  induction n with
  | zero =>
    intro k h1 h2 h3
    have e : bapp M (3 + x) (row (fun k => w8 (M 13000 0 k)) 0 k) 13 0 1 = M 13 0 1 := by rw [bapp_2, if_neg (by omega), if_neg (by omega)]
    rw [t29_2, e, if_pos (by omega), show (M 13 0 1).toNat = k by omega]
  | succ n ih =>
    intro k h1 h2 h3
    have e : bapp M (3 + x) (row (fun k => w8 (M 13000 0 k)) 0 k) 13 0 1 = M 13 0 1 := by rw [bapp_2, if_neg (by omega), if_neg (by omega)]
    have e0 : bapp M (3 + x) (row (fun k => w8 (M 13000 0 k)) 0 k) 13000 0 = M 13000 0 := by rw [bapp_2, if_neg (by omega), if_neg (by omega)]
    have e2 : bapp M (3 + x) (row (fun k => w8 (M 13000 0 k)) 0 k) 13 (3 + x) 1 = M 13 (3 + x) 1 + k := by rw [bapp_sz, row_len]
    rw [t29_2, e, if_neg (by omega), m114 (by rw [e, bLen_0]; omega), kI_v, bat_v (by omega) (by rw [e]; omega), e0, m113 (by omega) (by omega), kV_v, bapp_app, w32_id (z := (k : Int) + 1) (by omega) (by omega)]
    have ew : w8 (M 13000 0 k % 256) = w8 (M 13000 0 (0 + (k : Int))) := by
      rw [Int.zero_add]
      unfold w8
      exact Int.emod_bmod _ _
    rw [ew]
    exact ih (k + 1) (by omega) h2 h3
def kfl (N : Mem) (x : Int) (L : List Int) : Mem := mset (movl N 22016 0 (1000 * x + N 22014 0 (10 * x)) L) 22014 0 (10 * x) (N 22014 0 (10 * x) + L.length)
theorem m275_2 (hx : 0 ≤ x ∧ x < 4) (ht : N 22 0 3 ≤ 400) : ∀ (n k : Nat), (k : Int) + n = N 22 0 3 → 0 ≤ N 22014 0 (10 * x) → N 22014 0 (10 * x) + N 22 0 3 ≤ 800 → (Tq 275 2 [vR 22 0, vI x, vI (10 * x), vI (1000 * x), vI k, vJ, vJ, vJ, vJ] [] (kfl N x (row (fun k => w8 (N 22099 8 k)) 0 k)) Q ↔ Tq 275 3 [vR 22 0, vI x, vI (10 * x), vI (1000 * x), vJ, vJ, vJ, vJ, vJ] [] (kfl N x (row (fun k => w8 (N 22099 8 k)) 0 (N 22 0 3).toNat)) Q) := by
  intro n
  induction n with
  | zero =>
    intro k h1 h2 h3
    have e : kfl N x (row (fun k => w8 (N 22099 8 k)) 0 k) 22 0 3 = N 22 0 3 := by unfold kfl; rw [mset_3, if_neg (by simp), movl_r (by decide)]
    rw [t275_2, e, if_pos (by omega), show (N 22 0 3).toNat = k by omega]
  | succ n ih =>
    intro k h1 h2 h3
    have e : kfl N x (row (fun k => w8 (N 22099 8 k)) 0 k) 22 0 3 = N 22 0 3 := by unfold kfl; rw [mset_3, if_neg (by simp), movl_r (by decide)]
    have e0 : kfl N x (row (fun k => w8 (N 22099 8 k)) 0 k) 22099 8 = N 22099 8 := by unfold kfl; rw [mset_o (by simp), movl_r (by decide)]
    have e2 : kfl N x (row (fun k => w8 (N 22099 8 k)) 0 k) 22014 0 (10 * x) = N 22014 0 (10 * x) + k := by unfold kfl; rw [mset_3, if_pos ⟨rfl, rfl, rfl⟩, row_len]
    rw [t275_2, e, if_neg (by omega), e2, w32_id (z := 1000 * x + (N 22014 0 (10 * x) + k)) (by omega) (by omega), e0, bd_e, bd_e, mset_3 (f := 22016), if_neg (by simp), e2, w32_id (z := N 22014 0 (10 * x) + k + 1) (by omega) (by omega), w32_id (z := (k : Int) + 1) (by omega) (by omega)]
    have em : mset (mset (kfl N x (row (fun k => w8 (N 22099 8 k)) 0 k)) 22016 0 (1000 * x + (N 22014 0 (10 * x) + k)) (w8 (N 22099 8 k))) 22014 0 (10 * x) (N 22014 0 (10 * x) + k + 1) = kfl N x (row (fun k => w8 (N 22099 8 k)) 0 (k + 1)) := by
      show _ = kfl N x (row (fun k => w8 (N 22099 8 k)) 0 k ++ [w8 (N 22099 8 (0 + (k : Int)))])
      rw [Int.zero_add]
      unfold kfl
      rw [mset_movl (f := 22016), ← mset_movl_comm (by simp), movl_app (by rw [row_len]; omega), mset_mset, List.length_append, row_len]
      congr 1
      simp
      omega
    rw [em]
    exact andi (by omega) (andi (by omega) (andi (by omega) (andi (by omega) (andi (by omega) (ih (k + 1) (by omega) h2 h3)))))
end Hear2
