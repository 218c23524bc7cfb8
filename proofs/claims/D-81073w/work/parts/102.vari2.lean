/-! PICKS: by the variance, contracts -/
section Vari
variable {M N : Mem} {Q : AR → Mem → Prop} {s t k w x y l m n a b c d e : Int}
def Sm (g : Int → Int) (a : Int) (n : Nat) : Prop := ∀ k, 0 ≤ k → k < n → -1048576 ≤ g (a + k) ∧ g (a + k) ≤ 1048576
/-- the numbers that a variance goes through stay small -/
theorem var_ar {g : Int → Int} {a : Int} {n : Nat} (hn : 1 ≤ n ∧ n ≤ 512) (hg : Sm g a n) : w64 ((n : Int) * n) = n * n ∧ ¬ ((n : Int) * n) = 0 ∧ w64 (n * S2 g a n) = n * S2 g a n ∧ w64 (S1 g a n * S1 g a n) = S1 g a n * S1 g a n ∧ w64 (n * S2 g a n - S1 g a n * S1 g a n) = n * S2 g a n - S1 g a n * S1 g a n ∧ div64 (n * S2 g a n - S1 g a n * S1 g a n) (n * n) = (n * S2 g a n - S1 g a n * S1 g a n) / (n * n) ∧ 1 ≤ 1 + (n * S2 g a n - S1 g a n * S1 g a n) / (n * n) ∧ 1 + (n * S2 g a n - S1 g a n * S1 g a n) / (n * n) < 4611686018427387904 := by
  have h1 := S1_bd n hg
  have h2 := S2_bd n hg
  have h3 := S12_cs (g := g) (a := a) n
  have hn2 : (n : Int) * n ≤ 512 * 512 := Int.mul_le_mul (by omega) (by omega) (by omega) (by omega)
  have hn1 : 1 ≤ (n : Int) * n := by
    have := Int.mul_le_mul (show (1 : Int) ≤ n by omega) (show (1 : Int) ≤ n by omega) (by omega) (by omega)
    omega
  have hq : (n : Int) * S2 g a n ≤ 512 * (1099511627776 * 512) := Int.mul_le_mul (by omega) (by omega) (by omega) (by omega)
  have hq0 : 0 ≤ (n : Int) * S2 g a n := Int.mul_nonneg (by omega) (by omega)
  have ht := sq_bd (a := S1 g a n) (b := 536870912) (by omega) (by omega)
  generalize S1 g a n * S1 g a n = T at *
  generalize (n : Int) * S2 g a n = q at *
  generalize (n : Int) * n = mm at *
  have hd := Int.ediv_nonneg h3 (show 0 ≤ mm by omega)
  have hd2 := Int.ediv_le_self mm h3
  refine ⟨w64_id (by omega) (by omega), by omega, w64_id (by omega) (by omega), w64_id (by omega) (by omega), w64_id (by omega) (by omega), ?_, by omega, by omega⟩
  unfold div64
  rw [Int.tdiv_eq_ediv_of_nonneg h3]
  exact w64_id (by omega) (by omega)
theorem lsp_rng {g : Int → Int} {a : Int} {n : Nat} (hn : 1 ≤ n ∧ n ≤ 512) (hg : Sm g a n) : 0 ≤ lsp g a n ∧ lsp g a n ≤ 16127 := by
  obtain ⟨-, -, -, -, -, -, h1, h2⟩ := var_ar hn hg
  exact lgv_rng h1 (by omega)
theorem m304_1 {g : Int → Int} (hg : g = N 22022 0) (ha : 0 ≤ a) (hb : b ≤ 512) (hS : Sm g a (b - a).toNat) : ∀ (d i : Nat), a + i + d = b → (Tq 304 1 [vR 22 0, vJ, vI b, vL m, vJ, vL (S1 g a i), vJ, vL (S2 g a i), vJ, vI (a + i)] [] N Q ↔ Tq 304 2 [vJ, vJ, vJ, vL m, vJ, vL (S1 g a (b - a).toNat), vJ, vL (S2 g a (b - a).toNat), vJ, vJ] [] N Q) := by
  intro d
  induction d with
  | zero =>
    intro i h
    rw [t304_1, if_pos (by omega), show (b - a).toNat = i by omega]
  | succ d ih =>
    intro i h
    have hS' : Sm g a (i + 1) := fun k h1 h2 => hS k h1 (by omega)
    have h1 := S1_bd (i + 1) hS'
    have h2 := S2_bd (i + 1) hS'
    have h3 := hS' i (by omega) (by omega)
    have h4 := sq_bd (a := g (a + i)) (b := 1048576) (by omega) (by omega)
    rw [t304_1, if_neg (by omega), ← hg, w64_id (z := g (a + i) * g (a + i)) (by omega) (by omega), w64_id (z := S1 g a i + g (a + i)) (by show _ ≤ S1 g a (i + 1); omega) (by show S1 g a (i + 1) < _; omega), w64_id (z := S2 g a i + g (a + i) * g (a + i)) (by show _ ≤ S2 g a (i + 1); omega) (by show S2 g a (i + 1) < _; omega), w32_id (by omega) (by omega)]
    refine andi (by omega) (andi (by omega) (andi (by omega) ?_))
    rw [show a + (i : Int) + 1 = a + ((i + 1 : Nat) : Int) by omega]
    exact ih (i + 1) (by omega)
theorem m304 (ha : 0 ≤ a) (hab : a < b) (hb : b ≤ 512) (hS : Sm (N 22022 0) a (b - a).toNat) : Tq 304 0 [vR 22 0, vI a, vI b, vJ, vJ, vJ, vJ, vJ, vJ, vJ] [] N Q ↔ Q (.inl (some (vI (lsp (N 22022 0) a (b - a).toNat)))) N := by
  have h := m304_1 (Q := Q) (m := b - a) rfl ha hb hS (b - a).toNat 0 (by omega)
  obtain ⟨v1, v2, v3, v4, v5, v6, v7, v8⟩ := var_ar (n := (b - a).toNat) (by omega) hS
  rw [show a + ((0 : Nat) : Int) = a by omega] at h
  rw [t304_0, w32_id (by omega) (by omega)]
  refine h.trans ?_
  rw [show ((b - a).toNat : Int) = b - a by omega] at v1 v2 v3 v5 v6 v7 v8
  rw [t304_2, v1, v3, v4, v5, v6, w64_id (z := 1 + ((b - a) * S2 (N 22022 0) a (b - a).toNat - S1 (N 22022 0) a (b - a).toNat * S1 (N 22022 0) a (b - a).toNat) / ((b - a) * (b - a))) (by omega) (by omega), m305 v7 (by omega), kI_v]
  refine andi v2 ?_
  unfold lsp
  rw [show ((b - a).toNat : Int) = b - a by omega]
/-- the one side's -/
theorem m146v {g : Int → Int} {a : Int} {n : Nat} (hn : 1 ≤ n ∧ n ≤ 512) (hg : Sm g a n) : Tq 146 0 [vL n, vJ, vL (S1 g a n), vJ, vL (S2 g a n), vJ] [] M Q ↔ Q (.inl (some (vL ((n * S2 g a n - S1 g a n * S1 g a n) / (n * n))))) M := by
  obtain ⟨v1, v2, v3, v4, v5, v6, v7, v8⟩ := var_ar hn hg
  rw [t146_0, v1, v3, v4, v5, v6]
  exact andi v2 Iff.rfl
theorem m53v {g : Int → Int} {a : Int} {n : Nat} (hn : 1 ≤ n ∧ n ≤ 512) (hg : Sm g a n) : Tq 53 0 [vL (w64 (1 + (n * S2 g a n - S1 g a n * S1 g a n) / (n * n))), vJ, vJ, vJ, vJ, vJ, vJ, vJ] [] M Q ↔ Q (.inl (some (vI (lsp g a n)))) M := by
  obtain ⟨v1, v2, v3, v4, v5, v6, v7, v8⟩ := var_ar hn hg
  rw [w64_id (by omega) (by omega), m53 v7 (by omega)]
  rfl
end Vari
