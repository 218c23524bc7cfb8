/-! PICKS: by the variance -/
def S1 (g : Int → Int) (a : Int) : Nat → Int
  | 0 => 0
  | n + 1 => S1 g a n + g (a + n)
def S2 (g : Int → Int) (a : Int) : Nat → Int
  | 0 => 0
  | n + 1 => S2 g a n + g (a + n) * g (a + n)
theorem S12_cs {g : Int → Int} {a : Int} : ∀ n : Nat, 0 ≤ n * S2 g a n - S1 g a n * S1 g a n
  | 0 => by simp [S1, S2]
  | n + 1 => by
    have ih := S12_cs (g := g) (a := a) n
    show 0 ≤ ((n + 1 : Nat) : Int) * (S2 g a n + g (a + n) * g (a + n)) - (S1 g a n + g (a + n)) * (S1 g a n + g (a + n))
    generalize g (a + n) = x
    rcases Nat.eq_zero_or_pos n with h0 | h0
    · subst h0
      simp [S1, S2]
    · generalize S2 g a n = q at ih ⊢
      generalize S1 g a n = t at ih ⊢
      have hn : (0 : Int) < (n : Int) := by omega
      rw [show ((n + 1 : Nat) : Int) = (n : Int) + 1 by omega]
      generalize (n : Int) = m at ih hn ⊢
      have e1 : (m + 1) * (q + x * x) - (t + x) * (t + x) = (m * q - t * t) + (q - 2 * t * x + m * (x * x)) := by grind
      have e2 : m * (q - 2 * t * x + m * (x * x)) = (m * q - t * t) + (t - m * x) * (t - m * x) := by grind
      have h3 : 0 ≤ (t - m * x) * (t - m * x) := by
        rcases Int.le_total 0 (t - m * x) with h | h
        · exact Int.mul_nonneg h h
        · rw [← Int.neg_mul_neg]
          exact Int.mul_nonneg (by omega) (by omega)
      have h4 : 0 ≤ q - 2 * t * x + m * (x * x) := by
        rcases Int.lt_or_le (q - 2 * t * x + m * (x * x)) 0 with h | h
        · have := Int.mul_neg_of_pos_of_neg hn h
          omega
        · exact h
      omega
theorem S1_bd {g : Int → Int} {a : Int} : ∀ n : Nat, (∀ k, 0 ≤ k → k < n → -1048576 ≤ g (a + k) ∧ g (a + k) ≤ 1048576) → -(1048576 * (n : Int)) ≤ S1 g a n ∧ S1 g a n ≤ 1048576 * (n : Int)
  | 0, _ => by simp [S1]
  | n + 1, h => by
    have ih := S1_bd (g := g) (a := a) n (fun k h1 h2 => h k h1 (by omega))
    have := h n (by omega) (by omega)
    show _ ≤ S1 g a n + g (a + n) ∧ S1 g a n + g (a + n) ≤ _
    omega
theorem S2_bd {g : Int → Int} {a : Int} : ∀ n : Nat, (∀ k, 0 ≤ k → k < n → -1048576 ≤ g (a + k) ∧ g (a + k) ≤ 1048576) → 0 ≤ S2 g a n ∧ S2 g a n ≤ 1099511627776 * (n : Int)
  | 0, _ => by simp [S2]
  | n + 1, h => by
    have ih := S2_bd (g := g) (a := a) n (fun k h1 h2 => h k h1 (by omega))
    have h1 := h n (by omega) (by omega)
    have h2 := sq_bd (a := g (a + n)) (b := 1048576) (by omega) (by omega)
    show _ ≤ S2 g a n + g (a + n) * g (a + n) ∧ S2 g a n + g (a + n) * g (a + n) ≤ _
    omega
theorem S1_split {g : Int → Int} {a : Int} (k : Nat) : ∀ n : Nat, S1 g a (k + n) = S1 g a k + S1 g (a + k) n
  | 0 => by simp [S1]
  | n + 1 => by
    show S1 g a (k + n) + g (a + ((k + n : Nat) : Int)) = S1 g a k + (S1 g (a + k) n + g (a + k + n))
    rw [S1_split k n, show a + ((k + n : Nat) : Int) = a + k + n by omega]
    omega
theorem S2_split {g : Int → Int} {a : Int} (k : Nat) : ∀ n : Nat, S2 g a (k + n) = S2 g a k + S2 g (a + k) n
  | 0 => by simp [S2]
  | n + 1 => by
    show S2 g a (k + n) + g (a + ((k + n : Nat) : Int)) * g (a + ((k + n : Nat) : Int)) = S2 g a k + (S2 g (a + k) n + g (a + k + n) * g (a + k + n))
    rw [S2_split k n, show a + ((k + n : Nat) : Int) = a + k + n by omega]
    omega
theorem S1_cg {g g' : Int → Int} {a : Int} : ∀ n : Nat, (∀ k, 0 ≤ k → k < n → g (a + k) = g' (a + k)) → S1 g a n = S1 g' a n
  | 0, _ => rfl
  | n + 1, h => by
    show S1 g a n + g (a + n) = S1 g' a n + g' (a + n)
    rw [S1_cg n (fun k h1 h2 => h k h1 (by omega)), h n (by omega) (by omega)]
theorem S2_cg {g g' : Int → Int} {a : Int} : ∀ n : Nat, (∀ k, 0 ≤ k → k < n → g (a + k) = g' (a + k)) → S2 g a n = S2 g' a n
  | 0, _ => rfl
  | n + 1, h => by
    show S2 g a n + g (a + n) * g (a + n) = S2 g' a n + g' (a + n) * g' (a + n)
    rw [S2_cg n (fun k h1 h2 => h k h1 (by omega)), h n (by omega) (by omega)]
/-- LG of one and the variance of n numbers from a on -/
def lsp (g : Int → Int) (a : Int) (n : Nat) : Int := lgv (1 + (n * S2 g a n - S1 g a n * S1 g a n) / (n * n))
