/-! THE FINDER'S PLAIN LAW: first ones of their kinds in a row -/
/-- one of the summed changes -/
theorem sm_upd {f g : Int → Int} {a : Int} : ∀ n : Nat, 0 ≤ a → a < n → (∀ k : Int, 0 ≤ k → k < n → ¬ k = a → f k = g k) → sm g n = sm f n - f a + g a
  | 0, h1, h2, _ => by omega
  | n + 1, h1, h2, h3 => by
    unfold sm
    by_cases e : a = n
    · subst e
      rw [sm_cg (f := f) (g := g) n (fun k k1 k2 => h3 k k1 (by omega) (by omega))]
      omega
    · rw [sm_upd n h1 (by omega) (fun k k1 k2 k3 => h3 k k1 (by omega) k3), h3 n (by omega) (by omega) (by omega)]
      omega
/-- the first place from k on, of so many, that has kind g; below 0: none -/
def fi (κ : Int → Int) (g : Int) : Int → Nat → Int
  | _, 0 => -1
  | k, n + 1 => if κ k = g then k else fi κ g (k + 1) n
theorem fi_spec {κ : Int → Int} {g : Int} : ∀ (n : Nat) (k : Int), 0 ≤ k → (fi κ g k n = -1 ∧ ∀ i, k ≤ i → i < k + n → ¬ κ i = g) ∨ (k ≤ fi κ g k n ∧ fi κ g k n < k + n ∧ κ (fi κ g k n) = g ∧ ∀ i, k ≤ i → i < fi κ g k n → ¬ κ i = g)
  | 0, k, h => Or.inl ⟨rfl, fun i h1 h2 => by omega⟩
  | n + 1, k, h => by
    unfold fi
    by_cases c : κ k = g
    · rw [if_pos c]
      exact Or.inr ⟨by omega, by omega, c, fun i h1 h2 => by omega⟩
    · rw [if_neg c]
      rcases fi_spec n (k + 1) (by omega) with ⟨h1, h2⟩ | ⟨h1, h2, h3, h4⟩
      · refine Or.inl ⟨h1, fun i i1 i2 => ?_⟩
        by_cases e : i = k
        · rw [e]; exact c
        · exact h2 i (by omega) (by omega)
      · refine Or.inr ⟨by omega, by omega, h3, fun i i1 i2 => ?_⟩
        by_cases e : i = k
        · rw [e]; exact c
        · exact h4 i (by omega) i2
theorem fi_uniq {κ : Int → Int} {g k i : Int} {n : Nat} (h0 : 0 ≤ k) (h1 : k ≤ i) (h2 : i < k + n) (h3 : κ i = g) (h4 : ∀ j, k ≤ j → j < i → ¬ κ j = g) : fi κ g k n = i := by
  rcases fi_spec (κ := κ) (g := g) n k h0 with ⟨_, q⟩ | ⟨q1, q2, q3, q4⟩
  · exact absurd h3 (q i h1 h2)
  · by_cases c : fi κ g k n < i
    · exact absurd q3 (h4 _ q1 c)
    · by_cases c' : i < fi κ g k n
      · exact absurd h3 (q4 i h1 c')
      · omega
theorem fi_none {κ : Int → Int} {g k : Int} {n : Nat} (h0 : 0 ≤ k) (h : ∀ i, k ≤ i → i < k + n → ¬ κ i = g) : fi κ g k n = -1 := by
  rcases fi_spec (κ := κ) (g := g) n k h0 with ⟨q, _⟩ | ⟨q1, q2, q3, q4⟩
  · exact q
  · exact absurd q3 (h _ q1 q2)
/-- what the first of a kind has; 0 without -/
def fw (F κ : Int → Int) (k : Int) (n : Nat) (g : Int) : Int := if fi κ g k n = -1 then 0 else F (fi κ g k n)
/-- how many have a kind -/
def kc (κ : Int → Int) (g : Int) : Int → Nat → Int
  | _, 0 => 0
  | k, n + 1 => (if κ k = g then 1 else 0) + kc κ g (k + 1) n
theorem kc_nn {κ : Int → Int} {g : Int} : ∀ (n : Nat) (k : Int), 0 ≤ kc κ g k n ∧ kc κ g k n ≤ n
  | 0, _ => ⟨Int.le_refl _, Int.le_refl _⟩
  | n + 1, k => by
    have := kc_nn (κ := κ) (g := g) n (k + 1)
    unfold kc
    split <;> omega
theorem kc_snoc {κ : Int → Int} {g : Int} : ∀ (n : Nat) (k : Int), kc κ g k (n + 1) = kc κ g k n + (if κ (k + n) = g then 1 else 0)
  | 0, k => by
    show (if κ k = g then 1 else 0) + 0 = 0 + (if κ (k + (0 : Nat)) = g then 1 else 0)
    rw [show k + ((0 : Nat) : Int) = k by omega]
    omega
  | n + 1, k => by
    show (if κ k = g then 1 else 0) + kc κ g (k + 1) (n + 1) = (if κ k = g then 1 else 0) + kc κ g (k + 1) n + _
    rw [kc_snoc n (k + 1), show k + 1 + (n : Int) = k + ((n + 1 : Nat) : Int) by omega]
    omega
theorem kc_0 {κ : Int → Int} {g : Int} : ∀ (n : Nat) (k : Int), 0 ≤ k → (kc κ g k n = 0 ↔ fi κ g k n = -1)
  | 0, k, h => by simp [kc, fi]
  | n + 1, k, h => by
    have := kc_nn (κ := κ) (g := g) n (k + 1)
    unfold kc fi
    by_cases c : κ k = g
    · rw [if_pos c, if_pos c]
      omega
    · rw [if_neg c, if_neg c, Int.zero_add]
      exact kc_0 n (k + 1) (by omega)
theorem fi_snoc {κ : Int → Int} {g k : Int} {n : Nat} (h : 0 ≤ k) : fi κ g k (n + 1) = if fi κ g k n = -1 then (if κ (k + n) = g then k + n else -1) else fi κ g k n := by
  rcases fi_spec (κ := κ) (g := g) n k h with ⟨q1, q2⟩ | ⟨q1, q2, q3, q4⟩
  · rw [if_pos q1]
    by_cases c : κ (k + n) = g
    · rw [if_pos c]
      exact fi_uniq h (by omega) (by omega) c (fun j j1 j2 => q2 j j1 j2)
    · rw [if_neg c]
      refine fi_none h (fun i i1 i2 => ?_)
      by_cases e : i = k + n
      · rw [e]; exact c
      · exact q2 i i1 (by omega)
  · rw [if_neg (by omega)]
    exact fi_uniq h q1 (by omega) q3 q4
/-- the sum over all kinds -/
def FW (F κ : Int → Int) (k : Int) (n : Nat) : Int := sm (fw F κ k n) 24
theorem FW_0 {F κ : Int → Int} {k : Int} : FW F κ k 0 = 0 := by
  unfold FW
  rw [sm_cg (g := fun _ => 0) 24 (fun g _ _ => by unfold fw; rw [if_pos (show fi κ g k 0 = -1 from rfl)])]
  rfl
theorem FW_snoc {F κ : Int → Int} {k : Int} {n : Nat} (h : 0 ≤ k) (hk : 0 ≤ κ (k + n) ∧ κ (k + n) < 24) : FW F κ k (n + 1) = FW F κ k n + (if kc κ (κ (k + n)) k n = 0 then F (k + n) else 0) := by
  unfold FW
  rw [sm_upd (f := fw F κ k n) (a := κ (k + n)) 24 hk.1 hk.2 (fun g _ _ hg => by
    unfold fw
    rw [fi_snoc h, if_neg (show ¬ κ (k + n) = g from fun e => hg e.symm)]
    by_cases c : fi κ g k n = -1
    · simp only [c, if_true]
    · simp only [c, if_false])]
  by_cases c : fi κ (κ (k + n)) k n = -1
  · rw [if_pos ((kc_0 n k h).mpr c)]
    have e1 : fw F κ k n (κ (k + n)) = 0 := by unfold fw; rw [if_pos c]
    have e2 : fw F κ k (n + 1) (κ (k + n)) = F (k + n) := by unfold fw; rw [fi_snoc h, if_pos c, if_pos rfl, if_neg (by omega)]
    omega
  · rw [if_neg (fun q => c ((kc_0 n k h).mp q))]
    have e2 : fw F κ k (n + 1) (κ (k + n)) = fw F κ k n (κ (k + n)) := by unfold fw; rw [fi_snoc h, if_neg c]
    omega
theorem FW_tail {F κ : Int → Int} {k : Int} {n : Nat} (h : 0 ≤ k) (hk : 0 ≤ κ k ∧ κ k < 24) : FW F κ (k + 1) n = FW F κ k (n + 1) - F k + fw F κ (k + 1) n (κ k) := by
  unfold FW
  rw [sm_upd (f := fw F κ k (n + 1)) (g := fw F κ (k + 1) n) (a := κ k) 24 hk.1 hk.2 (fun g _ _ hg => by
    unfold fw
    rw [show fi κ g k (n + 1) = fi κ g (k + 1) n from by
      show (if κ k = g then k else fi κ g (k + 1) n) = _
      rw [if_neg (fun e => hg e.symm)]])]
  have e1 : fw F κ k (n + 1) (κ k) = F k := by
    unfold fw
    rw [show fi κ (κ k) k (n + 1) = k from by
      show (if κ k = κ k then k else _) = _
      rw [if_pos rfl], if_neg (by omega)]
  omega
/-- the next of the same kind, within a longer row -/
theorem fi_next {κ : Int → Int} {g k : Int} {n m : Nat} (h : 0 ≤ k) (hn : n ≤ m) : fi κ g k n = if fi κ g k m = -1 then -1 else if fi κ g k m < k + n then fi κ g k m else -1 := by
  rcases fi_spec (κ := κ) (g := g) m k h with ⟨q1, q2⟩ | ⟨q1, q2, q3, q4⟩
  · rw [if_pos q1]
    exact fi_none h (fun i i1 i2 => q2 i i1 (by omega))
  · rw [if_neg (by omega)]
    by_cases c : fi κ g k m < k + n
    · rw [if_pos c]
      exact fi_uniq h q1 c q3 q4
    · rw [if_neg c]
      exact fi_none h (fun i i1 i2 => q4 i i1 (by omega))
