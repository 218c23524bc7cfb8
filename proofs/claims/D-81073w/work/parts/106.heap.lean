/-! HEAPS -/
def Hp (g : Int → Int) (n : Int) : Prop := ∀ k, 1 ≤ k → k < n → g ((k - 1) / 2) ≤ g k
theorem Hp_top {g : Int → Int} {n : Int} (h : Hp g n) : ∀ (m : Nat) (k : Int), k ≤ m → 0 ≤ k → k < n → g 0 ≤ g k := by
  intro m
  induction m with
  | zero =>
    intro k h1 h2 h3
    rw [show k = 0 by omega]
    exact Int.le_refl _
  | succ m ih =>
    intro k h1 h2 h3
    by_cases hk : k = 0
    · rw [hk]
      exact Int.le_refl _
    · exact Int.le_trans (ih ((k - 1) / 2) (by omega) (by omega) (by omega)) (h k (by omega) h3)
theorem Hp_min {g : Int → Int} {n k : Int} (h : Hp g n) (h1 : 0 ≤ k) (h2 : k < n) : g 0 ≤ g k := Hp_top h k.toNat k (by omega) h1 h2
/-- two places changed about -/
def swp (h : Int → Int) (a b : Int) : Int → Int := fun j => if j = a then h b else if j = b then h a else h j
theorem swp_a {h : Int → Int} {a b : Int} : swp h a b a = h b := if_pos rfl
theorem swp_b {h : Int → Int} {a b : Int} : swp h a b b = h a := by
  unfold swp
  by_cases q : b = a
  · rw [if_pos q, q]
  · rw [if_neg q, if_pos rfl]
theorem swp_o {h : Int → Int} {a b j : Int} (h1 : ¬ j = a) (h2 : ¬ j = b) : swp h a b j = h j := by
  unfold swp
  rw [if_neg h1, if_neg h2]
def Mb (g : Int → Int) (n e : Int) : Prop := ∃ k, 0 ≤ k ∧ k < n ∧ g k = e
theorem Mb_swp {h : Int → Int} {n a b e : Int} (ha : 0 ≤ a ∧ a < n) (hb : 0 ≤ b ∧ b < n) : Mb (swp h a b) n e ↔ Mb h n e := by
  constructor
  · rintro ⟨k, k1, k2, k3⟩
    by_cases q1 : k = a
    · subst q1
      rw [swp_a] at k3
      exact ⟨b, hb.1, hb.2, k3⟩
    · by_cases q2 : k = b
      · subst q2
        rw [swp_b] at k3
        exact ⟨a, ha.1, ha.2, k3⟩
      · rw [swp_o q1 q2] at k3
        exact ⟨k, k1, k2, k3⟩
  · rintro ⟨k, k1, k2, k3⟩
    by_cases q1 : k = a
    · subst q1
      exact ⟨b, hb.1, hb.2, by rw [swp_b]; exact k3⟩
    · by_cases q2 : k = b
      · subst q2
        exact ⟨a, ha.1, ha.2, by rw [swp_a]; exact k3⟩
      · exact ⟨k, k1, k2, by rw [swp_o q1 q2]; exact k3⟩
theorem swp_fup {a : Int → Int} {k p v : Int} (h : ¬ p = k) : fup (fup a k (a p)) p v = swp (fup a k v) k p := by
  funext j
  unfold swp fup
  by_cases q1 : j = p
  · subst q1
    rw [if_pos rfl, if_neg h, if_pos rfl, if_pos rfl]
  · rw [if_neg q1]
    by_cases q2 : j = k
    · rw [if_pos q2, if_pos q2, if_neg h]
    · rw [if_neg q2, if_neg q2, if_neg q1, if_neg q2]
def UpI (h : Int → Int) (n k : Int) : Prop := (∀ j, 1 ≤ j → j < n → ¬ j = k → h ((j - 1) / 2) ≤ h j) ∧ (∀ j, 1 ≤ j → j < n → (j - 1) / 2 = k → 1 ≤ k → h ((k - 1) / 2) ≤ h j)
theorem UpI_end {h : Int → Int} {n k : Int} (q : UpI h n k) (hk : k = 0 ∨ h ((k - 1) / 2) ≤ h k) : Hp h n := by
  intro j j1 j2
  by_cases e : j = k
  · subst e
    rcases hk with e | e
    · omega
    · exact e
  · exact q.1 j j1 j2 e
theorem UpI_step {h : Int → Int} {n k : Int} (q : UpI h n k) (h0 : 1 ≤ k) (h1 : k < n) (hk : h k < h ((k - 1) / 2)) : UpI (swp h k ((k - 1) / 2)) n ((k - 1) / 2) := by
  obtain ⟨q1, q2⟩ := q
  constructor
  · intro j j1 j2 j3
    by_cases e1 : j = k
    · subst e1
      rw [swp_a, swp_b]
      omega
    · rw [swp_o e1 j3]
      by_cases e2 : (j - 1) / 2 = k
      · rw [e2, swp_a]
        exact q2 j j1 j2 e2 h0
      · by_cases e3 : (j - 1) / 2 = (k - 1) / 2
        · rw [e3, swp_b]
          have := q1 j j1 j2 e1
          rw [e3] at this
          omega
        · rw [swp_o e2 e3]
          exact q1 j j1 j2 e1
  · intro j j1 j2 j3 j4
    have e0 := q1 ((k - 1) / 2) j4 (by omega) (by omega)
    rw [swp_o (by omega) (by omega)]
    by_cases e1 : j = k
    · subst e1
      rw [swp_a]
      exact e0
    · rw [swp_o e1 (by omega)]
      have := q1 j j1 j2 e1
      rw [j3] at this
      omega
theorem UpI_new {g : Int → Int} {n v : Int} (h : Hp g n) (hn : 0 ≤ n) : UpI (fup g n v) (n + 1) n := by
  constructor
  · intro j j1 j2 j3
    rw [fup_ne j3, fup_ne (by omega)]
    exact h j j1 (by omega)
  · intro j j1 j2 j3 j4
    omega
def DnI (h : Int → Int) (n k : Int) : Prop := (∀ j, 1 ≤ j → j < n → ¬ (j - 1) / 2 = k → h ((j - 1) / 2) ≤ h j) ∧ (∀ j, 1 ≤ j → j < n → (j - 1) / 2 = k → 1 ≤ k → h ((k - 1) / 2) ≤ h j)
theorem DnI_end {h : Int → Int} {n k : Int} (q : DnI h n k) (hk : ∀ j, 1 ≤ j → j < n → (j - 1) / 2 = k → h k ≤ h j) : Hp h n := by
  intro j j1 j2
  by_cases e : (j - 1) / 2 = k
  · rw [e]
    exact hk j j1 j2 e
  · exact q.1 j j1 j2 e
theorem DnI_step {h : Int → Int} {n k c : Int} (q : DnI h n k) (h0 : 0 ≤ k) (hc : c = 2 * k + 1 ∨ c = 2 * k + 2) (hn : c < n) (hm : ∀ j, 1 ≤ j → j < n → (j - 1) / 2 = k → h c ≤ h j) (hl : h c < h k) : DnI (swp h k c) n c := by
  obtain ⟨q1, q2⟩ := q
  constructor
  · intro j j1 j2 j3
    by_cases e1 : (j - 1) / 2 = k
    · rw [e1, swp_a]
      by_cases e2 : j = c
      · rw [e2, swp_b]
        omega
      · rw [swp_o (by omega) e2]
        exact hm j j1 j2 e1
    · rw [swp_o e1 j3]
      by_cases e2 : j = k
      · subst e2
        rw [swp_a]
        exact q2 c (by omega) hn (by omega) j1
      · rw [swp_o e2 (by omega)]
        exact q1 j j1 j2 e1
  · intro j j1 j2 j3 j4
    rw [show (c - 1) / 2 = k by omega, swp_a, swp_o (by omega) (by omega)]
    have := q1 j j1 j2 (by omega)
    rw [j3] at this
    exact this
theorem DnI_new {g : Int → Int} {n v : Int} (h : Hp g n) : DnI (fup g 0 v) (n - 1) 0 := by
  constructor
  · intro j j1 j2 j3
    rw [fup_ne (by omega), fup_ne (by omega)]
    exact h j j1 (by omega)
  · intro j j1 j2 j3 j4
    omega
