/-! LEAST WAYS: costs that no edge makes less and that some way has are one -/
def Rch (E : Int → Int → Int → Prop) (s : Int) : Nat → Int → Int → Prop
  | 0, v, x => v = s ∧ x = 0
  | n + 1, v, x => ∃ u c, Rch E s n u (x - c) ∧ E u v c
/-- no edge makes a cost less -/
def Fea (E : Int → Int → Int → Prop) (s : Int) (d : Int → Int) : Prop := d s ≤ 0 ∧ (∀ u v c, E u v c → ¬ d u = 2147483647 → d v ≤ d u + c) ∧ (∀ u v c, E u v c → d v ≤ 2147483647)
/-- some way has it -/
def Att (E : Int → Int → Int → Prop) (s : Int) (d : Int → Int) (v : Int) : Prop := d v = 2147483647 ∨ ∃ n, Rch E s n v (d v)
theorem Fea_le {E : Int → Int → Int → Prop} {s : Int} {d : Int → Int} (hE : ∀ u v c, E u v c → 0 ≤ c) (h : Fea E s d) : ∀ (n : Nat) (v x : Int), Rch E s n v x → d v ≤ x := by
  intro n
  induction n with
  | zero =>
    rintro v x ⟨rfl, rfl⟩
    exact h.1
  | succ n ih =>
    rintro v x ⟨u, c, h1, h2⟩
    have h3 := ih u (x - c) h1
    have h4 := hE u v c h2
    by_cases hu : d u = 2147483647
    · have := h.2.2 u v c h2
      omega
    · have := h.2.1 u v c h2 hu
      omega
theorem FA_le {E : Int → Int → Int → Prop} {s : Int} {d d' : Int → Int} {v : Int} (hE : ∀ u v c, E u v c → 0 ≤ c) (h : Fea E s d) (hv : d v ≤ 2147483647) (h' : Att E s d' v) : d v ≤ d' v := by
  rcases h' with e | ⟨n, e⟩
  · omega
  · exact Fea_le hE h n v _ e
theorem FA_uniq {E : Int → Int → Int → Prop} {s : Int} {d d' : Int → Int} {v : Int} (hE : ∀ u v c, E u v c → 0 ≤ c) (h : Fea E s d) (hv : d v ≤ 2147483647) (h1 : Att E s d v) (h' : Fea E s d') (hv' : d' v ≤ 2147483647) (h1' : Att E s d' v) : d v = d' v := by
  have a := FA_le hE h hv h1'
  have b := FA_le hE h' hv' h1
  omega
theorem Att_step {E : Int → Int → Int → Prop} {s : Int} {d : Int → Int} {u v c x : Int} (h : ∃ n, Rch E s n u (d u)) (he : E u v c) (hx : x = d u + c) : ∃ n, Rch E s n v x := by
  obtain ⟨n, hn⟩ := h
  exact ⟨n + 1, u, c, by rw [hx, show d u + c - c = d u by omega]; exact hn, he⟩
/-- the length of a move; 0: there is none such -/
def ln (dx dy : Int) : Int := if dx.natAbs + dy.natAbs = 1 then 35 else if dx.natAbs = 1 ∧ dy.natAbs = 1 then 49 else if dx.natAbs + dy.natAbs = 3 ∧ ¬ dx = 0 ∧ ¬ dy = 0 then 78 else 0
theorem ln_rng (dx dy : Int) : 0 ≤ ln dx dy ∧ ln dx dy ≤ 78 := by unfold ln; split <;> (try split) <;> (try split) <;> omega
theorem ln_near {dx dy : Int} (h : ¬ ln dx dy = 0) : -2 ≤ dx ∧ dx ≤ 2 ∧ -2 ≤ dy ∧ dy ≤ 2 := by
  unfold ln at h
  split at h <;> (try split at h) <;> (try split at h) <;> omega
theorem ln_neg (dx dy : Int) : ln (-dx) (-dy) = ln dx dy := by
  unfold ln
  rw [Int.natAbs_neg, Int.natAbs_neg]
  simp only [Int.neg_eq_zero]
/-- how many of the first n have p -/
def cntp (p : Int → Prop) [DecidablePred p] : Nat → Int
  | 0 => 0
  | n + 1 => cntp p n + (if p n then 1 else 0)
theorem cntp_rng {p : Int → Prop} [DecidablePred p] : ∀ n : Nat, 0 ≤ cntp p n ∧ cntp p n ≤ n
  | 0 => ⟨Int.le_refl _, Int.le_refl _⟩
  | n + 1 => by
    have := cntp_rng (p := p) n
    unfold cntp
    split <;> omega
theorem cntp_cg {p q : Int → Prop} [DecidablePred p] [DecidablePred q] : ∀ n : Nat, (∀ k : Int, 0 ≤ k → k < n → (p k ↔ q k)) → cntp p n = cntp q n
  | 0, _ => rfl
  | n + 1, h => by
    unfold cntp
    rw [cntp_cg n (fun k h1 h2 => h k h1 (by omega))]
    have := h n (by omega) (by omega)
    by_cases hp : p n
    · rw [if_pos hp, if_pos (this.mp hp)]
    · rw [if_neg hp, if_neg (fun hq => hp (this.mpr hq))]
theorem cntp_add {p q : Int → Prop} [DecidablePred p] [DecidablePred q] {a : Int} : ∀ n : Nat, 0 ≤ a → a < n → ¬ p a → q a → (∀ k : Int, 0 ≤ k → k < n → ¬ k = a → (p k ↔ q k)) → cntp q n = cntp p n + 1
  | 0, h1, h2, _, _, _ => by omega
  | n + 1, h1, h2, h3, h4, h5 => by
    unfold cntp
    by_cases ha : a = n
    · subst ha
      rw [if_pos h4, if_neg h3, cntp_cg (p := p) (q := q) n (fun k k1 k2 => h5 k k1 (by omega) (by omega))]
      omega
    · rw [cntp_add n h1 (by omega) h3 h4 (fun k k1 k2 k3 => h5 k k1 (by omega) k3)]
      have := h5 n (by omega) (by omega) (by omega)
      by_cases hp : p n
      · rw [if_pos hp, if_pos (this.mp hp)]
      · rw [if_neg hp, if_neg (fun hq => hp (this.mpr hq))]
        omega
