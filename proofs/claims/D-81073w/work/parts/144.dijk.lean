/-! LEAST WAYS: what stays true while they are sought, by a heap and by going over all -/
def EdR (E : Int → Int → Int → Prop) (n : Int) : Prop := ∀ u v c, E u v c → (0 ≤ u ∧ u < n) ∧ (0 ≤ v ∧ v < n) ∧ 0 ≤ c ∧ c ≤ 155844
def DJ (E : Int → Int → Int → Prop) (s n : Int) (d : Int → Int) (H D : Int → Prop) (m cnt : Int) : Prop :=
  d s = 0 ∧
  (∀ v, 0 ≤ v → v < n → d v = 2147483647 ∨ (0 ≤ d v ∧ d v ≤ cnt * 155844 ∧ ∃ j, Rch E s j v (d v))) ∧
  (∀ v, 0 ≤ v → v < n → ¬ D v → ¬ d v = 2147483647 → H (d v * 65536 + v)) ∧
  (∀ u, D u → (0 ≤ u ∧ u < n) ∧ ¬ d u = 2147483647 ∧ d u ≤ m ∧ ∀ v c, E u v c → d v ≤ d u + c) ∧
  (∀ e, H e → ∃ c v, e = c * 65536 + v ∧ (0 ≤ v ∧ v < n) ∧ 0 ≤ c ∧ c ≤ cnt * 155844 ∧ d v ≤ c ∧ m ≤ c)
/-- while the cell v0 spreads; R: the edges gone over so far; b: the bound -/
def SPI (E : Int → Int → Int → Prop) (s n : Int) (d : Int → Int) (H D : Int → Prop) (v0 b : Int) (R : Int → Int → Prop) : Prop :=
  d s = 0 ∧
  (∀ v, 0 ≤ v → v < n → d v = 2147483647 ∨ (0 ≤ d v ∧ d v ≤ b ∧ ∃ j, Rch E s j v (d v))) ∧
  (∀ v, 0 ≤ v → v < n → ¬ D v → ¬ v = v0 → ¬ d v = 2147483647 → H (d v * 65536 + v)) ∧
  (∀ u, D u → (0 ≤ u ∧ u < n) ∧ ¬ d u = 2147483647 ∧ d u ≤ d v0 ∧ ∀ v c, E u v c → d v ≤ d u + c) ∧
  (∀ e, H e → ∃ c v, e = c * 65536 + v ∧ (0 ≤ v ∧ v < n) ∧ 0 ≤ c ∧ c ≤ b ∧ d v ≤ c ∧ d v0 ≤ c) ∧
  ((0 ≤ v0 ∧ v0 < n) ∧ ¬ d v0 = 2147483647) ∧
  (∀ w c, R w c → d w ≤ d v0 + c)
section Dijk
variable {E : Int → Int → Int → Prop} {s n m cnt b v0 w c : Int} {d : Int → Int} {H H' D : Int → Prop} {R : Int → Int → Prop}
/-- the least of the heap goes; it is old -/
theorem DJ_old (h : DJ E s n d H D m cnt) {c0 v1 : Int} (hk : ∀ e, H e → c0 * 65536 + v1 ≤ e) (hv : 0 ≤ v1 ∧ v1 < n) (hn : n ≤ 65536) (ho : ¬ d v1 = c0) (h0 : H (c0 * 65536 + v1)) (h1 : ∀ e, H' e → H e) (h2 : ∀ e, H e → ¬ e = c0 * 65536 + v1 → H' e) : DJ E s n d H' D m cnt := by
  obtain ⟨a1, a2, a3, a4, a5⟩ := h
  refine ⟨a1, a2, fun v q1 q2 q3 q4 => h2 _ (a3 v q1 q2 q3 q4) (fun q => ?_), a4, fun e he => a5 e (h1 e he)⟩
  have : v = v1 := by omega
  subst this
  omega
/-- the least of the heap goes, and spreads -/
theorem DJ_sp (h : DJ E s n d H D m cnt) {c0 v1 : Int} (hk : ∀ e, H e → c0 * 65536 + v1 ≤ e) (hv : 0 ≤ v1 ∧ v1 < n) (hn : n ≤ 65536) (ho : d v1 = c0) (h0 : H (c0 * 65536 + v1)) (h1 : ∀ e, H' e → H e) (h2 : ∀ e, H e → ¬ e = c0 * 65536 + v1 → H' e) (hb : cnt * 155844 ≤ b) (hc : c0 < 2147483647) : SPI E s n d H' D v1 b (fun _ _ => False) := by
  obtain ⟨a1, a2, a3, a4, a5⟩ := h
  refine ⟨a1, fun v q1 q2 => ?_, fun v q1 q2 q3 q4 q5 => h2 _ (a3 v q1 q2 q3 q5) (fun q => ?_), fun u hu => ?_, fun e he => ?_, ⟨hv, by omega⟩, fun _ _ q => q.elim⟩
  · rcases a2 v q1 q2 with q | ⟨q, q', q''⟩
    · exact Or.inl q
    · exact Or.inr ⟨q, by omega, q''⟩
  · exact q4 (by omega)
  · obtain ⟨b1, b2, b3, b4⟩ := a4 u hu
    obtain ⟨c', v', e1, e2, e3, e4, e5, e6⟩ := a5 _ h0
    exact ⟨b1, b2, by omega, b4⟩
  · obtain ⟨c', v', e1, e2, e3, e4, e5, e6⟩ := a5 _ (h1 e he)
    have := hk e (h1 e he)
    exact ⟨c', v', e1, e2, e3, by omega, e5, by omega⟩
/-- an edge that makes nothing less -/
theorem SPI_no (h : SPI E s n d H D v0 b R) (hw : d w ≤ d v0 + c) : SPI E s n d H D v0 b (fun w' c' => R w' c' ∨ (w' = w ∧ c' = c)) := by
  obtain ⟨a1, a2, a3, a4, a5, a6, a7⟩ := h
  refine ⟨a1, a2, a3, a4, a5, a6, fun w' c' q => ?_⟩
  rcases q with q | ⟨rfl, rfl⟩
  · exact a7 w' c' q
  · exact hw
theorem SPI_R {R' : Int → Int → Prop} (h : SPI E s n d H D v0 b R) (hR : ∀ w c, R' w c → R w c) : SPI E s n d H D v0 b R' := by
  obtain ⟨a1, a2, a3, a4, a5, a6, a7⟩ := h
  exact ⟨a1, a2, a3, a4, a5, a6, fun w c q => a7 w c (hR w c q)⟩
/-- an edge that makes a cost less -/
theorem SPI_yes (hE : EdR E n) (h : SPI E s n d H D v0 b R) (he : E v0 w c) (hw : d v0 + c < d w) (hb : d v0 + c ≤ b) (hx : b < 2147483647) (hH : ∀ e, H' e ↔ H e ∨ e = (d v0 + c) * 65536 + w) : SPI E s n (fup d w (d v0 + c)) H' D v0 b (fun w' c' => R w' c' ∨ (w' = w ∧ c' = c)) ∧ ¬ D v0 := by
  obtain ⟨a1, a2, a3, a4, a5, a6, a7⟩ := h
  obtain ⟨e1, e2, e3, e4⟩ := hE v0 w c he
  have nw : ¬ w = v0 := fun q => by rw [q] at hw; omega
  have hv0 := a2 v0 e1.1 e1.2
  have hr0 : ∃ j, Rch E s j v0 (d v0) := by
    rcases hv0 with q | q
    · exact absurd q a6.2
    · exact q.2.2
  have p0 : 0 ≤ d v0 := by
    rcases hv0 with q | q
    · exact absurd q a6.2
    · exact q.1
  have ws : ¬ w = s := fun q => by rw [q, a1] at hw; omega
  have dv : fup d w (d v0 + c) v0 = d v0 := fup_ne (fun q => nw q.symm)
  refine ⟨⟨?_, fun v q1 q2 => ?_, fun v q1 q2 q3 q4 q5 => ?_, fun u hu => ?_, fun e he => ?_, ?_, fun w' c' q => ?_⟩, fun q => ?_⟩
  · rw [fup_ne (fun q => ws q.symm)]
    exact a1
  · by_cases q : v = w
    · subst q
      rw [fup_eq]
      exact Or.inr ⟨by omega, hb, Att_step hr0 he rfl⟩
    · rw [fup_ne q]
      exact a2 v q1 q2
  · by_cases q : v = w
    · subst q
      rw [fup_eq]
      exact (hH _).mpr (Or.inr rfl)
    · rw [fup_ne q] at q5 ⊢
      exact (hH _).mpr (Or.inl (a3 v q1 q2 q3 q4 q5))
  · obtain ⟨b1, b2, b3, b4⟩ := a4 u hu
    have uw : ¬ u = w := fun q => by rw [q] at b3; omega
    rw [fup_ne uw, dv]
    refine ⟨b1, b2, b3, fun v c' hE' => ?_⟩
    have := b4 v c' hE'
    by_cases q : v = w
    · subst q
      rw [fup_eq]
      omega
    · rw [fup_ne q]
      exact this
  · rw [dv]
    rcases (hH e).mp he with q | q
    · obtain ⟨c', v', f1, f2, f3, f4, f5, f6⟩ := a5 e q
      refine ⟨c', v', f1, f2, f3, f4, ?_, f6⟩
      by_cases q : v' = w
      · subst q
        rw [fup_eq]
        omega
      · rw [fup_ne q]
        exact f5
    · exact ⟨d v0 + c, w, q, e2, by omega, hb, by rw [fup_eq]; exact Int.le_refl _, by omega⟩
  · rw [dv]
    exact a6
  · rw [dv]
    by_cases q' : w' = w
    · subst q'
      rw [fup_eq]
      rcases q with q | q
      · have := a7 w' c' q
        omega
      · omega
    · rw [fup_ne q']
      rcases q with q | q
      · exact a7 w' c' q
      · exact absurd q.1 q'
  · have := (a4 v0 q).2.2.2 w c he
    omega
/-- the cell has spread, for the first time -/
theorem SPI_end (h : SPI E s n d H D v0 ((cnt + 1) * 155844) R) (hR : ∀ w c, E v0 w c → R w c) : DJ E s n d H (fun v => D v ∨ v = v0) (d v0) (cnt + 1) := by
  obtain ⟨a1, a2, a3, a4, a5, a6, a7⟩ := h
  refine ⟨a1, a2, fun v q1 q2 q3 q4 => a3 v q1 q2 (fun q => q3 (Or.inl q)) (fun q => q3 (Or.inr q)) q4, fun u hu => ?_, a5⟩
  rcases hu with hu | rfl
  · exact a4 u hu
  · exact ⟨a6.1, a6.2, Int.le_refl _, fun v c he => a7 v c (hR v c he)⟩
/-- the cell had spread already -/
theorem SPI_end2 (h : SPI E s n d H D v0 (cnt * 155844) R) (hD : D v0) : DJ E s n d H D (d v0) cnt := by
  obtain ⟨a1, a2, a3, a4, a5, a6, a7⟩ := h
  refine ⟨a1, a2, fun v q1 q2 q3 q4 => a3 v q1 q2 q3 (fun q => by subst q; exact q3 hD) q4, fun u hu => a4 u hu, a5⟩
/-- nothing is in the heap: all is done -/
theorem DJ_end (hE : EdR E n) (h : DJ E s n d H D m cnt) (h0 : ∀ e, ¬ H e) (hc : cnt * 155844 < 2147483647) : Fea E s d ∧ ∀ v : Int, 0 ≤ v → v < n → d v ≤ 2147483647 ∧ 0 ≤ d v ∧ Att E s d v := by
  obtain ⟨a1, a2, a3, a4, a5⟩ := h
  refine ⟨⟨by omega, fun u v c he hu => ?_, fun u v c he => ?_⟩, fun v h1 h2 => ?_⟩
  · obtain ⟨e1, e2, e3, e4⟩ := hE u v c he
    rcases Classical.em (D u) with q | q
    · exact (a4 u q).2.2.2 v c he
    · exact absurd (a3 u e1.1 e1.2 q hu) (h0 _)
  · obtain ⟨e1, e2, e3, e4⟩ := hE u v c he
    rcases a2 v e2.1 e2.2 with q | q <;> omega
  · rcases a2 v h1 h2 with q | ⟨q1, q2, q3⟩
    · exact ⟨by omega, by omega, Or.inl q⟩
    · exact ⟨by omega, by omega, Or.inr q3⟩
end Dijk
/-- going over all; the number of cells that have a way bounds the costs -/
def BF (E : Int → Int → Int → Prop) (s : Int) (n : Nat) (d : Int → Int) : Prop :=
  d s = 0 ∧ ∃ (p : Int → Prop) (_ : DecidablePred p), (∀ v, p v ↔ ¬ d v = 2147483647) ∧ ∀ v : Int, 0 ≤ v → v < n → d v = 2147483647 ∨ (0 ≤ d v ∧ d v ≤ cntp p n * 155844 ∧ ∃ j, Rch E s j v (d v))
section BFs
variable {E : Int → Int → Int → Prop} {s c u v : Int} {n : Nat} {d : Int → Int}
theorem BF_rng (h : BF E s n d) (hn : n ≤ 1440) (h1 : 0 ≤ v) (h2 : v < n) : d v = 2147483647 ∨ (0 ≤ d v ∧ d v ≤ 224415360) := by
  obtain ⟨a1, p, hp, a2, a3⟩ := h
  have := cntp_rng (p := p) n
  rcases a3 v h1 h2 with q | q
  · exact Or.inl q
  · exact Or.inr ⟨q.1, by omega⟩
theorem BF_step (hE : EdR E n) (hn : n ≤ 1440) (h : BF E s n d) (he : E u v c) (hu : ¬ d u = 2147483647) (hl : d u + c < d v) : BF E s n (fup d v (d u + c)) := by
  obtain ⟨a1, p, hp, a2, a3⟩ := h
  obtain ⟨e1, e2, e3, e4⟩ := hE u v c he
  have hr := cntp_rng (p := p) n
  obtain ⟨q1, q2, q3⟩ : 0 ≤ d u ∧ d u ≤ cntp p n * 155844 ∧ ∃ j, Rch E s j u (d u) := by
    rcases a3 u e1.1 e1.2 with q | q
    · exact absurd q hu
    · exact q
  have sv : ¬ s = v := fun q => by rw [← q, a1] at hl; omega
  refine ⟨by rw [fup_ne sv]; exact a1, fun w => ¬ fup d v (d u + c) w = 2147483647, fun w => inferInstance, fun w => Iff.rfl, fun w w1 w2 => ?_⟩
  have hcnt : cntp p n ≤ cntp (fun w => ¬ fup d v (d u + c) w = 2147483647) n ∧ (d v = 2147483647 → cntp p n + 1 ≤ cntp (fun w => ¬ fup d v (d u + c) w = 2147483647) n) := by
    by_cases dv : d v = 2147483647
    · have := cntp_add (p := p) (q := fun w => ¬ fup d v (d u + c) w = 2147483647) (a := v) n e2.1 e2.2 (by rw [a2]; simpa using dv) (by show ¬ fup d v (d u + c) v = 2147483647; rw [fup_eq]; omega) (fun k k1 k2 k3 => by
        show p k ↔ ¬ fup d v (d u + c) k = 2147483647
        rw [fup_ne k3, a2])
      omega
    · have := cntp_cg (p := p) (q := fun w => ¬ fup d v (d u + c) w = 2147483647) n (fun k k1 k2 => by
        show p k ↔ ¬ fup d v (d u + c) k = 2147483647
        rw [a2]
        by_cases kv : k = v
        · subst kv
          rw [fup_eq]
          exact ⟨fun _ => by rcases a3 k k1 k2 with q | q <;> omega, fun _ => dv⟩
        · rw [fup_ne kv])
      exact ⟨by omega, fun q => absurd q dv⟩
  by_cases wv : w = v
  · subst wv
    rw [fup_eq]
    refine Or.inr ⟨by omega, ?_, Att_step q3 he rfl⟩
    by_cases dv : d w = 2147483647
    · have := hcnt.2 dv
      omega
    · rcases a3 w w1 w2 with q | q
      · exact absurd q dv
      · omega
  · rw [fup_ne wv]
    rcases a3 w w1 w2 with q | ⟨r1, r2, r3⟩
    · exact Or.inl q
    · exact Or.inr ⟨r1, by omega, r3⟩
theorem BF_end (hE : EdR E n) (h : BF E s n d) (hn : n ≤ 1440) (hc : ∀ u v c, E u v c → ¬ d u = 2147483647 → d v ≤ d u + c) : Fea E s d ∧ ∀ v : Int, 0 ≤ v → v < n → d v ≤ 2147483647 ∧ 0 ≤ d v ∧ Att E s d v := by
  have hr := fun v => BF_rng (v := v) h hn
  obtain ⟨a1, p, hp, a2, a3⟩ := h
  refine ⟨⟨by omega, hc, fun u v c he => ?_⟩, fun v h1 h2 => ?_⟩
  · obtain ⟨e1, e2, e3, e4⟩ := hE u v c he
    rcases hr v e2.1 e2.2 with q | q <;> omega
  · have := hr v h1 h2
    rcases a3 v h1 h2 with q | ⟨q1, q2, q3⟩
    · exact ⟨by omega, by omega, Or.inl q⟩
    · exact ⟨by omega, by omega, Or.inr q3⟩
theorem BF_new (hn : 1 ≤ n) (hs : 0 ≤ s ∧ s < n) (h0 : ∀ v, d v = if v = s then 0 else 2147483647) : BF E s n d := by
  refine ⟨by rw [h0, if_pos rfl], fun v => ¬ d v = 2147483647, fun v => inferInstance, fun v => Iff.rfl, fun v h1 h2 => ?_⟩
  have := cntp_rng (p := fun v => ¬ d v = 2147483647) n
  rw [h0]
  by_cases q : v = s
  · rw [if_pos q]
    exact Or.inr ⟨by omega, by omega, 0, q, rfl⟩
  · rw [if_neg q]
    exact Or.inl rfl
end BFs
/-- sums, for what goes down -/
def sg (d : Int → Int) : Nat → Int
  | 0 => 0
  | n + 1 => sg d n + d n
theorem sg_le {d d' : Int → Int} : ∀ n : Nat, (∀ v : Int, 0 ≤ v → v < n → d' v ≤ d v) → sg d' n ≤ sg d n
  | 0, _ => Int.le_refl _
  | n + 1, h => by
    have := sg_le n (fun v h1 h2 => h v h1 (by omega))
    have h2 := h n (by omega) (by omega)
    unfold sg
    omega
theorem sg_lt {d d' : Int → Int} {w : Int} : ∀ n : Nat, (∀ v : Int, 0 ≤ v → v < n → d' v ≤ d v) → 0 ≤ w → w < n → d' w < d w → sg d' n < sg d n
  | 0, _, h1, h2, _ => by omega
  | n + 1, h, h1, h2, h3 => by
    unfold sg
    by_cases q : w = n
    · subst q
      have := sg_le n (fun v h1 h2 => h v h1 (by omega))
      omega
    · have := sg_lt n (fun v h1 h2 => h v h1 (by omega)) h1 (by omega) h3
      have h4 := h n (by omega) (by omega)
      omega
theorem sg_nn {d : Int → Int} : ∀ n : Nat, (∀ v : Int, 0 ≤ v → v < n → 0 ≤ d v) → 0 ≤ sg d n
  | 0, _ => Int.le_refl _
  | n + 1, h => by
    have := sg_nn n (fun v h1 h2 => h v h1 (by omega))
    have h2 := h n (by omega) (by omega)
    unfold sg
    omega
