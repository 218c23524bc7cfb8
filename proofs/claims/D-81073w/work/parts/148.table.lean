/-! EARTH: the component's tables -/
def pw (l : Nat) : Int := 2 ^ l
theorem pw_s {l : Nat} : pw (l + 1) = 2 * pw l := by unfold pw; rw [Int.pow_succ, Int.mul_comm]
theorem pw_0 : pw 0 = 1 := rfl
def LsP (T A : Int → Int) (row : Int) (L : Nat) (d : Int) : Prop := (∀ j, d ≤ j → j < d + pw L → j < 90 → A ((row * 7 + L) * 90 + d) ≤ T (row * 90 + j)) ∧ (∃ j, 0 ≤ j ∧ j < 90 ∧ A ((row * 7 + L) * 90 + d) = T (row * 90 + j)) ∧ (L = 0 → A ((row * 7 + L) * 90 + d) = T (row * 90 + d))
def MsP (T A : Int → Int) (row : Int) (L : Nat) (d : Int) : Prop := (∀ j, d ≤ j → j < d + pw L → j < 90 → T (row * 90 + j) ≤ A ((row * 7 + L) * 90 + d)) ∧ (∃ j, 0 ≤ j ∧ j < 90 ∧ A ((row * 7 + L) * 90 + d) = T (row * 90 + j)) ∧ (L = 0 → A ((row * 7 + L) * 90 + d) = T (row * 90 + d))
def TbI (M : Mem) (lim : Int) : Prop := ∀ (row : Int) (L : Nat) (d : Int), 0 ≤ row → row < 32 → L < 7 → 0 ≤ d → d < 90 → (row * 7 + L) * 90 + d < lim → LsP (M 3002 0) (M 3003 0) row L d ∧ MsP (M 3002 0) (M 3004 0) row L d
def STb (f : Nat) (_ _ : Int) : Prop := f = 3003 ∨ f = 3004
theorem shl_p {l : Nat} (h : l < 7) : shl32 1 l = pw l := by
  rcases (show l = 0 ∨ l = 1 ∨ l = 2 ∨ l = 3 ∨ l = 4 ∨ l = 5 ∨ l = 6 by omega) with rfl | rfl | rfl | rfl | rfl | rfl | rfl <;> rfl
theorem pw_b {l : Nat} (h : l < 7) : 1 ≤ pw l ∧ pw l ≤ 64 := by
  rcases (show l = 0 ∨ l = 1 ∨ l = 2 ∨ l = 3 ∨ l = 4 ∨ l = 5 ∨ l = 6 by omega) with rfl | rfl | rfl | rfl | rfl | rfl | rfl <;> decide
/-- one cell of the tables more -/
theorem TbI_put {M : Mem} {row d a b : Int} {L : Nat} (h : TbI M ((row * 7 + L) * 90 + d)) (hr : 0 ≤ row ∧ row < 32) (hL : L < 7) (hd : 0 ≤ d ∧ d < 90)
    (h1 : (∀ j, d ≤ j → j < d + pw L → j < 90 → a ≤ M 3002 0 (row * 90 + j)) ∧ (∃ j, 0 ≤ j ∧ j < 90 ∧ a = M 3002 0 (row * 90 + j)) ∧ (L = 0 → a = M 3002 0 (row * 90 + d)))
    (h2 : (∀ j, d ≤ j → j < d + pw L → j < 90 → M 3002 0 (row * 90 + j) ≤ b) ∧ (∃ j, 0 ≤ j ∧ j < 90 ∧ b = M 3002 0 (row * 90 + j)) ∧ (L = 0 → b = M 3002 0 (row * 90 + d))) : TbI (mset (mset M 3003 0 ((row * 7 + L) * 90 + d) a) 3004 0 ((row * 7 + L) * 90 + d) b) ((row * 7 + L) * 90 + d + 1) := by
  intro row' L' d' q1 q2 q3 q4 q5 q6
  have eT : mset (mset M 3003 0 ((row * 7 + L) * 90 + d) a) 3004 0 ((row * 7 + L) * 90 + d) b 3002 0 = M 3002 0 := by rw [mset_o (by simp), mset_o (by simp)]
  have eA : mset (mset M 3003 0 ((row * 7 + L) * 90 + d) a) 3004 0 ((row * 7 + L) * 90 + d) b 3003 0 = fup (M 3003 0) ((row * 7 + L) * 90 + d) a := by rw [mset_o (by simp), mset_s]
  have eB : mset (mset M 3003 0 ((row * 7 + L) * 90 + d) a) 3004 0 ((row * 7 + L) * 90 + d) b 3004 0 = fup (M 3004 0) ((row * 7 + L) * 90 + d) b := by rw [mset_s, mset_o (by simp)]
  rw [eT, eA, eB]
  unfold LsP MsP
  by_cases q : (row' * 7 + L') * 90 + d' = (row * 7 + L) * 90 + d
  · have e1 : row' = row := by omega
    have e2 : L' = L := by omega
    have e3 : d' = d := by omega
    subst e1 e2 e3
    rw [fup_eq, fup_eq]
    exact ⟨h1, h2⟩
  · rw [fup_ne q, fup_ne q]
    exact h row' L' d' q1 q2 q3 q4 q5 (by omega)
section Table
variable {row : Int}
theorem m163_4 (hr : 0 ≤ row ∧ row < 32) {L : Nat} (hL : L < 7) : ∀ (r : Nat) (d : Int) (M : Mem), d + r = 90 → 0 ≤ d → TbI M ((row * 7 + L) * 90 + d) → ∃ M', Fr STb M M' ∧ TbI M' ((row * 7 + (L + 1)) * 90) ∧ ∀ Q : AR → Mem → Prop, (Tq 163 4 [vR 3 0, vI row, vI L, vI d, vJ, vJ, vJ, vJ] [] M Q ↔ Tq 163 3 [vR 3 0, vI row, vI (L + 1), vJ, vJ, vJ, vJ, vJ] [] M' Q) := by
  intro r
  induction r with
  | zero =>
    intro d M hd h0 hT
    refine ⟨M, Fr.refl, ?_, fun Q => ?_⟩
    · rw [show (row * 7 + ((L : Int) + 1)) * 90 = (row * 7 + L) * 90 + d by omega]
      exact hT
    · rw [t163_4, if_pos (by omega), t163_15, w32_id (z := (L : Int) + 1) (by omega) (by omega)]
  | succ r ih =>
    intro d M hd h0 hT
    have key : ∃ a b, ((∀ j, d ≤ j → j < d + pw L → j < 90 → a ≤ M 3002 0 (row * 90 + j)) ∧ (∃ j, 0 ≤ j ∧ j < 90 ∧ a = M 3002 0 (row * 90 + j)) ∧ (L = 0 → a = M 3002 0 (row * 90 + d))) ∧ ((∀ j, d ≤ j → j < d + pw L → j < 90 → M 3002 0 (row * 90 + j) ≤ b) ∧ (∃ j, 0 ≤ j ∧ j < 90 ∧ b = M 3002 0 (row * 90 + j)) ∧ (L = 0 → b = M 3002 0 (row * 90 + d))) ∧ ∀ Q : AR → Mem → Prop, (Tq 163 4 [vR 3 0, vI row, vI L, vI d, vJ, vJ, vJ, vJ] [] M Q ↔ Tq 163 4 [vR 3 0, vI row, vI L, vI (d + 1), vJ, vJ, vJ, vJ] [] (mset (mset M 3003 0 ((row * 7 + L) * 90 + d) a) 3004 0 ((row * 7 + L) * 90 + d) b) Q) := by
      have hd9 : d < 90 := by omega
      have head : ∀ Q : AR → Mem → Prop, (Tq 163 4 [vR 3 0, vI row, vI L, vI d, vJ, vJ, vJ, vJ] [] M Q ↔ if ¬ (L : Int) = 0 then Tq 163 5 [vR 3 0, vI row, vI L, vI d, vI ((row * 7 + L) * 90 + d), vI ((row * 7 + L) * 90 + d - 90), vJ, vJ] [] M Q else Tq 163 6 [vR 3 0, vI row, vI L, vI d, vI ((row * 7 + L) * 90 + d), vI ((row * 7 + L) * 90 + d - 90), vJ, vJ] [vI 0] M Q) := fun Q => by
        rw [t163_4, if_neg (by omega), w32_id (z := row * 7) (by omega) (by omega), w32_id (z := row * 7 + (L : Int)) (by omega) (by omega), w32_id (z := (row * 7 + (L : Int)) * 90) (by omega) (by omega), w32_id (z := (row * 7 + (L : Int)) * 90 + d) (by omega) (by omega), w32_id (z := (row * 7 + (L : Int)) * 90 + d - 90) (by omega) (by omega)]
      rcases L with _ | l
      · refine ⟨M 3002 0 (row * 90 + d), M 3002 0 (row * 90 + d), ⟨fun j j1 j2 j3 => ?_, ⟨d, h0, hd9, rfl⟩, fun _ => rfl⟩, ⟨fun j j1 j2 j3 => ?_, ⟨d, h0, hd9, rfl⟩, fun _ => rfl⟩, fun Q => ?_⟩
        · rw [show j = d by rw [pw_0] at j2; omega]
          exact Int.le_refl _
        · rw [show j = d by rw [pw_0] at j2; omega]
          exact Int.le_refl _
        · rw [head Q, if_neg (by simp), t163_6, if_pos (by omega), t163_7, t163_8, if_neg (by simp), w32_id (z := row * 90) (by omega) (by omega), w32_id (z := row * 90 + d) (by omega) (by omega), t163_11, bd_e, if_neg (by simp), w32_id (z := row * 90) (by omega) (by omega), w32_id (z := row * 90 + d) (by omega) (by omega), mset_3 (f' := 3002), if_neg (by simp), t163_14, bd_e, w32_id (z := d + 1) (by omega) (by omega)]
          exact andi (by omega) (andi (by omega) (andi (by omega) (andi (by omega) Iff.rfl)))
      · -- from the level below
        have hp := pw_b (l := l) (by omega)
        have ex := @pw_s l
        have eb : (row * 7 + ((l + 1 : Nat) : Int)) * 90 + d - 90 = (row * 7 + (l : Int)) * 90 + d := by omega
        obtain ⟨⟨a1, a2, a3⟩, ⟨b1, b2, b3⟩⟩ := hT row l d hr.1 hr.2 (by omega) h0 hd9 (by omega)
        have es : True → shl32 1 l = pw l := fun _ => shl_p (l := l) (by omega)
        generalize hpl : pw l = p at hp ex a1 b1 es
        by_cases hb : d + p < 90
        · obtain ⟨⟨c1, c2, c3⟩, ⟨d1, d2, d3⟩⟩ := hT row l (d + p) hr.1 hr.2 (by omega) (by omega) hb (by omega)
          have e3 : (row * 7 + (l : Int)) * 90 + (d + p) = (row * 7 + (l : Int)) * 90 + d + p := by omega
          rw [e3] at c1 c2 d1 d2
          rw [hpl] at c1 d1
          refine ⟨min (M 3003 0 ((row * 7 + (l : Int)) * 90 + d)) (M 3003 0 ((row * 7 + (l : Int)) * 90 + d + p)), max (M 3004 0 ((row * 7 + (l : Int)) * 90 + d)) (M 3004 0 ((row * 7 + (l : Int)) * 90 + d + p)), ⟨fun j j1 j2 j3 => ?_, ?_, fun q => by omega⟩, ⟨fun j j1 j2 j3 => ?_, ?_, fun q => by omega⟩, fun Q => ?_⟩
          · rw [ex] at j2
            by_cases q : j < d + p
            · have := a1 j j1 q j3
              omega
            · have := c1 j (by omega) (by omega) j3
              omega
          · rcases (show min (M 3003 0 ((row * 7 + (l : Int)) * 90 + d)) (M 3003 0 ((row * 7 + (l : Int)) * 90 + d + p)) = M 3003 0 ((row * 7 + (l : Int)) * 90 + d) ∨ min (M 3003 0 ((row * 7 + (l : Int)) * 90 + d)) (M 3003 0 ((row * 7 + (l : Int)) * 90 + d + p)) = M 3003 0 ((row * 7 + (l : Int)) * 90 + d + p) by omega) with q | q
            · rw [q]; exact a2
            · rw [q]; exact c2
          · rw [ex] at j2
            by_cases q : j < d + p
            · have := b1 j j1 q j3
              omega
            · have := d1 j (by omega) (by omega) j3
              omega
          · rcases (show max (M 3004 0 ((row * 7 + (l : Int)) * 90 + d)) (M 3004 0 ((row * 7 + (l : Int)) * 90 + d + p)) = M 3004 0 ((row * 7 + (l : Int)) * 90 + d) ∨ max (M 3004 0 ((row * 7 + (l : Int)) * 90 + d)) (M 3004 0 ((row * 7 + (l : Int)) * 90 + d + p)) = M 3004 0 ((row * 7 + (l : Int)) * 90 + d + p) by omega) with q | q
            · rw [q]; exact b2
            · rw [q]; exact d2
          · rw [head Q, if_pos (by omega), t163_5, w32_id (z := ((l + 1 : Nat) : Int) - 1) (by omega) (by omega), show ((l + 1 : Nat) : Int) - 1 = l by omega, es trivial, t163_6, if_neg (by omega), w32_id (z := d + p) (by omega) (by omega), if_neg (by omega), t163_8, if_pos (by omega), t163_9, if_neg (by decide), eb, w32_id (z := (row * 7 + (l : Int)) * 90 + d + p) (by omega) (by omega), m8, kI_v, t163_11, bd_e, if_pos (by omega), t163_12, if_neg (by decide), w32_id (z := (row * 7 + (l : Int)) * 90 + d + p) (by omega) (by omega), mset_3 (f' := 3004), if_neg (by simp), mset_3 (f' := 3004), if_neg (by simp), m9, kI_v, t163_14, bd_e, w32_id (z := d + 1) (by omega) (by omega)]
            exact andi (by omega) (andi (by omega) (andi (by omega) (andi (by omega) (andi (by omega) (andi (by omega) Iff.rfl)))))
        · refine ⟨M 3003 0 ((row * 7 + (l : Int)) * 90 + d), M 3004 0 ((row * 7 + (l : Int)) * 90 + d), ⟨fun j j1 j2 j3 => a1 j j1 (by omega) j3, a2, fun q => by omega⟩, ⟨fun j j1 j2 j3 => b1 j j1 (by omega) j3, b2, fun q => by omega⟩, fun Q => ?_⟩
          rw [head Q, if_pos (by omega), t163_5, w32_id (z := ((l + 1 : Nat) : Int) - 1) (by omega) (by omega), show ((l + 1 : Nat) : Int) - 1 = l by omega, es trivial, t163_6, if_neg (by omega), w32_id (z := d + p) (by omega) (by omega), if_pos (by omega), t163_7, t163_8, if_pos (by omega), t163_9, if_pos rfl, t163_10, eb, t163_11, bd_e, if_pos (by omega), t163_12, if_pos rfl, t163_13, mset_3 (f' := 3004), if_neg (by simp), t163_14, bd_e, w32_id (z := d + 1) (by omega) (by omega)]
          exact andi (by omega) (andi (by omega) (andi (by omega) (andi (by omega) Iff.rfl)))
    obtain ⟨a, b, k1, k2, k3⟩ := key
    have hT2 := TbI_put hT hr hL (by omega) k1 k2
    rw [show (row * 7 + (L : Int)) * 90 + d + 1 = (row * 7 + (L : Int)) * 90 + (d + 1) by omega] at hT2
    obtain ⟨M', m1, m2, m3⟩ := ih (d + 1) _ (by omega) (by omega) hT2
    refine ⟨M', Fr.trans ?_ m1, m2, fun Q => ?_⟩
    · exact Fr.mset (Fr.mset Fr.refl (by simp [STb])) (by simp [STb])
    · rw [k3 Q, m3 Q]
theorem m163_3 (hr : 0 ≤ row ∧ row < 32) : ∀ (r L : Nat) (M : Mem), L + r = 7 → TbI M ((row * 7 + L) * 90) → ∃ M', Fr STb M M' ∧ TbI M' ((row + 1) * 7 * 90) ∧ ∀ Q : AR → Mem → Prop, (Tq 163 3 [vR 3 0, vI row, vI L, vJ, vJ, vJ, vJ, vJ] [] M Q ↔ Tq 163 2 [vR 3 0, vI (row + 1), vJ, vJ, vJ, vJ, vJ, vJ] [] M' Q) := by
  intro r
  induction r with
  | zero =>
    intro L M hL hT
    refine ⟨M, Fr.refl, ?_, fun Q => ?_⟩
    · rw [show (row + 1) * 7 * 90 = (row * 7 + (L : Int)) * 90 by omega]
      exact hT
    · rw [t163_3, if_pos (by omega), t163_16, w32_id (z := row + 1) (by omega) (by omega)]
  | succ r ih =>
    intro L M hL hT
    obtain ⟨M1, a1, a2, a3⟩ := m163_4 hr (L := L) (by omega) 90 0 M (by omega) (by omega) (by rw [Int.add_zero]; exact hT)
    obtain ⟨M2, b1, b2, b3⟩ := ih (L + 1) M1 (by omega) (by rw [show ((L + 1 : Nat) : Int) = (L : Int) + 1 by omega]; exact a2)
    refine ⟨M2, a1.trans b1, b2, fun Q => ?_⟩
    have := b3 Q
    rw [show ((L + 1 : Nat) : Int) = (L : Int) + 1 by omega] at this
    rw [t163_3, if_neg (by omega), a3 Q, this]
theorem m163_2 : ∀ (r : Nat) (row : Int) (M : Mem), row + r = 32 → 0 ≤ row → TbI M (row * 7 * 90) → ∃ M', Fr STb M M' ∧ TbI M' 20160 ∧ ∀ Q : AR → Mem → Prop, (Tq 163 2 [vR 3 0, vI row, vJ, vJ, vJ, vJ, vJ, vJ] [] M Q ↔ Q (.inl none) M') := by
  intro r
  induction r with
  | zero =>
    intro row M h1 h0 hT
    refine ⟨M, Fr.refl, ?_, fun Q => ?_⟩
    · rw [show (20160 : Int) = row * 7 * 90 by omega]
      exact hT
    · rw [t163_2, if_pos (by omega), t163_17]
  | succ r ih =>
    intro row M h1 h0 hT
    obtain ⟨M1, a1, a2, a3⟩ := m163_3 (row := row) (by omega) 7 0 M (by omega) (by rw [show (row * 7 + ((0 : Nat) : Int)) * 90 = row * 7 * 90 by omega]; exact hT)
    obtain ⟨M2, b1, b2, b3⟩ := ih (row + 1) M1 (by omega) (by omega) a2
    refine ⟨M2, a1.trans b1, b2, fun Q => ?_⟩
    have := a3 Q
    rw [show ((0 : Nat) : Int) = 0 from rfl] at this
    rw [t163_2, if_neg (by omega), this, b3 Q]
end Table
