/-! ARRAYS FILLED -/
def flr (g : Int → Int) (n v : Int) : Int → Int := fun k => if 0 ≤ k ∧ k < n then v else g k
theorem flr_in {g : Int → Int} {n v k : Int} (h : 0 ≤ k ∧ k < n) : flr g n v k = v := if_pos h
theorem flr_0 {g : Int → Int} {v : Int} : flr g 0 v = g := by funext k; exact if_neg (by omega)
theorem flr_s {g : Int → Int} {n v : Int} (h : 0 ≤ n) : fup (flr g n v) n v = flr g (n + 1) v := by
  funext k
  unfold flr fup
  by_cases q : k = n
  · rw [if_pos q, if_pos (by omega)]
  · rw [if_neg q]
    show (if 0 ≤ k ∧ k < n then v else g k) = _
    by_cases q2 : 0 ≤ k ∧ k < n
    · rw [if_pos q2, if_pos (by omega)]
    · rw [if_neg q2, if_neg (by omega)]
theorem m3_3001 {M : Mem} {Q : AR → Mem → Prop} {v : Int} : Tq 3 0 [vR 3001 0, vI v, vJ, vJ] [] M Q ↔ Q (.inl none) (mrow M 3001 0 (flr (M 3001 0) 1440 v)) := by
  have loop : ∀ (d : Nat) (k : Int), 0 ≤ k → k + d = 1440 → (Tq 3 1 [vR 3001 0, vI v, vI k, vI 1440] [] (mrow M 3001 0 (flr (M 3001 0) k v)) Q ↔ Q (.inl none) (mrow M 3001 0 (flr (M 3001 0) 1440 v))) := by
    intro d
    induction d with
    | zero =>
      intro k h0 h1
      rw [t3_1_3001, if_pos (by omega), t3_2_3001, show k = 1440 by omega]
    | succ d ih =>
      intro k h0 h1
      rw [t3_1_3001, if_neg (by omega), w32_id (z := k + 1) (by omega) (by omega), bd_e, mset_mrow, flr_s h0, ih (k + 1) (by omega) (by omega)]
      exact andi (by omega) Iff.rfl
  have l0 := loop 1440 0 (by omega) (by omega)
  rw [flr_0, mrow_self] at l0
  rw [t3_0_3001, l0]
theorem m3_12003 {M : Mem} {Q : AR → Mem → Prop} {x0 : Int} {v : Int} : Tq 3 0 [vR 12003 x0, vI v, vJ, vJ] [] M Q ↔ Q (.inl none) (mrow M 12003 x0 (flr (M 12003 x0) 60 v)) := by
  have loop : ∀ (d : Nat) (k : Int), 0 ≤ k → k + d = 60 → (Tq 3 1 [vR 12003 x0, vI v, vI k, vI 60] [] (mrow M 12003 x0 (flr (M 12003 x0) k v)) Q ↔ Q (.inl none) (mrow M 12003 x0 (flr (M 12003 x0) 60 v))) := by
    intro d
    induction d with
    | zero =>
      intro k h0 h1
      rw [t3_1_12003, if_pos (by omega), t3_2_12003, show k = 60 by omega]
    | succ d ih =>
      intro k h0 h1
      rw [t3_1_12003, if_neg (by omega), w32_id (z := k + 1) (by omega) (by omega), bd_e, mset_mrow, flr_s h0, ih (k + 1) (by omega) (by omega)]
      exact andi (by omega) Iff.rfl
  have l0 := loop 60 0 (by omega) (by omega)
  rw [flr_0, mrow_self] at l0
  rw [t3_0_12003, l0]
theorem m3_16001 {M : Mem} {Q : AR → Mem → Prop} {x0 : Int} {v : Int} : Tq 3 0 [vR 16001 x0, vI v, vJ, vJ] [] M Q ↔ Q (.inl none) (mrow M 16001 x0 (flr (M 16001 x0) 10 v)) := by
  have loop : ∀ (d : Nat) (k : Int), 0 ≤ k → k + d = 10 → (Tq 3 1 [vR 16001 x0, vI v, vI k, vI 10] [] (mrow M 16001 x0 (flr (M 16001 x0) k v)) Q ↔ Q (.inl none) (mrow M 16001 x0 (flr (M 16001 x0) 10 v))) := by
    intro d
    induction d with
    | zero =>
      intro k h0 h1
      rw [t3_1_16001, if_pos (by omega), t3_2_16001, show k = 10 by omega]
    | succ d ih =>
      intro k h0 h1
      rw [t3_1_16001, if_neg (by omega), w32_id (z := k + 1) (by omega) (by omega), bd_e, mset_mrow, flr_s h0, ih (k + 1) (by omega) (by omega)]
      exact andi (by omega) Iff.rfl
  have l0 := loop 10 0 (by omega) (by omega)
  rw [flr_0, mrow_self] at l0
  rw [t3_0_16001, l0]
theorem m3_16002 {M : Mem} {Q : AR → Mem → Prop} {x0 : Int} {v : Int} : Tq 3 0 [vR 16002 x0, vI v, vJ, vJ] [] M Q ↔ Q (.inl none) (mrow M 16002 x0 (flr (M 16002 x0) 12 v)) := by
  have loop : ∀ (d : Nat) (k : Int), 0 ≤ k → k + d = 12 → (Tq 3 1 [vR 16002 x0, vI v, vI k, vI 12] [] (mrow M 16002 x0 (flr (M 16002 x0) k v)) Q ↔ Q (.inl none) (mrow M 16002 x0 (flr (M 16002 x0) 12 v))) := by
    intro d
    induction d with
    | zero =>
      intro k h0 h1
      rw [t3_1_16002, if_pos (by omega), t3_2_16002, show k = 12 by omega]
    | succ d ih =>
      intro k h0 h1
      rw [t3_1_16002, if_neg (by omega), w32_id (z := k + 1) (by omega) (by omega), bd_e, mset_mrow, flr_s h0, ih (k + 1) (by omega) (by omega)]
      exact andi (by omega) Iff.rfl
  have l0 := loop 12 0 (by omega) (by omega)
  rw [flr_0, mrow_self] at l0
  rw [t3_0_16002, l0]
theorem m3_19006 {M : Mem} {Q : AR → Mem → Prop} {v : Int} : Tq 3 0 [vR 19006 0, vI v, vJ, vJ] [] M Q ↔ Q (.inl none) (mrow M 19006 0 (flr (M 19006 0) 24 v)) := by
  have loop : ∀ (d : Nat) (k : Int), 0 ≤ k → k + d = 24 → (Tq 3 1 [vR 19006 0, vI v, vI k, vI 24] [] (mrow M 19006 0 (flr (M 19006 0) k v)) Q ↔ Q (.inl none) (mrow M 19006 0 (flr (M 19006 0) 24 v))) := by
    intro d
    induction d with
    | zero =>
      intro k h0 h1
      rw [t3_1_19006, if_pos (by omega), t3_2_19006, show k = 24 by omega]
    | succ d ih =>
      intro k h0 h1
      rw [t3_1_19006, if_neg (by omega), w32_id (z := k + 1) (by omega) (by omega), bd_e, mset_mrow, flr_s h0, ih (k + 1) (by omega) (by omega)]
      exact andi (by omega) Iff.rfl
  have l0 := loop 24 0 (by omega) (by omega)
  rw [flr_0, mrow_self] at l0
  rw [t3_0_19006, l0]
theorem m3_21002 {M : Mem} {Q : AR → Mem → Prop} {v : Int} : Tq 3 0 [vR 21002 0, vI v, vJ, vJ] [] M Q ↔ Q (.inl none) (mrow M 21002 0 (flr (M 21002 0) 1024 v)) := by
  have loop : ∀ (d : Nat) (k : Int), 0 ≤ k → k + d = 1024 → (Tq 3 1 [vR 21002 0, vI v, vI k, vI 1024] [] (mrow M 21002 0 (flr (M 21002 0) k v)) Q ↔ Q (.inl none) (mrow M 21002 0 (flr (M 21002 0) 1024 v))) := by
    intro d
    induction d with
    | zero =>
      intro k h0 h1
      rw [t3_1_21002, if_pos (by omega), t3_2_21002, show k = 1024 by omega]
    | succ d ih =>
      intro k h0 h1
      rw [t3_1_21002, if_neg (by omega), w32_id (z := k + 1) (by omega) (by omega), bd_e, mset_mrow, flr_s h0, ih (k + 1) (by omega) (by omega)]
      exact andi (by omega) Iff.rfl
  have l0 := loop 1024 0 (by omega) (by omega)
  rw [flr_0, mrow_self] at l0
  rw [t3_0_21002, l0]
theorem m3_21003 {M : Mem} {Q : AR → Mem → Prop} {v : Int} : Tq 3 0 [vR 21003 0, vI v, vJ, vJ] [] M Q ↔ Q (.inl none) (mrow M 21003 0 (flr (M 21003 0) 1024 v)) := by
  have loop : ∀ (d : Nat) (k : Int), 0 ≤ k → k + d = 1024 → (Tq 3 1 [vR 21003 0, vI v, vI k, vI 1024] [] (mrow M 21003 0 (flr (M 21003 0) k v)) Q ↔ Q (.inl none) (mrow M 21003 0 (flr (M 21003 0) 1024 v))) := by
    intro d
    induction d with
    | zero =>
      intro k h0 h1
      rw [t3_1_21003, if_pos (by omega), t3_2_21003, show k = 1024 by omega]
    | succ d ih =>
      intro k h0 h1
      rw [t3_1_21003, if_neg (by omega), w32_id (z := k + 1) (by omega) (by omega), bd_e, mset_mrow, flr_s h0, ih (k + 1) (by omega) (by omega)]
      exact andi (by omega) Iff.rfl
  have l0 := loop 1024 0 (by omega) (by omega)
  rw [flr_0, mrow_self] at l0
  rw [t3_0_21003, l0]
theorem m3_21004 {M : Mem} {Q : AR → Mem → Prop} {v : Int} : Tq 3 0 [vR 21004 0, vI v, vJ, vJ] [] M Q ↔ Q (.inl none) (mrow M 21004 0 (flr (M 21004 0) 1024 v)) := by
  have loop : ∀ (d : Nat) (k : Int), 0 ≤ k → k + d = 1024 → (Tq 3 1 [vR 21004 0, vI v, vI k, vI 1024] [] (mrow M 21004 0 (flr (M 21004 0) k v)) Q ↔ Q (.inl none) (mrow M 21004 0 (flr (M 21004 0) 1024 v))) := by
    intro d
    induction d with
    | zero =>
      intro k h0 h1
      rw [t3_1_21004, if_pos (by omega), t3_2_21004, show k = 1024 by omega]
    | succ d ih =>
      intro k h0 h1
      rw [t3_1_21004, if_neg (by omega), w32_id (z := k + 1) (by omega) (by omega), bd_e, mset_mrow, flr_s h0, ih (k + 1) (by omega) (by omega)]
      exact andi (by omega) Iff.rfl
  have l0 := loop 1024 0 (by omega) (by omega)
  rw [flr_0, mrow_self] at l0
  rw [t3_0_21004, l0]
theorem m3_21005 {M : Mem} {Q : AR → Mem → Prop} {v : Int} : Tq 3 0 [vR 21005 0, vI v, vJ, vJ] [] M Q ↔ Q (.inl none) (mrow M 21005 0 (flr (M 21005 0) 1024 v)) := by
  have loop : ∀ (d : Nat) (k : Int), 0 ≤ k → k + d = 1024 → (Tq 3 1 [vR 21005 0, vI v, vI k, vI 1024] [] (mrow M 21005 0 (flr (M 21005 0) k v)) Q ↔ Q (.inl none) (mrow M 21005 0 (flr (M 21005 0) 1024 v))) := by
    intro d
    induction d with
    | zero =>
      intro k h0 h1
      rw [t3_1_21005, if_pos (by omega), t3_2_21005, show k = 1024 by omega]
    | succ d ih =>
      intro k h0 h1
      rw [t3_1_21005, if_neg (by omega), w32_id (z := k + 1) (by omega) (by omega), bd_e, mset_mrow, flr_s h0, ih (k + 1) (by omega) (by omega)]
      exact andi (by omega) Iff.rfl
  have l0 := loop 1024 0 (by omega) (by omega)
  rw [flr_0, mrow_self] at l0
  rw [t3_0_21005, l0]
theorem m3_21006 {M : Mem} {Q : AR → Mem → Prop} {v : Int} : Tq 3 0 [vR 21006 0, vI v, vJ, vJ] [] M Q ↔ Q (.inl none) (mrow M 21006 0 (flr (M 21006 0) 1024 v)) := by
  have loop : ∀ (d : Nat) (k : Int), 0 ≤ k → k + d = 1024 → (Tq 3 1 [vR 21006 0, vI v, vI k, vI 1024] [] (mrow M 21006 0 (flr (M 21006 0) k v)) Q ↔ Q (.inl none) (mrow M 21006 0 (flr (M 21006 0) 1024 v))) := by
    intro d
    induction d with
    | zero =>
      intro k h0 h1
      rw [t3_1_21006, if_pos (by omega), t3_2_21006, show k = 1024 by omega]
    | succ d ih =>
      intro k h0 h1
      rw [t3_1_21006, if_neg (by omega), w32_id (z := k + 1) (by omega) (by omega), bd_e, mset_mrow, flr_s h0, ih (k + 1) (by omega) (by omega)]
      exact andi (by omega) Iff.rfl
  have l0 := loop 1024 0 (by omega) (by omega)
  rw [flr_0, mrow_self] at l0
  rw [t3_0_21006, l0]
theorem m3_21007 {M : Mem} {Q : AR → Mem → Prop} {v : Int} : Tq 3 0 [vR 21007 0, vI v, vJ, vJ] [] M Q ↔ Q (.inl none) (mrow M 21007 0 (flr (M 21007 0) 1024 v)) := by
  have loop : ∀ (d : Nat) (k : Int), 0 ≤ k → k + d = 1024 → (Tq 3 1 [vR 21007 0, vI v, vI k, vI 1024] [] (mrow M 21007 0 (flr (M 21007 0) k v)) Q ↔ Q (.inl none) (mrow M 21007 0 (flr (M 21007 0) 1024 v))) := by
    intro d
    induction d with
    | zero =>
      intro k h0 h1
      rw [t3_1_21007, if_pos (by omega), t3_2_21007, show k = 1024 by omega]
    | succ d ih =>
      intro k h0 h1
      rw [t3_1_21007, if_neg (by omega), w32_id (z := k + 1) (by omega) (by omega), bd_e, mset_mrow, flr_s h0, ih (k + 1) (by omega) (by omega)]
      exact andi (by omega) Iff.rfl
  have l0 := loop 1024 0 (by omega) (by omega)
  rw [flr_0, mrow_self] at l0
  rw [t3_0_21007, l0]
theorem m4_8007 {M : Mem} {Q : AR → Mem → Prop} {v : Int} (hv : v = 0 ∨ v = 1) : Tq 4 0 [vR 8007 0, vI v, vJ, vJ] [] M Q ↔ Q (.inl none) (mrow M 8007 0 (flr (M 8007 0) 16384 v)) := by
  have loop : ∀ (d : Nat) (k : Int), 0 ≤ k → k + d = 16384 → (Tq 4 1 [vR 8007 0, vI v, vI k, vI 16384] [] (mrow M 8007 0 (flr (M 8007 0) k v)) Q ↔ Q (.inl none) (mrow M 8007 0 (flr (M 8007 0) 16384 v))) := by
    intro d
    induction d with
    | zero =>
      intro k h0 h1
      rw [t4_1_8007, if_pos (by omega), t4_2_8007, show k = 16384 by omega]
    | succ d ih =>
      intro k h0 h1
      rw [t4_1_8007, if_neg (by omega), w32_id (z := k + 1) (by omega) (by omega), bd_e, mset_mrow, nb_id hv, flr_s h0, ih (k + 1) (by omega) (by omega)]
      exact andi (by omega) Iff.rfl
  have l0 := loop 16384 0 (by omega) (by omega)
  rw [flr_0, mrow_self] at l0
  rw [t4_0_8007, l0]
theorem m4_5004 {M : Mem} {Q : AR → Mem → Prop} {v : Int} (hv : v = 0 ∨ v = 1) : Tq 4 0 [vR 5004 0, vI v, vJ, vJ] [] M Q ↔ Q (.inl none) (mrow M 5004 0 (flr (M 5004 0) 49152 v)) := by
  have loop : ∀ (d : Nat) (k : Int), 0 ≤ k → k + d = 49152 → (Tq 4 1 [vR 5004 0, vI v, vI k, vI 49152] [] (mrow M 5004 0 (flr (M 5004 0) k v)) Q ↔ Q (.inl none) (mrow M 5004 0 (flr (M 5004 0) 49152 v))) := by
    intro d
    induction d with
    | zero =>
      intro k h0 h1
      rw [t4_1_5004, if_pos (by omega), t4_2_5004, show k = 49152 by omega]
    | succ d ih =>
      intro k h0 h1
      rw [t4_1_5004, if_neg (by omega), w32_id (z := k + 1) (by omega) (by omega), bd_e, mset_mrow, nb_id hv, flr_s h0, ih (k + 1) (by omega) (by omega)]
      exact andi (by omega) Iff.rfl
  have l0 := loop 49152 0 (by omega) (by omega)
  rw [flr_0, mrow_self] at l0
  rw [t4_0_5004, l0]
