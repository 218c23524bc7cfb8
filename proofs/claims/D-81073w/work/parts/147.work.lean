/-! EARTH: the component's work -/
/-- the costs are the least ones -/
def LeE (sl d : Int → Int) : Prop := Fea (EdE sl) 0 d ∧ ∀ v : Int, 0 ≤ v → v < 1440 → d v ≤ 2147483647 ∧ 0 ≤ d v ∧ Att (EdE sl) 0 d v
theorem LeE_uniq {sl d d' : Int → Int} (hs : SlO sl) (h : LeE sl d) (h' : LeE sl d') {v : Int} (h1 : 0 ≤ v) (h2 : v < 1440) : d v = d' v :=
  FA_uniq (fun u v c he => (EdE_R hs u v c he).2.2.1) h.1 (h.2 v h1 h2).1 (h.2 v h1 h2).2.2 h'.1 (h'.2 v h1 h2).1 (h'.2 v h1 h2).2.2
section Work
variable {ph : Int} {sl : Int → Int}
theorem m164_1 (hph : ph = 0 ∨ ph = 1) (hsl : SlO sl) : ∀ (r : Nat) (M : Mem) (D : Int → Prop) (hD : DecidablePred D) (m : Int), 17 * (1440 - cntp D 1440) + M 2 0 1 ≤ r → (∀ z, 0 ≤ z → z < 16 → M 3000 0 (16 * ph + z) = sl z) → Hp (M 2000 0) (M 2 0 1) → (0 ≤ M 2 0 1 ∧ M 2 0 1 ≤ 1 + 16 * cntp D 1440) → DJ (EdE sl) 0 1440 (M 3001 0) (Mb (M 2000 0) (M 2 0 1)) D m (cntp D 1440) →
    ∃ M', Fr SDj M M' ∧ LeE sl (M' 3001 0) ∧ ∀ Q : AR → Mem → Prop, (Tq 164 1 [vR 3 0, vI ph, vJ, vJ, vJ] [] M Q ↔ Tq 164 3 [vR 3 0, vI ph, vJ, vJ, vJ] [] M' Q) := by
  intro r
  induction r with
  | zero =>
    intro M D hD m hr hM hp hz hj
    have hc := cntp_rng (p := D) 1440
    refine ⟨M, Fr.refl, DJ_end (EdE_R hsl) hj (fun e he => ?_) (by omega), fun Q => by rw [t164_1, if_pos (by omega)]⟩
    obtain ⟨k, k1, k2, k3⟩ := he
    omega
  | succ r ih =>
    intro M D hD m hr hM hp hz hj
    have hc := cntp_rng (p := D) 1440
    by_cases h0 : M 2 0 1 ≤ 0
    · refine ⟨M, Fr.refl, DJ_end (EdE_R hsl) hj (fun e he => ?_) (by omega), fun Q => by rw [t164_1, if_pos h0]⟩
      obtain ⟨k, k1, k2, k3⟩ := he
      omega
    · obtain ⟨g', g1, g2, g3, g4⟩ := m105 (M := M) (by omega) hp
      have htop : Mb (M 2000 0) (M 2 0 1) (M 2000 0 0) := ⟨0, by omega, by omega, rfl⟩
      obtain ⟨c0, v0, e1, e2, e3, e4, e5, e6⟩ := hj.2.2.2.2 _ htop
      have hmin : ∀ e, Mb (M 2000 0) (M 2 0 1) e → c0 * 65536 + v0 ≤ e := fun e he => by
        obtain ⟨k, k1, k2, k3⟩ := he
        rw [← e1, ← k3]
        exact Hp_min hp k1 k2
      rw [e1] at g3 g4 htop
      generalize hM1 : mrow (mset M 2 0 1 (M 2 0 1 - 1)) 2000 0 g' = M1 at g4
      have f1 : M1 2000 0 = g' := by rw [← hM1, mrow_s]
      have f2 : M1 2 0 1 = M 2 0 1 - 1 := by rw [← hM1, mrow_n (by simp), mset_3, if_pos ⟨rfl, rfl, rfl⟩]
      have f3 : M1 3001 0 = M 3001 0 := by rw [← hM1, mrow_n (by simp), mset_o (by simp)]
      have f4 : M1 3000 0 = M 3000 0 := by rw [← hM1, mrow_n (by simp), mset_o (by simp)]
      have fr : Fr SDj M M1 := by
        rw [← hM1]
        intro f i j q
        unfold SDj at q
        rw [mrow_n (by omega), mset_3, if_neg (by omega)]
      have run : ∀ Q : AR → Mem → Prop, (Tq 164 1 [vR 3 0, vI ph, vJ, vJ, vJ] [] M Q ↔ if ¬ M 3001 0 v0 = c0 then Tq 164 1 [vR 3 0, vI ph, vJ, vJ, vJ] [] M1 Q else Tq 165 1 [vR 3 0, vI ph, vI v0, vI 0, vJ, vJ, vJ] [] M1 (kV fun M2 => Tq 164 1 [vR 3 0, vI ph, vJ, vJ, vJ] [] M2 Q)) := fun Q => by
        rw [t164_1, if_neg h0, g4, kL_v, key_lo e2.1 (by omega), key_hi e3 (by omega) e2.1 (by omega), f3, t165_0]
        simp only [t164_2]
        exact andi (by omega) Iff.rfl
      by_cases q : M 3001 0 v0 = c0
      · by_cases hd : D v0
        · have hs := DJ_sp (b := cntp D 1440 * 155844) hj hmin e2 (by decide) q htop g2 g3 (by omega) (by omega)
          rw [← f1, ← f2, ← f3] at hs
          obtain ⟨M', a1, a2, a3, a4, a5, a6, a7⟩ := m165_1 (D := D) (c0 := c0) (b := cntp D 1440 * 155844) (sz0 := M 2 0 1 - 1) hph hsl e2 (Or.inl hd) (by omega) (by omega) (by omega) 16 0 M1 (by omega) (by omega) (by rw [f4]; exact hM) (by rw [f1, f2]; exact g1) (by rw [f3]; exact q) (by rw [f2]; omega) (fun _ => by rw [f2]; omega) (SPI_R hs (fun w c q => by obtain ⟨_, j, _, _, _⟩ := q; omega))
          have hj2 := SPI_end2 a6 hd
          obtain ⟨M'', b1, b2, b3⟩ := ih M' D hD _ (by have := a5 hd; omega) (by rw [a1.row 3000 0 (by simp [SDj]), f4]; exact hM) a2 (by have := a5 hd; omega) hj2
          refine ⟨M'', fr.trans (a1.trans b1), b2, fun Q => ?_⟩
          rw [run Q, if_neg (by simpa using q), a7, kV_v, b3 Q]
        · have hs := DJ_sp (b := (cntp D 1440 + 1) * 155844) hj hmin e2 (by decide) q htop g2 g3 (by omega) (by omega)
          rw [← f1, ← f2, ← f3] at hs
          obtain ⟨M', a1, a2, a3, a4, a5, a6, a7⟩ := m165_1 (D := D) (c0 := c0) (b := (cntp D 1440 + 1) * 155844) (sz0 := M 2 0 1 - 1) hph hsl e2 (Or.inr (by omega)) (by omega) (by omega) (by omega) 16 0 M1 (by omega) (by omega) (by rw [f4]; exact hM) (by rw [f1, f2]; exact g1) (by rw [f3]; exact q) (by rw [f2]; omega) (fun q => absurd q hd) (SPI_R hs (fun w c q => by obtain ⟨_, j, _, _, _⟩ := q; omega))
          have hcn := cntp_add (p := D) (q := fun v => D v ∨ v = v0) (a := v0) 1440 e2.1 (by omega) hd (Or.inr rfl) (fun k k1 k2 k3 => ⟨Or.inl, fun q => q.elim id (fun q => absurd q k3)⟩)
          have hj2 := SPI_end a6 (fun w c he => by
            obtain ⟨j, j1, j2, j3, j4⟩ := mv_sur he.2.2.1
            exact ⟨he, j, j1, j2, j3, j4⟩)
          rw [← hcn] at hj2
          have hc2 := cntp_rng (p := fun v => D v ∨ v = v0) 1440
          obtain ⟨M'', b1, b2, b3⟩ := ih M' (fun v => D v ∨ v = v0) (fun v => inferInstance) _ (by omega) (by rw [a1.row 3000 0 (by simp [SDj]), f4]; exact hM) a2 (by omega) hj2
          refine ⟨M'', fr.trans (a1.trans b1), b2, fun Q => ?_⟩
          rw [run Q, if_neg (by simpa using q), a7, kV_v, b3 Q]
      · have hj2 := DJ_old hj hmin e2 (by decide) q htop g2 g3
        rw [← f1, ← f2, ← f3] at hj2
        obtain ⟨M'', b1, b2, b3⟩ := ih M1 D hD _ (by omega) (by rw [f4]; exact hM) (by rw [f1, f2]; exact g1) (by omega) hj2
        refine ⟨M'', fr.trans b1, b2, fun Q => ?_⟩
        rw [run Q, if_pos q, b3 Q]
/-- the times of a phase -/
theorem m164_4 {M : Mem} (hph : ph = 0 ∨ ph = 1) (hr : ∀ v : Int, 0 ≤ v → v < 1440 → 0 ≤ M 3001 0 v ∧ M 3001 0 v ≤ 2147483647) {Q : AR → Mem → Prop} : ∀ (d : Nat) (k : Int), 0 ≤ k → k + d = 1440 → (Tq 164 4 [vR 3 0, vI ph, vI k, vJ, vJ] [] (mrow M 3002 0 (fun j => if 1440 * ph ≤ j ∧ j < 1440 * ph + k then shr32 (w32 (M 3001 0 (j - 1440 * ph) + 512)) 10 else M 3002 0 j)) Q ↔ Q (.inl none) (mrow M 3002 0 (fun j => if 1440 * ph ≤ j ∧ j < 1440 * ph + 1440 then shr32 (w32 (M 3001 0 (j - 1440 * ph) + 512)) 10 else M 3002 0 j))) := by
  intro d
  induction d with
  | zero =>
    intro k h0 h1
    rw [t164_4, if_pos (by omega), t164_5, show k = 1440 by omega]
  | succ d ih =>
    intro k h0 h1
    have nx := ih (k + 1) (by omega) (by omega)
    rw [t164_4, if_neg (by omega), w32_id (z := ph * 1440) (by omega) (by omega), w32_id (z := ph * 1440 + k) (by omega) (by omega), w32_id (z := k + 1) (by omega) (by omega), mrow_n (by simp), bd_e, mset_mrow]
    have e : fup (fun j => if 1440 * ph ≤ j ∧ j < 1440 * ph + k then shr32 (w32 (M 3001 0 (j - 1440 * ph) + 512)) 10 else M 3002 0 j) (ph * 1440 + k) (shr32 (w32 (M 3001 0 k + 512)) 10) = (fun j => if 1440 * ph ≤ j ∧ j < 1440 * ph + (k + 1) then shr32 (w32 (M 3001 0 (j - 1440 * ph) + 512)) 10 else M 3002 0 j) := by
      funext j
      rw [fup_at]
      by_cases q : j = ph * 1440 + k
      · rw [if_pos q, if_pos (by omega), show j - 1440 * ph = k by omega]
      · rw [if_neg q]
        by_cases q2 : 1440 * ph ≤ j ∧ j < 1440 * ph + k
        · rw [if_pos q2, if_pos (by omega)]
        · rw [if_neg q2, if_neg (by omega)]
    rw [e, nx]
    exact andi (by omega) (andi (by omega) Iff.rfl)
def SWk (f : Nat) (_ k : Int) : Prop := f = 3001 ∨ f = 3002 ∨ f = 2000 ∨ (f = 2 ∧ k = 1)
theorem m164 {M : Mem} (hph : ph = 0 ∨ ph = 1) (hsl : SlO sl) (hM : ∀ z, 0 ≤ z → z < 16 → M 3000 0 (16 * ph + z) = sl z) : ∃ (M' : Mem) (d : Int → Int), Fr SWk M M' ∧ LeE sl d ∧ (∀ v, 0 ≤ v → v < 1440 → M' 3002 0 (1440 * ph + v) = shr32 (w32 (d v + 512)) 10) ∧ (∀ j, (j < 1440 * ph ∨ 1440 * ph + 1440 ≤ j) → M' 3002 0 j = M 3002 0 j) ∧ ∀ Q : AR → Mem → Prop, (Tq 164 0 [vR 3 0, vI ph, vJ, vJ, vJ] [] M Q ↔ Q (.inl none) M') := by
  generalize hM2 : mset (mset (mrow M 3001 0 (flr (M 3001 0) 1440 2147483647)) 3001 0 0 0) 2 0 1 0 = M2
  have f1 : M2 2 0 1 = 0 := by rw [← hM2, mset_3, if_pos ⟨rfl, rfl, rfl⟩]
  obtain ⟨g', g1, g2, g3⟩ := m104 (M := M2) (c := 0) (x := 0) (by rw [f1]; omega) (by rw [f1]; intro k k1 k2; omega) (by omega) (by omega)
  rw [f1] at g1 g2 g3
  simp only [Int.zero_add, Int.zero_mul] at g1 g2 g3
  generalize hM3 : mrow (mset M2 2 0 1 1) 2000 0 g' = M3 at g3
  have e1 : M3 2000 0 = g' := by rw [← hM3, mrow_s]
  have e2 : M3 2 0 1 = 1 := by rw [← hM3, mrow_n (by simp), mset_3, if_pos ⟨rfl, rfl, rfl⟩]
  have e3 : M3 3001 0 = fup (flr (M 3001 0) 1440 2147483647) 0 0 := by rw [← hM3, mrow_n (by simp), mset_o (by simp), ← hM2, mset_o (by simp), mset_s, mrow_s]
  have e4 : M3 3000 0 = M 3000 0 := by rw [← hM3, mrow_n (by simp), mset_o (by simp), ← hM2, mset_o (by simp), mset_o (by simp), mrow_n (by simp)]
  have hcz : cntp (fun _ : Int => False) 1440 = 0 := by
    have : ∀ n : Nat, cntp (fun _ : Int => False) n = 0 := fun n => by
      induction n with
      | zero => rfl
      | succ n ih => unfold cntp; rw [ih, if_neg (fun q => q)]; rfl
    exact this 1440
  have hmb : ∀ e, Mb g' 1 e ↔ e = 0 := fun e => by
    rw [g2]
    constructor
    · rintro (⟨k, k1, k2, k3⟩ | q)
      · omega
      · exact q
    · exact Or.inr
  have hj : DJ (EdE sl) 0 1440 (M3 3001 0) (Mb (M3 2000 0) (M3 2 0 1)) (fun _ => False) 0 (cntp (fun _ : Int => False) 1440) := by
    rw [e1, e2, e3, hcz]
    refine ⟨by rw [fup_eq], fun v v1 v2 => ?_, fun v v1 v2 _ v3 => ?_, fun u hu => hu.elim, fun e he => ?_⟩
    · by_cases q : v = 0
      · subst q
        rw [fup_eq]
        exact Or.inr ⟨by omega, by omega, 0, rfl, rfl⟩
      · rw [fup_ne q, flr_in ⟨v1, v2⟩]
        exact Or.inl rfl
    · by_cases q : v = 0
      · subst q
        rw [fup_eq]
        exact (hmb _).mpr (by omega)
      · rw [fup_ne q, flr_in ⟨v1, v2⟩] at v3
        exact absurd rfl v3
    · exact ⟨0, 0, by have := (hmb e).mp he; omega, by omega, by omega, by omega, by rw [fup_eq]; omega, by omega⟩
  obtain ⟨M', a1, a2, a3⟩ := m164_1 hph hsl (17 * 1440 + 1) M3 (fun _ => False) (fun _ => inferInstance) 0 (by omega) (by rw [e4]; exact hM) (by rw [e1, e2]; exact g1) (by omega) hj
  have l := fun Q => m164_4 (Q := Q) (M := M') hph (fun v v1 v2 => ⟨(a2.2 v v1 v2).2.1, (a2.2 v v1 v2).1⟩) 1440 0 (by omega) (by omega)
  have e0 : mrow M' 3002 0 (fun j => if 1440 * ph ≤ j ∧ j < 1440 * ph + 0 then shr32 (w32 (M' 3001 0 (j - 1440 * ph) + 512)) 10 else M' 3002 0 j) = M' := by
    rw [show (fun j => if 1440 * ph ≤ j ∧ j < 1440 * ph + 0 then shr32 (w32 (M' 3001 0 (j - 1440 * ph) + 512)) 10 else M' 3002 0 j) = M' 3002 0 from by funext j; rw [if_neg (by omega)], mrow_self]
  rw [e0] at l
  have fr3 : Fr SWk M M3 := by
    rw [← hM3, ← hM2]
    intro f i j q
    unfold SWk at q
    rw [mrow_n (by omega), mset_3, if_neg (by omega), mset_3, if_neg (by omega), mset_3, if_neg (by omega), mrow_n (by omega)]
  have fr4 : Fr SWk M3 M' := a1.mono (fun f i k q => by unfold SDj at q; unfold SWk; omega)
  have h32 : M' 3002 0 = M 3002 0 := by
    rw [a1.row 3002 0 (by simp [SDj]), ← hM3, mrow_n (by simp), mset_o (by simp), ← hM2, mset_o (by simp), mset_o (by simp), mrow_n (by simp)]
  refine ⟨mrow M' 3002 0 (fun j => if 1440 * ph ≤ j ∧ j < 1440 * ph + 1440 then shr32 (w32 (M' 3001 0 (j - 1440 * ph) + 512)) 10 else M' 3002 0 j), M' 3001 0, fr3.trans (fr4.trans ?_), a2, fun v v1 v2 => ?_, fun j hj => ?_, fun Q => ?_⟩
  · intro f i j q
    unfold SWk at q
    rw [mrow_n (by omega)]
  · rw [mrow_s, if_pos (by omega), show 1440 * ph + v - 1440 * ph = v by omega]
  · rw [mrow_s, if_neg (by omega), h32]
  · rw [t164_0, m3_3001, kV_v, bd_e, t103_0, bd_e, hM2, kV_v, g3, kV_v, a3, t164_3, l Q]
    exact andi (by omega) Iff.rfl
end Work
