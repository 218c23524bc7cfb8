/-! ASSOCIATE: the component's find, over all halts -/
noncomputable def wC (M P : Mem) (tol h o : Int) : Int := cw (M 18004 0) (M 18006 0) (csr M P (hX h) (hY h) (hZ h)) (ckd M) o tol (M 18 0 0).toNat
noncomputable def nC (M P : Mem) (tol h o : Int) : Int := cw (fun _ => 1) (M 18006 0) (csr M P (hX h) (hY h) (hZ h)) (ckd M) o tol (M 18 0 0).toNat
def oC (M P : Mem) (h t : Int) : Prop := ∃ p, 0 ≤ p ∧ p < M 18 0 0 ∧ M 18006 0 p = -99999999 ∧ csr M P (hX h) (hY h) (hZ h) p = t
def SFi (f : Nat) (i k : Int) : Prop := SFd f i k ∨ SLk f i k
theorem hXYZ {h : Int} (hh : 0 ≤ h ∧ h < 1024) : (0 ≤ hX h ∧ hX h ≤ 63) ∧ (0 ≤ hY h ∧ hY h ≤ 63) ∧ (0 ≤ hZ h ∧ hZ h ≤ 15) := by unfold hX hY hZ; omega
section Find2
variable {M0 P : Mem} {tol num : Int}
/-- a halt: sorted, looked at -/
theorem halt_1 (hw : WEa P) (hn : WNet P) (hp : PkC M0 (P 22 0 9)) (hc : CNet M0 P) (ht : 0 ≤ tol ∧ tol ≤ 64) {h : Nat} (hh : h < 1024) {M : Mem} {b hh1 o : Int} (hf : Fr SFi M0 M) (hC : CEa M P) (hR : RchH (wC M0 P tol) (oC M0 P) h b hh1 o) (hS : CSt M (nC M0 P tol) b hh1 o) : ∃ M' b' hh' o', Fr SFi M0 M' ∧ CEa M' P ∧ RchH (wC M0 P tol) (oC M0 P) (h + 1) b' hh' o' ∧ CSt M' (nC M0 P tol) b' hh' o' ∧ ∀ Q : AR → Mem → Prop, (Tq 150 0 [vR 19 0, vI (hX h), vI (hY h), vI (hZ h), vJ, vJ, vJ, vJ] [] M (kV fun M1 => Tq 151 0 [vR 19 0, vI tol, vI (hX h), vI (hY h), vI (hZ h), vJ, vJ, vJ, vJ, vJ, vJ, vJ] [] M1 (kV fun M2 => Q (.inl none) M2)) ↔ Q (.inl none) M') := by
  obtain ⟨x1, x2, x3⟩ := hXYZ (h := h) (by omega)
  have hp0 := hp.1
  have hn9 := hn.1
  have notS : ∀ (f : Nat) (i k : Int), f = 18 ∨ f = 18001 ∨ f = 18002 ∨ f = 18003 ∨ f = 18004 ∨ f = 18005 ∨ f = 18006 → ¬ SFi f i k := fun f i k q => by unfold SFi SFd SLk SEaC; omega
  have r1 : ∀ {f : Nat}, f = 18001 ∨ f = 18002 ∨ f = 18003 ∨ f = 18004 ∨ f = 18005 ∨ f = 18006 → M f 0 = M0 f 0 := fun q => hf.row _ _ (fun k => notS _ _ _ (by omega))
  have p1 : PkC M (P 22 0 9) := PkC_fr hp hf (fun f i k q => notS _ _ _ (by omega))
  have c1 : CNet M P := CNet_fr hc hf (fun f i k hl => by unfold LCNet at hl; unfold SFi SFd SLk SEaC; omega)
  have n0 : M 18 0 0 = M0 18 0 0 := hf _ _ _ (notS _ _ _ (by omega))
  have es : csr M P (hX h) (hY h) (hZ h) = csr M0 P (hX h) (hY h) (hZ h) := by unfold csr; rw [r1 (f := 18001) (by omega), r1 (f := 18002) (by omega), r1 (f := 18003) (by omega)]
  have ek : ckd M = ckd M0 := by unfold ckd; rw [r1 (f := 18001) (by omega), r1 (f := 18003) (by omega)]
  obtain ⟨M1, a1, a2, ⟨a3, a4⟩, a5⟩ := m150 hw hn p1 x1 x2 x3 c1 hC
  rw [es, n0, r1 (f := 18006) (by omega)] at a3
  have s1 : ∀ {f : Nat}, f = 18001 ∨ f = 18002 ∨ f = 18003 ∨ f = 18004 ∨ f = 18005 ∨ f = 18006 → M1 f 0 = M0 f 0 := fun q => by rw [← r1 q]; exact a1.row _ _ (fun k => by unfold SFd SEaC; omega)
  have ek1 : ckd M1 = ckd M0 := by unfold ckd; rw [s1 (f := 18001) (by omega), s1 (f := 18003) (by omega)]
  have hm := a3.1
  have hLk : LkO M1 (M1 19 0 2) := by
    refine ⟨rfl, by omega, fun k k1 k2 => ?_, fun i j i1 i2 i3 => ?_, ?_⟩
    · obtain ⟨o1, o2, o3⟩ := a3.2.1 k k1 k2
      obtain ⟨q1, q2, q3, q4, q5⟩ := hp.2 _ o1.1 o1.2
      have q6 := csr_rng hw hn hp x1 x2 x3 o1.1 o1.2
      rw [s1 (f := 18001) (by omega), s1 (f := 18003) (by omega), s1 (f := 18004) (by omega), o3]
      exact ⟨by omega, by omega, q3, q4, q6⟩
    · by_cases q : i = j
      · rw [q]; exact Int.le_refl _
      · have := a3.2.2.1 i j i1 (by omega) i3
        omega
    · rw [ek1, ← ek]
      exact a4
  have hS1 : CSt M1 (nC M0 P tol) b hh1 o := CSt_fr hS a1 (fun k k1 k2 => by unfold SFd SEaC; omega)
  have rg := RchH_rng h b hh1 o hR
  generalize hM2 : mrow M1 19006 0 (flr (M1 19006 0) 24 0) = M2
  have hn' : SrtI (M0 18006 0) (csr M0 P (hX h) (hY h) (hZ h)) (M1 19003 0) (M1 19004 0) (M1 19 0 2) ((M0 18 0 0).toNat : Int) := by
    rw [show (((M0 18 0 0).toNat : Nat) : Int) = M0 18 0 0 by omega]; exact a3
  obtain ⟨M3, b', hh', o', z1, z2, z3, z4⟩ := m151_1 (N := nC M0 P tol) (b0 := b) (h0 := hh1) (o0 := o) (h := h) hLk hn' ht (by omega) (by omega) (fun o => by unfold nC; rw [ek1]) (M1 19 0 2).toNat 0 0 M2 b hh1 o (by omega) (by omega) (by omega) (fun _ => rfl) (fun q => by omega) (by rw [← hM2]; exact Fr.mrow Fr.refl (fun k => Or.inl rfl)) (fun g g1 g2 => by rw [← hM2, mrow_s, flr_in ⟨g1, g2⟩]; rfl) (HR_none (fun t q => by obtain ⟨j, j1, j2, _⟩ := q; omega)) (CSt_fr hS1 (S := fun f _ _ => f = 19006) (by rw [← hM2]; exact Fr.mrow Fr.refl (fun _ => rfl)) (fun k _ _ => by simp))
  refine ⟨M3, b', hh', o', ?_, ?_, ⟨b, hh1, o, hR, ?_⟩, z3, fun Q => ?_⟩
  · exact (hf.trans (a1.mono (fun f i k q => Or.inl q))).trans (z1.mono (fun f i k q => Or.inr q))
  · refine CEa_fr a2 z1 (fun f i k hl => ?_)
    unfold LCEa at hl
    unfold SLk
    omega
  · rw [ek1, s1 (f := 18004) (by omega)] at z2
    refine HR_cg z2 (fun t => ?_) (fun _ _ => rfl)
    constructor
    · rintro ⟨p, p1, p2, p3, p4⟩
      obtain ⟨k, k1, k2, k3⟩ := a3.2.2.2 p p1 p2 p3
      refine ⟨k, k1, k2, ?_⟩
      rw [(a3.2.1 k k1 k2).2.2, k3, p4]
    · rintro ⟨k, k1, k2, k3⟩
      obtain ⟨o1, o2, o3⟩ := a3.2.1 k k1 k2
      exact ⟨M1 19003 0 k, o1.1, o1.2, o2, by rw [← o3, k3]⟩
  · have f0 : FW (wF M1) (kF M1) 0 ((0 : Int) - 0).toNat = 0 := FW_0
    have f1 : FW (fun _ => 1) (kF M1) 0 ((0 : Int) - 0).toNat = 0 := FW_0
    have := z4 (kV fun M2 => Q (.inl none) M2)
    rw [f0, f1] at this
    rw [a5, kV_v, t151_0, m3_19006, kV_v, hM2, this, kV_v]
/-- the state of a find behind so many halts -/
def FdS (M0 P : Mem) (tol : Int) (h : Nat) (M : Mem) : Prop := Fr SFi M0 M ∧ CEa M P ∧ ∃ b hh o, RchH (wC M0 P tol) (oC M0 P) h b hh o ∧ CSt M (nC M0 P tol) b hh o
theorem m149_3 (hw : WEa P) (hn : WNet P) (hp : PkC M0 (P 22 0 9)) (hc : CNet M0 P) (ht : 0 ≤ tol ∧ tol ≤ 64) {z y : Nat} (hz : z < 4) (hy : y < 16) : ∀ (r x : Nat) (M : Mem), x + r = 16 → FdS M0 P tol (256 * z + 16 * y + x) M → ∃ M', FdS M0 P tol (256 * z + 16 * (y + 1)) M' ∧ ∀ Q : AR → Mem → Prop, (Tq 149 3 [vR 19 0, vI tol, vI num, vI (1 + 4 * z), vI (2 + 4 * y), vI (2 + 4 * x)] [] M Q ↔ Tq 149 2 [vR 19 0, vI tol, vI num, vI (1 + 4 * z), vI (2 + 4 * ((y : Int) + 1)), vJ] [] M' Q) := by
  intro r
  induction r with
  | zero =>
    intro x M hx hS
    refine ⟨M, ?_, fun Q => ?_⟩
    · rw [show 256 * z + 16 * (y + 1) = 256 * z + 16 * y + x by omega]
      exact hS
    · rw [t149_3, if_pos (by omega), t149_4, w32_id (z := 2 + 4 * (y : Int) + 4) (by omega) (by omega), show 2 + 4 * (y : Int) + 4 = 2 + 4 * ((y : Int) + 1) by omega]
  | succ r ih =>
    intro x M hx hS
    obtain ⟨s1, s2, b, hh, o, s3, s4⟩ := hS
    obtain ⟨M1, b', hh', o', a1, a2, a3, a4, a5⟩ := halt_1 hw hn hp hc ht (h := 256 * z + 16 * y + x) (by omega) s1 s2 s3 s4
    obtain ⟨M2, c1, c2⟩ := ih (x + 1) M1 (by omega) ⟨a1, a2, b', hh', o', a3, a4⟩
    refine ⟨M2, c1, fun Q => ?_⟩
    have e1 : hX ((256 * z + 16 * y + x : Nat) : Int) = 2 + 4 * x := by unfold hX; omega
    have e2 : hY ((256 * z + 16 * y + x : Nat) : Int) = 2 + 4 * y := by unfold hY; omega
    have e3 : hZ ((256 * z + 16 * y + x : Nat) : Int) = 1 + 4 * z := by unfold hZ; omega
    rw [e1, e2, e3] at a5
    have d2 := c2 Q
    rw [show 2 + 4 * ((x + 1 : Nat) : Int) = 2 + 4 * (x : Int) + 4 by omega] at d2
    rw [t149_3, if_neg (by omega), w32_id (z := 2 + 4 * (x : Int) + 4) (by omega) (by omega)]
    exact (a5 (fun _ M2 => Tq 149 3 [vR 19 0, vI tol, vI num, vI (1 + 4 * z), vI (2 + 4 * y), vI (2 + 4 * (x : Int) + 4)] [] M2 Q)).trans d2
theorem m149_2 (hw : WEa P) (hn : WNet P) (hp : PkC M0 (P 22 0 9)) (hc : CNet M0 P) (ht : 0 ≤ tol ∧ tol ≤ 64) {z : Nat} (hz : z < 4) : ∀ (r y : Nat) (M : Mem), y + r = 16 → FdS M0 P tol (256 * z + 16 * y) M → ∃ M', FdS M0 P tol (256 * (z + 1)) M' ∧ ∀ Q : AR → Mem → Prop, (Tq 149 2 [vR 19 0, vI tol, vI num, vI (1 + 4 * z), vI (2 + 4 * y), vJ] [] M Q ↔ Tq 149 1 [vR 19 0, vI tol, vI num, vI (1 + 4 * ((z : Int) + 1)), vJ, vJ] [] M' Q) := by
  intro r
  induction r with
  | zero =>
    intro y M hx hS
    refine ⟨M, ?_, fun Q => ?_⟩
    · rw [show 256 * (z + 1) = 256 * z + 16 * y by omega]
      exact hS
    · rw [t149_2, if_pos (by omega), t149_5, w32_id (z := 1 + 4 * (z : Int) + 4) (by omega) (by omega), show 1 + 4 * (z : Int) + 4 = 1 + 4 * ((z : Int) + 1) by omega]
  | succ r ih =>
    intro y M hx hS
    obtain ⟨M1, a1, a2⟩ := m149_3 (num := num) hw hn hp hc ht (z := z) (y := y) hz (by omega) 16 0 M (by omega) hS
    obtain ⟨M2, c1, c2⟩ := ih (y + 1) M1 (by omega) a1
    refine ⟨M2, c1, fun Q => ?_⟩
    have d1 := a2 Q
    have d2 := c2 Q
    rw [show 2 + 4 * ((0 : Nat) : Int) = 2 from rfl] at d1
    rw [show ((y + 1 : Nat) : Int) = (y : Int) + 1 by omega] at d2
    rw [t149_2, if_neg (by omega), d1, d2]
theorem m149_1 (hw : WEa P) (hn : WNet P) (hp : PkC M0 (P 22 0 9)) (hc : CNet M0 P) (ht : 0 ≤ tol ∧ tol ≤ 64) : ∀ (r z : Nat) (M : Mem), z + r = 4 → FdS M0 P tol (256 * z) M → ∃ M', FdS M0 P tol 1024 M' ∧ ∀ Q : AR → Mem → Prop, (Tq 149 1 [vR 19 0, vI tol, vI num, vI (1 + 4 * z), vJ, vJ] [] M Q ↔ Tq 149 6 [vR 19 0, vJ, vI num, vJ, vJ, vJ] [] M' Q) := by
  intro r
  induction r with
  | zero =>
    intro z M hx hS
    refine ⟨M, ?_, fun Q => ?_⟩
    · rw [show 1024 = 256 * z by omega]
      exact hS
    · rw [t149_1, if_pos (by omega)]
  | succ r ih =>
    intro z M hx hS
    obtain ⟨M1, a1, a2⟩ := m149_2 (num := num) hw hn hp hc ht (z := z) (by omega) 16 0 M (by omega) hS
    obtain ⟨M2, c1, c2⟩ := ih (z + 1) M1 (by omega) a1
    refine ⟨M2, c1, fun Q => ?_⟩
    have d1 := a2 Q
    have d2 := c2 Q
    rw [show 2 + 4 * ((0 : Nat) : Int) = 2 from rfl] at d1
    rw [show ((z + 1 : Nat) : Int) = (z : Int) + 1 by omega] at d2
    rw [t149_1, if_neg (by omega), d1, d2]
theorem m149 (hw : WEa P) (hn : WNet P) (hp : PkC M0 (P 22 0 9)) (hc : CNet M0 P) (ht : 0 ≤ tol ∧ tol ≤ 64) (hC : CEa M0 P) : ∃ M' b hh o, Fr SFi M0 M' ∧ CEa M' P ∧ RchH (wC M0 P tol) (oC M0 P) 1024 b hh o ∧ CSt M' (nC M0 P tol) b hh o ∧ ∀ Q : AR → Mem → Prop, (Tq 149 0 [vR 19 0, vI tol, vI num, vJ, vJ, vJ] [] M0 Q ↔ Q (.inl (some (vI (b2i (num ≤ b ∧ 3 ≤ M' 19 0 8))))) M') := by
  have f0 : Fr SFi M0 (mset (mset M0 19 0 7 0) 19 0 8 0) := Fr.mset (Fr.mset Fr.refl (Or.inr (Or.inr ⟨rfl, by decide, by decide⟩))) (Or.inr (Or.inr ⟨rfl, by decide, by decide⟩))
  obtain ⟨M', ⟨a1, a2, b, hh, o, a3, a4⟩, a5⟩ := m149_1 (num := num) hw hn hp hc ht 4 0 (mset (mset M0 19 0 7 0) 19 0 8 0) (by omega) ⟨f0, CEa_cg (fun f i k hl => by unfold LCEa at hl; rw [mset_3, if_neg (by omega), mset_3, if_neg (by omega)]) (fun _ _ _ _ => rfl) hC, 0, -99999999, 0, ⟨rfl, rfl, rfl⟩, by rw [mset_3, if_neg (by simp), mset_3, if_pos ⟨rfl, rfl, rfl⟩], Or.inl ⟨rfl, by rw [mset_3, if_pos ⟨rfl, rfl, rfl⟩]⟩⟩
  refine ⟨M', b, hh, o, a1, a2, a3, a4, fun Q => ?_⟩
  have d := a5 Q
  rw [show 1 + 4 * ((0 : Nat) : Int) = 1 from rfl] at d
  rw [t149_0, bd_e, bd_e, d, t149_6, t149_7, t149_8, t149_8, a4.1]
  by_cases q : num ≤ b
  · rw [if_neg (by omega)]
    by_cases q2 : 3 ≤ M' 19 0 8
    · rw [if_neg (by omega), b2i_t ⟨q, q2⟩]
      exact Iff.rfl
    · rw [if_pos (by omega), b2i_f (fun h => q2 h.2)]
      exact Iff.rfl
  · rw [if_pos (by omega), b2i_f (fun h => q h.1)]
    exact Iff.rfl
end Find2
