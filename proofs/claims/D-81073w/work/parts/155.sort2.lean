/-! ASSOCIATE: the next ones of their kinds -/
def nx (i : Int) : Int := if i = -1 then -99999999 else i
def NxI (κ next : Int → Int) (m : Int) : Prop := ∀ k, 0 ≤ k → k < m → next k = nx (fi κ (κ k) (k + 1) (m - k - 1).toNat)
def ordk (M : Mem) (kd : Int → Int) : Int → Int := fun k => kd (M 19003 0 k)
section Sort2
variable {M0 P : Mem} {hx hy hz : Int}
/-- from the end on -/
theorem m150_6 {M1 : Mem} {m n : Int} (hm : 0 ≤ m ∧ m ≤ 64) (ho : ∀ k, 0 ≤ k → k < m → (0 ≤ M1 19003 0 k ∧ M1 19003 0 k < 64) ∧ (0 ≤ ckd M1 (M1 19003 0 k) ∧ ckd M1 (M1 19003 0 k) < 24) ∧ 0 ≤ M1 18001 0 (M1 19003 0 k) ∧ M1 18001 0 (M1 19003 0 k) < 12) : ∀ (r : Nat) (M : Mem), (r : Int) ≤ m → Fr (fun f _ _ => f = 19005 ∨ f = 19006) M1 M → (∀ k : Int, r ≤ k → k < m → M 19005 0 k = nx (fi (ordk M1 (ckd M1)) (ordk M1 (ckd M1) k) (k + 1) (m - k - 1).toNat)) → (∀ g, 0 ≤ g → g < 24 → M 19006 0 g = nx (fi (ordk M1 (ckd M1)) g r (m - r).toNat)) → ∃ M', Fr (fun f _ _ => f = 19005 ∨ f = 19006) M1 M' ∧ NxI (ordk M1 (ckd M1)) (M' 19005 0) m ∧ ∀ Q : AR → Mem → Prop, (Tq 150 6 [vR 19 0, vJ, vJ, vJ, vI (r - 1), vJ, vJ, vJ] [] M Q ↔ Q (.inl none) M') := by
  intro r
  induction r with
  | zero =>
    intro M hr hf hN hL
    refine ⟨M, hf, fun k k1 k2 => hN k (by omega) k2, fun Q => ?_⟩
    rw [t150_6, if_pos (by decide), t150_7]
  | succ r ih =>
    intro M hr hf hN hL
    obtain ⟨o1, o2, o3⟩ := ho r (by omega) (by omega)
    have e3 : M 19003 0 = M1 19003 0 := hf.row _ _ (by simp)
    have e1 : M 18001 0 = M1 18001 0 := hf.row _ _ (by simp)
    have ep : M 18003 0 = M1 18003 0 := hf.row _ _ (by simp)
    have ek : w32 (w32 (2 * M1 18001 0 (M1 19003 0 r)) + M1 18003 0 (M1 19003 0 r)) = ordk M1 (ckd M1) r := by
      show _ = 2 * M1 18001 0 (M1 19003 0 r) + M1 18003 0 (M1 19003 0 r)
      unfold ckd at o2
      rw [w32_id (z := 2 * M1 18001 0 (M1 19003 0 r)) (by omega) (by omega), w32_id (by omega) (by omega)]
    have kr : 0 ≤ ordk M1 (ckd M1) r ∧ ordk M1 (ckd M1) r < 24 := o2
    generalize hg : ordk M1 (ckd M1) r = g at ek kr
    have lg := hL g kr.1 kr.2
    rw [show m - ((r + 1 : Nat) : Int) = m - r - 1 by omega, show ((r + 1 : Nat) : Int) = (r : Int) + 1 by omega] at lg
    generalize hM2 : mset (mset M 19005 0 r (M 19006 0 g)) 19006 0 g r = M2
    have n5 : M2 19005 0 = fup (M 19005 0) r (M 19006 0 g) := by rw [← hM2, mset_o (by simp), mset_s]
    have n6 : M2 19006 0 = fup (M 19006 0) g r := by rw [← hM2, mset_s, mset_o (by simp)]
    obtain ⟨M', z1, z2, z3⟩ := ih M2 (by omega) (by
      rw [← hM2]
      exact Fr.mset (Fr.mset hf (Or.inl rfl)) (Or.inr rfl)) (fun k k1 k2 => by
        rw [n5]
        by_cases q : k = r
        · subst q
          rw [fup_eq, hg, lg]
        · rw [fup_ne q]
          exact hN k (by omega) k2) (fun g' g1 g2 => by
        rw [n6, fup_at]
        have es : fi (ordk M1 (ckd M1)) g' r (m - r).toNat = if ordk M1 (ckd M1) r = g' then (r : Int) else fi (ordk M1 (ckd M1)) g' (r + 1) (m - r - 1).toNat := by
          rw [show (m - (r : Int)).toNat = (m - r - 1).toNat + 1 by omega]
          rfl
        rw [es, hg]
        by_cases q : g' = g
        · rw [if_pos q, if_pos q.symm]
          unfold nx
          rw [if_neg (by omega)]
        · rw [if_neg q, if_neg (fun h => q h.symm)]
          have := hL g' g1 g2
          rw [show m - ((r + 1 : Nat) : Int) = m - r - 1 by omega, show ((r + 1 : Nat) : Int) = (r : Int) + 1 by omega] at this
          exact this)
    refine ⟨M', z1, z2, fun Q => ?_⟩
    rw [show ((r + 1 : Nat) : Int) - 1 = r by omega, t150_6, if_neg (by omega), e3, e1, ep, ek, bd_e, bd_e, hM2, w32_id (z := (r : Int) + -1) (by omega) (by omega), show (r : Int) + -1 = r - 1 by omega, z3 Q]
    exact andi (by omega) (andi (by omega) (andi (by omega) (andi (by omega) (andi (by omega) (andi (by omega) (andi (by omega) Iff.rfl))))))
/-- what sorting gives -/
def SortR (M0 P : Mem) (hx hy hz : Int) (M : Mem) : Prop := SrtI (M0 18006 0) (csr M0 P hx hy hz) (M 19003 0) (M 19004 0) (M 19 0 2) (M0 18 0 0) ∧ NxI (ordk M (ckd M0)) (M 19005 0) (M 19 0 2)
theorem m150 (hw : WEa P) (hn : WNet P) (hp : PkC M0 (P 22 0 9)) (h1 : 0 ≤ hx ∧ hx ≤ 63) (h2 : 0 ≤ hy ∧ hy ≤ 63) (h3 : 0 ≤ hz ∧ hz ≤ 15) (hc : CNet M0 P) (hC : CEa M0 P) : ∃ M', Fr SFd M0 M' ∧ CEa M' P ∧ SortR M0 P hx hy hz M' ∧ ∀ Q : AR → Mem → Prop, (Tq 150 0 [vR 19 0, vI hx, vI hy, vI hz, vJ, vJ, vJ, vJ] [] M0 Q ↔ Q (.inl none) M') := by
  have hp0 := hp.1
  have hn9 := hn.1
  have f0 : Fr SFd M0 (mset M0 19 0 2 0) := Fr.mset Fr.refl (by simp [SFd])
  obtain ⟨M1, a1, a2, a3, a4⟩ := m150_1 hw hn hp h1 h2 h3 hc (M0 18 0 0).toNat 0 (mset M0 19 0 2 0) (by omega) (by omega) f0 (CEa_cg (fun f i k hl => by unfold LCEa at hl; rw [mset_3, if_neg (by omega)]) (fun _ _ _ _ => rfl) hC) ⟨by rw [mset_3, if_pos ⟨rfl, rfl, rfl⟩]; omega, fun k k1 k2 => by rw [mset_3, if_pos ⟨rfl, rfl, rfl⟩] at k2; omega, fun i j i1 i2 i3 => by rw [mset_3, if_pos ⟨rfl, rfl, rfl⟩] at i3; omega, fun p p1 p2 => by omega⟩
  generalize hM2 : mrow M1 19006 0 (flr (M1 19006 0) 24 (-99999999)) = M2
  have e2 : M2 19 0 2 = M1 19 0 2 := by rw [← hM2, mrow_n (by simp)]
  have e3 : M2 19003 0 = M1 19003 0 := by rw [← hM2, mrow_n (by simp)]
  have e4 : M2 19004 0 = M1 19004 0 := by rw [← hM2, mrow_n (by simp)]
  have fr2 : Fr SFd M1 M2 := by
    rw [← hM2]
    intro f i j q
    unfold SFd at q
    rw [mrow_n (by omega)]
  have fr02 := a1.trans fr2
  have k1 : M2 18001 0 = M0 18001 0 := fr02.row _ _ (by simp [SFd, SEaC])
  have k3 : M2 18003 0 = M0 18003 0 := fr02.row _ _ (by simp [SFd, SEaC])
  have ek : ckd M2 = ckd M0 := by unfold ckd; rw [k1, k3]
  have hs := a3.1
  obtain ⟨M', b1, b2, b3⟩ := m150_6 (M1 := M2) (m := M1 19 0 2) (n := 0) (by omega) (fun k q1 q2 => by
    obtain ⟨o1, o2, o3⟩ := a3.2.1 k q1 q2
    obtain ⟨p1, p2, p3, -⟩ := hp.2 _ o1.1 o1.2
    rw [e3, ek, k1]
    refine ⟨by omega, ?_, by omega, by omega⟩
    unfold ckd
    omega) (M1 19 0 2).toNat M2 (by omega) Fr.refl (fun k q1 q2 => by omega) (fun g g1 g2 => by
    rw [← hM2, mrow_s, flr_in ⟨g1, g2⟩, show (M1 19 0 2 - ((M1 19 0 2).toNat : Int)).toNat = 0 by omega]
    rfl)
  rw [show (((M1 19 0 2).toNat : Nat) : Int) = M1 19 0 2 by omega] at b3
  have fr3 : Fr SFd M2 M' := b1.mono (fun f i k q => by unfold SFd; omega)
  have c2 : M' 19 0 2 = M1 19 0 2 := by rw [b1 19 0 2 (by simp), e2]
  have c3 : M' 19003 0 = M1 19003 0 := by rw [b1.row 19003 0 (by simp), e3]
  have c4 : M' 19004 0 = M1 19004 0 := by rw [b1.row 19004 0 (by simp), e4]
  refine ⟨M', fr02.trans fr3, ?_, ⟨?_, ?_⟩, fun Q => ?_⟩
  · refine CEa_cg (fun f i k hl => ?_) (fun _ _ _ _ => rfl) a2
    unfold LCEa at hl
    rw [b1 f i k (by omega), ← hM2, mrow_n (by omega)]
  · rw [c2, c3, c4]
    exact a3
  · have eo : ordk M' (ckd M0) = ordk M2 (ckd M2) := by unfold ordk; rw [c3, e3, ek]
    rw [c2, eo]
    exact b2
  · rw [t150_0, bd_e, a4 Q, t150_5, m3_19006, kV_v, hM2, e2, w32_id (z := M1 19 0 2 - 1) (by omega) (by omega), b3 Q]
end Sort2
