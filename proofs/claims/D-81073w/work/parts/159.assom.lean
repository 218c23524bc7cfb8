/-! ASSOCIATE: the model's search -/
def PkM (N : Mem) (st : Int) : Prop := (0 ≤ N 22 0 23 ∧ N 22 0 23 ≤ 64) ∧ ∀ j, 0 ≤ j → j < N 22 0 23 → (0 ≤ N 22024 0 (6 * j) ∧ N 22024 0 (6 * j) < st) ∧ (0 ≤ N 22024 0 (6 * j + 1) ∧ N 22024 0 (6 * j + 1) ≤ 4095) ∧ (N 22024 0 (6 * j + 2) = 0 ∨ N 22024 0 (6 * j + 2) = 1) ∧ (1 ≤ N 22024 0 (6 * j + 3) ∧ N 22024 0 (6 * j + 3) ≤ 9) ∧ (-1 ≤ N 22024 0 (6 * j + 4) ∧ N 22024 0 (6 * j + 4) ≤ 1)
def mkd (N : Mem) : Int → Int := fun p => 2 * N 22024 0 (6 * p) + N 22024 0 (6 * p + 2)
def mwt (N : Mem) : Int → Int := fun p => N 22024 0 (6 * p + 3)
def mev (N : Mem) : Int → Int := fun p => N 22024 0 (6 * p + 5)
noncomputable def msr (N P : Mem) (x y z : Int) : Int → Int := fun p => N 22024 0 (6 * p + 1) - trv P (N 22024 0 (6 * p + 2)) (dis x y (P 22010 0 (N 22024 0 (6 * p))) (P 22011 0 (N 22024 0 (6 * p)))) z
theorem msr_rng {N P : Mem} {x y z p : Int} (hw : WEa P) (hn : WNet P) (hp : PkM N (P 22 0 9)) (h1 : 0 ≤ x ∧ x ≤ 63) (h2 : 0 ≤ y ∧ y ≤ 63) (h3 : 0 ≤ z ∧ z ≤ 15) (p1 : 0 ≤ p) (p2 : p < N 22 0 23) : -7103 ≤ msr N P x y z p ∧ msr N P x y z p ≤ 4095 := by
  obtain ⟨a1, a2, a3, a4, a5⟩ := hp.2 p p1 p2
  obtain ⟨b1, b2⟩ := hn.2.1 _ a1.1 a1.2
  have c := dis_rng h1 h2 b1 b2
  have d := trF_rng (ps := P 22025 0) (ph := N 22024 0 (6 * p + 2)) (z := z) hw a3 (show 0 ≤ dis x y (P 22010 0 (N 22024 0 (6 * p))) (P 22011 0 (N 22024 0 (6 * p))) ∧ _ < 90 from ⟨c.1, by omega⟩) (by omega)
  unfold msr trv
  omega
def SSo (f : Nat) (i k : Int) : Prop := f = 22036 ∨ SEaM f i k ∨ SRt f i k
def SWo (f : Nat) (_ k : Int) : Prop := f = 22037 ∨ (f = 22 ∧ k = 38)
theorem RtOK_fr {S : Nat → Int → Int → Prop} {M M' : Mem} (h : RtOK M) (hf : Fr S M M') (hs : ∀ f i k, SRt f i k → ¬ S f i k) : RtOK M' := by
  unfold RtOK
  rw [hf 22 0 1 (hs _ _ _ (by simp [SRt])), hf.row 22000 0 (fun k => hs _ _ _ (by simp [SRt]))]
  exact h
section AssoM
variable {N0 P : Mem} {x y z : Int}
theorem m313_1 (hw : WEa P) (hn : WNet P) (hp : PkM N0 (P 22 0 9)) (h1 : 0 ≤ x ∧ x ≤ 63) (h2 : 0 ≤ y ∧ y ≤ 63) (h3 : 0 ≤ z ∧ z ≤ 15) (hr : RNet N0 P) : ∀ (r : Nat) (p : Int) (N : Mem), p + r = N0 22 0 23 → 0 ≤ p → Fr SSo N0 N → REa N P → RtOK N → (∀ j, 0 ≤ j → j < p → N 22036 0 j = msr N0 P x y z j) → ∃ N', Fr SSo N0 N' ∧ REa N' P ∧ RtOK N' ∧ (∀ j, 0 ≤ j → j < N0 22 0 23 → N' 22036 0 j = msr N0 P x y z j) ∧ ∀ Q : AR → Mem → Prop, (Tq 313 1 [vR 22 0, vI x, vI y, vI z, vI p, vJ] [] N Q ↔ Q (.inl none) N') := by
  intro r
  induction r with
  | zero =>
    intro p N hr' h0 hf hE hT hS
    have e : N 22 0 23 = N0 22 0 23 := hf _ _ _ (by simp [SSo, SEaM, SRt])
    refine ⟨N, hf, hE, hT, fun j j1 j2 => hS j j1 (by omega), fun Q => ?_⟩
    rw [t313_1, e, if_pos (by omega), t313_2]
  | succ r ih =>
    intro p N hr' h0 hf hE hT hS
    have hp0 := hp.1
    have hn9 := hn.1
    have e : N 22 0 23 = N0 22 0 23 := hf _ _ _ (by simp [SSo, SEaM, SRt])
    have e24 : N 22024 0 = N0 22024 0 := hf.row _ _ (by simp [SSo, SEaM, SRt])
    have e10 : N 22010 0 = N0 22010 0 := hf.row _ _ (by simp [SSo, SEaM, SRt])
    have e11 : N 22011 0 = N0 22011 0 := hf.row _ _ (by simp [SSo, SEaM, SRt])
    obtain ⟨a1, a2, a3, a4, a5⟩ := hp.2 p h0 (by omega)
    obtain ⟨b1, b2⟩ := hn.2.1 _ a1.1 a1.2
    obtain ⟨c1, c2⟩ := hr.2.1 _ a1.1 a1.2
    have dr := dis_rng h1 h2 b1 b2
    have sr := msr_rng hw hn hp h1 h2 h3 h0 (show p < N0 22 0 23 by omega)
    obtain ⟨N1, f1, f2, f3⟩ := m247d (M := N) hT h1 h2 b1 b2
    have hE1 : REa N1 P := REa_fr hE f1 (fun f i k hl => by unfold LREa at hl; unfold SRt; omega)
    obtain ⟨N2, g1, g2, g3, g4, g5⟩ := m262 (ph := N0 22024 0 (6 * p + 2)) (x := dis x y (P 22010 0 (N0 22024 0 (6 * p))) (P 22011 0 (N0 22024 0 (6 * p)))) (z := z) hw hE1 a3 (by omega) (by omega)
    have hT2 : RtOK N2 := RtOK_fr f2 g1 (fun f i k q => by unfold SRt at q; unfold SEaM; omega)
    generalize hN3 : mset N2 22036 0 p (msr N0 P x y z p) = N3
    have fr3 : Fr SSo N0 N3 := by
      rw [← hN3]
      exact Fr.mset ((hf.trans (f1.mono (fun f i k q => Or.inr (Or.inr q)))).trans (g1.mono (fun f i k q => Or.inr (Or.inl q)))) (Or.inl rfl)
    have e36 : N2 22036 0 = N 22036 0 := by rw [g1.row 22036 0 (by simp [SEaM]), f1.row 22036 0 (by simp [SRt])]
    obtain ⟨N', z1, z2, z3, z4, z5⟩ := ih (p + 1) N3 (by omega) (by omega) fr3 (by rw [← hN3]; exact REa_cg (fun f i k hl => by unfold LREa at hl; rw [mset_3, if_neg (by omega)]) (fun _ _ _ _ => rfl) g2) (by rw [← hN3]; exact RtOK_fr (S := fun f _ _ => f = 22036) hT2 (Fr.mset Fr.refl rfl) (fun f i k q => by unfold SRt at q; omega)) (fun j j1 j2 => by
      rw [← hN3, mset_s, fup_at, e36]
      by_cases q : j = p
      · rw [if_pos q, q]
      · rw [if_neg q]
        exact hS j j1 (by omega))
    refine ⟨N', z1, z2, z3, z4, fun Q => ?_⟩
    have es : w32 (N0 22024 0 (6 * p + 1) - trv P (N0 22024 0 (6 * p + 2)) (dis x y (P 22010 0 (N0 22024 0 (6 * p))) (P 22011 0 (N0 22024 0 (6 * p)))) z) = msr N0 P x y z p := by
      have : msr N0 P x y z p = N0 22024 0 (6 * p + 1) - trv P (N0 22024 0 (6 * p + 2)) (dis x y (P 22010 0 (N0 22024 0 (6 * p))) (P 22011 0 (N0 22024 0 (6 * p)))) z := rfl
      rw [← this]
      exact w32_id (by omega) (by omega)
    rw [t313_1, e, if_neg (by omega), w32_id (z := 6 * p) (by omega) (by omega), w32_id (z := 6 * p + 1) (by omega) (by omega), w32_id (z := 6 * p + 2) (by omega) (by omega), e24, e10, e11, c1, c2, f3, kI_v, g5, kI_v, es, bd_e, hN3, w32_id (z := p + 1) (by omega) (by omega), z5 Q]
    exact andi (by omega) (andi (by omega) (andi (by omega) (andi (by omega) (andi (by omega) (andi (by omega) Iff.rfl)))))
theorem m313 (hw : WEa P) (hn : WNet P) (hp : PkM N0 (P 22 0 9)) (h1 : 0 ≤ x ∧ x ≤ 63) (h2 : 0 ≤ y ∧ y ≤ 63) (h3 : 0 ≤ z ∧ z ≤ 15) (hr : RNet N0 P) (hE : REa N0 P) (hT : RtOK N0) : ∃ N', Fr SSo N0 N' ∧ REa N' P ∧ RtOK N' ∧ (∀ j, 0 ≤ j → j < N0 22 0 23 → N' 22036 0 j = msr N0 P x y z j) ∧ ∀ Q : AR → Mem → Prop, (Tq 313 0 [vR 22 0, vI x, vI y, vI z, vJ, vJ] [] N0 Q ↔ Q (.inl none) N') := by
  have hp0 := hp.1
  obtain ⟨N', z1, z2, z3, z4, z5⟩ := m313_1 hw hn hp h1 h2 h3 hr (N0 22 0 23).toNat 0 N0 (by omega) (by omega) Fr.refl hE hT (fun j j1 j2 => by omega)
  exact ⟨N', z1, z2, z3, z4, fun Q => by rw [t313_0, z5 Q]⟩
end AssoM
/-- one pick more in the worth -/
theorem cw_s {F ev s kd : Int → Int} {o tol : Int} {p : Nat} (hk : 0 ≤ kd p ∧ kd p < 24) : cw F ev s kd o tol (p + 1) = if (ev p = -99999999 ∧ o ≤ s p ∧ s p ≤ o + tol) ∧ (cn ev s kd o tol (kd p) p = -99999999 ∨ s p < s (cn ev s kd o tol (kd p) p)) then cw F ev s kd o tol p + (F p - (if cn ev s kd o tol (kd p) p = -99999999 then 0 else F (cn ev s kd o tol (kd p) p))) else cw F ev s kd o tol p := by
  have e : ∀ g, cn ev s kd o tol g (p + 1) = if (ev p = -99999999 ∧ kd p = g ∧ o ≤ s p ∧ s p ≤ o + tol) ∧ (cn ev s kd o tol g p = -99999999 ∨ s p < s (cn ev s kd o tol g p)) then (p : Int) else cn ev s kd o tol g p := fun g => rfl
  unfold cw
  rw [sm_upd (f := fun g => if cn ev s kd o tol g p = -99999999 then 0 else F (cn ev s kd o tol g p)) (g := fun g => if cn ev s kd o tol g (p + 1) = -99999999 then 0 else F (cn ev s kd o tol g (p + 1))) (a := kd p) 24 hk.1 hk.2 (fun g _ _ hg => by
    have : cn ev s kd o tol g (p + 1) = cn ev s kd o tol g p := by rw [e, if_neg (fun q => hg q.1.2.1.symm)]
    show (if cn ev s kd o tol g p = -99999999 then 0 else F (cn ev s kd o tol g p)) = (if cn ev s kd o tol g (p + 1) = -99999999 then 0 else F (cn ev s kd o tol g (p + 1)))
    rw [this])]
  have ek := e (kd p)
  by_cases c : (ev p = -99999999 ∧ o ≤ s p ∧ s p ≤ o + tol) ∧ (cn ev s kd o tol (kd p) p = -99999999 ∨ s p < s (cn ev s kd o tol (kd p) p))
  · rw [if_pos ⟨⟨c.1.1, rfl, c.1.2⟩, c.2⟩] at ek
    rw [if_pos c, ek, if_neg (show ¬ (p : Int) = -99999999 by omega)]
    omega
  · rw [if_neg (fun q => c ⟨⟨q.1.1, q.1.2.2⟩, q.2⟩)] at ek
    rw [if_neg c, ek]
    omega
section Worth
variable {N0 : Mem} {o tol st : Int} {s : Int → Int}
theorem cw_rng {F ev s kd : Int → Int} {o tol c : Int} {n : Nat} (hc : 0 ≤ c) (h : ∀ p : Int, 0 ≤ p → p < n → 0 ≤ F p ∧ F p ≤ c) : 0 ≤ cw F ev s kd o tol n ∧ cw F ev s kd o tol n ≤ 24 * c := by
  have k : ∀ g, 0 ≤ (if cn ev s kd o tol g n = -99999999 then 0 else F (cn ev s kd o tol g n)) ∧ (if cn ev s kd o tol g n = -99999999 then 0 else F (cn ev s kd o tol g n)) ≤ c := fun g => by
    rcases cn_spec (ev := ev) (s := s) (kd := kd) (o := o) (tol := tol) (g := g) n with ⟨q, _⟩ | ⟨q, _⟩
    · rw [if_pos q]; omega
    · rw [if_neg (by omega)]
      exact h _ q.1 q.2
  unfold cw
  have a := sm_nn (f := fun g => if cn ev s kd o tol g n = -99999999 then 0 else F (cn ev s kd o tol g n)) 24 (fun g _ _ => (k g).1)
  have b := sm_bd (f := fun g => if cn ev s kd o tol g n = -99999999 then 0 else F (cn ev s kd o tol g n)) (c := c) 24 (fun g _ _ => (k g).2)
  omega
theorem m314_3 (hp : PkM N0 st) (hst : st ≤ 12) (ht : 0 ≤ tol ∧ tol ≤ 64) (ho : -7103 ≤ o ∧ o ≤ 4095) (hs : ∀ j, 0 ≤ j → j < N0 22 0 23 → N0 22036 0 j = s j ∧ -7103 ≤ s j ∧ s j ≤ 4095) : ∀ (r p : Nat) (N : Mem), (p : Int) + r = N0 22 0 23 → Fr SWo N0 N → (∀ g, 0 ≤ g → g < 24 → N 22037 0 g = cn (mev N0) s (mkd N0) o tol g p) → N 22 0 38 = cw (fun _ => 1) (mev N0) s (mkd N0) o tol p → ∃ N', Fr SWo N0 N' ∧ (∀ g, 0 ≤ g → g < 24 → N' 22037 0 g = cn (mev N0) s (mkd N0) o tol g (N0 22 0 23).toNat) ∧ N' 22 0 38 = cw (fun _ => 1) (mev N0) s (mkd N0) o tol (N0 22 0 23).toNat ∧ ∀ Q : AR → Mem → Prop, (Tq 314 3 [vR 22 0, vI o, vI tol, vI (cw (mwt N0) (mev N0) s (mkd N0) o tol p), vI p, vJ, vJ] [] N Q ↔ Q (.inl (some (vI (cw (mwt N0) (mev N0) s (mkd N0) o tol (N0 22 0 23).toNat)))) N') := by
  intro r
  induction r with
  | zero =>
    intro p N hr hf hc hm
    have e : N 22 0 23 = N0 22 0 23 := hf _ _ _ (by simp [SWo])
    have ep : (N0 22 0 23).toNat = p := by omega
    refine ⟨N, hf, by rw [ep]; exact hc, by rw [ep]; exact hm, fun Q => ?_⟩
    rw [t314_3, e, if_pos (by omega), t314_10, ep]
  | succ r ih =>
    intro p N hr hf hc hm
    have hp0 := hp.1
    have e : N 22 0 23 = N0 22 0 23 := hf _ _ _ (by simp [SWo])
    have e24 : N 22024 0 = N0 22024 0 := hf.row _ _ (by simp [SWo])
    have e36 : N 22036 0 = N0 22036 0 := hf.row _ _ (by simp [SWo])
    obtain ⟨a1, a2, a3, a4, a5⟩ := hp.2 p (by omega) (by omega)
    obtain ⟨s1, s2⟩ := hs p (by omega) (by omega)
    have ek : mkd N0 p = 2 * N0 22024 0 (6 * p) + N0 22024 0 (6 * p + 2) := rfl
    have hk : 0 ≤ mkd N0 p ∧ mkd N0 p < 24 := by rw [ek]; omega
    have w1 := cw_s (F := mwt N0) (ev := mev N0) (s := s) (kd := mkd N0) (o := o) (tol := tol) (p := p) hk
    have w2 := cw_s (F := fun _ => 1) (ev := mev N0) (s := s) (kd := mkd N0) (o := o) (tol := tol) (p := p) hk
    have cs := cn_spec (ev := mev N0) (s := s) (kd := mkd N0) (o := o) (tol := tol) (g := mkd N0 p) p
    have lk := hc _ hk.1 hk.2
    have ce : ∀ g, cn (mev N0) s (mkd N0) o tol g (p + 1) = if (mev N0 p = -99999999 ∧ mkd N0 p = g ∧ o ≤ s p ∧ s p ≤ o + tol) ∧ (cn (mev N0) s (mkd N0) o tol g p = -99999999 ∨ s p < s (cn (mev N0) s (mkd N0) o tol g p)) then (p : Int) else cn (mev N0) s (mkd N0) o tol g p := fun g => rfl
    have ee : mev N0 p = N0 22024 0 (6 * p + 5) := rfl
    have em : mwt N0 p = N0 22024 0 (6 * p + 3) := rfl
    have r1 := cw_rng (F := mwt N0) (ev := mev N0) (s := s) (kd := mkd N0) (o := o) (tol := tol) (c := 9) (n := p) (by decide) (fun j j1 j2 => by have := (hp.2 j j1 (by omega)).2.2.2.1; unfold mwt; omega)
    have r2 := cw_rng (F := fun _ => 1) (ev := mev N0) (s := s) (kd := mkd N0) (o := o) (tol := tol) (c := 1) (n := p) (by decide) (fun j j1 j2 => by omega)
    have skip : ¬ ((mev N0 p = -99999999 ∧ o ≤ s p ∧ s p ≤ o + tol) ∧ (cn (mev N0) s (mkd N0) o tol (mkd N0 p) p = -99999999 ∨ s p < s (cn (mev N0) s (mkd N0) o tol (mkd N0 p) p))) → ∃ N', Fr SWo N0 N' ∧ (∀ g, 0 ≤ g → g < 24 → N' 22037 0 g = cn (mev N0) s (mkd N0) o tol g (N0 22 0 23).toNat) ∧ N' 22 0 38 = cw (fun _ => 1) (mev N0) s (mkd N0) o tol (N0 22 0 23).toNat ∧ ∀ Q : AR → Mem → Prop, (Tq 314 9 [vR 22 0, vI o, vI tol, vI (cw (mwt N0) (mev N0) s (mkd N0) o tol p), vI p, vJ, vJ] [] N Q ↔ Q (.inl (some (vI (cw (mwt N0) (mev N0) s (mkd N0) o tol (N0 22 0 23).toNat)))) N') := fun c => by
      rw [if_neg c] at w1 w2
      obtain ⟨N', z1, z2, z3, z4⟩ := ih (p + 1) N (by omega) hf (fun g g1 g2 => by
        rw [ce, hc g g1 g2]
        by_cases q : mkd N0 p = g
        · subst q
          rw [if_neg (fun q => c ⟨⟨q.1.1, q.1.2.2⟩, q.2⟩)]
        · rw [if_neg (fun q' => q q'.1.2.1)]) (by rw [w2, hm])
      refine ⟨N', z1, z2, z3, fun Q => ?_⟩
      have := z4 Q
      rw [w1, show ((p + 1 : Nat) : Int) = (p : Int) + 1 by omega] at this
      rw [t314_9, w32_id (z := (p : Int) + 1) (by omega) (by omega), this]
    have head : ∀ Q : AR → Mem → Prop, (Tq 314 3 [vR 22 0, vI o, vI tol, vI (cw (mwt N0) (mev N0) s (mkd N0) o tol p), vI p, vJ, vJ] [] N Q ↔ if ((mev N0 p = -99999999 ∧ o ≤ s p ∧ s p ≤ o + tol) ∧ (cn (mev N0) s (mkd N0) o tol (mkd N0 p) p = -99999999 ∨ s p < s (cn (mev N0) s (mkd N0) o tol (mkd N0 p) p))) then Tq 314 4 [vR 22 0, vI o, vI tol, vI (cw (mwt N0) (mev N0) s (mkd N0) o tol p), vI p, vI (mkd N0 p), vI (cn (mev N0) s (mkd N0) o tol (mkd N0 p) p)] [] N Q else Tq 314 9 [vR 22 0, vI o, vI tol, vI (cw (mwt N0) (mev N0) s (mkd N0) o tol p), vI p, vJ, vJ] [] N Q) := fun Q => by
      rw [t314_3, e, if_neg (by omega), w32_id (z := 6 * (p : Int)) (by omega) (by omega), w32_id (z := 6 * (p : Int) + 5) (by omega) (by omega), w32_id (z := 6 * (p : Int) + 2) (by omega) (by omega), e24, e36, s1, ← ee, w32_id (z := o + tol) (by omega) (by omega), w32_id (z := 2 * N0 22024 0 (6 * p)) (by omega) (by omega), w32_id (z := 2 * N0 22024 0 (6 * p) + N0 22024 0 (6 * p + 2)) (by omega) (by omega), ← ek, lk]
      refine andi (by omega) ?_
      by_cases q1 : mev N0 p = -99999999
      · rw [if_neg (by simpa using q1)]
        refine andi (by omega) ?_
        by_cases q2 : s p < o
        · rw [if_pos q2, if_neg (fun h => by have := h.1.2.1; omega)]
        · rw [if_neg q2]
          refine andi (by omega) ?_
          by_cases q3 : o + tol < s p
          · rw [if_pos q3, if_neg (fun h => by have := h.1.2.2; omega)]
          · rw [if_neg q3]
            refine andi (by omega) (andi (by omega) (andi (by omega) ?_))
            by_cases q4 : cn (mev N0) s (mkd N0) o tol (mkd N0 p) p = -99999999
            · rw [if_pos q4, if_pos ⟨⟨q1, by omega, by omega⟩, Or.inl q4⟩]
            · rw [if_neg q4]
              have cb : 0 ≤ cn (mev N0) s (mkd N0) o tol (mkd N0 p) p ∧ cn (mev N0) s (mkd N0) o tol (mkd N0 p) p < p := by
                rcases cs with ⟨q, _⟩ | ⟨q, _⟩
                · exact absurd q q4
                · exact q
              rw [(hs _ cb.1 (by omega)).1]
              refine andi (by omega) (andi (by omega) ?_)
              by_cases q5 : s (cn (mev N0) s (mkd N0) o tol (mkd N0 p) p) ≤ s p
              · rw [if_pos q5, if_neg (fun h => by rcases h.2 with h | h; exact q4 h; omega)]
              · rw [if_neg q5, if_pos ⟨⟨q1, by omega, by omega⟩, Or.inr (by omega)⟩]
      · rw [if_pos q1, if_neg (fun h => q1 h.1.1)]
    by_cases c : (mev N0 p = -99999999 ∧ o ≤ s p ∧ s p ≤ o + tol) ∧ (cn (mev N0) s (mkd N0) o tol (mkd N0 p) p = -99999999 ∨ s p < s (cn (mev N0) s (mkd N0) o tol (mkd N0 p) p))
    · rw [if_pos c] at w1 w2
      -- the one that was
      have had : ∃ v v1, (0 ≤ v ∧ v ≤ 9) ∧ (0 ≤ v1 ∧ v1 ≤ 1) ∧ (if cn (mev N0) s (mkd N0) o tol (mkd N0 p) p = -99999999 then 0 else mwt N0 (cn (mev N0) s (mkd N0) o tol (mkd N0 p) p)) = v ∧ (if cn (mev N0) s (mkd N0) o tol (mkd N0 p) p = -99999999 then 0 else 1 : Int) = v1 ∧ ∀ Q : AR → Mem → Prop, (Tq 314 4 [vR 22 0, vI o, vI tol, vI (cw (mwt N0) (mev N0) s (mkd N0) o tol p), vI p, vI (mkd N0 p), vI (cn (mev N0) s (mkd N0) o tol (mkd N0 p) p)] [] N Q ↔ Tq 314 9 [vR 22 0, vI o, vI tol, vI (w32 (cw (mwt N0) (mev N0) s (mkd N0) o tol p + w32 (mwt N0 p - v))), vI p, vJ, vJ] [] (mset (mset N 22037 0 (mkd N0 p) p) 22 0 38 (w32 (N 22 0 38 + (1 - v1)))) Q) := by
        have f24 : mset N 22037 0 (mkd N0 p) p 22024 0 = N0 22024 0 := by rw [mset_o (by simp), e24]
        have f38 : mset N 22037 0 (mkd N0 p) p 22 0 38 = N 22 0 38 := by rw [mset_o (by simp)]
        by_cases q4 : cn (mev N0) s (mkd N0) o tol (mkd N0 p) p = -99999999
        · refine ⟨0, 0, by omega, by omega, by rw [if_pos q4], by rw [if_pos q4], fun Q => ?_⟩
          rw [t314_4, bd_e, w32_id (z := 6 * (p : Int)) (by omega) (by omega), w32_id (z := 6 * (p : Int) + 3) (by omega) (by omega), f24, ← em, if_neg (by simpa using q4), t314_6, if_neg (by simpa using q4), f38, t314_8, bd_e]
          exact andi (by omega) (andi (by omega) Iff.rfl)
        · have cb : 0 ≤ cn (mev N0) s (mkd N0) o tol (mkd N0 p) p ∧ cn (mev N0) s (mkd N0) o tol (mkd N0 p) p < p := by
            rcases cs with ⟨q, _⟩ | ⟨q, _⟩
            · exact absurd q q4
            · exact q
          generalize hcn : cn (mev N0) s (mkd N0) o tol (mkd N0 p) p = i at q4 cb
          have ei : mwt N0 i = N0 22024 0 (6 * i + 3) := rfl
          have bi := (hp.2 i cb.1 (by omega)).2.2.2.1
          refine ⟨mwt N0 i, 1, by omega, by omega, by rw [if_neg q4], by rw [if_neg q4], fun Q => ?_⟩
          rw [t314_4, bd_e, w32_id (z := 6 * (p : Int)) (by omega) (by omega), w32_id (z := 6 * (p : Int) + 3) (by omega) (by omega), f24, ← em, if_pos q4, t314_5, w32_id (z := 6 * i) (by omega) (by omega), w32_id (z := 6 * i + 3) (by omega) (by omega), f24, ← ei, t314_6, if_pos q4, f38, t314_7, t314_8, bd_e]
          exact andi (by omega) (andi (by omega) (andi (by omega) Iff.rfl))
      obtain ⟨v, v1, b1, b2, h1, h2, h3⟩ := had
      rw [h1] at w1
      rw [h2] at w2
      have wp : 1 ≤ mwt N0 p ∧ mwt N0 p ≤ 9 := a4
      rw [w32_id (z := mwt N0 p - v) (by omega) (by omega), ← w1] at h3
      have r3 := cw_rng (F := mwt N0) (ev := mev N0) (s := s) (kd := mkd N0) (o := o) (tol := tol) (c := 9) (n := p + 1) (by decide) (fun j j1 j2 => by have := (hp.2 j j1 (by omega)).2.2.2.1; unfold mwt; omega)
      rw [w32_id (z := cw (mwt N0) (mev N0) s (mkd N0) o tol (p + 1)) (by omega) (by omega), hm, ← w2] at h3
      have r4 := cw_rng (F := fun _ => 1) (ev := mev N0) (s := s) (kd := mkd N0) (o := o) (tol := tol) (c := 1) (n := p + 1) (by decide) (fun j j1 j2 => by omega)
      rw [w32_id (z := cw (fun _ => 1) (mev N0) s (mkd N0) o tol (p + 1)) (by omega) (by omega)] at h3
      obtain ⟨N', z1, z2, z3, z4⟩ := ih (p + 1) (mset (mset N 22037 0 (mkd N0 p) p) 22 0 38 (cw (fun _ => 1) (mev N0) s (mkd N0) o tol (p + 1))) (by omega) (Fr.mset (Fr.mset hf (by simp [SWo])) (by simp [SWo])) (fun g g1 g2 => by
        rw [mset_o (by simp), mset_s, fup_at, ce]
        by_cases q : g = mkd N0 p
        · subst q
          rw [if_pos rfl, if_pos ⟨⟨c.1.1, rfl, c.1.2⟩, c.2⟩]
        · rw [if_neg q, if_neg (fun q' => q q'.1.2.1.symm)]
          exact hc g g1 g2) (by rw [mset_3, if_pos ⟨rfl, rfl, rfl⟩])
      refine ⟨N', z1, z2, z3, fun Q => ?_⟩
      have := z4 Q
      rw [show ((p + 1 : Nat) : Int) = (p : Int) + 1 by omega] at this
      rw [head Q, if_pos c, h3 Q, t314_9, w32_id (z := (p : Int) + 1) (by omega) (by omega), this]
    · obtain ⟨N', z1, z2, z3, z4⟩ := skip c
      exact ⟨N', z1, z2, z3, fun Q => by rw [head Q, if_neg c, z4 Q]⟩
end Worth
