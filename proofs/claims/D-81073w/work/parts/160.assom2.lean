/-! ASSOCIATE: the model's search, over all halts -/
def SMs (f : Nat) (i k : Int) : Prop := SSo f i k ∨ SWo f i k
noncomputable def wM (N P : Mem) (tol h o : Int) : Int := cw (mwt N) (mev N) (msr N P (hX h) (hY h) (hZ h)) (mkd N) o tol (N 22 0 23).toNat
noncomputable def nM (N P : Mem) (tol h o : Int) : Int := cw (fun _ => 1) (mev N) (msr N P (hX h) (hY h) (hZ h)) (mkd N) o tol (N 22 0 23).toNat
def oM (N P : Mem) (h t : Int) : Prop := ∃ p, 0 ≤ p ∧ p < N 22 0 23 ∧ mev N p = -99999999 ∧ msr N P (hX h) (hY h) (hZ h) p = t
theorem PkM_fr {S : Nat → Int → Int → Prop} {M M' : Mem} {st : Int} (h : PkM M st) (hf : Fr S M M') (hs : ∀ k, ¬ S 22024 0 k) (hs2 : ¬ S 22 0 23) : PkM M' st := by
  unfold PkM
  rw [hf 22 0 23 hs2, hf.row 22024 0 hs]
  exact h
section AssoM2
variable {N0 P : Mem} {tol num made st : Int}
theorem m314 {N0 : Mem} {o : Int} {s : Int → Int} (hp : PkM N0 st) (hst : st ≤ 12) (ht : 0 ≤ tol ∧ tol ≤ 64) (ho : -7103 ≤ o ∧ o ≤ 4095) (hs : ∀ j, 0 ≤ j → j < N0 22 0 23 → N0 22036 0 j = s j ∧ -7103 ≤ s j ∧ s j ≤ 4095) : ∃ N', Fr SWo N0 N' ∧ (∀ g, 0 ≤ g → g < 24 → N' 22037 0 g = cn (mev N0) s (mkd N0) o tol g (N0 22 0 23).toNat) ∧ N' 22 0 38 = cw (fun _ => 1) (mev N0) s (mkd N0) o tol (N0 22 0 23).toNat ∧ ∀ Q : AR → Mem → Prop, (Tq 314 0 [vR 22 0, vI o, vI tol, vJ, vJ, vJ, vJ] [] N0 Q ↔ Q (.inl (some (vI (cw (mwt N0) (mev N0) s (mkd N0) o tol (N0 22 0 23).toNat)))) N') := by
  have hp0 := hp.1
  have fill : ∀ (Q : AR → Mem → Prop) (d : Nat) (k : Int), 0 ≤ k → k + d = 24 → (Tq 314 1 [vR 22 0, vI o, vI tol, vI k, vJ, vJ, vJ] [] (mrow N0 22037 0 (flr (N0 22037 0) k (-99999999))) Q ↔ Tq 314 2 [vR 22 0, vI o, vI tol, vJ, vJ, vJ, vJ] [] (mrow N0 22037 0 (flr (N0 22037 0) 24 (-99999999))) Q) := by
    intro Q d
    induction d with
    | zero =>
      intro k h0 h1
      rw [t314_1, if_pos (by omega), show k = 24 by omega]
    | succ d ih =>
      intro k h0 h1
      rw [t314_1, if_neg (by omega), w32_id (z := k + 1) (by omega) (by omega), bd_e, mset_mrow, flr_s h0, ih (k + 1) (by omega) (by omega)]
      exact andi (by omega) Iff.rfl
  generalize hN1 : mset (mrow N0 22037 0 (flr (N0 22037 0) 24 (-99999999))) 22 0 38 0 = N1
  have fr : Fr SWo N0 N1 := by
    rw [← hN1]
    exact Fr.mset (Fr.mrow Fr.refl (fun k => Or.inl rfl)) (Or.inr ⟨rfl, rfl⟩)
  have cz : ∀ F : Int → Int, cw F (mev N0) s (mkd N0) o tol 0 = 0 := fun F => by
    unfold cw
    exact (sm_cg (g := fun _ => 0) 24 (fun g _ _ => if_pos rfl)).trans rfl
  obtain ⟨N', z1, z2, z3, z4⟩ := m314_3 hp hst ht ho hs (N0 22 0 23).toNat 0 N1 (by omega) fr (fun g g1 g2 => by
    rw [← hN1, mset_o (by simp), mrow_s, flr_in ⟨g1, g2⟩]
    rfl) (by rw [← hN1, mset_3, if_pos ⟨rfl, rfl, rfl⟩, cz])
  refine ⟨N', z1, z2, z3, fun Q => ?_⟩
  have f := fill Q 24 0 (by omega) (by omega)
  rw [flr_0, mrow_self] at f
  have := z4 Q
  rw [cz, show ((0 : Nat) : Int) = 0 from rfl] at this
  rw [t314_0, f, t314_2, bd_e, hN1, this]
/-- at a halt -/
theorem m312_5 (hw : WEa P) (hn : WNet P) (hp : PkM N0 (P 22 0 9)) (ht : 0 ≤ tol ∧ tol ≤ 64) {h b0 h0 o0 : Int} (hh : 0 ≤ h ∧ h < 1024) (hne : ¬ h0 = h) : ∀ (r : Nat) (p : Int) (N : Mem) (b hb o : Int), p + r = N0 22 0 23 → 0 ≤ p → Fr SMs N0 N → (∀ j, 0 ≤ j → j < N0 22 0 23 → N 22036 0 j = msr N0 P (hX h) (hY h) (hZ h) j) → HR (wM N0 P tol h) (fun t => ∃ j, 0 ≤ j ∧ j < p ∧ mev N0 j = -99999999 ∧ msr N0 P (hX h) (hY h) (hZ h) j = t) h b0 h0 o0 b hb o → ∃ N' b' hb' o', Fr SWo N N' ∧ HR (wM N0 P tol h) (oM N0 P h) h b0 h0 o0 b' hb' o' ∧ ∀ Q : AR → Mem → Prop, (Tq 312 5 [vR 22 0, vI tol, vI num, vI made, vI b, vI hb, vI o, vI h, vI p, vJ] [] N Q ↔ Tq 312 9 [vR 22 0, vI tol, vI num, vI made, vI b', vI hb', vI o', vI h, vJ, vJ] [] N' Q) := by
  intro r
  induction r with
  | zero =>
    intro p N b hb o hr h0' hf hS hR
    have e : N 22 0 23 = N0 22 0 23 := hf _ _ _ (by simp [SMs, SSo, SWo, SEaM, SRt])
    refine ⟨N, b, hb, o, Fr.refl, ?_, fun Q => ?_⟩
    · unfold oM
      rw [show N0 22 0 23 = p by omega]
      exact hR
    · rw [t312_5, e, if_pos (by omega)]
  | succ r ih =>
    intro p N b hb o hr h0' hf hS hR
    have hp0 := hp.1
    have hn9 := hn.1
    obtain ⟨x1, x2, x3⟩ := hXYZ hh
    have e : N 22 0 23 = N0 22 0 23 := hf _ _ _ (by simp [SMs, SSo, SWo, SEaM, SRt])
    have e24 : N 22024 0 = N0 22024 0 := hf.row _ _ (by simp [SMs, SSo, SWo, SEaM, SRt])
    have nx : ∀ (N : Mem) (b hb o : Int) (Q : AR → Mem → Prop), Tq 312 8 [vR 22 0, vI tol, vI num, vI made, vI b, vI hb, vI o, vI h, vI p, vJ] [] N Q ↔ Tq 312 5 [vR 22 0, vI tol, vI num, vI made, vI b, vI hb, vI o, vI h, vI (p + 1), vJ] [] N Q := fun N b hb o Q => by rw [t312_8, w32_id (z := p + 1) (by omega) (by omega)]
    have ee : N 22024 0 (6 * p + 5) = mev N0 p := by rw [e24]; rfl
    have hOs : mev N0 p = -99999999 → ∀ t, (∃ j, 0 ≤ j ∧ j < p + 1 ∧ mev N0 j = -99999999 ∧ msr N0 P (hX h) (hY h) (hZ h) j = t) ↔ (∃ j, 0 ≤ j ∧ j < p ∧ mev N0 j = -99999999 ∧ msr N0 P (hX h) (hY h) (hZ h) j = t) ∨ t = msr N0 P (hX h) (hY h) (hZ h) p := fun hv t => by
      constructor
      · rintro ⟨j, j1, j2, j3, j4⟩
        by_cases q : j = p
        · exact Or.inr (by rw [← j4, q])
        · exact Or.inl ⟨j, j1, by omega, j3, j4⟩
      · rintro (⟨j, j1, j2, j3, j4⟩ | q)
        · exact ⟨j, j1, by omega, j3, j4⟩
        · exact ⟨p, h0', by omega, hv, q.symm⟩
    by_cases qv : mev N0 p = -99999999
    · have s0 := hS p h0' (by omega)
      have sr := msr_rng hw hn hp x1 x2 x3 h0' (show p < N0 22 0 23 by omega)
      have hpN : PkM N (P 22 0 9) := PkM_fr hp hf (fun k => by simp [SMs, SSo, SWo, SEaM, SRt]) (by simp [SMs, SSo, SWo, SEaM, SRt])
      obtain ⟨N1, a1, a2, a3, a4⟩ := m314 (o := msr N0 P (hX h) (hY h) (hZ h) p) (s := msr N0 P (hX h) (hY h) (hZ h)) hpN (by omega) ht sr (fun j j1 j2 => ⟨hS j j1 (by omega), msr_rng hw hn hp x1 x2 x3 j1 (by omega)⟩)
      have em1 : mwt N = mwt N0 := by unfold mwt; rw [e24]
      have em2 : mev N = mev N0 := by unfold mev; rw [e24]
      have em3 : mkd N = mkd N0 := by unfold mkd; rw [e24]
      rw [em1, em2, em3, e] at a4
      have eW : cw (mwt N0) (mev N0) (msr N0 P (hX h) (hY h) (hZ h)) (mkd N0) (msr N0 P (hX h) (hY h) (hZ h) p) tol (N0 22 0 23).toNat = wM N0 P tol h (msr N0 P (hX h) (hY h) (hZ h) p) := rfl
      rw [eW] at a4
      have hf1 : Fr SMs N0 N1 := hf.trans (a1.mono (fun f i k q => Or.inr q))
      have s1 : ∀ j, 0 ≤ j → j < N0 22 0 23 → N1 22036 0 j = msr N0 P (hX h) (hY h) (hZ h) j := fun j j1 j2 => by rw [a1.row 22036 0 (by simp [SWo])]; exact hS j j1 j2
      generalize hW : wM N0 P tol h (msr N0 P (hX h) (hY h) (hZ h) p) = w at a4
      have run : ∀ Q : AR → Mem → Prop, (Tq 312 5 [vR 22 0, vI tol, vI num, vI made, vI b, vI hb, vI o, vI h, vI p, vJ] [] N Q ↔ if b < w ∨ (w = b ∧ hb = h ∧ msr N0 P (hX h) (hY h) (hZ h) p < o) then Tq 312 5 [vR 22 0, vI tol, vI num, vI made, vI w, vI h, vI (msr N0 P (hX h) (hY h) (hZ h) p), vI h, vI (p + 1), vJ] [] N1 Q else Tq 312 5 [vR 22 0, vI tol, vI num, vI made, vI b, vI hb, vI o, vI h, vI (p + 1), vJ] [] N1 Q) := fun Q => by
        rw [t312_5, e, if_neg (by omega), w32_id (z := 6 * p) (by omega) (by omega), w32_id (z := 6 * p + 5) (by omega) (by omega), ee, if_pos qv, t312_6, s0, a4, kI_v, t312_7, s1 p h0' (by omega), nx, nx]
        refine andi (by omega) (andi (by omega) ?_)
        by_cases c1 : b < w
        · rw [if_pos c1, if_pos (Or.inl c1)]
          exact andi (by omega) Iff.rfl
        · rw [if_neg c1]
          by_cases c2 : w = b
          · rw [if_neg (by simpa using c2)]
            by_cases c3 : hb = h
            · rw [if_neg (by simpa using c3)]
              refine andi (by omega) ?_
              by_cases c4 : msr N0 P (hX h) (hY h) (hZ h) p < o
              · rw [if_neg (by omega), if_pos (Or.inr ⟨c2, c3, c4⟩)]
                exact andi (by omega) Iff.rfl
              · rw [if_pos (by omega), if_neg (by omega)]
            · rw [if_pos c3, if_neg (by omega)]
          · rw [if_pos c2, if_neg (by omega)]
      by_cases c : b < w ∨ (w = b ∧ hb = h ∧ msr N0 P (hX h) (hY h) (hZ h) p < o)
      · have hR2 := HR_up (t := msr N0 P (hX h) (hY h) (hZ h) p) hR hne (hOs qv) (by rw [hW]; exact c)
        rw [hW] at hR2
        obtain ⟨N', b', hb', o', z1, z2, z3⟩ := ih (p + 1) N1 _ _ _ (by omega) (by omega) hf1 s1 hR2
        exact ⟨N', b', hb', o', a1.trans z1, z2, fun Q => by rw [run Q, if_pos c, z3 Q]⟩
      · have hR2 := HR_no (t := msr N0 P (hX h) (hY h) (hZ h) p) hR hne (hOs qv) (by
          rw [hW]
          by_cases q : w < b
          · exact Or.inl q
          · exact Or.inr ⟨by omega, fun q2 => by omega⟩)
        obtain ⟨N', b', hb', o', z1, z2, z3⟩ := ih (p + 1) N1 _ _ _ (by omega) (by omega) hf1 s1 hR2
        exact ⟨N', b', hb', o', a1.trans z1, z2, fun Q => by rw [run Q, if_neg c, z3 Q]⟩
    · have hR2 : HR (wM N0 P tol h) (fun t => ∃ j, 0 ≤ j ∧ j < p + 1 ∧ mev N0 j = -99999999 ∧ msr N0 P (hX h) (hY h) (hZ h) j = t) h b0 h0 o0 b hb o := HR_cg hR (fun t => by
        constructor
        · rintro ⟨j, j1, j2, j3, j4⟩
          have : ¬ j = p := fun q => qv (by rw [← q]; exact j3)
          exact ⟨j, j1, by omega, j3, j4⟩
        · rintro ⟨j, j1, j2, j3, j4⟩
          exact ⟨j, j1, by omega, j3, j4⟩) (fun _ _ => rfl)
      obtain ⟨N', b', hb', o', z1, z2, z3⟩ := ih (p + 1) N b hb o (by omega) (by omega) hf hS hR2
      refine ⟨N', b', hb', o', z1, z2, fun Q => ?_⟩
      rw [t312_5, e, if_neg (by omega), w32_id (z := 6 * p) (by omega) (by omega), w32_id (z := 6 * p + 5) (by omega) (by omega), ee, if_neg qv, nx, z3 Q]
      exact andi (by omega) Iff.rfl
theorem hal_w {h : Int} (hh : 0 ≤ h ∧ h < 1024) : w32 (2 + w32 (4 * rem32 h 16)) = hX h ∧ w32 (2 + w32 (4 * rem32 (div32 h 16) 16)) = hY h ∧ w32 (1 + w32 (4 * div32 h 256)) = hZ h := by
  rw [rmn hh.1, dvn hh.1 (by omega) (by omega), rmn (by omega), dvn hh.1 (by omega) (by omega)]
  refine ⟨?_, ?_, ?_⟩
  · rw [w32_id (z := 4 * (h % 16)) (by omega) (by omega), w32_id (by omega) (by omega)]; rfl
  · rw [w32_id (z := 4 * (h / 16 % 16)) (by omega) (by omega), w32_id (by omega) (by omega)]; rfl
  · rw [w32_id (z := 4 * (h / 256)) (by omega) (by omega), w32_id (by omega) (by omega)]; rfl
theorem m312_4 (hw : WEa P) (hn : WNet P) (hp : PkM N0 (P 22 0 9)) (ht : 0 ≤ tol ∧ tol ≤ 64) (hr : RNet N0 P) : ∀ (r h : Nat) (N : Mem) (b hb o : Int), h + r = 1024 → Fr SMs N0 N → REa N P → RtOK N → RchH (wM N0 P tol) (oM N0 P) h b hb o → ∃ N' b' hb' o', Fr SMs N0 N' ∧ REa N' P ∧ RtOK N' ∧ RchH (wM N0 P tol) (oM N0 P) 1024 b' hb' o' ∧ ∀ Q : AR → Mem → Prop, (Tq 312 4 [vR 22 0, vI tol, vI num, vI made, vI b, vI hb, vI o, vI h, vJ, vJ] [] N Q ↔ Tq 312 10 [vR 22 0, vI tol, vI num, vI made, vI b', vI hb', vI o', vJ, vJ, vJ] [] N' Q) := by
  intro r
  induction r with
  | zero =>
    intro h N b hb o hh hf hE hT hR
    refine ⟨N, b, hb, o, hf, hE, hT, by rw [show 1024 = h by omega]; exact hR, fun Q => ?_⟩
    rw [t312_4, if_pos (by omega)]
  | succ r ih =>
    intro h N b hb o hh hf hE hT hR
    have hp0 := hp.1
    have hh' : (0 : Int) ≤ h ∧ (h : Int) < 1024 := by omega
    obtain ⟨x1, x2, x3⟩ := hXYZ hh'
    obtain ⟨y1, y2, y3⟩ := hal_w hh'
    have e : N 22 0 23 = N0 22 0 23 := hf _ _ _ (by simp [SMs, SSo, SWo, SEaM, SRt])
    have e24 : N 22024 0 = N0 22024 0 := hf.row _ _ (by simp [SMs, SSo, SWo, SEaM, SRt])
    have hpN : PkM N (P 22 0 9) := PkM_fr hp hf (fun k => by simp [SMs, SSo, SWo, SEaM, SRt]) (by simp [SMs, SSo, SWo, SEaM, SRt])
    have hrN : RNet N P := RNet_fr hr hf (fun f i k hl => by unfold LRNet at hl; unfold SMs SSo SWo SEaM SRt; omega)
    obtain ⟨N1, a1, a2, a3, a4, a5⟩ := m313 hw hn hpN x1 x2 x3 hrN hE hT
    have es : msr N P (hX h) (hY h) (hZ h) = msr N0 P (hX h) (hY h) (hZ h) := by unfold msr; rw [e24]
    rw [es, e] at a4
    have hf1 : Fr SMs N0 N1 := hf.trans (a1.mono (fun f i k q => Or.inl q))
    have rg := RchH_rng h b hb o hR
    obtain ⟨N2, b2, hb2, o2, c1, c2, c3⟩ := m312_5 (num := num) (made := made) hw hn hp ht (b0 := b) (h0 := hb) (o0 := o) hh' (by omega) (N0 22 0 23).toNat 0 N1 b hb o (by omega) (by omega) hf1 a4 (HR_none (fun t q => by obtain ⟨j, j1, j2, _⟩ := q; omega))
    obtain ⟨N3, b3, hb3, o3, d1, d2, d3, d4, d5⟩ := ih (h + 1) N2 b2 hb2 o2 (by omega) (hf1.trans (c1.mono (fun f i k q => Or.inr q))) (REa_fr a2 c1 (fun f i k hl => by unfold LREa at hl; unfold SWo; omega)) (RtOK_fr a3 c1 (fun f i k q => by unfold SRt at q; unfold SWo; omega)) ⟨b, hb, o, hR, c2⟩
    refine ⟨N3, b3, hb3, o3, d1, d2, d3, d4, fun Q => ?_⟩
    have := d5 Q
    rw [show ((h + 1 : Nat) : Int) = (h : Int) + 1 by omega] at this
    rw [t312_4, if_neg (by omega), y1, y2, y3, a5, kV_v, c3 Q, t312_9, w32_id (z := (h : Int) + 1) (by omega) (by omega), this]
    exact andi (by decide) (andi (by decide) (andi (by decide) (andi (by decide) Iff.rfl)))
theorem m312_3 (hw : WEa P) (hn : WNet P) (hp : PkM N0 (P 22 0 9)) (ht : 0 ≤ tol ∧ tol ≤ 64) (hr : RNet N0 P) (hE : REa N0 P) (hT : RtOK N0) : ∃ N' b hb o, Fr SMs N0 N' ∧ REa N' P ∧ RtOK N' ∧ RchH (wM N0 P tol) (oM N0 P) 1024 b hb o ∧ ∀ Q : AR → Mem → Prop, (Tq 312 3 [vR 22 0, vI tol, vI num, vI made, vJ, vJ, vJ, vJ, vJ, vJ] [] N0 Q ↔ Tq 312 10 [vR 22 0, vI tol, vI num, vI made, vI b, vI hb, vI o, vJ, vJ, vJ] [] N' Q) := by
  obtain ⟨N', b, hb, o, d1, d2, d3, d4, d5⟩ := m312_4 (num := num) (made := made) hw hn hp ht hr 1024 0 N0 0 (-99999999) 0 (by omega) Fr.refl hE hT ⟨rfl, rfl, rfl⟩
  exact ⟨N', b, hb, o, d1, d2, d3, d4, fun Q => by rw [t312_3]; exact d5 Q⟩
end AssoM2
