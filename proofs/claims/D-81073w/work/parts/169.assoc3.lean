/-! ASSOCIATE: the operation -/
section Assoc3
variable {tol num made : Int}
theorem asc_gather {M N M1 N1 P : Mem} {rs : List (Int × List Int)} {b hh o : Int} (h : ASI M N P rs) (ht : 0 ≤ tol ∧ tol ≤ 64) (hf : Fr SGi M M1) (h1 : ASI M1 N1 P rs) (hS : CSt M1 (nM N P tol) b hh o) (hh0 : (0 ≤ hh ∧ hh < 1024) ∧ -7103 ≤ o ∧ o ≤ 4095) : ∃ M2, Fr SGi M1 M2 ∧ CEa M2 P ∧ (M2 19 0 9 = hX hh ∧ M2 19 0 10 = hY hh ∧ M2 19 0 11 = hZ hh ∧ M2 19 0 12 = o) ∧ (∀ k : Nat, k < (lM N P tol hh o).length → (0 ≤ M2 1015 0 k ∧ M2 1015 0 k < 64) ∧ M2 19003 0 (M2 1015 0 k) = (lM N P tol hh o).getD k 0 ∧ M2 19004 0 (M2 1015 0 k) = msr N P (hX hh) (hY hh) (hZ hh) ((lM N P tol hh o).getD k 0)) ∧ ∀ Q : AR → Mem → Prop, (Tq 152 0 [vR 19 0, vI tol, vR 1015 0, vJ, vJ] [] M1 Q ↔ Q (.inl (some (vI (lM N P tol hh o).length))) M2) := by
  obtain ⟨x1, x2, x3⟩ := hXYZ hh0.1
  have hp := h.2.2.2.2.2.2.2
  obtain ⟨w1, w2, -, -, -, ⟨c1, c2, -, -, -⟩, -, hp1⟩ := h1
  obtain ⟨s1, s2⟩ := hS
  have s2 : M1 19 0 9 = hX hh ∧ M1 19 0 10 = hY hh ∧ M1 19 0 11 = hZ hh ∧ M1 19 0 12 = o := by
    rcases s2 with ⟨q, _⟩ | ⟨_, q1, q2, q3, q4, _⟩
    · omega
    · exact ⟨q1, q2, q3, q4⟩
  obtain ⟨M2, m, a1, a2, a3, a4, a5⟩ := m152 (o := o) (x := hX hh) (y := hY hh) (z := hZ hh) w1 w2 (PkR_C hp1) c2 c1 ht ⟨s2.1, x1⟩ ⟨s2.2.1, x2⟩ ⟨s2.2.2.1, x3⟩ ⟨s2.2.2.2, by omega⟩
  have r : ∀ {f : Nat}, f = 18001 ∨ f = 18002 ∨ f = 18003 ∨ f = 18006 → M1 f 0 = M f 0 := fun q => hf.row _ _ (fun k q' => by have := nSGi q'; omega)
  have n0 : M1 18 0 0 = M 18 0 0 := hf _ _ _ (fun q' => by have := nSGi q'; omega)
  have es : csr M1 P (hX hh) (hY hh) (hZ hh) = csr M P (hX hh) (hY hh) (hZ hh) := by unfold csr; rw [r (f := 18001) (by omega), r (f := 18002) (by omega), r (f := 18003) (by omega)]
  have ek : ckd M1 = ckd M := by unfold ckd; rw [r (f := 18001) (by omega), r (f := 18003) (by omega)]
  have eL : cl (fun g => cn (M1 18006 0) (csr M1 P (hX hh) (hY hh) (hZ hh)) (ckd M1) o tol g (M1 18 0 0).toNat) 24 = lM N P tol hh o := by
    rw [es, ek, n0, r (f := 18006) (by omega)]
    exact lCM hp hh o
  rw [eL, es] at a4
  rw [eL] at a5
  refine ⟨M2, a1.mono (fun f i k q => ?_), a2, ?_, fun k hk => ?_, a5⟩
  · unfold SGa at q
    unfold SGi SFi
    rcases q with q | q
    · exact Or.inl (Or.inl q)
    · exact Or.inr q
  · rw [a1 19 0 9 (by simp [SGa, SFd, SEaC]), a1 19 0 10 (by simp [SGa, SFd, SEaC]), a1 19 0 11 (by simp [SGa, SFd, SEaC]), a1 19 0 12 (by simp [SGa, SFd, SEaC])]
    exact s2
  · obtain ⟨b1, b2, b3⟩ := a4 k hk
    refine ⟨by omega, b2, ?_⟩
    rw [b3]
    exact (PkR_eq hp (lM_ok (getD_mem hk)).1.1 (lM_ok (getD_mem hk)).1.2).2.2.1
theorem asc_12 {M N N1 P : Mem} {rs : List (Int × List Int)} {hh o : Int} (h : ASI M N P rs) (ht : 0 ≤ tol ∧ tol ≤ 64) (hf : Fr SMs N N1) (hE : REa N1 P) (hT : RtOK N1) (hh0 : (0 ≤ hh ∧ hh < 1024) ∧ -7103 ≤ o ∧ o ≤ 4095) : ∃ N3, Fr SMs N1 N3 ∧ REa N3 P ∧ RtOK N3 ∧ (∀ g, 0 ≤ g → g < 24 → N3 22037 0 g = cn (mev N) (msr N P (hX hh) (hY hh) (hZ hh)) (mkd N) o tol g (N 22 0 23).toNat) ∧ N3 22 0 38 = nM N P tol hh o ∧ (∀ j, 0 ≤ j → j < N 22 0 23 → N3 22036 0 j = msr N P (hX hh) (hY hh) (hZ hh) j) ∧ ∀ Q : AR → Mem → Prop, (Tq 312 12 [vR 22 0, vI tol, vI num, vI made, vJ, vI hh, vI o, vJ, vJ, vJ] [] N1 Q ↔ if 3 ≤ nM N P tol hh o then Tq 312 13 [vR 22 0, vI tol, vI num, vI made, vJ, vJ, vI o, vI (hX hh), vI (hY hh), vI (hZ hh)] [] N3 Q else Q (.inl (some (vI made))) N3) := by
  obtain ⟨x1, x2, x3⟩ := hXYZ hh0.1
  obtain ⟨y1, y2, y3⟩ := hal_w hh0.1
  obtain ⟨w1, w2, -, -, -, -, ⟨-, r2, -, -, -, -⟩, hp⟩ := h
  have hn9 := w2.1
  have n0 : N1 22 0 23 = N 22 0 23 := hf _ _ _ (fun q => by have := nSMs q; omega)
  have e24 : N1 22024 0 = N 22024 0 := hf.row _ _ (fun k q => by have := nSMs q; omega)
  have hp1 : PkM N1 (P 22 0 9) := PkM_fr (PkR_M hp) hf (fun k q => by have := nSMs q; omega) (fun q => by have := nSMs q; omega)
  have hr1 : RNet N1 P := RNet_fr r2 hf (fun f i k hl q => by have := nSMs q; unfold LRNet at hl; omega)
  obtain ⟨N2, a1, a2, a3, a4, a5⟩ := m313 w1 w2 hp1 x1 x2 x3 hr1 hE hT
  have es : msr N1 P (hX hh) (hY hh) (hZ hh) = msr N P (hX hh) (hY hh) (hZ hh) := by unfold msr; rw [e24]
  rw [es, n0] at a4
  have fN2 : Fr SMs N1 N2 := a1.mono (fun f i k q => Or.inl q)
  have n2 : N2 22 0 23 = N 22 0 23 := by rw [fN2 22 0 23 (fun q => by have := nSMs q; omega), n0]
  have e242 : N2 22024 0 = N 22024 0 := by rw [fN2.row 22024 0 (fun k q => by have := nSMs q; omega), e24]
  have hp2 : PkM N2 (P 22 0 9) := PkM_fr hp1 fN2 (fun k q => by have := nSMs q; omega) (fun q => by have := nSMs q; omega)
  obtain ⟨N3, b1, b2, b3, b4⟩ := m314 (o := o) (s := msr N P (hX hh) (hY hh) (hZ hh)) hp2 (by omega) ht hh0.2 (fun j j1 j2 => ⟨a4 j j1 (by omega), msr_rng w1 w2 (PkR_M hp) x1 x2 x3 j1 (by omega)⟩)
  have em1 : mwt N2 = mwt N := by unfold mwt; rw [e242]
  have em2 : mev N2 = mev N := by unfold mev; rw [e242]
  have em3 : mkd N2 = mkd N := by unfold mkd; rw [e242]
  rw [em2, em3, n2] at b2 b3
  refine ⟨N3, fN2.trans (b1.mono (fun f i k q => Or.inr q)), REa_fr a2 b1 (fun f i k hl => by unfold LREa at hl; unfold SWo; omega), RtOK_fr a3 b1 (fun f i k q => by unfold SRt at q; unfold SWo; omega), b2, b3, fun j j1 j2 => by rw [b1.row 22036 0 (by simp [SWo])]; exact a4 j j1 j2, fun Q => ?_⟩
  rw [t312_12, y1, y2, y3, a5, kV_v, b4, kI_v, b3]
  exact andi (by decide) (andi (by decide) (andi (by decide) (andi (by decide) Iff.rfl)))
/-- one go of both loops: an end, or an event more -/
theorem asc_one (ht : 0 ≤ tol ∧ tol ≤ 64) (hnum : 1 ≤ num) {M N P : Mem} {rs : List (Int × List Int)} (hmade : 0 ≤ made ∧ made ≤ 24) (h : ASI M N P rs) : (∃ v M' N', Fr SAsC M M' ∧ Fr SAsM N N' ∧ ASI M' N' P rs ∧ (∀ Q : AR → Mem → Prop, (Tq 60 3 [vR 1 0, vI tol, vI num, vI made, vJ] [] M Q ↔ Q (.inl (some (vI v))) M')) ∧ ∀ Q : AR → Mem → Prop, (Tq 312 3 [vR 22 0, vI tol, vI num, vI made, vJ, vJ, vJ, vJ, vJ, vJ] [] N Q ↔ Q (.inl (some (vI v))) N')) ∨
    (∃ M' N' x y z o m n A, Fr SAsC M M' ∧ Fr SAsM N N' ∧ gdE x y z o m n A P ∧ ASI M' N' (bmp (pev P A n (fLv x y z o m))) ((69, fRw x y z o m A n) :: rs) ∧ (∀ Q : AR → Mem → Prop, (Tq 60 3 [vR 1 0, vI tol, vI num, vI made, vJ] [] M Q ↔ Tq 60 3 [vR 1 0, vI tol, vI num, vI (made + 1), vJ] [] M' Q)) ∧ ∀ Q : AR → Mem → Prop, (Tq 312 3 [vR 22 0, vI tol, vI num, vI made, vJ, vJ, vJ, vJ, vJ, vJ] [] N Q ↔ Tq 312 3 [vR 22 0, vI tol, vI num, vI (made + 1), vJ, vJ, vJ, vJ, vJ, vJ] [] N' Q)) := by
  obtain ⟨M1, N1, b, hh, o, a1, a2, a3, a4, a5, a6, a7⟩ := asc_find (num := num) (made := made) h ht
  have fC1 : Fr SAsC M M1 := a1.mono (fun f i k q => Or.inl q)
  have fM1 : Fr SAsM N N1 := a2.mono (fun f i k q => Or.inl q)
  have hE1 := a3.2.2.2.2.2.2.1.1
  have hT1 := a3.2.2.2.2.2.2.1.2.2.2.2.1
  by_cases hn : hh = -99999999
  · -- nothing
    have hb : b = 0 := by omega
    refine Or.inl ⟨made, M1, N1, fC1, fM1, a3, fun Q => ?_, fun Q => ?_⟩
    · rw [t60_3, a6, kI_v, b2i_f (by omega), if_pos rfl, t60_8]
    · rw [a7 Q, t312_10, if_pos hn, t312_11]
  · have hh0 : (0 ≤ hh ∧ hh < 1024) ∧ -7103 ≤ o ∧ o ≤ 4095 := by omega
    have m8 : M1 19 0 8 = nM N P tol hh o := by
      rcases a4.2 with ⟨q, _⟩ | ⟨_, _, _, _, _, q⟩
      · exact absurd q hn
      · exact q
    by_cases hb : num ≤ b
    · obtain ⟨N3, b1, b2, b3, b4, b5, b6, b7⟩ := asc_12 (num := num) (made := made) h ht a2 hE1 hT1 hh0
      have fM3 : Fr SAsM N N3 := (a2.trans b1).mono (fun f i k q => Or.inl q)
      have run : ∀ Q : AR → Mem → Prop, (Tq 312 3 [vR 22 0, vI tol, vI num, vI made, vJ, vJ, vJ, vJ, vJ, vJ] [] N Q ↔ if 3 ≤ nM N P tol hh o then Tq 312 13 [vR 22 0, vI tol, vI num, vI made, vJ, vJ, vI o, vI (hX hh), vI (hY hh), vI (hZ hh)] [] N3 Q else Q (.inl (some (vI made))) N3) := fun Q => by
        rw [a7 Q, t312_10, if_neg hn, if_pos hb, b7 Q]
      by_cases h3 : 3 ≤ nM N P tol hh o
      · obtain ⟨M2, c1, c2, c3, c4, c5⟩ := asc_gather h ht a1 a3 a4 hh0
        have hA2 := ASI_fr (N1 := N3) a3 c1 c2 b1 b2 b3
        have fC2 : Fr SAsC M M2 := (a1.trans c1).mono (fun f i k q => Or.inl q)
        have hl := lM_len (N := N) (P := P) (tol := tol) hh o
        have hl24 := lM_24 (N := N) (P := P) (tol := tol) hh o
        have fN3 : Fr SMs N N3 := a2.trans b1
        obtain ⟨w1, w2, w3, w4, w5, ⟨p1, p2, p3, p4, p5⟩, ⟨q1, q2, q3, q4, q5, q6⟩, hp2⟩ := hA2
        have ev : M2 6 0 1 = P 22 0 28 := p3.1
        have evN : N3 22 0 28 = P 22 0 28 := q3.1
        have rgM := CLog.rng p4
        have rgN := RLog.rng q4
        have hrm : N3 22 0 5 = M2 13 1 1 := by rw [p4.1, q4.1]
        have we := w3.1
        have wm := w3.2.1
        have rl : M2 14 0 1 = rs.length := p4.2.2.2.1
        have runC : ∀ Q : AR → Mem → Prop, (Tq 60 3 [vR 1 0, vI tol, vI num, vI made, vJ] [] M Q ↔ if P 22 0 28 = 24 ∨ ¬ M2 13 1 1 + (25 + 20 * (lM N P tol hh o).length) + 6 ≤ 60000 then Q (.inl (some (vI (if made = 0 then -3 else made)))) M2 else Tq 63 0 [vR 1 0, vI (lM N P tol hh o).length, vJ, vJ, vJ, vJ] [] M2 (kV fun M3 => Tq 60 3 [vR 1 0, vI tol, vI num, vI (made + 1), vJ] [] M3 Q)) := fun Q => by
          have ex : Tq 60 4 [vJ, vJ, vJ, vI made, vJ] [] M2 Q ↔ Q (.inl (some (vI (if made = 0 then -3 else made)))) M2 := by
            rw [t60_4, t60_5, t60_6, t60_6]
            by_cases q : made = 0
            · rw [if_neg (by simpa using q), if_pos q]
            · rw [if_pos q, if_neg q]
          rw [t60_3, a6, kI_v, b2i_t ⟨hb, by omega⟩, if_neg (by decide), c5, kI_v, ev, ex, w32_id (z := 20 * ((lM N P tol hh o).length : Int)) (by omega) (by omega), w32_id (z := 25 + 20 * ((lM N P tol hh o).length : Int)) (by omega) (by omega), m119 rgM.1.1 rgM.1.2 (by omega) (by omega), kI_v, t60_7, ex, w32_id (z := made + 1) (by omega) (by omega)]
          by_cases d1 : P 22 0 28 = 24
          · rw [if_pos d1, if_pos (Or.inl d1)]
          · rw [if_neg d1]
            by_cases d2 : M2 13 1 1 + (25 + 20 * (lM N P tol hh o).length) + 6 ≤ 60000
            · rw [b2i_t d2, if_pos (by decide), if_neg (by omega)]
            · rw [b2i_f d2, if_neg (by decide), if_pos (Or.inr d2)]
        have runM : ∀ Q : AR → Mem → Prop, (Tq 312 3 [vR 22 0, vI tol, vI num, vI made, vJ, vJ, vJ, vJ, vJ, vJ] [] N Q ↔ if P 22 0 28 = 24 ∨ ¬ M2 13 1 1 + (25 + 20 * (lM N P tol hh o).length) + 6 ≤ 60000 then Q (.inl (some (vI (if made = 0 then -3 else made)))) N3 else Tq 315 0 [vR 22 0, vI (hX hh), vI (hY hh), vI (hZ hh), vI o, vJ, vJ, vJ, vJ, vJ] [] N3 (kV fun M1 => Tq 312 3 [vR 22 0, vI tol, vI num, vI (made + 1), vJ, vJ, vJ, vJ, vJ, vJ] [] M1 Q)) := fun Q => by
          have ex : Tq 312 14 [vJ, vJ, vJ, vI made, vJ, vJ, vJ, vJ, vJ, vJ] [] N3 Q ↔ Q (.inl (some (vI (if made = 0 then -3 else made)))) N3 := by
            rw [t312_14, t312_15, t312_16, t312_16]
            by_cases q : made = 0
            · rw [if_neg (by simpa using q), if_pos q]
            · rw [if_pos q, if_neg q]
          rw [run Q, if_pos h3, t312_13, evN, b5, ex, ← hl, w32_id (z := 20 * ((lM N P tol hh o).length : Int)) (by omega) (by omega), w32_id (z := 25 + 20 * ((lM N P tol hh o).length : Int)) (by omega) (by omega), m198 rgN.1.1 rgN.1.2 (by omega) (by omega), kI_v, ex, hrm, t312_17, w32_id (z := made + 1) (by omega) (by omega)]
          by_cases d1 : P 22 0 28 = 24
          · rw [if_pos d1, if_pos (Or.inl d1)]
          · rw [if_neg d1]
            by_cases d2 : M2 13 1 1 + (25 + 20 * (lM N P tol hh o).length) + 6 ≤ 60000
            · rw [b2i_t d2, if_pos (by decide), if_neg (by omega)]
            · rw [b2i_f d2, if_neg (by decide), if_pos (Or.inr d2)]
        by_cases full : P 22 0 28 = 24 ∨ ¬ M2 13 1 1 + (25 + 20 * (lM N P tol hh o).length) + 6 ≤ 60000
        · refine Or.inl ⟨if made = 0 then -3 else made, M2, N3, fC2, fM3, ASI_fr (N1 := N3) a3 c1 c2 b1 b2 b3, fun Q => ?_, fun Q => ?_⟩
          · rw [runC Q, if_pos full]
          · rw [runM Q, if_pos full]
        · refine Or.inr ?_
          have hA2 := ASI_fr (N1 := N3) a3 c1 c2 b1 b2 b3
          have n3 : N3 22 0 23 = N 22 0 23 := fN3 _ _ _ (fun q => by have := nSMs q; omega)
          have e24 : N3 22024 0 = N 22024 0 := fN3.row _ _ (fun k q => by have := nSMs q; omega)
          have hp0 := hp2.2.1
          obtain ⟨x1, x2, x3⟩ := hXYZ hh0.1
          have hL : ∀ p ∈ lM N P tol hh o, 0 ≤ p ∧ p < N3 22 0 23 := fun p hp => by rw [n3]; exact (lM_ok hp).1
          have pw : ∀ p, 0 ≤ p → p < N3 22 0 23 → M2 18004 0 p = mwt N3 p ∧ 1 ≤ mwt N3 p ∧ mwt N3 p ≤ 9 := fun p h1 h2 => by
            obtain ⟨-, -, -, a4, -, -, -, -, -, b4, -, -⟩ := hp2.2.2 p h1 h2
            exact ⟨a4, b4⟩
          have emw : mwt N3 = mwt N := by unfold mwt; rw [e24]
          have r63 := fun Q => m63 (Q := Q) (M := M2) (e := P 22 0 28) (x := hX hh) (y := hY hh) (z := hZ hh) (o := o) (L := lM N P tol hh o) (s := msr N P (hX hh) (hY hh) (hZ hh)) ⟨ev, by omega⟩ hl24 c4 (fun p hp => by
            have q := lM_ok hp
            have w := pw p q.1.1 (by omega)
            exact ⟨by omega, by omega, by omega, by omega⟩) c3.2.2.2 c3.1 c3.2.1 c3.2.2.1 rgM.1.1 (by omega) rgM.2 (by
            have : M2 6 0 2 = P 22 0 29 := p3.2.1
            omega)
          have r315 := fun Q => m315 (Q := Q) (N := N3) (e := P 22 0 28) (x := hX hh) (y := hY hh) (z := hZ hh) (o := o) (s := msr N P (hX hh) (hY hh) (hZ hh)) (c := fun g => cn (mev N) (msr N P (hX hh) (hY hh) (hZ hh)) (mkd N) o tol g (N 22 0 23).toNat) ⟨evN, by omega⟩ b4 (fun g g1 g2 hg => by
            rcases cn_spec (ev := mev N) (s := msr N P (hX hh) (hY hh) (hZ hh)) (kd := mkd N) (o := o) (tol := tol) (g := g) (N 22 0 23).toNat with ⟨q, _⟩ | ⟨q1, q2, _⟩
            · exact absurd q hg
            · have w := pw _ q1.1 (by omega)
              have q3 := q2.2.2
              exact ⟨by show 0 ≤ cn _ _ _ _ _ _ _ ∧ _; omega, by show 0 ≤ mwt N3 _ ∧ _; omega, by show 0 ≤ msr N P (hX hh) (hY hh) (hZ hh) _ - o ∧ _; omega, b6 _ q1.1 (by omega)⟩) rgN.1.1 (by
            show N3 22 0 5 + 31 + 20 * ((lM N P tol hh o).length : Int) ≤ 60000
            omega) rgN.2 (by
            have : N3 22 0 29 = P 22 0 29 := q3.2.1
            omega)
          have emf : mf (M2 18004 0) (msr N P (hX hh) (hY hh) (hZ hh)) o (lM N P tol hh o) = mf (mwt N3) (msr N P (hX hh) (hY hh) (hZ hh)) o (lM N P tol hh o) := mf_cg _ (fun p hp => ⟨(pw p (hL p hp).1 (hL p hp).2).1, rfl⟩)
          rw [emf] at r63
          have bmf := mf_bd (w := mwt N3) (s := msr N P (hX hh) (hY hh) (hZ hh)) (o := o) (lM N P tol hh o) (fun p hp => by
            have q := lM_ok hp
            have w := pw p q.1.1 (by omega)
            exact ⟨by omega, by omega⟩)
          have ear : (lM N P tol hh o).flatMap (ar5M N3) = (lM N P tol hh o).flatMap (ar5M N) := by
            have : ar5M N3 = ar5M N := by funext p; unfold ar5M; rw [e24]
            rw [this]
          have hg : gdE (hX hh) (hY hh) (hZ hh) o (mf (mwt N3) (msr N P (hX hh) (hY hh) (hZ hh)) o (lM N P tol hh o)) (lM N P tol hh o).length ((lM N P tol hh o).flatMap (ar5M N3)) P := by
            refine ⟨by omega, ?_, by omega, by omega, x1, x2, x3, by omega, ⟨by omega, by omega⟩, Or.inl rfl, by omega⟩
            rw [ear]
            exact lM_al (PkR_M h.2.2.2.2.2.2.2)
          have hA3 := ASI_found hA2 rfl hL hg (by omega)
          refine ⟨_, _, _, _, _, _, _, _, _, ?_, ?_, hg, hA3, fun Q => ?_, fun Q => ?_⟩
          · exact fC2.trans (fC_fr.mono (fun f i k q => Or.inr q))
          · exact fM3.trans (fM_fr.mono (fun f i k q => Or.inr q))
          · rw [runC Q, if_neg full, r63, kV_v]
          · rw [runM Q, if_neg full]
            exact r315 _
      · refine Or.inl ⟨made, M1, N3, fC1, fM3, ASI_fr a3 Fr.refl a3.2.2.2.2.2.1.1 b1 b2 b3, fun Q => ?_, fun Q => ?_⟩
        · rw [t60_3, a6, kI_v, b2i_f (by omega), if_pos rfl, t60_8]
        · rw [run Q, if_neg h3]
    · refine Or.inl ⟨made, M1, N1, fC1, fM1, a3, fun Q => ?_, fun Q => ?_⟩
      · rw [t60_3, a6, kI_v, b2i_f (by omega), if_pos rfl, t60_8]
      · rw [a7 Q, t312_10, if_neg hn, if_neg hb, t312_11]
theorem asc_loop (ht : 0 ≤ tol ∧ tol ≤ 64) (hnum : 1 ≤ num) : ∀ (r : Nat) (M N P : Mem) (rs : List (Int × List Int)) (made : Int), 24 - P 22 0 28 ≤ r → (0 ≤ made ∧ made ≤ P 22 0 28) → ASI M N P rs → ∃ v M' N' P' rs' k, Fr SAsC M M' ∧ Fr SAsM N N' ∧ ExtE k rs P rs' P' ∧ ASI M' N' P' rs' ∧ (∀ Q : AR → Mem → Prop, (Tq 60 3 [vR 1 0, vI tol, vI num, vI made, vJ] [] M Q ↔ Q (.inl (some (vI v))) M')) ∧ ∀ Q : AR → Mem → Prop, (Tq 312 3 [vR 22 0, vI tol, vI num, vI made, vJ, vJ, vJ, vJ, vJ, vJ] [] N Q ↔ Q (.inl (some (vI v))) N') := by
  intro r
  induction r with
  | zero =>
    intro M N P rs made hr hmade h
    have we := h.2.2.1.1
    rcases asc_one ht hnum (made := made) (by omega) h with ⟨v, M', N', a1, a2, a3, a4, a5⟩ | ⟨M', N', x, y, z, o, m, n, A, a1, a2, a3, a4, a5, a6⟩
    · exact ⟨v, M', N', P, rs, 0, a1, a2, ⟨rfl, rfl⟩, a3, a4, a5⟩
    · have := a3.2.2.1
      omega
  | succ r ih =>
    intro M N P rs made hr hmade h
    have we := h.2.2.1.1
    rcases asc_one ht hnum (made := made) (by omega) h with ⟨v, M', N', a1, a2, a3, a4, a5⟩ | ⟨M', N', x, y, z, o, m, n, A, a1, a2, a3, a4, a5, a6⟩
    · exact ⟨v, M', N', P, rs, 0, a1, a2, ⟨rfl, rfl⟩, a3, a4, a5⟩
    · obtain ⟨v, M2, N2, P2, rs2, k, b1, b2, b3, b4, b5, b6⟩ := ih M' N' _ _ (made + 1) (by rw [pe_28]; omega) (by rw [pe_28]; omega) a4
      exact ⟨v, M2, N2, P2, rs2, k + 1, a1.trans b1, a2.trans b2, ⟨x, y, z, o, m, n, A, a3, b3⟩, b4, fun Q => by rw [a5 Q, b5 Q], fun Q => by rw [a6 Q, b6 Q]⟩
end Assoc3
