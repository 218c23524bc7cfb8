/-! ASSOCIATE: both loops -/
def ExtE : Nat → List (Int × List Int) → Mem → List (Int × List Int) → Mem → Prop
  | 0, rs, P, rs', P' => rs' = rs ∧ P' = P
  | k + 1, rs, P, rs', P' => ∃ x y z o m n A, gdE x y z o m n A P ∧ ExtE k ((69, fRw x y z o m A n) :: rs) (bmp (pev P A n (fLv x y z o m))) rs' P'
def SGi (f : Nat) (i k : Int) : Prop := SFi f i k ∨ f = 1015
def SAsC (f : Nat) (i k : Int) : Prop := SGi f i k ∨ SFoC f i k
def SAsM (f : Nat) (i k : Int) : Prop := SMs f i k ∨ SFoM f i k
section Assoc2
variable {tol num : Int}
theorem nSGi {f : Nat} {i k : Int} (h : SGi f i k) : f = 19003 ∨ f = 19004 ∨ f = 19005 ∨ f = 19006 ∨ (f = 19 ∧ (k = 2 ∨ 7 ≤ k ∧ k ≤ 12)) ∨ f = 3001 ∨ f = 3002 ∨ f = 3003 ∨ f = 3004 ∨ f = 2000 ∨ (f = 2 ∧ k = 1) ∨ (f = 3 ∧ k = 6) ∨ f = 1015 := by
  unfold SGi SFi SFd SLk SEaC at h
  omega
theorem nSMs {f : Nat} {i k : Int} (h : SMs f i k) : f = 22036 ∨ f = 22026 ∨ (f = 22 ∧ (k = 27 ∨ k = 1 ∨ k = 38)) ∨ f = 22000 ∨ f = 22037 := by
  unfold SMs SSo SWo SEaM SRt at h
  omega
theorem ASI_fr {M N P M1 N1 : Mem} {rs : List (Int × List Int)} (h : ASI M N P rs) (hM : Fr SGi M M1) (hC : CEa M1 P) (hN : Fr SMs N N1) (hR : REa N1 P) (hT : RtOK N1) : ASI M1 N1 P rs := by
  obtain ⟨h1, h2, h3, h4, h5, ⟨c1, c2, c3, c4, c5⟩, ⟨r1, r2, r3, r4, r5, r6⟩, hp⟩ := h
  refine ⟨h1, h2, h3, h4, h5, ⟨hC, ?_, ?_, ?_, ?_⟩, ⟨hR, ?_, ?_, ?_, hT, ?_⟩, ?_⟩
  · exact CNet_fr c2 hM (fun f i k hl q => by have := nSGi q; unfold LCNet at hl; omega)
  · exact CBk_fr c3 hM (fun f i k hl q => by have := nSGi q; unfold LCBk at hl; omega)
  · exact CLog_fr c4 hM (fun f i k hl q => by have := nSGi q; unfold LCLog at hl; omega)
  · rw [hM 4 0 10 (fun q => by have := nSGi q; omega)]
    exact c5
  · exact RNet_fr r2 hN (fun f i k hl q => by have := nSMs q; unfold LRNet at hl; omega)
  · exact RBk_fr r3 hN (fun f i k hl q => by have := nSMs q; unfold LRBk at hl; omega)
  · exact RLog_fr r4 hN (fun f i k hl q => by have := nSMs q; unfold LRLog at hl; omega)
  · rw [hN 22 0 81 (fun q => by have := nSMs q; omega)]
    exact r6
  · unfold PkR
    rw [hM 18 0 0 (fun q => by have := nSGi q; omega), hM.row 18001 0 (fun k q => by have := nSGi q; omega), hM.row 18002 0 (fun k q => by have := nSGi q; omega), hM.row 18003 0 (fun k q => by have := nSGi q; omega), hM.row 18004 0 (fun k q => by have := nSGi q; omega), hM.row 18005 0 (fun k q => by have := nSGi q; omega), hM.row 18006 0 (fun k q => by have := nSGi q; omega), hN 22 0 23 (fun q => by have := nSMs q; omega), hN.row 22024 0 (fun k q => by have := nSMs q; omega)]
    exact hp
/-- one search: both sides find the same -/
theorem asc_find {M N P : Mem} {rs : List (Int × List Int)} {made : Int} (h : ASI M N P rs) (ht : 0 ≤ tol ∧ tol ≤ 64) : ∃ M1 N1 b hh o, Fr SGi M M1 ∧ Fr SMs N N1 ∧ ASI M1 N1 P rs ∧ CSt M1 (nM N P tol) b hh o ∧ ((hh = -99999999 ∧ b = 0) ∨ ((0 ≤ hh ∧ hh < 1024) ∧ -7103 ≤ o ∧ o ≤ 4095)) ∧ (∀ Q : AR → Mem → Prop, (Tq 149 0 [vR 19 0, vI tol, vI num, vJ, vJ, vJ] [] M Q ↔ Q (.inl (some (vI (b2i (num ≤ b ∧ 3 ≤ M1 19 0 8))))) M1)) ∧ ∀ Q : AR → Mem → Prop, (Tq 312 3 [vR 22 0, vI tol, vI num, vI made, vJ, vJ, vJ, vJ, vJ, vJ] [] N Q ↔ Tq 312 10 [vR 22 0, vI tol, vI num, vI made, vI b, vI hh, vI o, vJ, vJ, vJ] [] N1 Q) := by
  have hA := h
  obtain ⟨h1, h2, h3, h4, h5, ⟨c1, c2, c3, c4, c5⟩, ⟨r1, r2, r3, r4, r5, r6⟩, hp⟩ := h
  obtain ⟨M1, b, hh, o, a1, a2, a3, a4, a5⟩ := m149 (num := num) h1 h2 (PkR_C hp) c2 ht c1
  obtain ⟨N1, b', hh', o', d1, d2, d3, d4, d5⟩ := m312_3 (num := num) (made := made) h1 h2 (PkR_M hp) ht r2 r1 r5
  have a3' := RchH_cg (W' := wM N P tol) (O' := oM N P) (fun h o => wCM hp h o) (fun h t => oCM hp h t) 1024 b hh o a3
  obtain ⟨e1, e2, e3⟩ := RchH_uniq 1024 _ _ _ _ _ _ a3' d4
  subst e1 e2 e3
  have fM : Fr SGi M M1 := a1.mono (fun f i k q => Or.inl q)
  refine ⟨M1, N1, b, hh, o, fM, d1, ASI_fr hA fM a2 d1 d2 d3, ?_, ?_, a5, d5⟩
  · have : nC M P tol = nM N P tol := by funext h o; exact nCM hp h o
    rw [← this]
    exact a4
  · rcases RchH_rng 1024 b hh o a3' with ⟨q1, q2, _⟩ | ⟨q1, q2, _⟩
    · exact Or.inl ⟨q1, q2⟩
    · refine Or.inr ⟨by omega, ?_⟩
      obtain ⟨p, p1, p2, p3, p4⟩ := q2
      obtain ⟨x1, x2, x3⟩ := hXYZ (h := hh) (by omega)
      have := msr_rng h1 h2 (PkR_M hp) x1 x2 x3 p1 p2
      omega
end Assoc2
