/-! ASSOCIATE: the operation, both sides one behind the other -/
theorem nSAsC {f : Nat} {i k : Int} (h : SAsC f i k) : (f = 19003 ∨ f = 19004 ∨ f = 19005 ∨ f = 19006 ∨ (f = 19 ∧ (k = 2 ∨ 7 ≤ k ∧ k ≤ 12)) ∨ f = 3001 ∨ f = 3002 ∨ f = 3003 ∨ f = 3004 ∨ f = 2000 ∨ (f = 2 ∧ k = 1) ∨ (f = 3 ∧ k = 6) ∨ f = 1015) ∨ (f = 6 ∨ f = 7 ∨ f = 7000 ∨ f = 7002 ∨ f = 18006 ∨ f = 1014 ∨ ((f = 13 ∧ i = 1 ∧ k = 1) ∨ (f = 13000 ∧ i = 1) ∨ (f = 14 ∧ i = 0))) := by
  rcases h with h | h
  · exact Or.inl (nSGi h)
  · exact Or.inr h
theorem nSAsM {f : Nat} {i k : Int} (h : SAsM f i k) : (f = 22036 ∨ f = 22026 ∨ (f = 22 ∧ (k = 27 ∨ k = 1 ∨ k = 38)) ∨ f = 22000 ∨ f = 22037) ∨ (f = 22024 ∨ f = 22030 ∨ f = 22031 ∨ f = 22032 ∨ f = 22033 ∨ f = 22034 ∨ f = 22035 ∨ (f = 22 ∧ (k = 28 ∨ k = 29)) ∨ ((f = 22 ∧ i = 0 ∧ (k = 5 ∨ k = 6 ∨ k = 7)) ∨ (f = 22004 ∧ i = 0))) := by
  rcases h with h | h
  · exact Or.inl (nSMs h)
  · exact Or.inr h
section Assoc4
variable {M N P M1 N1 : Mem} {rs : List (Int × List Int)} {tol num : Int}
theorem ASI_C (h : ASI M N P rs) (hM : Fr SAsM M M1) : ASI M1 N P rs := by
  obtain ⟨h1, h2, h3, h4, h5, ⟨c1, c2, c3, c4, c5⟩, hr, hp⟩ := h
  refine ⟨h1, h2, h3, h4, h5, ⟨?_, ?_, ?_, ?_, ?_⟩, hr, ?_⟩
  · exact CEa_fr c1 hM (fun f i k hl q => by have := nSAsM q; unfold LCEa at hl; omega)
  · exact CNet_fr c2 hM (fun f i k hl q => by have := nSAsM q; unfold LCNet at hl; omega)
  · exact CBk_fr c3 hM (fun f i k hl q => by have := nSAsM q; unfold LCBk at hl; omega)
  · exact CLog_fr c4 hM (fun f i k hl q => by have := nSAsM q; unfold LCLog at hl; omega)
  · rw [hM 4 0 10 (fun q => by have := nSAsM q; omega)]
    exact c5
  · unfold PkR
    rw [hM 18 0 0 (fun q => by have := nSAsM q; omega), hM.row 18001 0 (fun k q => by have := nSAsM q; omega), hM.row 18002 0 (fun k q => by have := nSAsM q; omega), hM.row 18003 0 (fun k q => by have := nSAsM q; omega), hM.row 18004 0 (fun k q => by have := nSAsM q; omega), hM.row 18005 0 (fun k q => by have := nSAsM q; omega), hM.row 18006 0 (fun k q => by have := nSAsM q; omega)]
    exact hp
theorem ASI_R (h : ASI M N P rs) (hN : Fr SAsC N N1) : ASI M N1 P rs := by
  obtain ⟨h1, h2, h3, h4, h5, hc, ⟨r1, r2, r3, r4, r5, r6⟩, hp⟩ := h
  refine ⟨h1, h2, h3, h4, h5, hc, ⟨?_, ?_, ?_, ?_, ?_, ?_⟩, ?_⟩
  · exact REa_fr r1 hN (fun f i k hl q => by have := nSAsC q; unfold LREa at hl; omega)
  · exact RNet_fr r2 hN (fun f i k hl q => by have := nSAsC q; unfold LRNet at hl; omega)
  · exact RBk_fr r3 hN (fun f i k hl q => by have := nSAsC q; unfold LRBk at hl; omega)
  · exact RLog_fr r4 hN (fun f i k hl q => by have := nSAsC q; unfold LRLog at hl; omega)
  · exact RtOK_fr r5 hN (fun f i k hl q => by have := nSAsC q; unfold SRt at hl; omega)
  · rw [hN 22 0 81 (fun q => by have := nSAsC q; omega)]
    exact r6
  · unfold PkR
    rw [hN 22 0 23 (fun q => by have := nSAsC q; omega), hN.row 22024 0 (fun k q => by have := nSAsC q; omega)]
    exact hp
def SAss (f : Nat) (i k : Int) : Prop := SAsC f i k ∨ SAsM f i k
theorem op_associate (h : ASI M M P rs) : Tq 60 0 [vR 1 0, vI tol, vI num, vJ, vJ] [] M (kI fun v1 M1 => Fr SAsC M M1 ∧ Tq 312 0 [vR 22 0, vI tol, vI num, vJ, vJ, vJ, vJ, vJ, vJ, vJ] [] M1 (kI fun v2 M2 => v1 = v2 ∧ Fr SAss M M2 ∧ ∃ k rs' P', ExtE k rs P rs' P' ∧ ASI M2 M2 P' rs')) := by
  by_cases q : (0 ≤ tol ∧ tol ≤ 64) ∧ (1 ≤ num ∧ num ≤ 99)
  · obtain ⟨q1, q2⟩ := q
    have we := h.2.2.1.1
    obtain ⟨v, M', N', P', rs', k, a1, a2, a3, a4, a5, a6⟩ := asc_loop (tol := tol) (num := num) q1 q2.1 24 M M P rs 0 (by omega) (by omega) h
    obtain ⟨v', M2, N2, P2, rs2, k2, b1, b2, b3, b4, b5, b6⟩ := asc_loop (tol := tol) (num := num) q1 q2.1 24 M M' P rs 0 (by omega) (by omega) (ASI_R h a1)
    have e := (b5 (fun r X => r = .inl (some (vI v)) ∧ X = M')).mp ((a5 (fun r X => r = .inl (some (vI v)) ∧ X = M')).mpr ⟨rfl, rfl⟩)
    obtain ⟨e1, e2⟩ := e
    subst e2
    have e3 : v' = v := by
      injection e1 with e1
      injection e1 with e1
      injection e1
    subst e3
    rw [t60_0, m25, kI_v, b2i_t q1, if_neg (by decide), m25, kI_v, b2i_t q2, if_pos (by decide), t60_2, a5, kI_v]
    refine ⟨a1, ?_⟩
    rw [t312_0, m189, kI_v, b2i_t q1, if_neg (by decide), m189, kI_v, b2i_t q2, if_pos (by decide), t312_2, b6, kI_v]
    exact ⟨rfl, (a1.mono (fun f i k q => Or.inl q)).trans (b2.mono (fun f i k q => Or.inr q)), k2, rs2, P2, b3, ASI_C b4 b2⟩
  · have bad : ∀ (Q : AR → Mem → Prop), Tq 60 0 [vR 1 0, vI tol, vI num, vJ, vJ] [] M Q ↔ Q (.inl (some (vI (-1)))) M := fun Q => by
      rw [t60_0, m25, kI_v, t60_1]
      refine ifi (fun _ => Iff.rfl) (fun d1 => ?_)
      rw [m25, kI_v, t60_1]
      rw [b2i_e0] at d1
      rw [if_neg (by rw [b2i_f (by omega)]; decide)]
    have badM : ∀ (Q : AR → Mem → Prop), Tq 312 0 [vR 22 0, vI tol, vI num, vJ, vJ, vJ, vJ, vJ, vJ, vJ] [] M Q ↔ Q (.inl (some (vI (-1)))) M := fun Q => by
      rw [t312_0, m189, kI_v, t312_1]
      refine ifi (fun _ => Iff.rfl) (fun d1 => ?_)
      rw [m189, kI_v, t312_1]
      rw [b2i_e0] at d1
      rw [if_neg (by rw [b2i_f (by omega)]; decide)]
    rw [bad, kI_v]
    refine ⟨Fr.refl, ?_⟩
    rw [badM, kI_v]
    exact ⟨rfl, Fr.refl, 0, rs, P, ⟨rfl, rfl⟩, h⟩
end Assoc4
