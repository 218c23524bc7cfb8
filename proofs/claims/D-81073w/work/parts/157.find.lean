/-! ASSOCIATE: the component's find -/
def hX (h : Int) : Int := 2 + 4 * (h % 16)
def hY (h : Int) : Int := 2 + 4 * (h / 16 % 16)
def hZ (h : Int) : Int := 1 + 4 * (h / 256)
def CSt (M : Mem) (N : Int → Int → Int) (b hh o : Int) : Prop := M 19 0 7 = b ∧ ((hh = -99999999 ∧ M 19 0 8 = 0) ∨ ((0 ≤ hh ∧ hh < 1024) ∧ M 19 0 9 = hX hh ∧ M 19 0 10 = hY hh ∧ M 19 0 11 = hZ hh ∧ M 19 0 12 = o ∧ M 19 0 8 = N hh o))
theorem CSt_fr {S : Nat → Int → Int → Prop} {M M' : Mem} {N : Int → Int → Int} {b hh o : Int} (h : CSt M N b hh o) (hf : Fr S M M') (hs : ∀ k, 7 ≤ k → k ≤ 12 → ¬ S 19 0 k) : CSt M' N b hh o := by
  unfold CSt
  rw [hf 19 0 7 (hs _ (by decide) (by decide)), hf 19 0 8 (hs _ (by decide) (by decide)), hf 19 0 9 (hs _ (by decide) (by decide)), hf 19 0 10 (hs _ (by decide) (by decide)), hf 19 0 11 (hs _ (by decide) (by decide)), hf 19 0 12 (hs _ (by decide) (by decide))]
  exact h
section Find
variable {M1 : Mem} {ev s : Int → Int} {m tol h b0 h0 o0 : Int} {n : Nat} {N : Int → Int → Int}
theorem m151_1 (hO : LkO M1 m) (hS : SrtI ev s (M1 19003 0) (M1 19004 0) m n) (ht : 0 ≤ tol ∧ tol ≤ 64) (hh : 0 ≤ h ∧ h < 1024) (hne : ¬ h0 = h) (hN : ∀ o, N h o = cw (fun _ => 1) ev s (ckd M1) o tol n) : ∀ (r : Nat) (k e : Int) (M : Mem) (b hh o : Int), k + r = m → 0 ≤ k → (k ≤ e ∧ e ≤ m) → (k = 0 → e = 0) → (0 < k → ∀ j, 0 ≤ j → j < e → M1 19004 0 j - M1 19004 0 (k - 1) ≤ tol) → Fr SLk M1 M → (∀ g, 0 ≤ g → g < 24 → M 19006 0 g = kc (kF M1) g k (e - k).toNat) → HR (fun o => cw (M1 18004 0) ev s (ckd M1) o tol n) (fun t => ∃ j, 0 ≤ j ∧ j < k ∧ M1 19004 0 j = t) h b0 h0 o0 b hh o → CSt M N b hh o → ∃ M' b hh o, Fr SLk M1 M' ∧ HR (fun o => cw (M1 18004 0) ev s (ckd M1) o tol n) (fun t => ∃ j, 0 ≤ j ∧ j < m ∧ M1 19004 0 j = t) h b0 h0 o0 b hh o ∧ CSt M' N b hh o ∧ ∀ Q : AR → Mem → Prop, (Tq 151 1 [vR 19 0, vI tol, vI (hX h), vI (hY h), vI (hZ h), vI e, vI (FW (wF M1) (kF M1) k (e - k).toNat), vI (FW (fun _ => 1) (kF M1) k (e - k).toNat), vI k, vJ, vJ, vJ] [] M Q ↔ Q (.inl none) M') := by
  intro r
  induction r with
  | zero =>
    intro k e M b hh o hr hk he hz hw hf hL hR hC
    have e2 : M 19 0 2 = m := by rw [hf 19 0 2 (by simp [SLk])]; exact hO.1
    refine ⟨M, b, hh, o, hf, ?_, hC, fun Q => ?_⟩
    · rw [show m = k by omega]
      exact hR
    · rw [t151_1, e2, if_pos (by omega), t151_16]
  | succ r ih =>
    intro k e M b hh1 o hr hk he hz hw hf hL hR hC
    have hm := hO.2.1
    have e2 : M 19 0 2 = m := by rw [hf 19 0 2 (by simp [SLk])]; exact hO.1
    obtain ⟨e', M2, z1, z2, z3, z4, z5, z6⟩ := m151_2 (hx := hX h) (hy := hY h) (hz := hZ h) hO ht (k := k) (by omega) (m - e).toNat e M (by omega) he.1 hf hL
    have ke : k < e' := by
      refine Int.not_le.mp (fun q => ?_)
      rcases z2 with q2 | q2
      · omega
      · rw [show e' = k by omega] at q2
        omega
    have hwin : ∀ j, k ≤ j → j < e' → M1 19004 0 j - M1 19004 0 k ≤ tol := fun j j1 j2 => by
      by_cases q : e ≤ j
      · exact z3 j q j2
      · have k0 : 0 < k := by
          refine Int.not_le.mp (fun q2 => ?_)
          have := hz (by omega)
          omega
        have a := hw k0 j (by omega) (by omega)
        have b := hO.2.2.2.1 (k - 1) k (by omega) (by omega) (by omega)
        omega
    have hf2 : Fr SLk M1 M2 := hf.trans (z4.mono (fun f i k q => by unfold SLk; omega))
    have hC2 : CSt M2 N b hh1 o := CSt_fr hC z4 (fun k _ _ => by simp)
    have m7 : M2 19 0 7 = b := hC2.1
    have m4 : M2 19004 0 = M1 19004 0 := hf2.row _ _ (by simp [SLk])
    have hw2 : 0 < k + 1 → ∀ j, 0 ≤ j → j < e' → M1 19004 0 j - M1 19004 0 (k + 1 - 1) ≤ tol := fun _ j j1 j2 => by
      rw [show k + 1 - 1 = k by omega]
      by_cases q : k ≤ j
      · exact hwin j q j2
      · have := hO.2.2.2.1 j k j1 (by omega) (by omega)
        omega
    have hOs : ∀ t, (∃ j, 0 ≤ j ∧ j < k + 1 ∧ M1 19004 0 j = t) ↔ (∃ j, 0 ≤ j ∧ j < k ∧ M1 19004 0 j = t) ∨ t = M1 19004 0 k := fun t => by
      constructor
      · rintro ⟨j, j1, j2, j3⟩
        by_cases q : j = k
        · exact Or.inr (by rw [← j3, q])
        · exact Or.inl ⟨j, j1, by omega, j3⟩
      · rintro (⟨j, j1, j2, j3⟩ | q)
        · exact ⟨j, j1, by omega, j3⟩
        · exact ⟨k, hk, by omega, q.symm⟩
    -- the rest, once the best is known
    have rest : ∀ (M3 : Mem) (b3 hh3 o3 : Int), Fr SLk M1 M3 → (∀ g, 0 ≤ g → g < 24 → M3 19006 0 g = kc (kF M1) g k (e' - k).toNat) → HR (fun o => cw (M1 18004 0) ev s (ckd M1) o tol n) (fun t => ∃ j, 0 ≤ j ∧ j < k + 1 ∧ M1 19004 0 j = t) h b0 h0 o0 b3 hh3 o3 → CSt M3 N b3 hh3 o3 → ∃ M' b hh o, Fr SLk M1 M' ∧ HR (fun o => cw (M1 18004 0) ev s (ckd M1) o tol n) (fun t => ∃ j, 0 ≤ j ∧ j < m ∧ M1 19004 0 j = t) h b0 h0 o0 b hh o ∧ CSt M' N b hh o ∧ ∀ Q : AR → Mem → Prop, (Tq 151 9 [vR 19 0, vI tol, vI (hX h), vI (hY h), vI (hZ h), vI e', vI (FW (wF M1) (kF M1) k (e' - k).toNat), vI (FW (fun _ => 1) (kF M1) k (e' - k).toNat), vI k, vJ, vJ, vJ] [] M3 Q ↔ Q (.inl none) M') := fun M3 b3 hh3 o3 g1 g2 g3 g4 => by
      obtain ⟨M4, y1, y2, y3⟩ := m151_9 (tol := tol) (hx := hX h) (hy := hY h) (hz := hZ h) hO (k := k) (by omega) (e := e') (by omega) g1 g2
      obtain ⟨M', b', hh', o', x1, x2, x3, x4⟩ := ih (k + 1) e' M4 b3 hh3 o3 (by omega) (by omega) (by omega) (by omega) hw2 (g1.trans (y1.mono (fun f i k q => by unfold SLk; omega))) y2 g3 (CSt_fr g4 y1 (fun k _ _ => by simp))
      exact ⟨M', b', hh', o', x1, x2, x3, fun Q => by rw [y3 Q, x4 Q]⟩
    have head : ∀ Q : AR → Mem → Prop, (Tq 151 1 [vR 19 0, vI tol, vI (hX h), vI (hY h), vI (hZ h), vI e, vI (FW (wF M1) (kF M1) k (e - k).toNat), vI (FW (fun _ => 1) (kF M1) k (e - k).toNat), vI k, vJ, vJ, vJ] [] M Q ↔ Tq 151 7 [vR 19 0, vI tol, vI (hX h), vI (hY h), vI (hZ h), vI e', vI (FW (wF M1) (kF M1) k (e' - k).toNat), vI (FW (fun _ => 1) (kF M1) k (e' - k).toNat), vI k, vJ, vJ, vJ] [] M2 Q) := fun Q => by rw [t151_1, e2, if_neg (by omega), z6 Q]
    by_cases first : k = 0 ∨ M1 19004 0 (k - 1) < M1 19004 0 k
    · have eW : FW (wF M1) (kF M1) k (e' - k).toNat = cw (M1 18004 0) ev s (ckd M1) (M1 19004 0 k) tol n := win_cw (F := M1 18004 0) (kd := ckd M1) hS ⟨hk, ke⟩ z1.2 first hwin z2
      have eN : FW (fun _ => 1) (kF M1) k (e' - k).toNat = cw (fun _ => 1) ev s (ckd M1) (M1 19004 0 k) tol n := win_cw (F := fun _ => 1) (kd := ckd M1) hS ⟨hk, ke⟩ z1.2 first hwin z2
      by_cases up : b < FW (wF M1) (kF M1) k (e' - k).toNat
      · have hR3 := HR_up (O' := fun t => ∃ j, 0 ≤ j ∧ j < k + 1 ∧ M1 19004 0 j = t) hR hne hOs (Or.inl (by rw [← eW]; exact up))
        generalize hM3 : mset (mset (mset (mset (mset (mset M2 19 0 7 (FW (wF M1) (kF M1) k (e' - k).toNat)) 19 0 8 (FW (fun _ => 1) (kF M1) k (e' - k).toNat)) 19 0 9 (hX h)) 19 0 10 (hY h)) 19 0 11 (hZ h)) 19 0 12 (M1 19004 0 k) = M3
        have l6 : M3 19006 0 = M2 19006 0 := by rw [← hM3, mset_o (by simp), mset_o (by simp), mset_o (by simp), mset_o (by simp), mset_o (by simp), mset_o (by simp)]
        have hf3 : Fr SLk M1 M3 := by
          rw [← hM3]
          exact Fr.mset (Fr.mset (Fr.mset (Fr.mset (Fr.mset (Fr.mset hf2 (by simp [SLk])) (by simp [SLk])) (by simp [SLk])) (by simp [SLk])) (by simp [SLk])) (by simp [SLk])
        have hC3 : CSt M3 N (cw (M1 18004 0) ev s (ckd M1) (M1 19004 0 k) tol n) h (M1 19004 0 k) := by
          unfold CSt
          rw [← hM3, hN, ← eW, ← eN]
          simp only [mset_3, Int.reduceEq, and_false, and_self, if_true, if_false]
          exact ⟨trivial, Or.inr ⟨hh, trivial⟩⟩
        obtain ⟨M', b', hh', o', x1, x2, x3, x4⟩ := rest M3 _ _ _ hf3 (by rw [l6]; exact z5) hR3 hC3
        refine ⟨M', b', hh', o', x1, x2, x3, fun Q => ?_⟩
        have w1 : k = 0 → True := fun _ => trivial
        have b8 : Tq 151 8 [vR 19 0, vI tol, vI (hX h), vI (hY h), vI (hZ h), vI e', vI (FW (wF M1) (kF M1) k (e' - k).toNat), vI (FW (fun _ => 1) (kF M1) k (e' - k).toNat), vI k, vJ, vJ, vJ] [] M2 Q ↔ Q (.inl none) M' := by
          rw [t151_8, bd_e, bd_e, bd_e, bd_e, bd_e, bd_e]
          have e12 : mset (mset (mset (mset (mset M2 19 0 7 (FW (wF M1) (kF M1) k (e' - k).toNat)) 19 0 8 (FW (fun _ => 1) (kF M1) k (e' - k).toNat)) 19 0 9 (hX h)) 19 0 10 (hY h)) 19 0 11 (hZ h) 19004 0 k = M1 19004 0 k := by
            rw [mset_o (by simp), mset_o (by simp), mset_o (by simp), mset_o (by simp), mset_o (by simp), m4]
          rw [e12, hM3, x4 Q]
          exact andi (by omega) Iff.rfl
        rw [head Q, t151_7, m7, if_neg (by omega), m4]
        rcases first with q | q
        · rw [if_pos q, b8]
        · by_cases k0 : k = 0
          · rw [if_pos k0, b8]
          · rw [if_neg k0, w32_id (z := k - 1) (by omega) (by omega), if_neg (by omega), b8]
            exact andi (by omega) (andi (by omega) Iff.rfl)
      · have hR3 := HR_no (O' := fun t => ∃ j, 0 ≤ j ∧ j < k + 1 ∧ M1 19004 0 j = t) hR hne hOs (by
          show cw (M1 18004 0) ev s (ckd M1) (M1 19004 0 k) tol n < b ∨ (cw (M1 18004 0) ev s (ckd M1) (M1 19004 0 k) tol n = b ∧ (hh1 = h → o ≤ M1 19004 0 k))
          rw [← eW]
          by_cases q : FW (wF M1) (kF M1) k (e' - k).toNat < b
          · exact Or.inl q
          · refine Or.inr ⟨by omega, fun q2 => ?_⟩
            rcases hR with ⟨r1, r2, r3, r4⟩ | ⟨r1, r2, r3, r4, r5⟩
            · omega
            · obtain ⟨j, j1, j2, j3⟩ := r3
              have := hO.2.2.2.1 j k j1 (by omega) (by omega)
              omega)
        obtain ⟨M', b', hh', o', x1, x2, x3, x4⟩ := rest M2 _ _ _ hf2 z5 hR3 hC2
        refine ⟨M', b', hh', o', x1, x2, x3, fun Q => ?_⟩
        rw [head Q, t151_7, m7, if_pos (by omega), x4 Q]
    · have k0 : 0 < k := by omega
      have eq1 : M1 19004 0 (k - 1) = M1 19004 0 k := by
        have := hO.2.2.2.1 (k - 1) k (by omega) (by omega) (by omega)
        omega
      have hR3 := HR_cg (W' := fun o => cw (M1 18004 0) ev s (ckd M1) o tol n) (O' := fun t => ∃ j, 0 ≤ j ∧ j < k + 1 ∧ M1 19004 0 j = t) hR (fun t => by
        rw [hOs]
        constructor
        · rintro (q | q)
          · exact q
          · exact ⟨k - 1, by omega, by omega, by rw [q]; exact eq1⟩
        · exact Or.inl) (fun _ _ => rfl)
      obtain ⟨M', b', hh', o', x1, x2, x3, x4⟩ := rest M2 _ _ _ hf2 z5 hR3 hC2
      refine ⟨M', b', hh', o', x1, x2, x3, fun Q => ?_⟩
      rw [head Q, t151_7, m7, m4]
      by_cases q : FW (wF M1) (kF M1) k (e' - k).toNat ≤ b
      · rw [if_pos q, x4 Q]
      · rw [if_neg q, if_neg (by omega), w32_id (z := k - 1) (by omega) (by omega), if_pos (by omega), x4 Q]
        exact andi (by omega) (andi (by omega) Iff.rfl)
end Find
