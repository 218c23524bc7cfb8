/-! ASSOCIATE: the component's look -/
theorem fw_rng {F κ : Int → Int} {k g : Int} {n : Nat} (h0 : 0 ≤ k) (h : ∀ j, k ≤ j → j < k + n → 0 ≤ F j ∧ F j ≤ 9) : 0 ≤ fw F κ k n g ∧ fw F κ k n g ≤ 9 := by
  unfold fw
  split
  · omega
  · rcases fi_spec (κ := κ) (g := g) n k h0 with ⟨q, _⟩ | ⟨q1, q2, _⟩
    · omega
    · exact h _ q1 q2
theorem FW_rng {F κ : Int → Int} {k : Int} {n : Nat} (h0 : 0 ≤ k) (h : ∀ j, k ≤ j → j < k + n → 0 ≤ F j ∧ F j ≤ 9) : 0 ≤ FW F κ k n ∧ FW F κ k n ≤ 216 := by
  unfold FW
  have a := sm_nn (f := fw F κ k n) 24 (fun g _ _ => (fw_rng h0 h).1)
  have b := sm_bd (f := fw F κ k n) (c := 9) 24 (fun g _ _ => (fw_rng h0 h).2)
  omega
/-- what look may take of a sorted row -/
def LkO (M0 : Mem) (m : Int) : Prop := M0 19 0 2 = m ∧ (0 ≤ m ∧ m ≤ 64) ∧ (∀ k, 0 ≤ k → k < m → (0 ≤ M0 19003 0 k ∧ M0 19003 0 k < 64) ∧ (0 ≤ M0 18001 0 (M0 19003 0 k) ∧ M0 18001 0 (M0 19003 0 k) < 12) ∧ (M0 18003 0 (M0 19003 0 k) = 0 ∨ M0 18003 0 (M0 19003 0 k) = 1) ∧ (1 ≤ M0 18004 0 (M0 19003 0 k) ∧ M0 18004 0 (M0 19003 0 k) ≤ 9) ∧ (-7103 ≤ M0 19004 0 k ∧ M0 19004 0 k ≤ 4095)) ∧ (∀ i j, 0 ≤ i → i ≤ j → j < m → M0 19004 0 i ≤ M0 19004 0 j) ∧ NxI (ordk M0 (ckd M0)) (M0 19005 0) m
def SLk (f : Nat) (_ k : Int) : Prop := f = 19006 ∨ (f = 19 ∧ 7 ≤ k ∧ k ≤ 12)
def kF (M0 : Mem) : Int → Int := ordk M0 (ckd M0)
def wF (M0 : Mem) : Int → Int := fun j => M0 18004 0 (M0 19003 0 j)
section Look
variable {M0 : Mem} {m tol hx hy hz k : Int}
theorem kF_w (hO : LkO M0 m) {j : Int} (h1 : 0 ≤ j) (h2 : j < m) : w32 (w32 (2 * M0 18001 0 (M0 19003 0 j)) + M0 18003 0 (M0 19003 0 j)) = kF M0 j ∧ 0 ≤ kF M0 j ∧ kF M0 j < 24 := by
  obtain ⟨a1, a2, a3, a4, a5⟩ := hO.2.2.1 j h1 h2
  have e : kF M0 j = 2 * M0 18001 0 (M0 19003 0 j) + M0 18003 0 (M0 19003 0 j) := rfl
  rw [e, w32_id (z := 2 * M0 18001 0 (M0 19003 0 j)) (by omega) (by omega), w32_id (by omega) (by omega)]
  exact ⟨rfl, by omega, by omega⟩
theorem FWw (hO : LkO M0 m) (hk : 0 ≤ k) {n : Nat} (hn : k + n ≤ m) : (0 ≤ FW (wF M0) (kF M0) k n ∧ FW (wF M0) (kF M0) k n ≤ 216) ∧ (0 ≤ FW (fun _ => 1) (kF M0) k n ∧ FW (fun _ => 1) (kF M0) k n ≤ 216) :=
  ⟨FW_rng hk (fun j j1 j2 => by have := (hO.2.2.1 j (by omega) (by omega)).2.2.2.1; unfold wF; omega), FW_rng hk (fun j j1 j2 => by omega)⟩
theorem m151_2 (hO : LkO M0 m) (ht : 0 ≤ tol ∧ tol ≤ 64) (hk : 0 ≤ k ∧ k < m) : ∀ (r : Nat) (e : Int) (M : Mem), e + r = m → k ≤ e → Fr SLk M0 M → (∀ g, 0 ≤ g → g < 24 → M 19006 0 g = kc (kF M0) g k (e - k).toNat) → ∃ e' M', (e ≤ e' ∧ e' ≤ m) ∧ (e' = m ∨ tol < M0 19004 0 e' - M0 19004 0 k) ∧ (∀ j, e ≤ j → j < e' → M0 19004 0 j - M0 19004 0 k ≤ tol) ∧ Fr (fun f _ _ => f = 19006) M M' ∧ (∀ g, 0 ≤ g → g < 24 → M' 19006 0 g = kc (kF M0) g k (e' - k).toNat) ∧ ∀ Q : AR → Mem → Prop, (Tq 151 2 [vR 19 0, vI tol, vI hx, vI hy, vI hz, vI e, vI (FW (wF M0) (kF M0) k (e - k).toNat), vI (FW (fun _ => 1) (kF M0) k (e - k).toNat), vI k, vJ, vJ, vJ] [] M Q ↔ Tq 151 7 [vR 19 0, vI tol, vI hx, vI hy, vI hz, vI e', vI (FW (wF M0) (kF M0) k (e' - k).toNat), vI (FW (fun _ => 1) (kF M0) k (e' - k).toNat), vI k, vJ, vJ, vJ] [] M' Q) := by
  intro r
  induction r with
  | zero =>
    intro e M hr he hf hL
    have e2 : M 19 0 2 = m := by rw [hf 19 0 2 (by simp [SLk])]; exact hO.1
    refine ⟨e, M, by omega, Or.inl (by omega), fun j j1 j2 => by omega, Fr.refl, hL, fun Q => ?_⟩
    rw [t151_2, e2, if_pos (by omega)]
  | succ r ih =>
    intro e M hr he hf hL
    have hm := hO.2.1
    have e2 : M 19 0 2 = m := by rw [hf 19 0 2 (by simp [SLk])]; exact hO.1
    have e4 : M 19004 0 = M0 19004 0 := hf.row _ _ (by simp [SLk])
    have e3 : M 19003 0 = M0 19003 0 := hf.row _ _ (by simp [SLk])
    have s1 : M 18001 0 = M0 18001 0 := hf.row _ _ (by simp [SLk])
    have s3 : M 18003 0 = M0 18003 0 := hf.row _ _ (by simp [SLk])
    have s4 : M 18004 0 = M0 18004 0 := hf.row _ _ (by simp [SLk])
    obtain ⟨a1, a2, a3, a4, a5⟩ := hO.2.2.1 e (by omega) (by omega)
    have ak := (hO.2.2.1 k (by omega) (by omega)).2.2.2.2
    by_cases c : tol < M0 19004 0 e - M0 19004 0 k
    · refine ⟨e, M, by omega, Or.inr c, fun j j1 j2 => by omega, Fr.refl, hL, fun Q => ?_⟩
      rw [t151_2, e2, if_neg (by omega), e4, w32_id (z := M0 19004 0 e - M0 19004 0 k) (by omega) (by omega), if_pos c]
      exact andi (by omega) (andi (by omega) Iff.rfl)
    · obtain ⟨k1, k2⟩ := kF_w hO (j := e) (by omega) (by omega)
      have en : ((e - k).toNat : Int) = e - k := by omega
      have ke : k + ((e - k).toNat : Int) = e := by omega
      have en1 : (e + 1 - k).toNat = (e - k).toNat + 1 := by omega
      have f1 := FW_snoc (F := wF M0) (κ := kF M0) (k := k) (n := (e - k).toNat) hk.1 (by rw [ke]; exact k2)
      have f2 := FW_snoc (F := fun _ => 1) (κ := kF M0) (k := k) (n := (e - k).toNat) hk.1 (by rw [ke]; exact k2)
      rw [ke, ← en1] at f1 f2
      have b1 := FWw hO hk.1 (n := (e - k).toNat) (by omega)
      have b2 := FWw hO hk.1 (n := (e + 1 - k).toNat) (by omega)
      have le := hL (kF M0 e) k2.1 k2.2
      have kn := kc_nn (κ := kF M0) (g := kF M0 e) (e - k).toNat k
      have kL : ∀ g, 0 ≤ g → g < 24 → mset M 19006 0 (kF M0 e) (kc (kF M0) (kF M0 e) k (e - k).toNat + 1) 19006 0 g = kc (kF M0) g k (e + 1 - k).toNat := fun g g1 g2 => by
        rw [mset_s, en1, kc_snoc, ke, fup_at]
        by_cases q : g = kF M0 e
        · subst q
          rw [if_pos rfl, if_pos rfl]
        · rw [if_neg q, if_neg (fun h => q h.symm), hL g g1 g2]
          omega
      obtain ⟨e', M', z1, z2, z3, z4, z5, z6⟩ := ih (e + 1) (mset M 19006 0 (kF M0 e) (kc (kF M0) (kF M0 e) k (e - k).toNat + 1)) (by omega) (by omega) (Fr.mset hf (by simp [SLk])) kL
      refine ⟨e', M', by omega, z2, fun j j1 j2 => ?_, (Fr.mset Fr.refl rfl).trans z4, z5, fun Q => ?_⟩
      · by_cases q : j = e
        · rw [q]; omega
        · exact z3 j (by omega) j2
      · rw [t151_2, e2, if_neg (by omega), e4, w32_id (z := M0 19004 0 e - M0 19004 0 k) (by omega) (by omega), if_neg c, e3, s1, s3, s4, k1, le]
        refine andi (by omega) (andi (by omega) (andi (by omega) (andi (by omega) (andi (by omega) (andi (by omega) ?_)))))
        by_cases q : kc (kF M0) (kF M0 e) k (e - k).toNat = 0
        · rw [if_pos q] at f1 f2
          have ew : wF M0 e = M0 18004 0 (M0 19003 0 e) := rfl
          rw [ew] at f1
          rw [if_neg (by simpa using q), t151_4, le, if_neg (by simpa using q), t151_6, bd_e, le, w32_id (z := kc (kF M0) (kF M0 e) k (e - k).toNat + 1) (by omega) (by omega), w32_id (z := FW (wF M0) (kF M0) k (e - k).toNat + M0 18004 0 (M0 19003 0 e)) (by omega) (by omega), w32_id (z := FW (fun _ => 1) (kF M0) k (e - k).toNat + 1) (by omega) (by omega), w32_id (z := e + 1) (by omega) (by omega), ← f1, ← f2, z6 Q]
          exact andi (by omega) (andi (by omega) (andi (by omega) (andi (by omega) Iff.rfl)))
        · rw [if_neg q] at f1 f2
          rw [if_pos q, t151_3, t151_4, le, if_pos q, t151_5, t151_6, bd_e, le, w32_id (z := kc (kF M0) (kF M0 e) k (e - k).toNat + 1) (by omega) (by omega), w32_id (z := FW (wF M0) (kF M0) k (e - k).toNat + 0) (by omega) (by omega), w32_id (z := FW (fun _ => 1) (kF M0) k (e - k).toNat + 0) (by omega) (by omega), w32_id (z := e + 1) (by omega) (by omega), ← f1, ← f2, z6 Q]
          exact andi (by omega) (andi (by omega) (andi (by omega) Iff.rfl))
/-- the first of the row goes -/
theorem m151_9 (hO : LkO M0 m) (hk : 0 ≤ k ∧ k < m) {e : Int} (he : k < e ∧ e ≤ m) {M : Mem} (hf : Fr SLk M0 M) (hL : ∀ g, 0 ≤ g → g < 24 → M 19006 0 g = kc (kF M0) g k (e - k).toNat) : ∃ M', Fr (fun f _ _ => f = 19006) M M' ∧ (∀ g, 0 ≤ g → g < 24 → M' 19006 0 g = kc (kF M0) g (k + 1) (e - (k + 1)).toNat) ∧ ∀ Q : AR → Mem → Prop, (Tq 151 9 [vR 19 0, vI tol, vI hx, vI hy, vI hz, vI e, vI (FW (wF M0) (kF M0) k (e - k).toNat), vI (FW (fun _ => 1) (kF M0) k (e - k).toNat), vI k, vJ, vJ, vJ] [] M Q ↔ Tq 151 1 [vR 19 0, vI tol, vI hx, vI hy, vI hz, vI e, vI (FW (wF M0) (kF M0) (k + 1) (e - (k + 1)).toNat), vI (FW (fun _ => 1) (kF M0) (k + 1) (e - (k + 1)).toNat), vI (k + 1), vJ, vJ, vJ] [] M' Q) := by
  have hm := hO.2.1
  have e3 : M 19003 0 = M0 19003 0 := hf.row _ _ (by simp [SLk])
  have e5 : M 19005 0 = M0 19005 0 := hf.row _ _ (by simp [SLk])
  have s1 : M 18001 0 = M0 18001 0 := hf.row _ _ (by simp [SLk])
  have s3 : M 18003 0 = M0 18003 0 := hf.row _ _ (by simp [SLk])
  have s4 : M 18004 0 = M0 18004 0 := hf.row _ _ (by simp [SLk])
  obtain ⟨a1, a2, a3, a4, a5⟩ := hO.2.2.1 k (by omega) (by omega)
  obtain ⟨k1, k2⟩ := kF_w hO (j := k) (by omega) (by omega)
  have en : (e - k).toNat = (e - (k + 1)).toNat + 1 := by omega
  have f1 := FW_tail (F := wF M0) (κ := kF M0) (k := k) (n := (e - (k + 1)).toNat) hk.1 k2
  have f2 := FW_tail (F := fun _ => 1) (κ := kF M0) (k := k) (n := (e - (k + 1)).toNat) hk.1 k2
  rw [← en] at f1 f2
  have b1 := FWw hO hk.1 (n := (e - k).toNat) (by omega)
  have b2 := FWw hO (k := k + 1) (by omega) (n := (e - (k + 1)).toNat) (by omega)
  have ew : wF M0 k = M0 18004 0 (M0 19003 0 k) := rfl
  have le := hL (kF M0 k) k2.1 k2.2
  have kn := kc_nn (κ := kF M0) (g := kF M0 k) (e - k).toNat k
  have kt : ∀ g, kc (kF M0) g k (e - k).toNat = (if kF M0 k = g then 1 else 0) + kc (kF M0) g (k + 1) (e - (k + 1)).toNat := fun g => by rw [en]; rfl
  have kt0 := kt (kF M0 k)
  rw [if_pos rfl] at kt0
  have kn2 := kc_nn (κ := kF M0) (g := kF M0 k) (e - (k + 1)).toNat (k + 1)
  -- the next of the kind
  have hN := hO.2.2.2.2 k hk.1 hk.2
  have hN : M0 19005 0 k = nx (fi (kF M0) (kF M0 k) (k + 1) (m - k - 1).toNat) := hN
  have fn := fi_next (κ := kF M0) (g := kF M0 k) (k := k + 1) (n := (e - (k + 1)).toNat) (m := (m - k - 1).toNat) (by omega) (by omega)
  have fs := fi_spec (κ := kF M0) (g := kF M0 k) (m - k - 1).toNat (k + 1) (by omega)
  generalize hfi : fi (kF M0) (kF M0 k) (k + 1) (m - k - 1).toNat = i at hN fn fs
  generalize hM1 : mset M 19006 0 (kF M0 k) (kc (kF M0) (kF M0 k) (k + 1) (e - (k + 1)).toNat) = M1
  have m5 : M1 19005 0 = M0 19005 0 := by rw [← hM1, mset_o (by simp), e5]
  have m3 : M1 19003 0 = M0 19003 0 := by rw [← hM1, mset_o (by simp), e3]
  have m4 : M1 18004 0 = M0 18004 0 := by rw [← hM1, mset_o (by simp), s4]
  refine ⟨M1, by rw [← hM1]; exact Fr.mset Fr.refl rfl, fun g g1 g2 => ?_, fun Q => ?_⟩
  · rw [← hM1, mset_s, fup_at]
    by_cases q : g = kF M0 k
    · rw [if_pos q, q]
    · have := kt g
      rw [if_neg (fun h => q h.symm)] at this
      rw [if_neg q, hL g g1 g2]
      omega
  · rw [t151_9, e3, s1, s3, k1, le, w32_id (z := kc (kF M0) (kF M0 k) k (e - k).toNat - 1) (by omega) (by omega), show kc (kF M0) (kF M0 k) k (e - k).toNat - 1 = kc (kF M0) (kF M0 k) (k + 1) (e - (k + 1)).toNat by omega, bd_e, hM1, m5, hN]
    refine andi (by omega) (andi (by omega) (andi (by omega) (andi (by omega) (andi (by omega) (andi (by omega) ?_)))))
    -- it goes on, or not
    have tail : ∀ (c : Prop) [Decidable c], (¬ c → fw (wF M0) (kF M0) (k + 1) (e - (k + 1)).toNat (kF M0 k) = 0 ∧ fw (fun _ => 1) (kF M0) (k + 1) (e - (k + 1)).toNat (kF M0 k) = 0) → (c → (0 ≤ i ∧ i < m) ∧ fw (wF M0) (kF M0) (k + 1) (e - (k + 1)).toNat (kF M0 k) = M0 18004 0 (M0 19003 0 i) ∧ fw (fun _ => 1) (kF M0) (k + 1) (e - (k + 1)).toNat (kF M0 k) = 1 ∧ M0 19005 0 k = i) → (Tq 151 11 [vR 19 0, vI tol, vI hx, vI hy, vI hz, vI e, vI (FW (wF M0) (kF M0) k (e - k).toNat), vI (FW (fun _ => 1) (kF M0) k (e - k).toNat), vI k, vI (M0 19003 0 k), vJ, vJ] [vI (b2i c)] M1 Q ↔ Tq 151 1 [vR 19 0, vI tol, vI hx, vI hy, vI hz, vI e, vI (FW (wF M0) (kF M0) (k + 1) (e - (k + 1)).toNat), vI (FW (fun _ => 1) (kF M0) (k + 1) (e - (k + 1)).toNat), vI (k + 1), vJ, vJ, vJ] [] M1 Q) := fun c _ h1 h2 => by
      by_cases q : c
      · obtain ⟨i1, i2, i3, i4⟩ := h2 q
        obtain ⟨o1, o2, o3, o4, o5⟩ := hO.2.2.1 i i1.1 i1.2
        rw [b2i_t q, t151_11, if_neg (by decide), m5, m3, m4, i4, t151_13, m4, if_neg (by decide), t151_15, w32_id (z := M0 18004 0 (M0 19003 0 i) - M0 18004 0 (M0 19003 0 k)) (by omega) (by omega), show FW (wF M0) (kF M0) k (e - k).toNat + (M0 18004 0 (M0 19003 0 i) - M0 18004 0 (M0 19003 0 k)) = FW (wF M0) (kF M0) (k + 1) (e - (k + 1)).toNat by omega, w32_id (z := FW (wF M0) (kF M0) (k + 1) (e - (k + 1)).toNat) (by omega) (by omega), show FW (fun _ => 1) (kF M0) k (e - k).toNat - 0 = FW (fun _ => 1) (kF M0) (k + 1) (e - (k + 1)).toNat by omega, w32_id (z := FW (fun _ => 1) (kF M0) (k + 1) (e - (k + 1)).toNat) (by omega) (by omega), w32_id (z := k + 1) (by omega) (by omega)]
        exact andi (by omega) (andi (by omega) (andi (by omega) (andi (by omega) Iff.rfl)))
      · obtain ⟨i1, i2⟩ := h1 q
        rw [b2i_f q, t151_11, if_pos rfl, t151_12, t151_13, m4, if_pos rfl, t151_14, t151_15, w32_id (z := 0 - M0 18004 0 (M0 19003 0 k)) (by omega) (by omega), show FW (wF M0) (kF M0) k (e - k).toNat + (0 - M0 18004 0 (M0 19003 0 k)) = FW (wF M0) (kF M0) (k + 1) (e - (k + 1)).toNat by omega, w32_id (z := FW (wF M0) (kF M0) (k + 1) (e - (k + 1)).toNat) (by omega) (by omega), show FW (fun _ => 1) (kF M0) k (e - k).toNat - 1 = FW (fun _ => 1) (kF M0) (k + 1) (e - (k + 1)).toNat by omega, w32_id (z := FW (fun _ => 1) (kF M0) (k + 1) (e - (k + 1)).toNat) (by omega) (by omega), w32_id (z := k + 1) (by omega) (by omega)]
        exact andi (by omega) Iff.rfl
    have t0 := tail False
    have t1 := tail True
    rw [b2i_f (fun h => h)] at t0
    rw [b2i_t trivial] at t1
    rcases fs with ⟨q1, q2⟩ | ⟨q1, q2, q3, q4⟩
    · rw [if_pos q1] at fn
      have hn : nx i = -99999999 := by unfold nx; rw [if_pos q1]
      rw [hn, if_pos rfl, t151_10]
      exact t0 (fun _ => by unfold fw; rw [fn, if_pos rfl, if_pos rfl]; exact ⟨rfl, rfl⟩) (fun h => h.elim)
    · rw [if_neg (by omega)] at fn
      have hn : nx i = i := by unfold nx; rw [if_neg (by omega)]
      rw [hn, if_neg (by omega)]
      refine andi (by omega) ?_
      by_cases q : i < k + 1 + ((e - (k + 1)).toNat : Int)
      · rw [if_pos q] at fn
        rw [if_neg (by omega)]
        exact t1 (fun h => absurd trivial h) (fun _ => ⟨by omega, by unfold fw; rw [fn, if_neg (by omega)]; rfl, by unfold fw; rw [fn, if_neg (by omega)], by rw [hN, hn]⟩)
      · rw [if_neg q] at fn
        rw [if_pos (by omega), t151_10]
        exact t0 (fun _ => by unfold fw; rw [fn, if_pos rfl, if_pos rfl]; exact ⟨rfl, rfl⟩) (fun h => h.elim)
end Look
