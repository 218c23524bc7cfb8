/-! ASSOCIATE: the component's sorting -/
theorem m247d {M : Mem} {x y u v : Int} (hR : RtOK M) (hx : 0 ≤ x ∧ x ≤ 63) (hy : 0 ≤ y ∧ y ≤ 63) (hu : 0 ≤ u ∧ u ≤ 63) (hv : 0 ≤ v ∧ v ≤ 63) : ∃ M', Fr SRt M M' ∧ RtOK M' ∧ ∀ Q : AR → Mem → Prop, (Tq 247 0 [vR 22 0, vI x, vI y, vI u, vI v] [] M Q ↔ Q (.inl (some (vI (dis x y u v)))) M') := by
  obtain ⟨r, M', ⟨h1, h2, h3⟩, h4⟩ := Tq_det (m247 (Q := fun r M' => r = .inl (some (vI (dis x y u v))) ∧ Fr SRt M M' ∧ RtOK M') hR hx hy hu hv (fun M' a b => ⟨rfl, a, b⟩))
  subst h1
  exact ⟨M', h2, h3, h4⟩
theorem SrtI_ins {ev s ord srcs ord' srcs' : Int → Int} {m p k : Int} (h : SrtI ev s ord srcs m p) (hp : 0 ≤ p) (he : ev p = -99999999) (hk : 0 ≤ k ∧ k ≤ m) (h1 : k = 0 ∨ srcs (k - 1) ≤ s p) (h2 : ∀ j, k ≤ j → j < m → s p < srcs j) (ha : ∀ j, 0 ≤ j → j ≤ m → srcs' j = ins srcs k (s p) j) (hb : ∀ j, 0 ≤ j → j ≤ m → ord' j = ins ord k p j) : SrtI ev s ord' srcs' (m + 1) (p + 1) := by
  obtain ⟨s1, s2, s3, s4⟩ := h
  have lo : ∀ j, 0 ≤ j → j < k → srcs j ≤ s p := fun j j1 j2 => by
    rcases h1 with q | q
    · omega
    · by_cases qe : j = k - 1
      · rw [qe]; exact q
      · have := s3 j (k - 1) j1 (by omega) (by omega)
        omega
  refine ⟨by omega, fun j j1 j2 => ?_, fun i j i1 i2 i3 => ?_, fun q q1 q2 q3 => ?_⟩
  · rw [ha j j1 (by omega), hb j j1 (by omega)]
    by_cases c1 : j < k
    · rw [ins_lt c1, ins_lt c1]
      have := s2 j j1 (by omega)
      exact ⟨by omega, this.2⟩
    · by_cases c2 : j = k
      · subst c2
        rw [ins_eq, ins_eq]
        exact ⟨by omega, he, rfl⟩
      · rw [ins_gt (by omega), ins_gt (by omega)]
        have := s2 (j - 1) (by omega) (by omega)
        exact ⟨by omega, this.2⟩
  · rw [ha i i1 (by omega), hb i i1 (by omega), ha j (by omega) (by omega), hb j (by omega) (by omega)]
    by_cases ci : i < k
    · rw [ins_lt ci, ins_lt ci]
      by_cases cj : j < k
      · rw [ins_lt cj, ins_lt cj]
        exact s3 i j i1 i2 (by omega)
      · by_cases cj2 : j = k
        · subst cj2
          rw [ins_eq, ins_eq]
          have a := lo i i1 ci
          have b := (s2 i i1 (by omega)).1
          omega
        · rw [ins_gt (by omega), ins_gt (by omega)]
          exact s3 i (j - 1) i1 (by omega) (by omega)
    · by_cases ci2 : i = k
      · subst ci2
        rw [ins_eq, ins_eq, ins_gt (by omega), ins_gt (by omega)]
        exact Or.inl (h2 (j - 1) (by omega) (by omega))
      · rw [ins_gt (by omega), ins_gt (by omega), ins_gt (by omega), ins_gt (by omega)]
        exact s3 (i - 1) (j - 1) (by omega) (by omega) (by omega)
  · by_cases c : q = p
    · exact ⟨k, hk.1, by omega, by rw [hb k hk.1 hk.2, ins_eq, c]⟩
    · obtain ⟨j, j1, j2, j3⟩ := s4 q q1 (by omega) q3
      by_cases cj : j < k
      · exact ⟨j, j1, by omega, by rw [hb j j1 (by omega), ins_lt cj, j3]⟩
      · exact ⟨j + 1, by omega, by omega, by rw [hb (j + 1) (by omega) (by omega), ins_gt (by omega), show j + 1 - 1 = j by omega, j3]⟩
theorem SrtI_skip {ev s ord srcs : Int → Int} {m p : Int} (h : SrtI ev s ord srcs m p) (he : ¬ ev p = -99999999) : SrtI ev s ord srcs m (p + 1) := by
  obtain ⟨s1, s2, s3, s4⟩ := h
  refine ⟨by omega, fun j j1 j2 => ?_, s3, fun q q1 q2 q3 => ?_⟩
  · have := s2 j j1 j2
    exact ⟨by omega, this.2⟩
  · by_cases c : q = p
    · exact absurd (by rw [← c]; exact q3) he
    · exact s4 q q1 (by omega) q3
def shf (g : Int → Int) (k m : Int) : Int → Int := fun j => if k < j ∧ j ≤ m then g (j - 1) else g j
theorem shf_m {g : Int → Int} {m : Int} : shf g m m = g := by funext j; exact if_neg (by omega)
theorem shf_lo {g : Int → Int} {k m j : Int} (h : j ≤ k) : shf g k m j = g j := if_neg (by omega)
theorem shf_s {g : Int → Int} {k m : Int} (h : k ≤ m) : fup (shf g k m) k (g (k - 1)) = shf g (k - 1) m := by
  funext j
  unfold fup shf
  show (if j = k then g (k - 1) else if k < j ∧ j ≤ m then g (j - 1) else g j) = if k - 1 < j ∧ j ≤ m then g (j - 1) else g j
  by_cases q : j = k
  · rw [if_pos q, if_pos (by omega), q]
  · rw [if_neg q]
    by_cases q2 : k < j ∧ j ≤ m
    · rw [if_pos q2, if_pos (by omega)]
    · rw [if_neg q2, if_neg (by omega)]
theorem shf_ins {g : Int → Int} {k m v j : Int} (h : j ≤ m) : fup (shf g k m) k v j = ins g k v j := by
  by_cases q : j = k
  · subst q; rw [fup_eq, ins_eq]
  · rw [fup_ne q]
    by_cases q2 : j < k
    · rw [ins_lt q2, shf_lo (by omega)]
    · rw [ins_gt (by omega)]
      exact if_pos (by omega)
/-- the component's picks -/
def PkC (M : Mem) (st : Int) : Prop := (0 ≤ M 18 0 0 ∧ M 18 0 0 ≤ 64) ∧ ∀ j, 0 ≤ j → j < M 18 0 0 → (0 ≤ M 18001 0 j ∧ M 18001 0 j < st) ∧ (0 ≤ M 18002 0 j ∧ M 18002 0 j ≤ 4095) ∧ (M 18003 0 j = 0 ∨ M 18003 0 j = 1) ∧ (1 ≤ M 18004 0 j ∧ M 18004 0 j ≤ 9) ∧ (-1 ≤ M 18005 0 j ∧ M 18005 0 j ≤ 1)
def ckd (M : Mem) : Int → Int := fun p => 2 * M 18001 0 p + M 18003 0 p
noncomputable def csr (M P : Mem) (hx hy hz : Int) : Int → Int := fun p => M 18002 0 p - trv P (M 18003 0 p) (dis hx hy (P 22010 0 (M 18001 0 p)) (P 22011 0 (M 18001 0 p))) hz
def SFd (f : Nat) (i k : Int) : Prop := f = 19003 ∨ f = 19004 ∨ f = 19005 ∨ f = 19006 ∨ (f = 19 ∧ k = 2) ∨ SEaC f i k
theorem PkC_fr {S : Nat → Int → Int → Prop} {M M' : Mem} {st : Int} (h : PkC M st) (hf : Fr S M M') (hs : ∀ f i k, f = 18 ∨ f = 18001 ∨ f = 18002 ∨ f = 18003 ∨ f = 18004 ∨ f = 18005 → ¬ S f i k) : PkC M' st := by
  unfold PkC
  rw [hf 18 0 0 (hs _ _ _ (by simp)), hf.row 18001 0 (fun k => hs _ _ _ (by simp)), hf.row 18002 0 (fun k => hs _ _ _ (by simp)), hf.row 18003 0 (fun k => hs _ _ _ (by simp)), hf.row 18004 0 (fun k => hs _ _ _ (by simp)), hf.row 18005 0 (fun k => hs _ _ _ (by simp))]
  exact h
theorem csr_rng {M P : Mem} {hx hy hz p : Int} (hw : WEa P) (hn : WNet P) (hp : PkC M (P 22 0 9)) (h1 : 0 ≤ hx ∧ hx ≤ 63) (h2 : 0 ≤ hy ∧ hy ≤ 63) (h3 : 0 ≤ hz ∧ hz ≤ 15) (p1 : 0 ≤ p) (p2 : p < M 18 0 0) : -7103 ≤ csr M P hx hy hz p ∧ csr M P hx hy hz p ≤ 4095 := by
  obtain ⟨a1, a2, a3, a4, a5⟩ := hp.2 p p1 p2
  obtain ⟨b1, b2⟩ := hn.2.1 _ a1.1 a1.2
  have c := dis_rng h1 h2 b1 b2
  have d := trF_rng (ps := P 22025 0) (ph := M 18003 0 p) (z := hz) hw a3 (show 0 ≤ dis hx hy (P 22010 0 (M 18001 0 p)) (P 22011 0 (M 18001 0 p)) ∧ _ < 90 from ⟨c.1, by omega⟩) (by omega)
  unfold csr trv
  omega
section SortC
variable {M0 P : Mem} {hx hy hz : Int}
/-- a place is made -/
theorem m150_2 {M : Mem} {v p m : Int} {A B : Int → Int} (hm : 0 ≤ m ∧ m < 64) : ∀ (r : Nat), (r : Int) ≤ m → ∃ k : Int, (0 ≤ k ∧ k ≤ r) ∧ (k = 0 ∨ A (k - 1) ≤ v) ∧ (∀ j, k ≤ j → j < r → v < A j) ∧ ∀ Q : AR → Mem → Prop, (Tq 150 2 [vR 19 0, vI hx, vI hy, vI hz, vI p, vJ, vI v, vI r] [] (mrow (mrow M 19004 0 (shf A r m)) 19003 0 (shf B r m)) Q ↔ Tq 150 3 [vR 19 0, vI hx, vI hy, vI hz, vI p, vJ, vI v, vI k] [] (mrow (mrow M 19004 0 (shf A k m)) 19003 0 (shf B k m)) Q) := by
  intro r
  induction r with
  | zero =>
    intro _
    exact ⟨0, by omega, Or.inl rfl, fun j j1 j2 => by omega, fun Q => by rw [t150_2, if_pos (by decide)]; exact Iff.rfl⟩
  | succ r ih =>
    intro hr
    have e1 : mrow (mrow M 19004 0 (shf A ((r + 1 : Nat) : Int) m)) 19003 0 (shf B ((r + 1 : Nat) : Int) m) 19004 0 = shf A ((r + 1 : Nat) : Int) m := by rw [mrow_n (by simp), mrow_s]
    have w1 : w32 (((r + 1 : Nat) : Int) - 1) = r := by rw [w32_id (by omega) (by omega)]; omega
    by_cases c : A r ≤ v
    · refine ⟨((r + 1 : Nat) : Int), by omega, Or.inr (by rw [show ((r + 1 : Nat) : Int) - 1 = r by omega]; exact c), fun j j1 j2 => by omega, fun Q => ?_⟩
      rw [t150_2, if_neg (by omega), w1, e1, shf_lo (by omega), if_pos c]
      exact andi (by omega) Iff.rfl
    · obtain ⟨k, k1, k2, k3, k4⟩ := ih (by omega)
      refine ⟨k, by omega, k2, fun j j1 j2 => ?_, fun Q => ?_⟩
      · by_cases q : j = r
        · rw [q]; omega
        · exact k3 j j1 (by omega)
      · have sA := shf_s (g := A) (k := ((r + 1 : Nat) : Int)) (m := m) hr
        have sB := shf_s (g := B) (k := ((r + 1 : Nat) : Int)) (m := m) hr
        rw [show ((r + 1 : Nat) : Int) - 1 = r by omega] at sA sB
        have eM1 : mset (mrow (mrow M 19004 0 (shf A ((r + 1 : Nat) : Int) m)) 19003 0 (shf B ((r + 1 : Nat) : Int) m)) 19004 0 ((r + 1 : Nat) : Int) (A r) = mrow (mrow M 19004 0 (shf A r m)) 19003 0 (shf B ((r + 1 : Nat) : Int) m) := by
          rw [mset_row, e1, sA, mrow_comm (by simp), mrow_row]
        rw [t150_2, if_neg (by omega), w1, e1, shf_lo (by omega), if_neg c, bd_e, eM1, bd_e, mrow_s, shf_lo (by omega), mset_mrow, sB, w32_id (z := ((r + 1 : Nat) : Int) + -1) (by omega) (by omega), show ((r + 1 : Nat) : Int) + -1 = r by omega, k4 Q]
        exact andi (by omega) (andi (by omega) (andi (by omega) (andi (by omega) (andi (by omega) Iff.rfl))))
theorem m150_1 (hw : WEa P) (hn : WNet P) (hp : PkC M0 (P 22 0 9)) (h1 : 0 ≤ hx ∧ hx ≤ 63) (h2 : 0 ≤ hy ∧ hy ≤ 63) (h3 : 0 ≤ hz ∧ hz ≤ 15) (hc : CNet M0 P) : ∀ (r : Nat) (p : Int) (M : Mem), p + r = M0 18 0 0 → 0 ≤ p → Fr SFd M0 M → CEa M P → SrtI (M0 18006 0) (csr M0 P hx hy hz) (M 19003 0) (M 19004 0) (M 19 0 2) p → ∃ M', Fr SFd M0 M' ∧ CEa M' P ∧ SrtI (M0 18006 0) (csr M0 P hx hy hz) (M' 19003 0) (M' 19004 0) (M' 19 0 2) (M0 18 0 0) ∧ ∀ Q : AR → Mem → Prop, (Tq 150 1 [vR 19 0, vI hx, vI hy, vI hz, vI p, vJ, vJ, vJ] [] M Q ↔ Tq 150 5 [vR 19 0, vJ, vJ, vJ, vJ, vJ, vJ, vJ] [] M' Q) := by
  intro r
  induction r with
  | zero =>
    intro p M hr h0 hf hC hS
    have e : M 18 0 0 = M0 18 0 0 := hf _ _ _ (by simp [SFd, SEaC])
    refine ⟨M, hf, hC, by rw [show M0 18 0 0 = p by omega]; exact hS, fun Q => ?_⟩
    rw [t150_1, e, if_pos (by omega)]
  | succ r ih =>
    intro p M hr h0 hf hC hS
    have e : M 18 0 0 = M0 18 0 0 := hf _ _ _ (by simp [SFd, SEaC])
    have e1 : M 18001 0 = M0 18001 0 := hf.row _ _ (by simp [SFd, SEaC])
    have e2 : M 18002 0 = M0 18002 0 := hf.row _ _ (by simp [SFd, SEaC])
    have e3 : M 18003 0 = M0 18003 0 := hf.row _ _ (by simp [SFd, SEaC])
    have e6 : M 18006 0 = M0 18006 0 := hf.row _ _ (by simp [SFd, SEaC])
    have x1 : M 5001 0 = M0 5001 0 := hf.row _ _ (by simp [SFd, SEaC])
    have y1 : M 5002 0 = M0 5002 0 := hf.row _ _ (by simp [SFd, SEaC])
    have hp0 := hp.1
    obtain ⟨a1, a2, a3, a4, a5⟩ := hp.2 p h0 (by omega)
    by_cases q : M0 18006 0 p = -99999999
    · obtain ⟨b1, b2⟩ := hn.2.1 _ a1.1 a1.2
      obtain ⟨c1, c2⟩ := hc.2.1 _ a1.1 a1.2
      have dr := dis_rng h1 h2 b1 b2
      have sr := csr_rng hw hn hp h1 h2 h3 h0 (show p < M0 18 0 0 by omega)
      obtain ⟨M1, f1, f2, f3, f4, f5⟩ := m162 (ph := M0 18003 0 p) (x := dis hx hy (P 22010 0 (M0 18001 0 p)) (P 22011 0 (M0 18001 0 p))) (z := hz) hw hC a3 (by omega) (by omega)
      have hn9 := hn.1
      -- behind the time
      have g2 : M1 19 0 2 = M 19 0 2 := f1 _ _ _ (by simp [SEaC])
      have g3 : M1 19003 0 = M 19003 0 := f1.row _ _ (by simp [SEaC])
      have g4 : M1 19004 0 = M 19004 0 := f1.row _ _ (by simp [SEaC])
      have hm := hS.1
      obtain ⟨k, k1, k2, k3, k4⟩ := m150_2 (hx := hx) (hy := hy) (hz := hz) (M := M1) (v := csr M0 P hx hy hz p) (p := p) (m := M 19 0 2) (A := M 19004 0) (B := M 19003 0) (by omega) (M 19 0 2).toNat (by omega)
      rw [show (((M 19 0 2).toNat : Nat) : Int) = M 19 0 2 by omega] at k1 k3 k4
      have e0 : mrow (mrow M1 19004 0 (shf (M 19004 0) (M 19 0 2) (M 19 0 2))) 19003 0 (shf (M 19003 0) (M 19 0 2) (M 19 0 2)) = M1 := by
        rw [shf_m, shf_m, ← g4, mrow_self, ← g3, mrow_self]
      rw [e0] at k4
      generalize hM2 : mset (mset (mset (mrow (mrow M1 19004 0 (shf (M 19004 0) k (M 19 0 2))) 19003 0 (shf (M 19003 0) k (M 19 0 2))) 19004 0 k (csr M0 P hx hy hz p)) 19003 0 k p) 19 0 2 (M 19 0 2 + 1) = M2
      have n2 : M2 19 0 2 = M 19 0 2 + 1 := by rw [← hM2, mset_3, if_pos ⟨rfl, rfl, rfl⟩]
      have n3 : M2 19003 0 = fup (shf (M 19003 0) k (M 19 0 2)) k p := by rw [← hM2, mset_o (by simp), mset_s, mset_o (by simp), mrow_s]
      have n4 : M2 19004 0 = fup (shf (M 19004 0) k (M 19 0 2)) k (csr M0 P hx hy hz p) := by rw [← hM2, mset_o (by simp), mset_o (by simp), mset_s, mrow_n (by simp), mrow_s]
      have fr2 : Fr SFd M1 M2 := by
        rw [← hM2]
        intro f i j qf
        unfold SFd at qf
        rw [mset_3, if_neg (by omega), mset_3, if_neg (by omega), mset_3, if_neg (by omega), mrow_n (by omega), mrow_n (by omega)]
      have frA : Fr SFd M0 M2 := hf.trans ((f1.mono (fun f i k q => Or.inr (Or.inr (Or.inr (Or.inr (Or.inr q)))))).trans fr2)
      have hC2 : CEa M2 P := CEa_cg (M := M1) (fun f i k hl => by
        unfold LCEa at hl
        rw [← hM2, mset_3, if_neg (by omega), mset_3, if_neg (by omega), mset_3, if_neg (by omega), mrow_n (by omega), mrow_n (by omega)]) (fun _ _ _ _ => rfl) f2
      have hS2 : SrtI (M0 18006 0) (csr M0 P hx hy hz) (M2 19003 0) (M2 19004 0) (M2 19 0 2) (p + 1) := by
        rw [n2, n3, n4]
        exact SrtI_ins hS h0 q (by omega) k2 k3 (fun j _ j2 => shf_ins j2) (fun j _ j2 => shf_ins j2)
      obtain ⟨M', z1, z2, z3, z4⟩ := ih (p + 1) M2 (by omega) (by omega) frA hC2 hS2
      refine ⟨M', z1, z2, z3, fun Q => ?_⟩
      have es : w32 (M0 18002 0 p - trv P (M0 18003 0 p) (dis hx hy (P 22010 0 (M0 18001 0 p)) (P 22011 0 (M0 18001 0 p))) hz) = csr M0 P hx hy hz p := by
        have : csr M0 P hx hy hz p = M0 18002 0 p - trv P (M0 18003 0 p) (dis hx hy (P 22010 0 (M0 18001 0 p)) (P 22011 0 (M0 18001 0 p))) hz := rfl
        rw [← this]
        exact w32_id (by omega) (by omega)
      have r2 : mset (mset (mrow (mrow M1 19004 0 (shf (M 19004 0) k (M 19 0 2))) 19003 0 (shf (M 19003 0) k (M 19 0 2))) 19004 0 k (csr M0 P hx hy hz p)) 19003 0 k p 19 0 2 = M 19 0 2 := by
        rw [mset_o (by simp), mset_o (by simp), mrow_n (by simp), mrow_n (by simp), g2]
      rw [t150_1, e, if_neg (by omega), e6, if_neg (by simpa using q), e1, e2, e3, x1, y1, c1, c2, m61 h1 h2 b1 b2, kI_v, f5, kI_v, es, g2, k4, t150_3, bd_e, bd_e, bd_e, r2, w32_id (z := M 19 0 2 + 1) (by omega) (by omega), hM2, t150_4, w32_id (z := p + 1) (by omega) (by omega), z4 Q]
      exact andi (by omega) (andi (by omega) (andi (by omega) (andi (by omega) (andi (by omega) (andi (by omega) (andi (by omega) (andi (by omega) Iff.rfl)))))))
    · obtain ⟨M', z1, z2, z3, z4⟩ := ih (p + 1) M (by omega) (by omega) hf hC (SrtI_skip hS q)
      refine ⟨M', z1, z2, z3, fun Q => ?_⟩
      rw [t150_1, e, if_neg (by omega), e6, if_pos q, t150_4, w32_id (z := p + 1) (by omega) (by omega), z4 Q]
      exact andi (by omega) Iff.rfl
end SortC
