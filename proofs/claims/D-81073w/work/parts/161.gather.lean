/-! ASSOCIATE: those that count, in the order of their kinds; the component's gather -/
def cl (c : Int → Int) : Nat → List Int
  | 0 => []
  | g + 1 => cl c g ++ (if c g = -99999999 then [] else [c g])
theorem cl_len {c : Int → Int} : ∀ n : Nat, ((cl c n).length : Int) = sm (fun g => if c g = -99999999 then 0 else 1) n
  | 0 => rfl
  | n + 1 => by
    have ih := cl_len (c := c) n
    unfold cl sm
    rw [List.length_append]
    split
    · simp; omega
    · simp; omega
theorem cl_mem {c : Int → Int} : ∀ (n : Nat) (p : Int), p ∈ cl c n → ∃ g : Nat, g < n ∧ c g = p ∧ ¬ c g = -99999999
  | 0, p, h => by cases h
  | n + 1, p, h => by
    unfold cl at h
    rcases List.mem_append.mp h with h | h
    · obtain ⟨g, g1, g2⟩ := cl_mem n p h
      exact ⟨g, by omega, g2⟩
    · split at h
      · cases h
      · rename_i q
        exact ⟨n, by omega, (List.mem_singleton.mp h).symm, q⟩
/-- the numbers of the counted ones rise with their kinds -/
theorem cl_inc {c kd : Int → Int} (hk : ∀ g : Int, 0 ≤ g → ¬ c g = -99999999 → kd (c g) = g) : ∀ (n i j : Nat), i < j → j < (cl c n).length → kd ((cl c n).getD i 0) < kd ((cl c n).getD j 0)
  | 0, i, j, _, h => by simp [cl] at h
  | n + 1, i, j, hij, h => by
    unfold cl at h ⊢
    by_cases q : c n = -99999999
    · rw [if_pos q, List.append_nil] at h ⊢
      exact cl_inc hk n i j hij h
    · rw [if_neg q] at h ⊢
      rw [List.length_append] at h
      have h' : j < (cl c n).length + 1 := by simpa using h
      by_cases e : j < (cl c n).length
      · rw [List.getD_eq_getElem?_getD, List.getD_eq_getElem?_getD, List.getElem?_append_left (by omega), List.getElem?_append_left e, ← List.getD_eq_getElem?_getD, ← List.getD_eq_getElem?_getD]
        exact cl_inc hk n i j hij e
      · have hm : (cl c n).getD i 0 ∈ cl c n := by
          rw [List.getD_eq_getElem?_getD, List.getElem?_eq_getElem (by omega)]
          exact List.getElem_mem _
        obtain ⟨g, g1, g2, g3⟩ := cl_mem n _ hm
        have kg := hk g (by omega) g3
        rw [g2] at kg
        have kn := hk n (by omega) q
        rw [List.getD_eq_getElem?_getD, List.getElem?_append_left (by omega), ← List.getD_eq_getElem?_getD, List.getD_eq_getElem?_getD (i := j), List.getElem?_append_right (by omega), show j - (cl c n).length = 0 by omega]
        show kd ((cl c n).getD i 0) < kd (c n)
        omega
/-- the first ones of a kind among those in the span -/
def kS (κ srcs : Int → Int) (o tol : Int) : Int → Int := fun k => if o ≤ srcs k ∧ srcs k - o ≤ tol then κ k else -1
theorem spn_cn {ev s kd ord srcs : Int → Int} {m o tol g : Int} {n : Nat} (h : SrtI ev s ord srcs m n) (hg : 0 ≤ g) : (fi (kS (fun j => kd (ord j)) srcs o tol) g 0 m.toNat = -1 ∧ cn ev s kd o tol g n = -99999999) ∨ ((0 ≤ fi (kS (fun j => kd (ord j)) srcs o tol) g 0 m.toNat ∧ fi (kS (fun j => kd (ord j)) srcs o tol) g 0 m.toNat < m) ∧ ord (fi (kS (fun j => kd (ord j)) srcs o tol) g 0 m.toNat) = cn ev s kd o tol g n) := by
  obtain ⟨s1, s2, s3, s4⟩ := h
  have kd_iff : ∀ j, 0 ≤ j → j < m → (kS (fun j => kd (ord j)) srcs o tol j = g ↔ Cd ev s kd o tol g (ord j)) := fun j j1 j2 => by
    obtain ⟨o1, o2, o3⟩ := s2 j j1 j2
    unfold kS Cd
    rw [o3]
    constructor
    · intro q
      split at q
      · rename_i c; exact ⟨o2, q, by omega, by omega⟩
      · omega
    · rintro ⟨q1, q2, q3, q4⟩
      rw [if_pos (by omega)]
      exact q2
  rcases fi_spec (κ := kS (fun j => kd (ord j)) srcs o tol) (g := g) m.toNat 0 (by omega) with ⟨q1, q2⟩ | ⟨q1, q2, q3, q4⟩
  · refine Or.inl ⟨q1, ?_⟩
    rcases cn_spec (ev := ev) (s := s) (kd := kd) (o := o) (tol := tol) (g := g) n with ⟨r1, _⟩ | ⟨r1, r2, r3⟩
    · exact r1
    · obtain ⟨j, j1, j2, j3⟩ := s4 _ r1.1 r1.2 r2.1
      exact absurd ((kd_iff j j1 j2).mpr (by rw [j3]; exact r2)) (q2 j j1 (by omega))
  · generalize fi (kS (fun j => kd (ord j)) srcs o tol) g 0 m.toNat = i at q1 q2 q3 q4
    refine Or.inr ⟨by omega, ?_⟩
    obtain ⟨o1, o2, o3⟩ := s2 i (by omega) (by omega)
    refine (cn_uniq o1.1 o1.2 ((kd_iff i q1 (by omega)).mp q3) (fun p p1 p2 hp => ?_)).symm
    obtain ⟨j, j1, j2, j3⟩ := s4 p p1 p2 hp.1
    have kj := (kd_iff j j1 j2).mpr (by rw [j3]; exact hp)
    have jo := (s2 j j1 j2).2.2
    rw [j3] at jo
    by_cases qe : j = i
    · rw [← qe, j3]; exact Or.inr ⟨rfl, Int.le_refl _⟩
    · have ij : i < j := by
        refine Int.not_le.mp (fun q => ?_)
        exact q4 j j1 (by omega) kj
      have := s3 i j q1 ij j2
      omega
def SGa (f : Nat) (i k : Int) : Prop := SFd f i k ∨ f = 1015
section Gather
variable {M0 P : Mem} {tol o m : Int}
theorem m152_1 {M1 : Mem} (hm : 0 ≤ m ∧ m ≤ 64) (ht : 0 ≤ tol ∧ tol ≤ 64) (ho : M1 19 0 12 = o ∧ -20000 ≤ o ∧ o ≤ 20000) (hO : ∀ k, 0 ≤ k → k < m → (0 ≤ M1 19003 0 k ∧ M1 19003 0 k < 64) ∧ (0 ≤ M1 18001 0 (M1 19003 0 k) ∧ M1 18001 0 (M1 19003 0 k) < 12) ∧ (M1 18003 0 (M1 19003 0 k) = 0 ∨ M1 18003 0 (M1 19003 0 k) = 1) ∧ (-7103 ≤ M1 19004 0 k ∧ M1 19004 0 k ≤ 4095)) : ∀ (r : Nat) (M : Mem), (r : Int) ≤ m → Fr (fun f _ _ => f = 19006) M1 M → (∀ g, 0 ≤ g → g < 24 → M 19006 0 g = nx (fi (kS (kF M1) (M1 19004 0) o tol) g r (m - r).toNat)) → ∃ M', Fr (fun f _ _ => f = 19006) M1 M' ∧ (∀ g, 0 ≤ g → g < 24 → M' 19006 0 g = nx (fi (kS (kF M1) (M1 19004 0) o tol) g 0 m.toNat)) ∧ ∀ Q : AR → Mem → Prop, (Tq 152 1 [vR 19 0, vI tol, vR 1015 0, vI (r - 1), vJ] [] M Q ↔ Tq 152 3 [vR 19 0, vJ, vR 1015 0, vJ, vJ] [] M' Q) := by
  intro r
  induction r with
  | zero =>
    intro M hr hf hL
    refine ⟨M, hf, fun g g1 g2 => ?_, fun Q => ?_⟩
    · have := hL g g1 g2
      rw [show m - ((0 : Nat) : Int) = m by omega] at this
      exact this
    · rw [t152_1, if_pos (by decide)]
  | succ r ih =>
    intro M hr hf hL
    obtain ⟨a1, a2, a3, a4⟩ := hO r (by omega) (by omega)
    have e3 : M 19003 0 = M1 19003 0 := hf.row _ _ (by simp)
    have e4 : M 19004 0 = M1 19004 0 := hf.row _ _ (by simp)
    have e1 : M 18001 0 = M1 18001 0 := hf.row _ _ (by simp)
    have ep : M 18003 0 = M1 18003 0 := hf.row _ _ (by simp)
    have e12 : M 19 0 12 = o := by rw [hf 19 0 12 (by simp)]; exact ho.1
    have ek : kF M1 r = 2 * M1 18001 0 (M1 19003 0 r) + M1 18003 0 (M1 19003 0 r) := rfl
    have es : ∀ g, fi (kS (kF M1) (M1 19004 0) o tol) g r (m - r).toNat = if kS (kF M1) (M1 19004 0) o tol r = g then (r : Int) else fi (kS (kF M1) (M1 19004 0) o tol) g (r + 1) (m - r - 1).toNat := fun g => by
      rw [show (m - (r : Int)).toNat = (m - r - 1).toNat + 1 by omega]
      rfl
    have hL' : ∀ g, 0 ≤ g → g < 24 → M 19006 0 g = nx (fi (kS (kF M1) (M1 19004 0) o tol) g (r + 1) (m - r - 1).toNat) := fun g g1 g2 => by
      have := hL g g1 g2
      rw [show m - ((r + 1 : Nat) : Int) = m - r - 1 by omega, show ((r + 1 : Nat) : Int) = (r : Int) + 1 by omega] at this
      exact this
    have nxt : ∀ (M : Mem) (Q : AR → Mem → Prop), Tq 152 2 [vR 19 0, vI tol, vR 1015 0, vI r, vJ] [] M Q ↔ Tq 152 1 [vR 19 0, vI tol, vR 1015 0, vI (r - 1), vJ] [] M Q := fun M Q => by rw [t152_2, w32_id (z := (r : Int) + -1) (by omega) (by omega), show (r : Int) + -1 = r - 1 by omega]
    by_cases c : o ≤ M1 19004 0 r ∧ M1 19004 0 r - o ≤ tol
    · have kr : kS (kF M1) (M1 19004 0) o tol r = kF M1 r := if_pos c
      obtain ⟨M', z1, z2, z3⟩ := ih (mset M 19006 0 (kF M1 r) r) (by omega) (Fr.mset hf rfl) (fun g g1 g2 => by
        rw [mset_s, fup_at, es, kr]
        by_cases q : g = kF M1 r
        · rw [if_pos q, if_pos q.symm]
          unfold nx
          rw [if_neg (by omega)]
        · rw [if_neg q, if_neg (fun h => q h.symm)]
          exact hL' g g1 g2)
      refine ⟨M', z1, z2, fun Q => ?_⟩
      rw [show ((r + 1 : Nat) : Int) - 1 = r by omega, t152_1, if_neg (by omega), e4, e12, if_neg (by omega), w32_id (z := M1 19004 0 r - o) (by omega) (by omega), if_neg (by omega), e3, e1, ep, w32_id (z := 2 * M1 18001 0 (M1 19003 0 r)) (by omega) (by omega), w32_id (z := 2 * M1 18001 0 (M1 19003 0 r) + M1 18003 0 (M1 19003 0 r)) (by omega) (by omega), ← ek, bd_e, nxt, z3 Q]
      exact andi (by omega) (andi (by omega) (andi (by omega) (andi (by omega) (andi (by omega) (andi (by omega) (andi (by omega) Iff.rfl))))))
    · have kr : kS (kF M1) (M1 19004 0) o tol r = -1 := if_neg c
      obtain ⟨M', z1, z2, z3⟩ := ih M (by omega) hf (fun g g1 g2 => by
        rw [es, kr, if_neg (by omega)]
        exact hL' g g1 g2)
      refine ⟨M', z1, z2, fun Q => ?_⟩
      rw [show ((r + 1 : Nat) : Int) - 1 = r by omega, t152_1, if_neg (by omega), e4, e12, nxt]
      by_cases q : M1 19004 0 r < o
      · rw [if_pos q, z3 Q]
        exact andi (by omega) Iff.rfl
      · rw [if_neg q, w32_id (z := M1 19004 0 r - o) (by omega) (by omega), if_pos (by omega), z3 Q]
        exact andi (by omega) (andi (by omega) Iff.rfl)
/-- the places of those that count are laid down -/
theorem m152_4 {M1 : Mem} {c : Int → Int} {s : Int → Int} (hm : 0 ≤ m ∧ m ≤ 64) (hL : ∀ g, 0 ≤ g → g < 24 → (M1 19006 0 g = -99999999 ∧ c g = -99999999) ∨ ((0 ≤ M1 19006 0 g ∧ M1 19006 0 g < m) ∧ ¬ c g = -99999999 ∧ M1 19003 0 (M1 19006 0 g) = c g ∧ M1 19004 0 (M1 19006 0 g) = s (c g))) : ∀ (r g : Nat) (M : Mem), g + r = 24 → Fr (fun f _ _ => f = 1015) M1 M → (∀ k : Nat, k < (cl c g).length → (0 ≤ M 1015 0 k ∧ M 1015 0 k < m) ∧ M1 19003 0 (M 1015 0 k) = (cl c g).getD k 0 ∧ M1 19004 0 (M 1015 0 k) = s ((cl c g).getD k 0)) → ((cl c g).length ≤ g) → ∃ M', Fr (fun f _ _ => f = 1015) M1 M' ∧ (∀ k : Nat, k < (cl c 24).length → (0 ≤ M' 1015 0 k ∧ M' 1015 0 k < m) ∧ M1 19003 0 (M' 1015 0 k) = (cl c 24).getD k 0 ∧ M1 19004 0 (M' 1015 0 k) = s ((cl c 24).getD k 0)) ∧ ∀ Q : AR → Mem → Prop, (Tq 152 4 [vR 19 0, vJ, vR 1015 0, vI (cl c g).length, vI g] [] M Q ↔ Q (.inl (some (vI (cl c 24).length))) M') := by
  intro r
  induction r with
  | zero =>
    intro g M hg hf hC hl
    have e : g = 24 := by omega
    subst e
    exact ⟨M, hf, hC, fun Q => by rw [t152_4, if_pos (by decide), t152_6]⟩
  | succ r ih =>
    intro g M hg hf hC hl
    have e6 : M 19006 0 = M1 19006 0 := hf.row _ _ (by simp)
    have ec : cl c (g + 1) = cl c g ++ (if c g = -99999999 then [] else [c g]) := rfl
    rcases hL g (by omega) (by omega) with ⟨q1, q2⟩ | ⟨q1, q2, q3, q4⟩
    · rw [if_pos q2, List.append_nil] at ec
      obtain ⟨M', z1, z2, z3⟩ := ih (g + 1) M (by omega) hf (by rw [ec]; exact hC) (by rw [ec]; omega)
      refine ⟨M', z1, z2, fun Q => ?_⟩
      have := z3 Q
      rw [ec, show ((g + 1 : Nat) : Int) = (g : Int) + 1 by omega] at this
      rw [t152_4, if_neg (by omega), e6, if_pos q1, t152_5, w32_id (z := (g : Int) + 1) (by omega) (by omega), this]
      exact andi (by omega) Iff.rfl
    · rw [if_neg q2] at ec
      have el : (cl c (g + 1)).length = (cl c g).length + 1 := by rw [ec, List.length_append]; rfl
      obtain ⟨M', z1, z2, z3⟩ := ih (g + 1) (mset M 1015 0 (cl c g).length (M1 19006 0 g)) (by omega) (Fr.mset hf rfl) (fun k hk => by
        rw [mset_s, fup_at]
        by_cases qk : k = (cl c g).length
        · rw [if_pos (by omega), ec, List.getD_eq_getElem?_getD, List.getElem?_append_right (by omega), show k - (cl c g).length = 0 by omega]
          exact ⟨q1, q3, q4⟩
        · rw [if_neg (by omega), ec, List.getD_eq_getElem?_getD, List.getElem?_append_left (by omega), ← List.getD_eq_getElem?_getD]
          exact hC k (by omega)) (by omega)
      refine ⟨M', z1, z2, fun Q => ?_⟩
      have := z3 Q
      rw [el, show ((g + 1 : Nat) : Int) = (g : Int) + 1 by omega, show (((cl c g).length + 1 : Nat) : Int) = ((cl c g).length : Int) + 1 by omega] at this
      rw [t152_4, if_neg (by omega), e6, if_neg (by omega), bd_e, w32_id (z := ((cl c g).length : Int) + 1) (by omega) (by omega), t152_5, w32_id (z := (g : Int) + 1) (by omega) (by omega), this]
      exact andi (by omega) (andi (by omega) (andi (by omega) Iff.rfl))
theorem m152 {x y z : Int} (hw : WEa P) (hn : WNet P) (hp : PkC M0 (P 22 0 9)) (hc : CNet M0 P) (hC : CEa M0 P) (ht : 0 ≤ tol ∧ tol ≤ 64) (hx : M0 19 0 9 = x ∧ 0 ≤ x ∧ x ≤ 63) (hy : M0 19 0 10 = y ∧ 0 ≤ y ∧ y ≤ 63) (hz : M0 19 0 11 = z ∧ 0 ≤ z ∧ z ≤ 15) (ho : M0 19 0 12 = o ∧ -20000 ≤ o ∧ o ≤ 20000) : ∃ M' m, Fr SGa M0 M' ∧ CEa M' P ∧ (0 ≤ m ∧ m ≤ 64) ∧ (∀ k : Nat, k < (cl (fun g => cn (M0 18006 0) (csr M0 P x y z) (ckd M0) o tol g (M0 18 0 0).toNat) 24).length → (0 ≤ M' 1015 0 k ∧ M' 1015 0 k < m) ∧ M' 19003 0 (M' 1015 0 k) = (cl (fun g => cn (M0 18006 0) (csr M0 P x y z) (ckd M0) o tol g (M0 18 0 0).toNat) 24).getD k 0 ∧ M' 19004 0 (M' 1015 0 k) = csr M0 P x y z ((cl (fun g => cn (M0 18006 0) (csr M0 P x y z) (ckd M0) o tol g (M0 18 0 0).toNat) 24).getD k 0)) ∧ ∀ Q : AR → Mem → Prop, (Tq 152 0 [vR 19 0, vI tol, vR 1015 0, vJ, vJ] [] M0 Q ↔ Q (.inl (some (vI (cl (fun g => cn (M0 18006 0) (csr M0 P x y z) (ckd M0) o tol g (M0 18 0 0).toNat) 24).length))) M') := by
  have hp0 := hp.1
  have hn9 := hn.1
  obtain ⟨M1, a1, a2, ⟨a3, a4⟩, a5⟩ := m150 hw hn hp hx.2 hy.2 hz.2 hc hC
  have hm := a3.1
  have s1 : ∀ {f : Nat}, f = 18001 ∨ f = 18003 → M1 f 0 = M0 f 0 := fun q => a1.row _ _ (fun k => by unfold SFd SEaC; omega)
  have k1 : ckd M1 = ckd M0 := by unfold ckd; rw [s1 (f := 18001) (by omega), s1 (f := 18003) (by omega)]
  generalize hM2 : mrow M1 19006 0 (flr (M1 19006 0) 24 (-99999999)) = M2
  have r2 : ∀ {f : Nat} {i : Int}, ¬ f = 19006 → M2 f i = M1 f i := fun q => by rw [← hM2, mrow_n (by omega)]
  have e12 : M2 19 0 12 = o := by rw [r2 (by decide), a1 19 0 12 (by simp [SFd, SEaC])]; exact ho.1
  obtain ⟨M3, b1, b2, b3⟩ := m152_1 (M1 := M2) (m := M1 19 0 2) (o := o) (tol := tol) (by omega) ht ⟨e12, ho.2⟩ (fun k q1 q2 => by
    obtain ⟨o1, o2, o3⟩ := a3.2.1 k q1 q2
    obtain ⟨p1, p2, p3, p4, p5⟩ := hp.2 _ o1.1 o1.2
    have p6 := csr_rng hw hn hp hx.2 hy.2 hz.2 o1.1 o1.2
    rw [r2 (f := 19003) (by decide), r2 (f := 18001) (by decide), r2 (f := 18003) (by decide), r2 (f := 19004) (by decide), s1 (f := 18001) (by omega), s1 (f := 18003) (by omega), o3]
    exact ⟨by omega, by omega, p3, p6⟩) (M1 19 0 2).toNat M2 (by omega) Fr.refl (fun g g1 g2 => by
    rw [show (M1 19 0 2 - ((M1 19 0 2).toNat : Int)).toNat = 0 by omega, ← hM2, mrow_s, flr_in ⟨g1, g2⟩]
    rfl)
  rw [show (((M1 19 0 2).toNat : Nat) : Int) = M1 19 0 2 by omega] at b3
  have ekF : kF M2 = fun j => ckd M0 (M1 19003 0 j) := by
    unfold kF ordk ckd
    rw [r2 (f := 19003) (by decide), r2 (f := 18001) (by decide), r2 (f := 18003) (by decide), s1 (f := 18001) (by omega), s1 (f := 18003) (by omega)]
  rw [ekF, r2 (f := 19004) (by decide)] at b2
  have hS : SrtI (M0 18006 0) (csr M0 P x y z) (M1 19003 0) (M1 19004 0) (M1 19 0 2) (((M0 18 0 0).toNat : Nat) : Int) := by
    rw [show (((M0 18 0 0).toNat : Nat) : Int) = M0 18 0 0 by omega]; exact a3
  have c3 : M3 19003 0 = M1 19003 0 := by rw [b1.row 19003 0 (by simp), r2 (by decide)]
  have c4 : M3 19004 0 = M1 19004 0 := by rw [b1.row 19004 0 (by simp), r2 (by decide)]
  generalize hcc : (fun g => cn (M0 18006 0) (csr M0 P x y z) (ckd M0) o tol g (M0 18 0 0).toNat) = c
  have ecc : ∀ g, c g = cn (M0 18006 0) (csr M0 P x y z) (ckd M0) o tol g (M0 18 0 0).toNat := fun g => by rw [← hcc]
  obtain ⟨M4, d1, d2, d3⟩ := m152_4 (M1 := M3) (m := M1 19 0 2) (c := c) (s := csr M0 P x y z) (by omega) (fun g g1 g2 => by
    rw [b2 g g1 g2, c3, c4, ecc]
    rcases spn_cn (kd := ckd M0) (o := o) (tol := tol) (g := g) hS g1 with ⟨q1, q2⟩ | ⟨q1, q2⟩
    · rw [q1]
      exact Or.inl ⟨rfl, q2⟩
    · generalize fi (kS (fun j => ckd M0 (M1 19003 0 j)) (M1 19004 0) o tol) g 0 (M1 19 0 2).toNat = i at q1 q2
      have en : nx i = i := by unfold nx; rw [if_neg (by omega)]
      obtain ⟨o1, o2, o3⟩ := a3.2.1 i q1.1 q1.2
      rw [en, ← q2]
      exact Or.inr ⟨q1, by omega, rfl, o3⟩) 24 0 M3 (by omega) Fr.refl (fun k hk => by simp [cl] at hk) (by simp [cl])
  refine ⟨M4, M1 19 0 2, ?_, ?_, by omega, fun k hk => ?_, fun Q => ?_⟩
  · intro f i k q
    unfold SGa at q
    have q1 : ¬ SFd f i k := fun h => q (Or.inl h)
    have q2 : ¬ f = 1015 := fun h => q (Or.inr h)
    have q3 : ¬ f = 19006 := fun h => q1 (by unfold SFd; omega)
    rw [d1 f i k q2, b1 f i k q3, r2 q3, a1 f i k q1]
  · refine CEa_cg (fun f i k hl => ?_) (fun _ _ _ _ => rfl) a2
    unfold LCEa at hl
    rw [d1 f i k (by omega), b1 f i k (by omega), r2 (by omega)]
  · have := d2 k hk
    rw [d1.row 19003 0 (by simp), d1.row 19004 0 (by simp)]
    exact this
  · rw [t152_0, hx.1, hy.1, hz.1, a5, kV_v, m3_19006, kV_v, hM2, r2 (f := 19) (by decide), w32_id (z := M1 19 0 2 - 1) (by omega) (by omega), b3 Q, t152_3]
    exact d3 Q
end Gather
