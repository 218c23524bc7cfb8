/-! ASSOCIATE: both sides' picks give the same; what an event more makes of both sides -/
theorem cn_cg {ev s kd ev' s' kd' : Int → Int} {o tol g : Int} : ∀ n : Nat, (∀ p : Int, 0 ≤ p → p < n → ev p = ev' p ∧ s p = s' p ∧ kd p = kd' p) → cn ev s kd o tol g n = cn ev' s' kd' o tol g n
  | 0, _ => rfl
  | n + 1, h => by
    have ih := cn_cg (ev := ev) (s := s) (kd := kd) (ev' := ev') (s' := s') (kd' := kd') (o := o) (tol := tol) (g := g) n (fun p h1 h2 => h p h1 (by omega))
    obtain ⟨a1, a2, a3⟩ := h n (by omega) (by omega)
    have sp := cn_spec (ev := ev') (s := s') (kd := kd') (o := o) (tol := tol) (g := g) n
    unfold cn
    rw [ih, a1, a2, a3]
    rcases sp with ⟨q, _⟩ | ⟨q, _⟩
    · rw [q]
      simp only [true_or, and_true]
    · rw [(h _ q.1 (by omega)).2.1]
theorem cw_cg {F F' ev s kd ev' s' kd' : Int → Int} {o tol : Int} {n : Nat} (h : ∀ p : Int, 0 ≤ p → p < n → F p = F' p ∧ ev p = ev' p ∧ s p = s' p ∧ kd p = kd' p) : cw F ev s kd o tol n = cw F' ev' s' kd' o tol n := by
  unfold cw
  refine sm_cg 24 (fun g _ _ => ?_)
  have e := cn_cg (ev := ev) (s := s) (kd := kd) (ev' := ev') (s' := s') (kd' := kd') (o := o) (tol := tol) (g := g) n (fun p h1 h2 => (h p h1 h2).2)
  rw [e]
  rcases cn_spec (ev := ev') (s := s') (kd := kd') (o := o) (tol := tol) (g := g) n with ⟨q, _⟩ | ⟨q, _⟩
  · rw [if_pos q, if_pos q]
  · rw [if_neg (by omega), if_neg (by omega), (h _ q.1 q.2).1]
theorem cl_cg {c c' : Int → Int} : ∀ n : Nat, (∀ g : Int, 0 ≤ g → g < n → c g = c' g) → cl c n = cl c' n
  | 0, _ => rfl
  | n + 1, h => by
    unfold cl
    rw [cl_cg n (fun g h1 h2 => h g h1 (by omega)), h n (by omega) (by omega)]
theorem RchH_cg {W W' : Int → Int → Int} {O O' : Int → Int → Prop} (hW : ∀ h o, W h o = W' h o) (hO : ∀ h t, O h t ↔ O' h t) : ∀ (k : Nat) (b hh o : Int), RchH W O k b hh o → RchH W' O' k b hh o
  | 0, _, _, _, h => h
  | k + 1, b, hh, o, h => by
    obtain ⟨b0, h0, o0, r, a⟩ := h
    exact ⟨b0, h0, o0, RchH_cg hW hO k _ _ _ r, HR_cg a (fun s => (hO k s).symm) (fun s _ => (hW k s).symm)⟩
theorem mf_cg {w w' s s' : Int → Int} {o : Int} : ∀ L : List Int, (∀ p ∈ L, w p = w' p ∧ s p = s' p) → mf w s o L = mf w' s' o L
  | [], _ => rfl
  | p :: L, h => by
    have a := h p (List.mem_cons_self ..)
    show w p * (s p - o) + mf w s o L = w' p * (s' p - o) + mf w' s' o L
    rw [a.1, a.2, mf_cg L (fun q hq => h q (List.mem_cons_of_mem _ hq))]
/-- the picks of both sides -/
def PkR (M N : Mem) (st : Int) : Prop := IPk' (M 18 0 0) (M 18001 0) (M 18002 0) (M 18003 0) (M 18004 0) (M 18005 0) (M 18006 0) (N 22 0 23) (N 22024 0) st
section Asi
variable {M N P : Mem} {st tol : Int}
theorem PkR_C (h : PkR M N st) : PkC M st := by
  obtain ⟨h1, h2, h3⟩ := h
  refine ⟨by omega, fun j j1 j2 => ?_⟩
  obtain ⟨a1, a2, a3, a4, a5, a6, b1, b2, b3, b4, b5, b6⟩ := h3 j j1 (by omega)
  rw [a1, a2, a3, a4, a5]
  exact ⟨b1, b2, by omega, b4, b5⟩
theorem PkR_M (h : PkR M N st) : PkM N st := by
  obtain ⟨h1, h2, h3⟩ := h
  refine ⟨by omega, fun j j1 j2 => ?_⟩
  obtain ⟨a1, a2, a3, a4, a5, a6, b1, b2, b3, b4, b5, b6⟩ := h3 j j1 (by omega)
  exact ⟨b1, b2, by omega, b4, b5⟩
/-- what is asked of a pick is the same on both sides -/
theorem PkR_eq (h : PkR M N st) {x y z p : Int} (h1 : 0 ≤ p) (h2 : p < N 22 0 23) : M 18004 0 p = mwt N p ∧ M 18006 0 p = mev N p ∧ csr M P x y z p = msr N P x y z p ∧ ckd M p = mkd N p := by
  obtain ⟨a1, a2, a3, a4, a5, a6, -⟩ := h.2.2 p h1 h2
  refine ⟨a4, a6, ?_, ?_⟩
  · unfold csr msr
    rw [a1, a2, a3]
  · unfold ckd mkd
    rw [a1, a3]
theorem PkR_n (h : PkR M N st) : M 18 0 0 = N 22 0 23 := h.1
theorem wCM (h : PkR M N st) (hh o : Int) : wC M P tol hh o = wM N P tol hh o := by
  unfold wC wM
  rw [PkR_n h]
  exact cw_cg (fun p h1 h2 => PkR_eq h h1 (by omega))
theorem nCM (h : PkR M N st) (hh o : Int) : nC M P tol hh o = nM N P tol hh o := by
  unfold nC nM
  rw [PkR_n h]
  exact cw_cg (fun p h1 h2 => ⟨rfl, (PkR_eq h h1 (by omega)).2⟩)
theorem oCM (h : PkR M N st) (hh t : Int) : oC M P hh t ↔ oM N P hh t := by
  unfold oC oM
  rw [PkR_n h]
  constructor
  · rintro ⟨p, p1, p2, p3, p4⟩
    have := PkR_eq (P := P) (x := hX hh) (y := hY hh) (z := hZ hh) h p1 p2
    exact ⟨p, p1, p2, by rw [← this.2.1]; exact p3, by rw [← this.2.2.1]; exact p4⟩
  · rintro ⟨p, p1, p2, p3, p4⟩
    have := PkR_eq (P := P) (x := hX hh) (y := hY hh) (z := hZ hh) h p1 p2
    exact ⟨p, p1, p2, by rw [this.2.1]; exact p3, by rw [this.2.2.1]; exact p4⟩
/-- those that count -/
noncomputable def lC (M P : Mem) (tol hh o : Int) : List Int := cl (fun g => cn (M 18006 0) (csr M P (hX hh) (hY hh) (hZ hh)) (ckd M) o tol g (M 18 0 0).toNat) 24
noncomputable def lM (N P : Mem) (tol hh o : Int) : List Int := cl (fun g => cn (mev N) (msr N P (hX hh) (hY hh) (hZ hh)) (mkd N) o tol g (N 22 0 23).toNat) 24
theorem lCM (h : PkR M N st) (hh o : Int) : lC M P tol hh o = lM N P tol hh o := by
  unfold lC lM
  rw [PkR_n h]
  exact cl_cg 24 (fun g _ _ => cn_cg _ (fun p h1 h2 => (PkR_eq h h1 (by omega)).2))
/-- what is true of those that count -/
theorem lM_ok {p : Int} {hh o : Int} (h : p ∈ lM N P tol hh o) : (0 ≤ p ∧ p < N 22 0 23) ∧ mev N p = -99999999 ∧ o ≤ msr N P (hX hh) (hY hh) (hZ hh) p ∧ msr N P (hX hh) (hY hh) (hZ hh) p ≤ o + tol := by
  obtain ⟨g, g1, g2, g3⟩ := cl_mem 24 p h
  rcases cn_spec (ev := mev N) (s := msr N P (hX hh) (hY hh) (hZ hh)) (kd := mkd N) (o := o) (tol := tol) (g := g) (N 22 0 23).toNat with ⟨q, _⟩ | ⟨q1, q2, _⟩
  · exact absurd q g3
  · rw [show cn (mev N) (msr N P (hX hh) (hY hh) (hZ hh)) (mkd N) o tol g (N 22 0 23).toNat = p from g2] at q1 q2
    exact ⟨by omega, q2.1, q2.2.2.1, q2.2.2.2⟩
theorem lM_len (hh o : Int) : ((lM N P tol hh o).length : Int) = nM N P tol hh o := by
  unfold lM nM cw
  rw [cl_len]
theorem lM_inc {hh o : Int} {i j : Nat} (hij : i < j) (hj : j < (lM N P tol hh o).length) : mkd N ((lM N P tol hh o).getD i 0) < mkd N ((lM N P tol hh o).getD j 0) := by
  refine cl_inc (fun g _ hg => ?_) 24 i j hij hj
  rcases cn_spec (ev := mev N) (s := msr N P (hX hh) (hY hh) (hZ hh)) (kd := mkd N) (o := o) (tol := tol) (g := g) (N 22 0 23).toNat with ⟨q, _⟩ | ⟨q1, q2, _⟩
  · exact absurd q hg
  · exact q2.2.1
theorem cl_le {c : Int → Int} (n : Nat) : (cl c n).length ≤ n := by
  have a := cl_len (c := c) n
  have b := sm_bd (f := fun g => if c g = -99999999 then 0 else 1) (c := 1) n (fun k _ _ => by split <;> omega)
  omega
theorem lM_24 (hh o : Int) : (lM N P tol hh o).length ≤ 24 := cl_le 24
theorem ar5M_get {L : List Int} : ∀ (q r : Nat), q < L.length → r < 5 → (L.flatMap (ar5M N)).getD (5 * q + r) 0 = N 22024 0 (6 * L.getD q 0 + r) := by
  induction L with
  | nil => intro q r h; simp at h
  | cons p L ih =>
    intro q r h hr
    rcases q with _ | q
    · rw [List.flatMap_cons, List.getD_eq_getElem?_getD, List.getElem?_append_left (by show 5 * 0 + r < 5; omega), Nat.mul_zero, Nat.zero_add, ← List.getD_eq_getElem?_getD, List.getD_cons_zero]
      rcases (show r = 0 ∨ r = 1 ∨ r = 2 ∨ r = 3 ∨ r = 4 by omega) with rfl | rfl | rfl | rfl | rfl
      · show N 22024 0 (6 * p) = N 22024 0 (6 * p + ((0 : Nat) : Int)); rw [show 6 * p + ((0 : Nat) : Int) = 6 * p by omega]
      all_goals rfl
    · rw [List.flatMap_cons, List.getD_eq_getElem?_getD, List.getElem?_append_right (by show 5 ≤ _; omega), show (ar5M N p).length = 5 from rfl, show 5 * (q + 1) + r - 5 = 5 * q + r by omega, ← List.getD_eq_getElem?_getD, ih q r (by simpa using h) hr, List.getD_cons_succ]
/-- the arrivals are right -/
theorem lM_al (h : PkM N st) {hh o : Int} : OkAL ((lM N P tol hh o).flatMap (ar5M N)) (lM N P tol hh o).length st := by
  generalize hL : lM N P tol hh o = L
  have hk : ∀ k : Nat, k < L.length → (0 ≤ L.getD k 0 ∧ L.getD k 0 < N 22 0 23) := fun k hk => (lM_ok (N := N) (P := P) (tol := tol) (hh := hh) (o := o) (by rw [hL]; exact getD_mem hk)).1
  refine ⟨by rw [fm5_lenM]; omega, fun k hk' => ?_, fun i k hik hk' => ?_⟩
  · obtain ⟨a1, a2, a3, a4, a5⟩ := h.2 _ (hk k (by omega)).1 (hk k (by omega)).2
    have g0 := ar5M_get (N := N) (L := L) k 0 (by omega) (by decide)
    rw [show 5 * k + 0 = 5 * k by omega, show 6 * L.getD k 0 + ((0 : Nat) : Int) = 6 * L.getD k 0 by omega] at g0
    rw [g0, ar5M_get k 1 (by omega) (by decide), ar5M_get k 2 (by omega) (by decide), ar5M_get k 3 (by omega) (by decide), ar5M_get k 4 (by omega) (by decide)]
    exact ⟨a1, a2, by show 0 ≤ N 22024 0 (6 * L.getD k 0 + 2) ∧ N 22024 0 (6 * L.getD k 0 + 2) ≤ 1; omega, a4, a5⟩
  · have g0 := ar5M_get (N := N) (L := L) k 0 (by omega) (by decide)
    rw [show 5 * k + 0 = 5 * k by omega, show 6 * L.getD k 0 + ((0 : Nat) : Int) = 6 * L.getD k 0 by omega] at g0
    have g1 := ar5M_get (N := N) (L := L) i 0 (by omega) (by decide)
    rw [show 5 * i + 0 = 5 * i by omega, show 6 * L.getD i 0 + ((0 : Nat) : Int) = 6 * L.getD i 0 by omega] at g1
    rw [g0, g1, ar5M_get k 2 (by omega) (by decide), ar5M_get i 2 (by omega) (by decide)]
    have := lM_inc (N := N) (P := P) (tol := tol) (hh := hh) (o := o) hik (by rw [hL]; omega)
    rw [hL] at this
    have e1 : mkd N (L.getD i 0) = 2 * N 22024 0 (6 * L.getD i 0) + N 22024 0 (6 * L.getD i 0 + 2) := rfl
    have e2 : mkd N (L.getD k 0) = 2 * N 22024 0 (6 * L.getD k 0) + N 22024 0 (6 * L.getD k 0 + 2) := rfl
    show ¬ (N 22024 0 (6 * L.getD i 0) = N 22024 0 (6 * L.getD k 0) ∧ N 22024 0 (6 * L.getD i 0 + 2) = N 22024 0 (6 * L.getD k 0 + 2))
    omega
end Asi
