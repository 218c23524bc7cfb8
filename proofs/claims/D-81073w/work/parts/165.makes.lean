/-! ASSOCIATE: what counts becomes an event, the model's -/
def ar5M (N : Mem) (p : Int) : List Int := [N 22024 0 (6 * p), N 22024 0 (6 * p + 1), N 22024 0 (6 * p + 2), N 22024 0 (6 * p + 3), N 22024 0 (6 * p + 4)]
def mkM (q : Int → Int) (e : Int) (L : List Int) : Int → Int := fun j => if j % 6 = 5 ∧ j / 6 ∈ L then e else q j
theorem mkM_o {q : Int → Int} {e j : Int} {L : List Int} (h : ¬ j % 6 = 5) : mkM q e L j = q j := if_neg (fun c => h c.1)
theorem mkM_s {q : Int → Int} {e p : Int} {L : List Int} : fup (mkM q e L) (6 * p + 5) e = mkM q e (L ++ [p]) := by
  funext j
  unfold fup mkM
  show (if j = 6 * p + 5 then e else if j % 6 = 5 ∧ j / 6 ∈ L then e else q j) = if j % 6 = 5 ∧ j / 6 ∈ L ++ [p] then e else q j
  by_cases c : j = 6 * p + 5
  · rw [if_pos c, if_pos ⟨by omega, by rw [show j / 6 = p by omega]; simp⟩]
  · rw [if_neg c]
    by_cases d : j % 6 = 5 ∧ j / 6 ∈ L
    · rw [if_pos d, if_pos ⟨d.1, by simp [d.2]⟩]
    · rw [if_neg d, if_neg (fun h => by
        rcases List.mem_append.mp h.2 with h2 | h2
        · exact d ⟨h.1, h2⟩
        · have := List.mem_singleton.mp h2
          omega)]
theorem fm5_lenM {N : Mem} : ∀ L : List Int, (L.flatMap (ar5M N)).length = 5 * L.length
  | [] => rfl
  | p :: L => by
    rw [List.flatMap_cons, List.length_append, fm5_lenM L, List.length_cons]
    show 5 + _ = _
    omega
def fY (N : Mem) (e : Int) (L : List Int) : Mem := mrow (mset (movl (pne N) 22031 0 (120 * e) (L.flatMap (ar5M N))) 22030 0 e L.length) 22024 0 (mkM (N 22024 0) e L)
theorem mkcM {X : Mem} {g : Int → Int} {e a v p w : Int} {L : List Int} : mset (mset (movl (mrow X 22024 0 g) 22031 0 a L) 22030 0 e v) 22024 0 p w = mrow (mset (movl X 22031 0 a L) 22030 0 e v) 22024 0 (fup g p w) := by
  have e1 : movl (mrow X 22024 0 g) 22031 0 a L = mrow (movl X 22031 0 a L) 22024 0 g := by
    unfold movl
    rw [mrow_n (by simp), mrow_comm (by simp)]
  rw [e1, mset_row (f := 22030), mrow_n (by simp), mrow_comm (by simp), mset_mrow, ← mset_row]
section Makes
variable {N P : Mem} {Q : AR → Mem → Prop} {e o x y z : Int} {L : List Int} {s c : Int → Int}
theorem fY_s {p : Int} : mset (mset (movl (fY N e L) 22031 0 (120 * e + 5 * L.length) (ar5M N p)) 22030 0 e (L.length + 1)) 22024 0 (6 * p + 5) e = fY N e (L ++ [p]) := by
  unfold fY
  rw [mkcM, mkM_s, ← mset_movl_comm (by simp), movl_app (by rw [fm5_lenM]; omega), mset_mset, List.flatMap_append, List.length_append]
  simp only [List.flatMap_cons, List.flatMap_nil, List.append_nil]
  rfl
theorem fY_r {f : Nat} {i : Int} (h1 : ¬ f = 22) (h2 : ¬ f = 22030) (h3 : ¬ f = 22031) (h4 : ¬ f = 22032) (h5 : ¬ f = 22035) (h6 : ¬ f = 22024) : fY N e L f i = N f i := by
  unfold fY pne
  rw [mrow_n (fun q => h6 q.1), mset_o (fun q => h2 q.1), movl_r h3, mset_o (fun q => h1 q.1), mset_o (fun q => h5 q.1), mset_o (fun q => h4 q.1), mset_o (fun q => h2 q.1)]
theorem fY_24 : fY N e L 22024 0 = mkM (N 22024 0) e L := by unfold fY; rw [mrow_s]
theorem fY_30 : fY N e L 22030 0 e = L.length := by unfold fY; rw [mrow_n (by simp), mset_3, if_pos ⟨rfl, rfl, rfl⟩]
/-- five numbers of a pick -/
theorem m315_2 {K : Mem} {mis g p n : Int} (he : 0 ≤ e ∧ e < 24) (hn : K 22030 0 e = n ∧ 0 ≤ n ∧ n < 24) (hp : 0 ≤ p ∧ p < 64) : Tq 315 2 [vR 22 0, vI x, vI y, vI z, vI o, vI e, vI mis, vI g, vI p, vI 0] [] K Q ↔ Tq 315 3 [vR 22 0, vI x, vI y, vI z, vI o, vI e, vI mis, vI g, vI p, vJ] [] (movl K 22031 0 (120 * e + 5 * n) (ar5M K p)) Q := by
  obtain ⟨hn1, hn2, hn3⟩ := hn
  have step : ∀ (M : Mem) (j : Int), 0 ≤ j → j < 5 → M 22030 0 e = n → (Tq 315 2 [vR 22 0, vI x, vI y, vI z, vI o, vI e, vI mis, vI g, vI p, vI j] [] M Q ↔ Tq 315 2 [vR 22 0, vI x, vI y, vI z, vI o, vI e, vI mis, vI g, vI p, vI (j + 1)] [] (mset M 22031 0 (120 * e + 5 * n + j) (M 22024 0 (6 * p + j))) Q) := fun M j j1 j2 hM => by
    rw [t315_2, if_neg (by omega), hM, w32_id (z := 24 * e) (by omega) (by omega), w32_id (z := 24 * e + n) (by omega) (by omega), w32_id (z := 5 * (24 * e + n)) (by omega) (by omega), w32_id (z := 5 * (24 * e + n) + j) (by omega) (by omega), w32_id (z := 6 * p) (by omega) (by omega), w32_id (z := 6 * p + j) (by omega) (by omega), w32_id (z := j + 1) (by omega) (by omega), bd_e, show 5 * (24 * e + n) + j = 120 * e + 5 * n + j by omega]
    exact andi (by omega) (andi (by omega) (andi (by omega) Iff.rfl))
  have e30 : ∀ (M : Mem) k v, mset M 22031 0 k v 22030 0 e = M 22030 0 e := fun M k v => by rw [mset_3, if_neg (by simp)]
  have e24 : ∀ (M : Mem) k v, mset M 22031 0 k v 22024 0 = M 22024 0 := fun M k v => by rw [mset_o (by simp)]
  rw [step K 0 (by omega) (by omega) hn1, step _ (0 + 1) (by omega) (by omega) (by rw [e30, hn1]), step _ (0 + 1 + 1) (by omega) (by omega) (by rw [e30, e30, hn1]), step _ (0 + 1 + 1 + 1) (by omega) (by omega) (by rw [e30, e30, e30, hn1]), step _ (0 + 1 + 1 + 1 + 1) (by omega) (by omega) (by rw [e30, e30, e30, e30, hn1]), t315_2, if_pos (by omega)]
  simp only [e24, Int.add_zero, Int.zero_add, Int.reduceAdd]
  rw [mset_movl (M := K) (f := 22031), mset_app (by simp), mset_app (by simp), mset_app (by simp), mset_app (by simp)]
  rfl
theorem m315_1 (he : 0 ≤ e ∧ e < 24) (hc : ∀ g, 0 ≤ g → g < 24 → N 22037 0 g = c g) (hp : ∀ g : Int, 0 ≤ g → g < 24 → ¬ c g = -99999999 → (0 ≤ c g ∧ c g < 64) ∧ (0 ≤ mwt N (c g) ∧ mwt N (c g) ≤ 9) ∧ (0 ≤ s (c g) - o ∧ s (c g) - o ≤ 64) ∧ N 22036 0 (c g) = s (c g)) : ∀ (r g : Nat), g + r = 24 → (Tq 315 1 [vR 22 0, vI x, vI y, vI z, vI o, vI e, vI (mf (mwt N) s o (cl c g)), vI g, vJ, vJ] [] (fY N e (cl c g)) Q ↔ Tq 315 5 [vR 22 0, vI x, vI y, vI z, vI o, vI e, vI (mf (mwt N) s o (cl c 24)), vJ, vJ, vJ] [] (fY N e (cl c 24)) Q) := by
  intro r
  induction r with
  | zero =>
    intro g hg
    have : g = 24 := by omega
    subst this
    rw [t315_1, if_pos (by decide)]
  | succ r ih =>
    intro g hg
    have nx := ih (g + 1) (by omega)
    have ec : cl c (g + 1) = cl c g ++ (if c g = -99999999 then [] else [c g]) := rfl
    have ll := cl_len (c := c) g
    have lb := sm_bd (f := fun g => if c g = -99999999 then 0 else 1) (c := 1) g (fun k _ _ => by split <;> omega)
    have ln := sm_nn (f := fun g => if c g = -99999999 then 0 else 1) g (fun k _ _ => by split <;> omega)
    have bm := mf_bd (w := mwt N) (s := s) (o := o) (cl c g) (fun p h => by
      obtain ⟨g', g1, g2, g3⟩ := cl_mem g p h
      have := hp g' (by omega) (by omega) g3
      rw [g2] at this
      exact ⟨this.2.1, this.2.2.1⟩)
    have h37 : fY N e (cl c g) 22037 0 g = c g := by rw [fY_r (by decide) (by decide) (by decide) (by decide) (by decide) (by decide)]; exact hc g (by omega) (by omega)
    rw [t315_1, if_neg (by omega), h37]
    by_cases q : c g = -99999999
    · rw [if_pos q, List.append_nil] at ec
      rw [ec, show ((g + 1 : Nat) : Int) = (g : Int) + 1 by omega] at nx
      rw [if_pos q, t315_4, w32_id (z := (g : Int) + 1) (by omega) (by omega), nx]
      exact andi (by omega) Iff.rfl
    · obtain ⟨p1, p2, p3, p4⟩ := hp g (by omega) (by omega) q
      rw [if_neg q] at ec
      have bp := mul_bd p2 p3
      rw [ec, mf_app, ← fY_s, show ((g + 1 : Nat) : Int) = (g : Int) + 1 by omega] at nx
      have m1 : mf (mwt N) s o [c g] = mwt N (c g) * (s (c g) - o) := by show _ + 0 = _; omega
      rw [m1] at nx
      generalize hcg : c g = p at *
      generalize hT : cl c g = T at *
      have eA : ar5M (fY N e T) p = ar5M N p := by
        unfold ar5M
        rw [fY_24, mkM_o (by omega), mkM_o (by omega), mkM_o (by omega), mkM_o (by omega), mkM_o (by omega)]
      have Z : ∀ {f : Nat} {i : Int}, ¬ f = 22030 → ¬ f = 22031 → mset (movl (fY N e T) 22031 0 (120 * e + 5 * T.length) (ar5M N p)) 22030 0 e (T.length + 1) f i = fY N e T f i := fun h1 h2 => by rw [mset_o (fun q => h1 q.1), movl_r h2]
      have w3 : fY N e T 22024 0 (6 * p + 3) = mwt N p := by rw [fY_24, mkM_o (by omega)]; rfl
      rw [if_neg q, m315_2 (n := T.length) he ⟨fY_30, by omega, by omega⟩ p1, eA, t315_3, movl_r (by decide), fY_30, w32_id (z := (T.length : Int) + 1) (by omega) (by omega), bd_e, w32_id (z := 6 * p) (by omega) (by omega), w32_id (z := 6 * p + 3) (by omega) (by omega), w32_id (z := 6 * p + 5) (by omega) (by omega), Z (f := 22024) (by decide) (by decide), Z (f := 22036) (by decide) (by decide), w3, fY_r (f := 22036) (by decide) (by decide) (by decide) (by decide) (by decide) (by decide), p4, bd_e, w32_id (z := s p - o) (by omega) (by omega), w32_id (z := mwt N p * (s p - o)) (by omega) (by omega), w32_id (z := mf (mwt N) s o T + mwt N p * (s p - o)) (by omega) (by omega), t315_4, w32_id (z := (g : Int) + 1) (by omega) (by omega), nx]
      exact andi (by omega) (andi (by omega) (andi (by omega) (andi (by omega) (andi (by omega) (andi (by omega) Iff.rfl)))))
def fM (N : Mem) (e x y z o m : Int) (L : List Int) : Mem := kgw (pvs (fY N e L) e (fLv x y z o m)) (cont (69, fRw x y z o m (L.flatMap (ar5M N)) L.length))
theorem m315 (he : N 22 0 28 = e ∧ 0 ≤ e ∧ e < 24) (hc : ∀ g, 0 ≤ g → g < 24 → N 22037 0 g = c g) (hp : ∀ g : Int, 0 ≤ g → g < 24 → ¬ c g = -99999999 → (0 ≤ c g ∧ c g < 64) ∧ (0 ≤ mwt N (c g) ∧ mwt N (c g) ≤ 9) ∧ (0 ≤ s (c g) - o ∧ s (c g) - o ≤ 64) ∧ N 22036 0 (c g) = s (c g)) (h0 : 0 ≤ N 22 0 5) (h1 : N 22 0 5 + 31 + 20 * (cl c 24).length ≤ 60000) (hr : 0 ≤ N 22 0 6 ∧ N 22 0 6 ≤ 60000) (hd : 0 ≤ N 22 0 29 ∧ N 22 0 29 ≤ 60000) : Tq 315 0 [vR 22 0, vI x, vI y, vI z, vI o, vJ, vJ, vJ, vJ, vJ] [] N Q ↔ Q (.inl none) (fM N e x y z o (mf (mwt N) s o (cl c 24)) (cl c 24)) := by
  have l1 := m315_1 (Q := Q) (x := x) (y := y) (z := z) he.2 hc hp 24 0 (by omega)
  have ll := cl_len (c := c) 24
  have lb := sm_bd (f := fun g => if c g = -99999999 then 0 else 1) (c := 1) 24 (fun k _ _ => by split <;> omega)
  have e0 : fY N e (cl c 0) = pne N := by
    show mrow (mset (movl (pne N) 22031 0 (120 * e) []) 22030 0 e 0) 22024 0 (mkM (N 22024 0) e []) = pne N
    have e1 : mkM (N 22024 0) e [] = N 22024 0 := by funext p; exact if_neg (by simp)
    have e2 : mset (pne N) 22030 0 e 0 = pne N := by
      funext f i k
      rw [mset_3]
      split
      · rename_i q
        obtain ⟨rfl, rfl, rfl⟩ := q
        unfold pne
        rw [mset_o (by simp), mset_o (by simp), mset_o (by simp), mset_3, if_pos ⟨rfl, rfl, he.1.symm⟩]
      · rfl
    rw [movl_nil, e2, e1]
    have e3 : N 22024 0 = pne N 22024 0 := by unfold pne; rw [mset_o (by simp), mset_o (by simp), mset_o (by simp), mset_o (by simp)]
    rw [e3, mrow_self]
  rw [e0] at l1
  have e00 : mf (mwt N) s o (cl c 0) = 0 := rfl
  rw [e00, show ((0 : Nat) : Int) = 0 from rfl] at l1
  generalize hL : cl c 24 = L at *
  generalize hmis : mf (mwt N) s o L = mis at *
  have Y22 : ∀ k, ¬ k = 28 → fY N e L 22 0 k = N 22 0 k := fun k hk => by
    unfold fY pne
    rw [mrow_n (by simp), mset_o (by simp), movl_r (by decide), mset_3, if_neg (by simp [hk]), mset_o (by simp), mset_o (by simp), mset_o (by simp)]
  have Y32 : fY N e L 22032 0 e = 0 := by
    unfold fY pne
    rw [mrow_n (by simp), mset_o (by simp), movl_r (by decide), mset_o (by simp), mset_o (by simp), mset_3, if_pos ⟨rfl, rfl, he.1.symm⟩]
  have Y31 : fY N e L 22031 0 = ovl (N 22031 0) (120 * e) (L.flatMap (ar5M N)) := by
    unfold fY pne
    rw [mrow_n (by simp), mset_o (by simp), movl_s, mset_o (by simp), mset_o (by simp), mset_o (by simp), mset_o (by simp)]
  generalize hK : pvs (fY N e L) e (fLv x y z o mis) = K
  have K22 : ∀ k, ¬ k = 28 → ¬ k = 29 → K 22 0 k = N 22 0 k := fun k h1 h2 => by rw [← hK, pvs_s, if_neg h2, Y22 k h1]
  have K32 : K 22032 0 e = 1 := by rw [← hK, pvs_32, fup_eq, Y32]; rfl
  have K30 : K 22030 0 e = L.length := by rw [← hK, pvs_r (by decide) (by decide) (by decide) (by decide), fY_30]
  have K31 : K 22031 0 = ovl (N 22031 0) (120 * e) (L.flatMap (ar5M N)) := by rw [← hK, pvs_r (by decide) (by decide) (by decide) (by decide), Y31]
  have K33 : ∀ w : Nat, w < 7 → vrow K e w = (fLv x y z o mis).getD w 0 := fun w hw => by
    show K 22033 0 (128 * e + 8 * (K 22032 0 e - 1) + w) = _
    rw [K32, ← hK, pvs_33, Y32, ovl_in (by omega) (by show _ < _ + ((7 + 1 : Nat) : Int); omega), show (128 * e + 8 * ((1 : Int) - 1) + (w : Int) - (128 * e + 8 * 0)).toNat = w by omega, List.getD_eq_getElem?_getD, List.getElem?_append_left (by show w < 7; omega), ← List.getD_eq_getElem?_getD]
  have r5 : row (vrow K e) 1 5 = [x, y, z, o, mis] := by
    show [] ++ [vrow K e (1 + (0 : Nat))] ++ [vrow K e (1 + (1 : Nat))] ++ [vrow K e (1 + (2 : Nat))] ++ [vrow K e (1 + (3 : Nat))] ++ [vrow K e (1 + (4 : Nat))] = _
    rw [show (1 : Int) + ((0 : Nat) : Int) = ((1 : Nat) : Int) from rfl, show (1 : Int) + ((1 : Nat) : Int) = ((2 : Nat) : Int) from rfl, show (1 : Int) + ((2 : Nat) : Int) = ((3 : Nat) : Int) from rfl, show (1 : Int) + ((3 : Nat) : Int) = ((4 : Nat) : Int) from rfl, show (1 : Int) + ((4 : Nat) : Int) = ((5 : Nat) : Int) from rfl, K33 1 (by decide), K33 2 (by decide), K33 3 (by decide), K33 4 (by decide), K33 5 (by decide)]
    rfl
  have rA : row (K 22031 0) (120 * e) (5 * (L.length : Int)).toNat = L.flatMap (ar5M N) := by
    refine List.ext_getElem? (fun k => ?_)
    have lA : (L.flatMap (ar5M N)).length = 5 * L.length := fm5_lenM L
    by_cases q : k < 5 * L.length
    · have a := row_get (g := K 22031 0) (a := 120 * e) (5 * (L.length : Int)).toNat k (by omega)
      rw [K31, ovl_in (by omega) (by omega), show (120 * e + (k : Int) - 120 * e).toNat = k by omega, List.getD_eq_getElem?_getD, List.getD_eq_getElem?_getD, ← K31] at a
      rw [List.getElem?_eq_getElem (by rw [row_len]; omega), List.getElem?_eq_getElem (by omega)] at a ⊢
      simp only [Option.getD_some] at a
      rw [a]
    · rw [List.getElem?_eq_none (by rw [row_len]; omega), List.getElem?_eq_none (by omega)]
  rw [t315_0, m207 (by omega), kI_v, he.1, l1, t315_5, m208 he.2 (by rw [Y32]; omega) (by rw [Y22 29 (by decide)]; omega), kV_v]
  show Tq 209 0 _ [] (pvs (fY N e L) e (fLv x y z o mis)) _ ↔ _
  rw [hK, m209 (n := L.length) he.2 (by omega) ⟨K30, by omega, by omega⟩ (by rw [K22 5 (by decide) (by decide)]; omega) (by rw [K22 5 (by decide) (by decide)]; omega) (by rw [K22 6 (by decide) (by decide)]; omega), kV_v, r5, rA]
  unfold fM
  rw [hK]
  exact Iff.rfl
end Makes
