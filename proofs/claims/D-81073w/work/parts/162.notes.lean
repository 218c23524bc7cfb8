/-! ROWS OF EVENTS AND VERSIONS: how they are written -/
theorem row_s {g : Int → Int} {a : Int} (n : Nat) : row g a (n + 1) = row g a n ++ [g (a + n)] := rfl
section Notes
variable {M N : Mem} {Q : AR → Mem → Prop} {e l : Int} {L : List Int}
theorem cont_a (h : ¬ l = 84) {a : Int} : cont (l, L) ++ be4 a = cont (l, L ++ [a]) := by rw [cont_ap, if_neg h]
theorem kmid_r {C : List Int} {f : Nat} {i : Int} (h1 : ¬ f = 22) (h2 : ¬ f = 22004) : kmid N C f i = N f i := by
  unfold kmid
  rw [mset_o (fun q => h1 q.1), movl_r h2]
theorem lmid_r {C : List Int} {n : Int} {f : Nat} {i : Int} (h1 : ¬ f = 13) (h2 : ¬ f = 13000) (h3 : ¬ f = 14) : lmid M n C f i = M f i := by
  unfold lmid
  rw [bapp_2, if_neg (fun q => h1 q.1), if_neg (fun q => h2 q.1), mset_o (fun q => h3 q.1)]
/-- a number of the last version, while a row is written -/
theorem m210k {C : List Int} {w : Int} (he : 0 ≤ e ∧ e < 24) (hv : 1 ≤ N 22032 0 e ∧ N 22032 0 e ≤ 16) (hw : 0 ≤ w ∧ w < 8) : Tq 210 0 [vR 22 0, vI e, vI w] [] (kmid N C) Q ↔ Q (.inl (some (vI (N 22033 0 (128 * e + 8 * (N 22032 0 e - 1) + w))))) (kmid N C) := by
  rw [t210_0, kmid_r (by decide) (by decide), kmid_r (by decide) (by decide), w32_id (z := 16 * e) (by omega) (by omega), w32_id (z := 16 * e + N 22032 0 e) (by omega) (by omega), w32_id (z := 16 * e + N 22032 0 e - 1) (by omega) (by omega), w32_id (z := 8 * (16 * e + N 22032 0 e - 1)) (by omega) (by omega), w32_id (z := 8 * (16 * e + N 22032 0 e - 1) + w) (by omega) (by omega), show 8 * (16 * e + N 22032 0 e - 1) + w = 128 * e + 8 * (N 22032 0 e - 1) + w by omega]
  exact andi (by omega) (andi (by omega) Iff.rfl)
def vrow (N : Mem) (e : Int) : Int → Int := fun w => N 22033 0 (128 * e + 8 * (N 22032 0 e - 1) + w)
theorem m211_1 (he : 0 ≤ e ∧ e < 24) (hv : 1 ≤ N 22032 0 e ∧ N 22032 0 e ≤ 16) (h0 : 0 ≤ N 22 0 5) (h1 : N 22 0 5 + 39 ≤ 60000) : ∀ (r w : Nat), w + r = 7 → (Tq 211 1 [vR 22 0, vI e, vI w] [] (kmid N (cont (86, e :: row (vrow N e) 0 w))) Q ↔ Tq 211 2 [vR 22 0, vJ, vJ] [] (kmid N (cont (86, e :: row (vrow N e) 0 7))) Q) := by
  intro r
  induction r with
  | zero =>
    intro w hw
    rw [t211_1, if_pos (by omega), show w = 7 by omega]
  | succ r ih =>
    intro w hw
    have cl := cont_len (l := 86) (L := e :: row (vrow N e) 0 w) (by decide)
    rw [List.length_cons, row_len] at cl
    have nx := ih (w + 1) (by omega)
    rw [row_s, Int.zero_add, ← List.cons_append, ← cont_a (by decide), show ((w + 1 : Nat) : Int) = (w : Int) + 1 by omega] at nx
    rw [t211_1, if_neg (by omega), m210k he hv (by omega), kI_v, m201 h0 (by omega), kV_v, w32_id (z := (w : Int) + 1) (by omega) (by omega)]
    exact nx
theorem m211 (he : 0 ≤ e ∧ e < 24) (hv : 1 ≤ N 22032 0 e ∧ N 22032 0 e ≤ 16) (h0 : 0 ≤ N 22 0 5) (h1 : N 22 0 5 + 39 ≤ 60000) (hr : 0 ≤ N 22 0 6 ∧ N 22 0 6 ≤ 60000) : Tq 211 0 [vR 22 0, vI e, vJ] [] N Q ↔ Q (.inl none) (kgw N (cont (86, e :: row (vrow N e) 0 7))) := by
  have l := m211_1 (Q := Q) he hv h0 h1 7 0 (by omega)
  rw [show row (vrow N e) 0 0 = [] from rfl, show ((0 : Nat) : Int) = 0 from rfl] at l
  have c7 := cont_len (l := 86) (L := e :: row (vrow N e) 0 7) (by decide)
  rw [List.length_cons, row_len] at c7
  rw [t211_0, m200 h0 (by omega), kV_v, show [w8 86] = cont (86, []) from by rw [cont_N (by decide)]; rfl, m201 h0 (by rw [cont_len (by decide)]; simp; omega), kV_v, cont_a (by decide), List.nil_append, l, t211_2, m202 h0 (by omega) hr.1 hr.2, kV_v]
theorem m209_1 (he : 0 ≤ e ∧ e < 24) (hv : 1 ≤ N 22032 0 e ∧ N 22032 0 e ≤ 16) (h0 : 0 ≤ N 22 0 5) (h1 : N 22 0 5 + 31 ≤ 60000) : ∀ (r w : Nat), w + r = 5 → (Tq 209 1 [vR 22 0, vI e, vI (w + 1)] [] (kmid N (cont (69, row (vrow N e) 1 w))) Q ↔ Tq 209 2 [vR 22 0, vI e, vJ] [] (kmid N (cont (69, row (vrow N e) 1 5))) Q) := by
  intro r
  induction r with
  | zero =>
    intro w hw
    rw [t209_1, if_pos (by omega), show w = 5 by omega]
  | succ r ih =>
    intro w hw
    have cl := cont_len (l := 69) (L := row (vrow N e) 1 w) (by decide)
    rw [row_len] at cl
    have nx := ih (w + 1) (by omega)
    rw [row_s, ← cont_a (by decide), show ((w + 1 : Nat) : Int) = (w : Int) + 1 by omega] at nx
    rw [t209_1, if_neg (by omega), m210k he hv (by omega), kI_v, m201 h0 (by omega), kV_v, w32_id (z := (w : Int) + 1 + 1) (by omega) (by omega), show (128 * e + 8 * (N 22032 0 e - 1) + ((w : Int) + 1)) = 128 * e + 8 * (N 22032 0 e - 1) + (1 + w) by omega]
    exact nx
theorem m209_3 {n : Int} (he : 0 ≤ e ∧ e < 24) (hn : N 22030 0 e = n ∧ 0 ≤ n ∧ n ≤ 24) (h0 : 0 ≤ N 22 0 5) (hL : L.length = 6) (h1 : N 22 0 5 + 31 + 20 * n ≤ 60000) : ∀ (r w : Nat), (w : Int) + r = 5 * n → (Tq 209 3 [vR 22 0, vI e, vI w] [] (kmid N (cont (69, L ++ row (N 22031 0) (120 * e) w))) Q ↔ Tq 209 4 [vR 22 0, vJ, vJ] [] (kmid N (cont (69, L ++ row (N 22031 0) (120 * e) (5 * n).toNat))) Q) := by
  intro r
  induction r with
  | zero =>
    intro w hw
    rw [t209_3, kmid_r (by decide) (by decide), hn.1, w32_id (z := 5 * n) (by omega) (by omega), if_pos (by omega), show w = (5 * n).toNat by omega]
    exact andi (by omega) Iff.rfl
  | succ r ih =>
    intro w hw
    have cl := cont_len (l := 69) (L := L ++ row (N 22031 0) (120 * e) w) (by decide)
    rw [List.length_append, row_len, hL] at cl
    have nx := ih (w + 1) (by omega)
    rw [row_s, ← List.append_assoc, ← cont_a (by decide), show ((w + 1 : Nat) : Int) = (w : Int) + 1 by omega] at nx
    rw [t209_3, kmid_r (by decide) (by decide), kmid_r (by decide) (by decide), hn.1, w32_id (z := 5 * n) (by omega) (by omega), if_neg (by omega), w32_id (z := 120 * e) (by omega) (by omega), w32_id (z := 120 * e + (w : Int)) (by omega) (by omega), m201 h0 (by omega), kV_v, w32_id (z := (w : Int) + 1) (by omega) (by omega)]
    exact andi (by omega) (andi (by omega) nx)
theorem m209 {n : Int} (he : 0 ≤ e ∧ e < 24) (hv : 1 ≤ N 22032 0 e ∧ N 22032 0 e ≤ 16) (hn : N 22030 0 e = n ∧ 0 ≤ n ∧ n ≤ 24) (h0 : 0 ≤ N 22 0 5) (h1 : N 22 0 5 + 31 + 20 * n ≤ 60000) (hr : 0 ≤ N 22 0 6 ∧ N 22 0 6 ≤ 60000) : Tq 209 0 [vR 22 0, vI e, vJ] [] N Q ↔ Q (.inl none) (kgw N (cont (69, row (vrow N e) 1 5 ++ [n] ++ row (N 22031 0) (120 * e) (5 * n).toNat))) := by
  have l := m209_1 (Q := Q) he hv h0 (by omega) 5 0 (by omega)
  rw [show row (vrow N e) 1 0 = [] from rfl, show ((0 : Nat) : Int) + 1 = 1 from rfl] at l
  have l3 := m209_3 (Q := Q) (L := row (vrow N e) 1 5 ++ [n]) he hn h0 (by simp [row_len]) h1 (5 * n).toNat 0 (by omega)
  rw [show row (N 22031 0) (120 * e) 0 = [] from rfl, List.append_nil, show ((0 : Nat) : Int) = 0 from rfl] at l3
  have c5 := cont_len (l := 69) (L := row (vrow N e) 1 5) (by decide)
  rw [row_len] at c5
  have c9 := cont_len (l := 69) (L := row (vrow N e) 1 5 ++ [n] ++ row (N 22031 0) (120 * e) (5 * n).toNat) (by decide)
  rw [List.length_append, List.length_append, row_len, row_len] at c9
  have e1 : ([n] : List Int).length = 1 := rfl
  rw [t209_0, m200 h0 (by omega), kV_v, show [w8 69] = cont (69, []) from by rw [cont_N (by decide)]; rfl, l, t209_2, kmid_r (by decide) (by decide), hn.1, m201 h0 (by omega), kV_v, cont_a (by decide), l3, t209_4, m202 h0 (by omega) hr.1 hr.2, kV_v]
  exact andi (by omega) Iff.rfl
/-- a version's row, the component's -/
theorem m66_1 {n : Int} (h0 : 0 ≤ M 13 1 1) (h1 : M 13 1 1 + 39 ≤ 60000) : ∀ (r w : Nat), w + r = 7 → (Tq 66 1 [vR 1 0, vI e, vI w] [] (lmid M n (cont (86, e :: row (M 1014 0) 0 w))) Q ↔ Tq 66 2 [vR 1 0, vI e, vJ] [] (lmid M n (cont (86, e :: row (M 1014 0) 0 7))) Q) := by
  intro r
  induction r with
  | zero =>
    intro w hw
    rw [t66_1, if_pos (by omega), show w = 7 by omega]
  | succ r ih =>
    intro w hw
    have cl := cont_len (l := 86) (L := e :: row (M 1014 0) 0 w) (by decide)
    rw [List.length_cons, row_len] at cl
    have nx := ih (w + 1) (by omega)
    rw [row_s, Int.zero_add, ← List.cons_append, ← cont_a (by decide), show ((w + 1 : Nat) : Int) = (w : Int) + 1 by omega] at nx
    rw [t66_1, if_neg (by omega), lmid_r (by decide) (by decide) (by decide), m111_l h0 (by omega), kV_v, w32_id (z := (w : Int) + 1) (by omega) (by omega)]
    exact andi (by omega) nx
theorem m66 (he : 0 ≤ e ∧ e < 24) (hl : L.length = 7) (hL : ∀ j : Nat, j < 7 → M 1014 0 j = L.getD j 0) (hm : 0 ≤ M 7 e 1 ∧ M 7 e 1 < 16) (hd : 0 ≤ M 6 0 2 ∧ M 6 0 2 ≤ 60000) (h0 : 0 ≤ M 13 1 1) (h1 : M 13 1 1 + 39 ≤ 60000) (hr : 0 ≤ M 14 0 1 ∧ M 14 0 1 ≤ 60000) : Tq 66 0 [vR 1 0, vI e, vJ] [] M Q ↔ Q (.inl (some (vI (M 7 e 1)))) (cvs (lgw M (cont (86, e :: L))) e L (M 4 0 10)) := by
  have l := m66_1 (M := M) (Q := Q) (e := e) (n := 33) h0 h1 7 0 (by omega)
  rw [show row (M 1014 0) 0 0 = [] from rfl, show ((0 : Nat) : Int) = 0 from rfl] at l
  have eL : row (M 1014 0) 0 7 = L := by
    refine List.ext_getElem? (fun k => ?_)
    by_cases q : k < 7
    · have a := row_get (g := M 1014 0) (a := 0) 7 k q
      have b := hL k q
      rw [List.getD_eq_getElem?_getD, List.getElem?_eq_getElem (by rw [row_len]; exact q)] at a
      rw [List.getD_eq_getElem?_getD, List.getElem?_eq_getElem (by omega)] at b
      rw [List.getElem?_eq_getElem (by rw [row_len]; exact q), List.getElem?_eq_getElem (by omega)]
      simp only [Option.getD_some, Int.zero_add] at a b
      rw [a, b]
    · rw [List.getElem?_eq_none (by rw [row_len]; omega), List.getElem?_eq_none (by omega)]
  have c7 := cont_len (l := 86) (L := e :: L) (by decide)
  rw [List.length_cons, hl] at c7
  have g : ∀ {f : Nat} {i : Int}, ¬ f = 13 → ¬ f = 13000 → ¬ f = 14 → lgw M (cont (86, e :: L)) f i = M f i := fun a b c => lgw_r a b c
  rw [t66_0, m121 h0 (by omega) (by decide) (by decide), kV_v, show [w8 86] = cont (86, []) from by rw [cont_N (by decide)]; rfl, m111_l h0 (by rw [cont_len (by decide)]; simp; omega), kV_v, cont_a (by decide), List.nil_append, l, eL, t66_2, m122 h0 (by omega) (by omega) hr.1 hr.2, kV_v, g (f := 4) (by decide) (by decide) (by decide), m361_1014 (by rw [g (by decide) (by decide) (by decide)]; exact hm) (by rw [g (by decide) (by decide) (by decide)]; exact hd) hl (fun j hj => by rw [g (by decide) (by decide) (by decide)]; exact hL j hj), kV_v]
  have e1 : cvs (lgw M (cont (86, e :: L))) e L (M 4 0 10) 7 e 1 = M 7 e 1 + 1 := by
    unfold cvs
    rw [mset_3, if_neg (by simp), mset_3, if_neg (by simp), mset_3, if_pos ⟨rfl, rfl, rfl⟩, g (by decide) (by decide) (by decide)]
  rw [e1, w32_id (by omega) (by omega), show M 7 e 1 + 1 - 1 = M 7 e 1 by omega]
  exact andi (by omega) (andi (by omega) Iff.rfl)
end Notes
