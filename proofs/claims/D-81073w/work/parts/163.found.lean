/-! ASSOCIATE: what was found becomes an event, the component's -/
def ar5C (M : Mem) (p : Int) : List Int := [M 18001 0 p, M 18002 0 p, M 18003 0 p, M 18004 0 p, M 18005 0 p]
def mf (w s : Int → Int) (o : Int) : List Int → Int
  | [] => 0
  | p :: L => w p * (s p - o) + mf w s o L
theorem mf_app {w s : Int → Int} {o : Int} {L' : List Int} : ∀ L : List Int, mf w s o (L ++ L') = mf w s o L + mf w s o L'
  | [] => by show _ = 0 + _; rw [Int.zero_add]; rfl
  | p :: L => by
    show w p * (s p - o) + mf w s o (L ++ L') = w p * (s p - o) + mf w s o L + mf w s o L'
    rw [mf_app L]
    omega
theorem mul_bd {a b : Int} (h1 : 0 ≤ a ∧ a ≤ 9) (h2 : 0 ≤ b ∧ b ≤ 64) : 0 ≤ a * b ∧ a * b ≤ 576 := by
  rcases (show a = 0 ∨ a = 1 ∨ a = 2 ∨ a = 3 ∨ a = 4 ∨ a = 5 ∨ a = 6 ∨ a = 7 ∨ a = 8 ∨ a = 9 by omega) with rfl | rfl | rfl | rfl | rfl | rfl | rfl | rfl | rfl | rfl <;> omega
theorem mf_bd {w s : Int → Int} {o : Int} : ∀ L : List Int, (∀ p ∈ L, (0 ≤ w p ∧ w p ≤ 9) ∧ 0 ≤ s p - o ∧ s p - o ≤ 64) → 0 ≤ mf w s o L ∧ mf w s o L ≤ 576 * L.length
  | [], _ => by show 0 ≤ (0 : Int) ∧ (0 : Int) ≤ _; simp
  | p :: L, h => by
    have ih := mf_bd L (fun q hq => h q (List.mem_cons_of_mem _ hq))
    have hp := h p (List.mem_cons_self ..)
    have := mul_bd hp.1 hp.2
    show 0 ≤ w p * (s p - o) + mf w s o L ∧ w p * (s p - o) + mf w s o L ≤ 576 * ((L.length + 1 : Nat) : Int)
    omega
def mkF (g : Int → Int) (e : Int) (L : List Int) : Int → Int := fun p => if p ∈ L then e else g p
theorem mkF_s {g : Int → Int} {e p : Int} {L : List Int} : fup (mkF g e L) p e = mkF g e (L ++ [p]) := by
  funext q
  unfold fup mkF
  show (if q = p then e else if q ∈ L then e else g q) = if q ∈ L ++ [p] then e else g q
  by_cases c : q = p
  · rw [if_pos c, if_pos (by rw [c]; simp)]
  · rw [if_neg c]
    by_cases d : q ∈ L
    · rw [if_pos d, if_pos (by simp [d])]
    · rw [if_neg d, if_neg (by simp [d, c])]
theorem take_s {L : List Int} {k : Nat} (h : k < L.length) : L.take (k + 1) = L.take k ++ [L.getD k 0] := by
  rw [List.take_succ, List.getElem?_eq_getElem h, List.getD_eq_getElem?_getD, List.getElem?_eq_getElem h]
  rfl
theorem mem_take' {L : List Int} {k : Nat} {p : Int} (h : p ∈ L.take k) : p ∈ L := List.mem_of_mem_take h
theorem getD_mem {L : List Int} {k : Nat} (h : k < L.length) : L.getD k 0 ∈ L := by
  rw [List.getD_eq_getElem?_getD, List.getElem?_eq_getElem h]
  exact List.getElem_mem _
theorem fm5_len {M : Mem} : ∀ L : List Int, (L.flatMap (ar5C M)).length = 5 * L.length
  | [] => rfl
  | p :: L => by
    rw [List.flatMap_cons, List.length_append, fm5_len L, List.length_cons]
    show 5 + _ = _
    omega
/-- what the component's memory is with k arrivals laid down -/
def fX (M : Mem) (e : Int) (L : List Int) : Mem := mrow (mset (movl (cne M) 7002 e 0 (L.flatMap (ar5C M))) 7 e 3 L.length) 18006 0 (mkF (M 18006 0) e L)
theorem mkc {X : Mem} {g : Int → Int} {e a v p w : Int} {L : List Int} : mset (mset (movl (mrow X 18006 0 g) 7002 e a L) 7 e 3 v) 18006 0 p w = mrow (mset (movl X 7002 e a L) 7 e 3 v) 18006 0 (fup g p w) := by
  have e1 : movl (mrow X 18006 0 g) 7002 e a L = mrow (movl X 7002 e a L) 18006 0 g := by
    unfold movl
    rw [mrow_n (by simp), mrow_comm (by simp)]
  rw [e1, mset_row (f := 7), mrow_n (by simp), mrow_comm (by simp), mset_mrow, ← mset_row]
section Found
variable {M P : Mem} {Q : AR → Mem → Prop} {e o n : Int} {L : List Int} {s : Int → Int}
theorem fX_r {f : Nat} {i : Int} (h1 : ¬ f = 6) (h2 : ¬ f = 7) (h3 : ¬ f = 7002) (h4 : ¬ f = 18006) : fX M e L f i = M f i := by
  unfold fX cne
  rw [mrow_n (fun q => h4 q.1), mset_o (fun q => h2 q.1), movl_r h3, mset_o (fun q => h1 q.1), mset_o (fun q => h2 q.1), mset_o (fun q => h2 q.1), mset_o (fun q => h2 q.1)]
theorem fX_6 : fX M e L 6 0 1 = M 6 0 1 + 1 := by
  unfold fX cne
  rw [mrow_n (by simp), mset_o (by simp), movl_r (by decide), mset_3, if_pos ⟨rfl, rfl, rfl⟩]
theorem fX_s {p : Int} (he : M 6 0 1 = e) : mset (mset (movl (fX M e L) 7002 e (5 * L.length) (ar5C M p)) 7 e 3 (L.length + 1)) 18006 0 p e = fX M e (L ++ [p]) := by
  unfold fX
  rw [mkc, mkF_s, ← mset_movl_comm (by simp), movl_app (by rw [fm5_len]; omega), mset_mset, List.flatMap_append, List.length_append]
  simp only [List.flatMap_cons, List.flatMap_nil, List.append_nil]
  rfl
theorem m63_1 (he : M 6 0 1 = e ∧ 0 ≤ e ∧ e < 24) (hl : L.length ≤ 24) (hch : ∀ k : Nat, k < L.length → (0 ≤ M 1015 0 k ∧ M 1015 0 k < 64) ∧ M 19003 0 (M 1015 0 k) = L.getD k 0 ∧ M 19004 0 (M 1015 0 k) = s (L.getD k 0)) (hp : ∀ p ∈ L, (0 ≤ p ∧ p < 64) ∧ (0 ≤ M 18004 0 p ∧ M 18004 0 p ≤ 9) ∧ 0 ≤ s p - o ∧ s p - o ≤ 64) (ho : M 19 0 12 = o) : ∀ (r k : Nat), k + r = L.length → (Tq 63 1 [vR 1 0, vI L.length, vR 7 e, vI (mf (M 18004 0) s o (L.take k)), vI k, vJ] [] (fX M e (L.take k)) Q ↔ Tq 63 2 [vR 1 0, vI L.length, vR 7 e, vI (mf (M 18004 0) s o L), vJ, vJ] [] (fX M e L) Q) := by
  intro r
  induction r with
  | zero =>
    intro k hk
    rw [t63_1, if_pos (by omega), List.take_of_length_le (by omega)]
  | succ r ih =>
    intro k hk
    obtain ⟨a1, a2, a3⟩ := hch k (by omega)
    have hm := getD_mem (L := L) (k := k) (by omega)
    obtain ⟨b1, b2, b3⟩ := hp _ hm
    have nx := ih (k + 1) (by omega)
    rw [take_s (by omega), mf_app, ← fX_s he.1, show ((k + 1 : Nat) : Int) = (k : Int) + 1 by omega] at nx
    have lt : (L.take k).length = k := by rw [List.length_take]; omega
    rw [lt] at nx
    have m1 : mf (M 18004 0) s o [L.getD k 0] = M 18004 0 (L.getD k 0) * (s (L.getD k 0) - o) := by show _ + 0 = _; omega
    rw [m1] at nx
    have bm := mf_bd (w := M 18004 0) (s := s) (o := o) (L.take k) (fun p h => (hp p (mem_take' h)).2)
    rw [lt] at bm
    have bp := mul_bd b2 b3
    generalize hp0 : L.getD k 0 = p at *
    generalize hT : L.take k = T at *
    have r3 : fX M e T 7 e 3 = k := by
      unfold fX
      rw [mrow_n (by simp), mset_3, if_pos ⟨rfl, rfl, rfl⟩, lt]
    have y : ∀ {f : Nat} {i : Int}, ¬ f = 7 → ¬ f = 7002 → mset (movl (fX M e T) 7002 e (5 * k) (ar5C M p)) 7 e 3 (k + 1) f i = fX M e T f i := fun h1 h2 => by rw [mset_o (fun q => h1 q.1), movl_r h2]
    rw [t63_1, if_neg (by omega), fX_r (f := 1015) (by decide) (by decide) (by decide) (by decide), fX_r (f := 19003) (by decide) (by decide) (by decide) (by decide), a2, fX_r (f := 18001) (by decide) (by decide) (by decide) (by decide), fX_r (f := 18002) (by decide) (by decide) (by decide) (by decide), fX_r (f := 18003) (by decide) (by decide) (by decide) (by decide), fX_r (f := 18004) (by decide) (by decide) (by decide) (by decide), fX_r (f := 18005) (by decide) (by decide) (by decide) (by decide), m368 (by omega), kV_v, r3]
    show (0 ≤ (k : Int) ∧ (k : Int) < 24) ∧ _ ∧ _ ∧ _ ∧ _ ∧ _ ∧ _ ∧ _ ∧ _ ∧ _ ∧ _ ∧ bd _ _ ↔ _
    rw [show [M 18001 0 p, M 18002 0 p, M 18003 0 p, M 18004 0 p, M 18005 0 p] = ar5C M p from rfl, bd_e, y (f := 1015) (by decide) (by decide), y (f := 6) (by decide) (by decide), y (f := 18004) (by decide) (by decide), y (f := 19004) (by decide) (by decide), y (f := 19) (by decide) (by decide), fX_6, fX_r (f := 1015) (by decide) (by decide) (by decide) (by decide), fX_r (f := 18004) (by decide) (by decide) (by decide) (by decide), fX_r (f := 19004) (by decide) (by decide) (by decide) (by decide), fX_r (f := 19) (by decide) (by decide) (by decide) (by decide), a3, ho, he.1, w32_id (z := e + 1 - 1) (by omega) (by omega), show e + 1 - 1 = e by omega, w32_id (z := s p - o) (by omega) (by omega), w32_id (z := M 18004 0 p * (s p - o)) (by omega) (by omega), w32_id (z := mf (M 18004 0) s o T + M 18004 0 p * (s p - o)) (by omega) (by omega), w32_id (z := (k : Int) + 1) (by omega) (by omega), nx]
    exact andi (by omega) (andi (by omega) (andi (by omega) (andi (by omega) (andi (by omega) (andi (by omega) (andi (by omega) (andi (by omega) (andi (by omega) (andi (by omega) (andi (by omega) Iff.rfl))))))))))
end Found
