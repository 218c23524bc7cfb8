/-! ROWS OF THE LOG: a letter and numbers (or the bytes of a text) -/
def cont (r : Int × List Int) : List Int := w8 r.1 :: (if r.1 = 84 then r.2 else r.2.flatMap be4)
def lgB : List (Int × List Int) → List Int
  | [] => []
  | r :: rs => lgB rs ++ rowB (cont r)
def lstB : List (Int × List Int) → Int
  | [] => 0
  | r :: _ => (cont r).length + 6
theorem lgB_app : ∀ (t d : List (Int × List Int)), ∃ X, lgB (t ++ d) = lgB d ++ X
  | [], d => ⟨[], (List.append_nil _).symm⟩
  | r :: t, d => by
    obtain ⟨X, hX⟩ := lgB_app t d
    refine ⟨X ++ rowB (cont r), ?_⟩
    show lgB (t ++ d) ++ rowB (cont r) = _
    rw [hX, List.append_assoc]
theorem lgB_len : ∀ rs : List (Int × List Int), (rs.length : Int) * 7 ≤ (lgB rs).length
  | [] => by simp [lgB]
  | r :: rs => by
    have h := lgB_len rs
    have e := @rowB_len (cont r)
    have e2 : ((cont r).length : Int) = (if r.1 = 84 then r.2 else r.2.flatMap be4).length + 1 := by unfold cont; simp
    show (((r :: rs).length : Nat) : Int) * 7 ≤ (((lgB rs ++ rowB (cont r)).length : Nat) : Int)
    rw [List.length_append, List.length_cons]
    omega
def CLog' (n : Int) (c : Int → Int) (rows last : Int) (rs : List (Int × List Int)) : Prop := n = (lgB rs).length ∧ n ≤ 60000 ∧ (∀ k : Nat, k < (lgB rs).length → c k = (lgB rs).getD k 0) ∧ rows = rs.length ∧ last = lstB rs
def RLog' (n : Int) (c : Int → Int) (rows : Int) (rs : List (Int × List Int)) : Prop := n = (lgB rs).length ∧ n ≤ 60000 ∧ (∀ k : Nat, k < (lgB rs).length → c k = (lgB rs).getD k 0) ∧ rows = rs.length
def CLog (M : Mem) (rs : List (Int × List Int)) : Prop := CLog' (M 13 1 1) (M 13000 1) (M 14 0 1) (M 14 0 2) rs
def RLog (M : Mem) (rs : List (Int × List Int)) : Prop := RLog' (M 22 0 5) (M 22004 0) (M 22 0 6) rs
def LCLog (f : Nat) (i k : Int) : Prop := (f = 13 ∧ i = 1 ∧ k = 1) ∨ (f = 13000 ∧ i = 1) ∨ (f = 14 ∧ i = 0)
def LRLog (f : Nat) (i k : Int) : Prop := (f = 22 ∧ i = 0 ∧ (k = 5 ∨ k = 6 ∨ k = 7)) ∨ (f = 22004 ∧ i = 0)
theorem CLog_fr {S : Nat → Int → Int → Prop} {M M' : Mem} {rs : List (Int × List Int)} (q : CLog M rs) (h : Fr S M M') (hs : ∀ f i k, LCLog f i k → ¬ S f i k) : CLog M' rs := by
  unfold CLog
  rw [h _ _ _ (hs 13 1 1 (by simp [LCLog])), h.row 13000 1 (fun k => hs _ _ _ (by simp [LCLog])), h _ _ _ (hs 14 0 1 (by simp [LCLog])), h _ _ _ (hs 14 0 2 (by simp [LCLog]))]
  exact q
theorem RLog_fr {S : Nat → Int → Int → Prop} {M M' : Mem} {rs : List (Int × List Int)} (q : RLog M rs) (h : Fr S M M') (hs : ∀ f i k, LRLog f i k → ¬ S f i k) : RLog M' rs := by
  unfold RLog
  rw [h _ _ _ (hs 22 0 5 (by simp [LRLog])), h.row 22004 0 (fun k => hs _ _ _ (by simp [LRLog])), h _ _ _ (hs 22 0 6 (by simp [LRLog]))]
  exact q
theorem CLog.rng {M : Mem} {rs : List (Int × List Int)} (h : CLog M rs) : (0 ≤ M 13 1 1 ∧ M 13 1 1 ≤ 60000) ∧ (0 ≤ M 14 0 1 ∧ M 14 0 1 ≤ 60000) := by
  obtain ⟨h1, h2, h3, h4, h5⟩ := h
  have := lgB_len rs
  omega
theorem RLog.rng {M : Mem} {rs : List (Int × List Int)} (h : RLog M rs) : (0 ≤ M 22 0 5 ∧ M 22 0 5 ≤ 60000) ∧ (0 ≤ M 22 0 6 ∧ M 22 0 6 ≤ 60000) := by
  obtain ⟨h1, h2, h3, h4⟩ := h
  have := lgB_len rs
  omega
theorem ovl_log {g : Int → Int} {L C : List Int} {n : Int} (hn : n = L.length) (h : ∀ k : Nat, k < L.length → g k = L.getD k 0) : ∀ k : Nat, k < (L ++ C).length → ovl g n C k = (L ++ C).getD k 0 := by
  intro k hk
  rw [List.length_append] at hk
  by_cases c : k < L.length
  · rw [ovl_out (Or.inl (by omega)), h k c, List.getD_eq_getElem?_getD, List.getD_eq_getElem?_getD, List.getElem?_append_left c]
  · rw [ovl_in (by omega) (by omega), List.getD_eq_getElem?_getD, List.getD_eq_getElem?_getD, List.getElem?_append_right (by omega)]
    rw [show ((k : Int) - n).toNat = k - L.length by omega]
theorem lgw_fr {M : Mem} {C : List Int} : Fr LCLog M (lgw M C) := by
  unfold lgw
  refine Fr.mset (Fr.bapp (Fr.mset Fr.refl (by simp [LCLog])) (by simp [LCLog]) (fun k => by simp [LCLog])) (by simp [LCLog])
theorem kgw_fr {M : Mem} {C : List Int} : Fr LRLog M (kgw M C) := by
  unfold kgw
  exact Fr.mset (Fr.mset (Fr.mset (Fr.movl Fr.refl (fun k => by simp [LRLog])) (by simp [LRLog])) (by simp [LRLog])) (by simp [LRLog])
theorem CLog_add {M : Mem} {rs : List (Int × List Int)} {r : Int × List Int} (h : CLog M rs) (hr : M 13 1 1 + (cont r).length + 6 ≤ 60000) : CLog (lgw M (cont r)) (r :: rs) := by
  obtain ⟨h1, h2, h3, h4, h5⟩ := h
  have e := @rowB_len (cont r)
  have el : ((lgB (r :: rs)).length : Int) = (lgB rs).length + ((cont r).length + 6) := by
    show (((lgB rs ++ rowB (cont r)).length : Nat) : Int) = _
    rw [List.length_append]
    omega
  unfold CLog lgw
  simp only [mset_3, mset_2, bapp_2]
  simp only [Nat.reduceEqDiff, false_and, if_false, and_self, if_true, and_true, and_false, Int.reduceEq, fup_at]
  refine ⟨by omega, by omega, ovl_log h1 h3, by simp; omega, rfl⟩
theorem RLog_add {M : Mem} {rs : List (Int × List Int)} {r : Int × List Int} (h : RLog M rs) (hr : M 22 0 5 + (cont r).length + 6 ≤ 60000) : RLog (kgw M (cont r)) (r :: rs) := by
  obtain ⟨h1, h2, h3, h4⟩ := h
  have e := @rowB_len (cont r)
  have el : ((lgB (r :: rs)).length : Int) = (lgB rs).length + ((cont r).length + 6) := by
    show (((lgB rs ++ rowB (cont r)).length : Nat) : Int) = _
    rw [List.length_append]
    omega
  unfold RLog kgw
  simp only [mset_3, mset_2, movl_2]
  simp only [Nat.reduceEqDiff, false_and, if_false, and_self, if_true, and_true, and_false, Int.reduceEq, fup_at]
  refine ⟨by omega, by omega, ovl_log h1 h3, by simp; omega⟩
/-! a row that is read back -/
def RowAt (g : Int → Int) (a : Int) (C : List Int) : Prop := ∀ k : Nat, k < C.length → g (a + k) = C.getD k 0
theorem cont_T {d : List Int} : cont (84, d) = w8 84 :: d := rfl
theorem cont_N {l : Int} {d : List Int} (h : ¬ l = 84) : cont (l, d) = w8 l :: d.flatMap be4 := by unfold cont; rw [if_neg h]
theorem fm4_len (d : List Int) : (d.flatMap be4).length = 4 * d.length := by
  induction d with
  | nil => rfl
  | cons v d ih =>
    rw [List.flatMap_cons, List.length_append, ih, List.length_cons, be4_len]
    omega
theorem fm4_get : ∀ (d : List Int) (k j : Nat), k < d.length → j < 4 → (d.flatMap be4).getD (4 * k + j) 0 = (be4 (d.getD k 0)).getD j 0
  | [], k, j, h, _ => by simp at h
  | v :: d, 0, j, h, hj => by
    rw [List.flatMap_cons, List.getD_eq_getElem?_getD, List.getElem?_append_left (by rw [be4_len]; omega), Nat.mul_zero, Nat.zero_add, ← List.getD_eq_getElem?_getD]
    rfl
  | v :: d, k + 1, j, h, hj => by
    rw [List.flatMap_cons, List.getD_eq_getElem?_getD, List.getElem?_append_right (by rw [be4_len]; omega), be4_len, show 4 * (k + 1) + j - 4 = 4 * k + j by omega, ← List.getD_eq_getElem?_getD, fm4_get d k j (by simpa using h) hj]
    rfl
theorem RowAt_0 {g : Int → Int} {a : Int} {r : Int × List Int} (h : RowAt g a (cont r)) : g a = w8 r.1 := by
  have := h 0 (by unfold cont; simp)
  rw [show a + ((0 : Nat) : Int) = a by omega] at this
  rw [this]
  rfl
theorem RowAt_arg {g : Int → Int} {a l : Int} {d : List Int} {k : Nat} (h : RowAt g a (cont (l, d))) (hl : ¬ l = 84) (hk : k < d.length) (hv : I32 (d.getD k 0)) : fo g (a + 1 + 4 * k) = d.getD k 0 := by
  rw [cont_N hl] at h
  have q : ∀ j : Nat, j < 4 → g (a + 1 + 4 * k + j) = (be4 (d.getD k 0)).getD j 0 := by
    intro j hj
    have := h (4 * k + j + 1) (by rw [List.length_cons, fm4_len]; omega)
    rw [show a + ((4 * k + j + 1 : Nat) : Int) = a + 1 + 4 * k + j by omega] at this
    rw [this, ← fm4_get d k j hk hj]
    rfl
  have q0 := q 0 (by decide)
  rw [show a + 1 + 4 * (k : Int) + ((0 : Nat) : Int) = a + 1 + 4 * k by omega] at q0
  exact fo_be4 hv.1 hv.2 q0 (q 1 (by decide)) (q 2 (by decide)) (q 3 (by decide))
/-- the row behind what lies done -/
theorem row_of {g : Int → Int} {n : Int} {t d : List (Int × List Int)} {r : Int × List Int} (h : ∀ k : Nat, k < (lgB (t ++ r :: d)).length → g k = (lgB (t ++ r :: d)).getD k 0) (hn : n = (lgB d).length) : RowAt g n (rowB (cont r)) ∧ n + (rowB (cont r)).length ≤ (lgB (t ++ r :: d)).length := by
  obtain ⟨X, hX⟩ := lgB_app t (r :: d)
  have hX : lgB (t ++ r :: d) = lgB d ++ rowB (cont r) ++ X := hX
  rw [hX] at h ⊢
  constructor
  · intro k hk
    have := h ((lgB d).length + k) (by rw [List.length_append, List.length_append]; omega)
    rw [show (((lgB d).length + k : Nat) : Int) = n + k by omega] at this
    rw [this, List.getD_eq_getElem?_getD, List.getElem?_append_left (by rw [List.length_append]; omega), List.getElem?_append_right (by omega), List.getD_eq_getElem?_getD]
    rw [show (lgB d).length + k - (lgB d).length = k by omega]
  · rw [List.length_append, List.length_append]
    omega
theorem RowAt_cont {g : Int → Int} {n : Int} {C : List Int} (h : RowAt g n (rowB C)) (hl : C.length ≤ 65535) : tw g n = C.length ∧ RowAt g (n + 2) C := by
  have e : rowB C = w8 (shr32 C.length 8) :: w8 C.length :: (C ++ be4 (sumL C)) := rfl
  have len : (rowB C).length = C.length + 6 := by have := @rowB_len C; omega
  constructor
  · refine tw_be2 (by omega) (by omega) ?_ ?_
    · have := h 0 (by omega)
      rw [show n + ((0 : Nat) : Int) = n by omega] at this
      rw [this, e, List.getD_cons_zero]
    · have := h 1 (by omega)
      rw [show n + ((1 : Nat) : Int) = n + 1 by omega] at this
      rw [this, e, List.getD_cons_succ, List.getD_cons_zero]
  · intro k hk
    have := h (k + 2) (by omega)
    rw [show n + ((k + 2 : Nat) : Int) = n + 2 + k by omega] at this
    rw [this, e]
    show (C ++ be4 (sumL C)).getD k 0 = _
    rw [List.getD_eq_getElem?_getD, List.getElem?_append_left hk, List.getD_eq_getElem?_getD]
