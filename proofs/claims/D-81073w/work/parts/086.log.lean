/-! THE LOGS: one row of contents C on either side -/
def rowB (C : List Int) : List Int := be2 C.length ++ C ++ be4 (sumL C)
theorem rowB_len {C : List Int} : ((rowB C).length : Int) = C.length + 6 := by unfold rowB be2 be4; simp; omega
theorem ovl_pre {g : Int → Int} {a b : Int} {L L' : List Int} (h : b = a + L.length) : ovl (ovl g b L') a L = ovl g a (L ++ L') := by
  funext k
  have hl : ((L ++ L').length : Int) = L.length + L'.length := by simp
  by_cases h1 : k < a ∨ a + (L ++ L').length ≤ k
  · rw [ovl_out h1, ovl_out (by omega), ovl_out (by omega)]
  · rw [ovl_in (g := g) (L := L ++ L') (by omega) (by omega)]
    by_cases h2 : k < b
    · rw [ovl_in (by omega) (by omega), List.getD_eq_getElem?_getD, List.getD_eq_getElem?_getD, List.getElem?_append_left (by omega)]
    · rw [ovl_out (Or.inr (by omega)), ovl_in (by omega) (by omega), List.getD_eq_getElem?_getD, List.getD_eq_getElem?_getD, List.getElem?_append_right (by omega)]
      rw [show (k - b).toNat = (k - a).toNat - L.length by omega]
theorem movl_pre {M : Mem} {f : Nat} {i a b : Int} {L L' : List Int} (h : b = a + L.length) : movl (movl M f i b L') f i a L = movl M f i a (L ++ L') := by
  unfold movl
  rw [mrow_row, mrow_2, if_pos ⟨rfl, rfl⟩, ovl_pre h]
/-- the sum of what lies laid -/
theorem sumF_ovl {g : Int → Int} {a b : Int} {L C : List Int} (h : b = a + L.length) : sumF (ovl g a (L ++ C)) C.length b 0 = sumL C := by
  refine sumF_L C b 0 (fun k hk => ?_)
  have hl : ((L ++ C).length : Int) = L.length + C.length := by simp
  rw [ovl_in (by omega) (by omega), List.getD_eq_getElem?_getD, List.getD_eq_getElem?_getD, List.getElem?_append_right (by omega)]
  rw [show (b + (k : Int) - a).toNat - L.length = k by omega]
def lmid (M : Mem) (n : Int) (C : List Int) : Mem := bapp (mset M 14 0 2 (n + 6)) 1 (be2 n ++ C)
def lgw (M : Mem) (C : List Int) : Mem := mset (bapp (mset M 14 0 2 (C.length + 6)) 1 (rowB C)) 14 0 1 (M 14 0 1 + 1)
section Logs
variable {M : Mem} {Q : AR → Mem → Prop} {v l : Int}
theorem bLen_1 : bLen 1 = 60000 := rfl
theorem bLen_0 : bLen 0 = 400 := rfl
theorem bLen_2 : bLen 2 = 400 := rfl
theorem bLen_ear {x : Int} (h0 : 0 ≤ x) (h1 : x < 4) : bLen (3 + x) = 800 := by
  rcases (show x = 0 ∨ x = 1 ∨ x = 2 ∨ x = 3 by omega) with rfl | rfl | rfl | rfl <;> rfl
theorem bLen_msg {x : Int} (h0 : 0 ≤ x) (h1 : x ≤ 8) : bLen (7 + x) = 80 := by
  rcases (show x = 0 ∨ x = 1 ∨ x = 2 ∨ x = 3 ∨ x = 4 ∨ x = 5 ∨ x = 6 ∨ x = 7 ∨ x = 8 by omega) with rfl | rfl | rfl | rfl | rfl | rfl | rfl | rfl | rfl <;> rfl
theorem lmid_sz {n : Int} {C : List Int} : lmid M n C 13 1 1 = M 13 1 1 + 2 + C.length := by
  unfold lmid
  rw [bapp_sz, mset_3, if_neg (by simp)]
  simp [be2]
  omega
theorem m119 {n : Int} (h0 : 0 ≤ M 13 1 1) (h1 : M 13 1 1 ≤ 60000) (h2 : 0 ≤ n) (h3 : n ≤ 60000) : Tq 119 0 [vR 14 0, vI n] [] M Q ↔ Q (.inl (some (vI (b2i (M 13 1 1 + n + 6 ≤ 60000))))) M := by
  simp only [kI_v, kL_v, kV_v, kR_v, kX_n, kX_e, bd_e, b2i_e0, b2i_e1, b2i_nb, nb_0, nb_1, cmp_lt, cmp_le, cmp_gt, cmp_ge, cmp_eq, not_true_eq_false, not_false_eq_true, if_true, if_false, ite_true, ite_false, true_and, and_true, false_and, and_false, Int.reduceLT, Int.reduceLE, Int.reduceEq, Int.reduceSub, Int.reduceAdd, Int.reduceNeg, Int.reduceMul, Classical.not_not, Int.zero_add, Int.add_zero, Int.le_refl, t119_0, t119_1, t119_2]
  rw [w32_id (z := M 13 1 1 + n) (by omega) (by omega), w32_id (by omega) (by omega)]
  by_cases h : 60000 < M 13 1 1 + n + 6
  · rw [if_pos h, b2i_f (by omega)]
  · rw [if_neg h, b2i_t (by omega)]
theorem m121 {n : Int} (h0 : 0 ≤ M 13 1 1) (h1 : M 13 1 1 + 3 ≤ 60000) (h2 : 0 ≤ n) (h3 : n ≤ 60000) : Tq 121 0 [vR 14 0, vI n, vI l] [] M Q ↔ Q (.inl none) (lmid M n [w8 l]) := by
  have e : mset M 14 0 2 (n + 6) 13 1 1 = M 13 1 1 := by rw [mset_3, if_neg (by simp)]
  rw [t121_0, w32_id (by omega) (by omega), bd_e, m112 (by rw [e]; exact h0) (by rw [e, bLen_1]; omega), kV_v, m113 (by rw [bapp_sz, e]; simp [be2]; omega) (by rw [bapp_sz, e, bLen_1]; simp [be2]; omega), kV_v, bapp_app]
  rfl
theorem m111_l {n : Int} {C : List Int} (h0 : 0 ≤ M 13 1 1) (h1 : M 13 1 1 + 2 + C.length + 4 ≤ 60000) : Tq 111 0 [vR 13 1, vI v] [] (lmid M n C) Q ↔ Q (.inl none) (lmid M n (C ++ be4 v)) := by
  rw [m111 (by rw [lmid_sz]; omega) (by rw [lmid_sz, bLen_1]; omega)]
  unfold lmid
  rw [bapp_app, List.append_assoc]
theorem m113_l {n : Int} {C : List Int} (h0 : 0 ≤ M 13 1 1) (h1 : M 13 1 1 + 2 + C.length + 1 ≤ 60000) : Tq 113 0 [vR 13 1, vI v] [] (lmid M n C) Q ↔ Q (.inl none) (lmid M n (C ++ [w8 v])) := by
  rw [m113 (by rw [lmid_sz]; omega) (by rw [lmid_sz, bLen_1]; omega)]
  unfold lmid
  rw [bapp_app, List.append_assoc]
theorem m122 {n : Int} {C : List Int} (h0 : 0 ≤ M 13 1 1) (h1 : M 13 1 1 + n + 6 ≤ 60000) (hn : n = C.length) (hr : 0 ≤ M 14 0 1) (hr2 : M 14 0 1 ≤ 60000) : Tq 122 0 [vR 14 0] [] (lmid M n C) Q ↔ Q (.inl none) (lgw M C) := by
  have e1 := lmid_sz (M := M) (n := n) (C := C)
  have e2 : lmid M n C 14 0 2 = n + 6 := by
    unfold lmid
    rw [bapp_2, if_neg (by simp), if_neg (by simp), mset_3, if_pos ⟨rfl, rfl, rfl⟩]
  have e3 : lmid M n C 13000 1 = ovl (M 13000 1) (M 13 1 1) (be2 n ++ C) := by
    unfold lmid
    rw [bapp_cells, mset_o (by simp), mset_3, if_neg (by simp)]
  rw [t122_0, e1, e2, w32_id (z := M 13 1 1 + 2 + C.length - (n + 6)) (by omega) (by omega), w32_id (by omega) (by omega), m115 (by omega) (by omega) (by rw [bLen_1]; omega), kI_v, e3]
  rw [show (M 13 1 1 + 2 + C.length - (M 13 1 1 + 2 + C.length - (n + 6) + 6)).toNat = C.length by omega, sumF_ovl (by simp [be2]; omega)]
  rw [m111 (by omega) (by rw [bLen_1]; omega), kV_v, bd_e]
  have e4 : bapp (lmid M n C) 1 (be4 (sumL C)) = bapp (mset M 14 0 2 (C.length + 6)) 1 (rowB C) := by
    unfold lmid rowB
    rw [bapp_app, hn]
  rw [e4]
  unfold lgw
  rw [bapp_2, if_neg (by simp), if_neg (by simp), mset_3, if_neg (by simp), w32_id (by omega) (by omega)]
theorem be4_len {v : Int} : (be4 v).length = 4 := rfl
theorem m124 {a : Int} (h0 : 0 ≤ M 13 1 1) (h1 : M 13 1 1 + 11 ≤ 60000) (hr : 0 ≤ M 14 0 1) (hr2 : M 14 0 1 ≤ 60000) : Tq 124 0 [vR 14 0, vI l, vI a] [] M Q ↔ Q (.inl none) (lgw M ([w8 l] ++ be4 a)) := by
  rw [t124_0, m121 h0 (by omega) (by decide) (by decide), kV_v, m111_l h0 (by simp; omega), kV_v, m122 h0 (by omega) (by simp [be4_len]) hr hr2, kV_v]
theorem m120 {a b : Int} (h0 : 0 ≤ M 13 1 1) (h1 : M 13 1 1 + 15 ≤ 60000) (hr : 0 ≤ M 14 0 1) (hr2 : M 14 0 1 ≤ 60000) : Tq 120 0 [vR 14 0, vI l, vI a, vI b] [] M Q ↔ Q (.inl none) (lgw M ([w8 l] ++ be4 a ++ be4 b)) := by
  rw [t120_0, m121 h0 (by omega) (by decide) (by decide), kV_v, m111_l h0 (by simp; omega), kV_v, m111_l h0 (by simp [be4_len]; omega), kV_v, m122 h0 (by omega) (by simp [be4_len]) hr hr2, kV_v]
theorem m123 {a b c : Int} (h0 : 0 ≤ M 13 1 1) (h1 : M 13 1 1 + 19 ≤ 60000) (hr : 0 ≤ M 14 0 1) (hr2 : M 14 0 1 ≤ 60000) : Tq 123 0 [vR 14 0, vI l, vI a, vI b, vI c] [] M Q ↔ Q (.inl none) (lgw M ([w8 l] ++ be4 a ++ be4 b ++ be4 c)) := by
  rw [t123_0, m121 h0 (by omega) (by decide) (by decide), kV_v, m111_l h0 (by simp; omega), kV_v, m111_l h0 (by simp [be4_len]; omega), kV_v, m111_l h0 (by simp [be4_len]; omega), kV_v, m122 h0 (by omega) (by simp [be4_len]) hr hr2, kV_v]
/-! the model's -/
def kmid (M : Mem) (C : List Int) : Mem := mset (movl M 22004 0 (M 22 0 5 + 2) C) 22 0 7 C.length
def kgw (M : Mem) (C : List Int) : Mem := mset (mset (mset (movl M 22004 0 (M 22 0 5) (rowB C)) 22 0 7 C.length) 22 0 5 (M 22 0 5 + C.length + 6)) 22 0 6 (M 22 0 6 + 1)
theorem kmid_s {C : List Int} {k : Int} (h : ¬ k = 7) : kmid M C 22 0 k = M 22 0 k := by
  unfold kmid
  rw [mset_3, if_neg (by simp [h]), movl_2, if_neg (by simp)]
theorem kmid_7 {C : List Int} : kmid M C 22 0 7 = C.length := by
  unfold kmid
  rw [mset_3, if_pos ⟨rfl, rfl, rfl⟩]
theorem m198 {n : Int} (h0 : 0 ≤ M 22 0 5) (h1 : M 22 0 5 ≤ 60000) (h2 : 0 ≤ n) (h3 : n ≤ 60000) : Tq 198 0 [vR 22 0, vI n] [] M Q ↔ Q (.inl (some (vI (b2i (M 22 0 5 + n + 6 ≤ 60000))))) M := by
  simp only [kI_v, kL_v, kV_v, kR_v, kX_n, kX_e, bd_e, b2i_e0, b2i_e1, b2i_nb, nb_0, nb_1, cmp_lt, cmp_le, cmp_gt, cmp_ge, cmp_eq, not_true_eq_false, not_false_eq_true, if_true, if_false, ite_true, ite_false, true_and, and_true, false_and, and_false, Int.reduceLT, Int.reduceLE, Int.reduceEq, Int.reduceSub, Int.reduceAdd, Int.reduceNeg, Int.reduceMul, Classical.not_not, Int.zero_add, Int.add_zero, Int.le_refl, t198_0, t198_1, t198_2]
  rw [w32_id (z := M 22 0 5 + n) (by omega) (by omega), w32_id (by omega) (by omega)]
  by_cases h : 60000 < M 22 0 5 + n + 6
  · rw [if_pos h, b2i_f (by omega)]
  · rw [if_neg h, b2i_t (by omega)]
theorem m200 (h0 : 0 ≤ M 22 0 5) (h1 : M 22 0 5 ≤ 60000) : Tq 200 0 [vR 22 0, vI l] [] M Q ↔ Q (.inl none) (kmid M [w8 l]) := by
  simp only [kI_v, kL_v, kV_v, kR_v, kX_n, kX_e, bd_e, b2i_e0, b2i_e1, b2i_nb, nb_0, nb_1, cmp_lt, cmp_le, cmp_gt, cmp_ge, cmp_eq, not_true_eq_false, not_false_eq_true, if_true, if_false, ite_true, ite_false, true_and, and_true, false_and, and_false, Int.reduceLT, Int.reduceLE, Int.reduceEq, Int.reduceSub, Int.reduceAdd, Int.reduceNeg, Int.reduceMul, Classical.not_not, Int.zero_add, Int.add_zero, Int.le_refl, t200_0, w8_w8]
  rw [w32_id (by omega) (by omega), mset_movl (f := 22004)]
  exact ⟨fun h => h.2, fun h => ⟨by omega, h⟩⟩
theorem m201 {C : List Int} (h0 : 0 ≤ M 22 0 5) (h1 : M 22 0 5 + 2 + C.length + 4 ≤ 61000) : Tq 201 0 [vR 22 0, vI v] [] (kmid M C) Q ↔ Q (.inl none) (kmid M (C ++ be4 v)) := by
  rw [t201_0, kmid_s (by decide), kmid_7, w32_id (z := M 22 0 5 + 2) (by omega) (by omega), w32_id (by omega) (by omega), m185_log (by omega) (by omega), kV_v, bd_e]
  have e : movl (kmid M C) 22004 0 (M 22 0 5 + 2 + C.length) (be4 v) = mset (movl M 22004 0 (M 22 0 5 + 2) (C ++ be4 v)) 22 0 7 C.length := by
    unfold kmid
    rw [← mset_movl_comm (by simp), movl_app rfl]
  rw [e]
  unfold kmid
  rw [mset_3, if_pos ⟨rfl, rfl, rfl⟩, mset_mset, w32_id (by omega) (by omega)]
  rw [show (((C ++ be4 v).length : Nat) : Int) = C.length + 4 by simp [be4_len]]
theorem m202 {C : List Int} (h0 : 0 ≤ M 22 0 5) (h1 : M 22 0 5 + C.length + 6 ≤ 60000) (hr : 0 ≤ M 22 0 6) (hr2 : M 22 0 6 ≤ 60000) : Tq 202 0 [vR 22 0] [] (kmid M C) Q ↔ Q (.inl none) (kgw M C) := by
  have e1 : movl (kmid M C) 22004 0 (M 22 0 5) (be2 C.length) = mset (movl M 22004 0 (M 22 0 5) (be2 C.length ++ C)) 22 0 7 C.length := by
    unfold kmid
    rw [← mset_movl_comm (by simp), movl_pre (by simp [be2])]
  rw [t202_0, kmid_s (by decide), kmid_7, m186_log (by omega) (by omega), kV_v, e1]
  have s5 : mset (movl M 22004 0 (M 22 0 5) (be2 C.length ++ C)) 22 0 7 C.length 22 0 5 = M 22 0 5 := by rw [mset_3, if_neg (by simp), movl_2, if_neg (by simp)]
  have s7 : mset (movl M 22004 0 (M 22 0 5) (be2 C.length ++ C)) 22 0 7 C.length 22 0 7 = C.length := by rw [mset_3, if_pos ⟨rfl, rfl, rfl⟩]
  have s6 : mset (movl M 22004 0 (M 22 0 5) (be2 C.length ++ C)) 22 0 7 C.length 22 0 6 = M 22 0 6 := by rw [mset_3, if_neg (by simp), movl_2, if_neg (by simp)]
  have sl : mset (movl M 22004 0 (M 22 0 5) (be2 C.length ++ C)) 22 0 7 C.length 22004 0 = ovl (M 22004 0) (M 22 0 5) (be2 C.length ++ C) := by rw [mset_o (by simp), movl_s]
  rw [s5, s7, w32_id (z := M 22 0 5 + 2) (by omega) (by omega), m203_log (by omega) (by omega) (by omega), kI_v, sl, Int.toNat_natCast, sumF_ovl (by simp [be2]), w32_id (by omega) (by omega), m185_log (by omega) (by omega), kV_v]
  have e2 : movl (mset (movl M 22004 0 (M 22 0 5) (be2 C.length ++ C)) 22 0 7 C.length) 22004 0 (M 22 0 5 + 2 + C.length) (be4 (sumL C)) = mset (movl M 22004 0 (M 22 0 5) (rowB C)) 22 0 7 C.length := by
    rw [← mset_movl_comm (by simp), movl_app (by simp [be2]; omega)]
    rfl
  rw [e2, bd_e, bd_e]
  have r5 : mset (movl M 22004 0 (M 22 0 5) (rowB C)) 22 0 7 C.length 22 0 5 = M 22 0 5 := by rw [mset_3, if_neg (by simp), movl_2, if_neg (by simp)]
  have r7 : mset (movl M 22004 0 (M 22 0 5) (rowB C)) 22 0 7 C.length 22 0 7 = C.length := by rw [mset_3, if_pos ⟨rfl, rfl, rfl⟩]
  have r6 : ∀ z, mset (mset (movl M 22004 0 (M 22 0 5) (rowB C)) 22 0 7 C.length) 22 0 5 z 22 0 6 = M 22 0 6 := fun z => by rw [mset_3, if_neg (by simp), mset_3, if_neg (by simp), movl_2, if_neg (by simp)]
  rw [r5, r7, r6, w32_id (z := C.length + 6) (by omega) (by omega), w32_id (z := M 22 0 5 + (C.length + 6)) (by omega) (by omega), w32_id (by omega) (by omega)]
  unfold kgw
  rw [Int.add_assoc (M 22 0 5)]
theorem m199 {n a b c d e : Int} (hn : 1 ≤ n) (hn2 : n ≤ 5) (h0 : 0 ≤ M 22 0 5) (h1 : M 22 0 5 + 4 * n + 7 ≤ 60000) (hr : 0 ≤ M 22 0 6) (hr2 : M 22 0 6 ≤ 60000) : Tq 199 0 [vR 22 0, vI l, vI n, vI a, vI b, vI c, vI d, vI e, vJ] [] M Q ↔ Q (.inl none) (kgw M ([w8 l] ++ (List.take n.toNat [a, b, c, d, e]).flatMap be4)) := by
  have w0 : w32 (0 + 1) = 1 := rfl
  have w1 : w32 (1 + 1) = 2 := rfl
  have w2 : w32 (2 + 1) = 3 := rfl
  have w3 : w32 (3 + 1) = 4 := rfl
  have w4 : w32 (4 + 1) = 5 := rfl
  rw [t199_0, m200 h0 (by omega), kV_v, t199_1, if_neg (by omega), if_neg (by decide), t199_6, m201 h0 (by simp; omega), kV_v, w0]
  by_cases n1 : n = 1
  · subst n1
    rw [t199_1, if_pos (by decide), t199_7, m202 h0 (by simp [be4_len]; omega) hr hr2, kV_v]
    rfl
  rw [t199_1, if_neg (by omega), if_pos (by decide), t199_2, if_neg (by decide), t199_6, m201 h0 (by simp [be4_len]; omega), kV_v, w1]
  by_cases n2 : n = 2
  · subst n2
    rw [t199_1, if_pos (by decide), t199_7, m202 h0 (by simp [be4_len]; omega) hr hr2, kV_v]
    rfl
  rw [t199_1, if_neg (by omega), if_pos (by decide), t199_2, if_pos (by decide), t199_3, if_neg (by decide), t199_6, m201 h0 (by simp [be4_len]; omega), kV_v, w2]
  by_cases n3 : n = 3
  · subst n3
    rw [t199_1, if_pos (by decide), t199_7, m202 h0 (by simp [be4_len]; omega) hr hr2, kV_v]
    rfl
  rw [t199_1, if_neg (by omega), if_pos (by decide), t199_2, if_pos (by decide), t199_3, if_pos (by decide), t199_4, if_neg (by decide), t199_6, m201 h0 (by simp [be4_len]; omega), kV_v, w3]
  by_cases n4 : n = 4
  · subst n4
    rw [t199_1, if_pos (by decide), t199_7, m202 h0 (by simp [be4_len]; omega) hr hr2, kV_v]
    rfl
  have n5 : n = 5 := by omega
  subst n5
  rw [t199_1, if_neg (by omega), if_pos (by decide), t199_2, if_pos (by decide), t199_3, if_pos (by decide), t199_4, if_pos (by decide), t199_5, t199_6, m201 h0 (by simp [be4_len]; omega), kV_v, w4]
  rw [t199_1, if_pos (by decide), t199_7, m202 h0 (by simp [be4_len]; omega) hr hr2, kV_v]
  rfl
end Logs
