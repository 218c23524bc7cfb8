/-! OPERATIONS: both sides one behind the other; THE TAPE -/
def Op2 (S1 S : Nat → Int → Int → Prop) (y : Nat) (as : List AV) (z : Nat) (bs : List AV) (M : Mem) (I : Mem → Prop) : Prop := Tq y 0 as [] M (kI fun v1 M1 => Fr S1 M M1 ∧ Tq z 0 bs [] M1 (kI fun v2 M2 => v1 = v2 ∧ Fr S M M2 ∧ I M2))
def Op2L (S1 S : Nat → Int → Int → Prop) (y : Nat) (as : List AV) (z : Nat) (bs : List AV) (M : Mem) (I : Mem → Prop) : Prop := Tq y 0 as [] M (kL fun v1 M1 => Fr S1 M M1 ∧ Tq z 0 bs [] M1 (kL fun v2 M2 => v1 = v2 ∧ Fr S M M2 ∧ I M2))
/-- nothing changes -/
def S0 (_ : Nat) (_ _ : Int) : Prop := False
theorem Fr.bapp {S : Nat → Int → Int → Prop} {M M' : Mem} {i : Int} {L : List Int} (h : Fr S M M') (h1 : S 13 i 1) (h2 : ∀ k, S 13000 i k) : Fr S M (bapp M' i L) := by
  intro f j k q
  rw [bapp_2]
  split
  · rename_i e
    obtain ⟨rfl, rfl⟩ := e
    rw [fup_at]
    split
    · rename_i e; subst e; exact absurd h1 q
    · exact h _ _ _ q
  · split
    · rename_i e
      obtain ⟨rfl, rfl⟩ := e
      exact absurd (h2 k) q
    · exact h _ _ _ q
theorem Fr.mrow {S : Nat → Int → Int → Prop} {M M' : Mem} {f : Nat} {i : Int} {g : Int → Int} (h : Fr S M M') (hs : ∀ k, S f i k) : Fr S M (mrow M' f i g) := by
  intro f' i' k q
  rw [mrow_2]
  split
  · rename_i e
    obtain ⟨rfl, rfl⟩ := e
    exact absurd (hs k) q
  · exact h _ _ _ q
theorem Fr.movl {S : Nat → Int → Int → Prop} {M M' : Mem} {f : Nat} {i a : Int} {L : List Int} (h : Fr S M M') (hs : ∀ k, S f i k) : Fr S M (movl M' f i a L) := Fr.mrow h hs
def ITp' (n n' : Int) (c c' : Int → Int) : Prop := n = n' ∧ 0 ≤ n ∧ n ≤ 400 ∧ ∀ k, 0 ≤ k → k < n → c k = c' k
def LITp (f : Nat) (i k : Int) : Prop := (f = 13 ∧ i = 0 ∧ k = 1) ∨ (f = 22 ∧ i = 0 ∧ k = 3) ∨ (f = 13000 ∧ i = 0) ∨ (f = 22099 ∧ i = 8)
def ITp (M : Mem) : Prop := ITp' (M 13 0 1) (M 22 0 3) (M 13000 0) (M 22099 8)
theorem ITp_cg {M M' : Mem} (h : ∀ f i k, LITp f i k → M' f i k = M f i k) (q : ITp M) : ITp M' := by
  have e0 : M' 13 0 1 = M 13 0 1 := h _ _ _ (by simp [LITp])
  have e1 : M' 22 0 3 = M 22 0 3 := h _ _ _ (by simp [LITp])
  have e2 : M' 13000 0 = M 13000 0 := by funext k; exact h _ _ _ (by simp [LITp])
  have e3 : M' 22099 8 = M 22099 8 := by funext k; exact h _ _ _ (by simp [LITp])
  unfold ITp
  rw [e0, e1, e2, e3]
  exact q
theorem ITp_fr {S : Nat → Int → Int → Prop} {M M' : Mem} (q : ITp M) (h : Fr S M M') (hs : ∀ f i k, LITp f i k → ¬ S f i k) : ITp M' := ITp_cg (fun f i k hl => h f i k (hs f i k hl)) q
def STpC (f : Nat) (i k : Int) : Prop := (f = 13 ∧ i = 0 ∧ k = 1) ∨ (f = 13000 ∧ i = 0)
def STp (f : Nat) (i k : Int) : Prop := LITp f i k
theorem STpC_le {M M' : Mem} (h : Fr STpC M M') : Fr STp M M' := h.mono (by simp only [STpC, STp, LITp]; omega)
section Tape
variable {M : Mem} {a b c d e n : Int}
theorem op_feed (h : ITp M) : Op2 STpC STp 23 [vR 1 0, vI a, vI b, vI c, vI d, vI e] 184 [vR 22 0, vI a, vI b, vI c, vI d, vI e] M ITp := by
  have hI := h
  obtain ⟨h1, h2, h3, h4⟩ := h
  unfold Op2
  rw [t23_0, w32_id (by omega) (by omega)]
  by_cases hf : M 13 0 1 + 20 ≤ 400
  · have s : ∀ L : List Int, bapp M 0 L 13 0 1 = M 13 0 1 + L.length := fun L => bapp_sz
    rw [if_pos hf, t23_1, m111 h2 (by rw [bLen_0]; omega), kV_v, m111 (by rw [s]; simp [be4_len]; omega) (by rw [s, bLen_0]; simp [be4_len]; omega), kV_v, bapp_app, m111 (by rw [s]; simp [be4_len]; omega) (by rw [s, bLen_0]; simp [be4_len]; omega), kV_v, bapp_app, m111 (by rw [s]; simp [be4_len]; omega) (by rw [s, bLen_0]; simp [be4_len]; omega), kV_v, bapp_app, m111 (by rw [s]; simp [be4_len]; omega) (by rw [s, bLen_0]; simp [be4_len]; omega), kV_v, bapp_app, kI_v, bapp_sz]
    have hl : (((be4 a ++ be4 b ++ be4 c ++ be4 d ++ be4 e).length : Nat) : Int) = 20 := rfl
    generalize hL : be4 a ++ be4 b ++ be4 c ++ be4 d ++ be4 e = L at hl
    have hF : Fr STpC M (bapp M 0 L) := Fr.bapp Fr.refl (Or.inl ⟨rfl, rfl, rfl⟩) (fun k => Or.inr ⟨rfl, rfl⟩)
    refine ⟨hF, ?_⟩
    have k3 : bapp M 0 L 22 0 3 = M 13 0 1 := by rw [bapp_2, if_neg (by simp), if_neg (by simp), h1]
    have kt : ∀ x L', movl (bapp M 0 L) 22099 8 x L' 22 0 3 = M 13 0 1 := fun x L' => by rw [movl_2, if_neg (by simp), k3]
    rw [t184_0, k3, w32_id (by omega) (by omega), if_pos hf, t184_1, k3, m185_row h2 (by omega), kV_v, kt, w32_id (by omega) (by omega), m185_row (by omega) (by omega), kV_v, movl_app (by simp [be4_len]), kt, w32_id (by omega) (by omega), m185_row (by omega) (by omega), kV_v, movl_app (by simp [be4_len]), kt, w32_id (by omega) (by omega), m185_row (by omega) (by omega), kV_v, movl_app (by simp [be4_len]), kt, w32_id (by omega) (by omega), m185_row (by omega) (by omega), kV_v, movl_app (by simp [be4_len]), kt, w32_id (by omega) (by omega), bd_e, kI_v, hL]
    have e1 : mset (movl (bapp M 0 L) 22099 8 (M 13 0 1) L) 22 0 3 (M 13 0 1 + 20) 22 0 3 = M 13 0 1 + 20 := by rw [mset_3, if_pos ⟨rfl, rfl, rfl⟩]
    refine ⟨by rw [e1, hl], Fr.mset (Fr.movl (STpC_le hF) (fun k => Or.inr (Or.inr (Or.inr ⟨rfl, rfl⟩)))) (Or.inr (Or.inl ⟨rfl, rfl, rfl⟩)), ?_⟩
    have e2 : mset (movl (bapp M 0 L) 22099 8 (M 13 0 1) L) 22 0 3 (M 13 0 1 + 20) 13 0 1 = M 13 0 1 + 20 := by rw [mset_3, if_neg (by simp), movl_2, if_neg (by simp), bapp_sz, hl]
    have e3 : mset (movl (bapp M 0 L) 22099 8 (M 13 0 1) L) 22 0 3 (M 13 0 1 + 20) 13000 0 = ovl (M 13000 0) (M 13 0 1) L := by rw [mset_o (by simp), movl_2, if_neg (by simp), bapp_cells]
    have e4 : mset (movl (bapp M 0 L) 22099 8 (M 13 0 1) L) 22 0 3 (M 13 0 1 + 20) 22099 8 = ovl (M 22099 8) (M 13 0 1) L := by rw [mset_o (by simp), movl_s, bapp_2, if_neg (by simp), if_neg (by simp)]
    unfold ITp
    rw [e1, e2, e3, e4]
    refine ⟨rfl, by omega, by omega, fun k q1 q2 => ?_⟩
    by_cases hk : k < M 13 0 1
    · rw [ovl_out (Or.inl hk), ovl_out (Or.inl hk)]
      exact h4 k q1 hk
    · rw [ovl_in (by omega) (by omega), ovl_in (by omega) (by omega)]
  · rw [if_neg hf, kI_v]
    refine ⟨Fr.refl, ?_⟩
    rw [t184_0, ← h1, w32_id (by omega) (by omega), if_neg hf, kI_v]
    exact ⟨rfl, Fr.refl, hI⟩
theorem op_cut (h : ITp M) : Op2 STpC STp 24 [vR 1 0, vI n, vJ] 187 [vR 22 0, vI n, vJ] M ITp := by
  have hI := h
  obtain ⟨h1, h2, h3, h4⟩ := h
  unfold Op2
  simp only [kI_v, kL_v, kV_v, kR_v, kX_n, kX_e, bd_e, b2i_e0, b2i_e1, b2i_nb, nb_0, nb_1, cmp_lt, cmp_le, cmp_gt, cmp_ge, cmp_eq, not_true_eq_false, not_false_eq_true, if_true, if_false, ite_true, ite_false, true_and, and_true, false_and, and_false, Int.reduceLT, Int.reduceLE, Int.reduceEq, Int.reduceSub, Int.reduceAdd, Int.reduceNeg, Int.reduceMul, Classical.not_not, Int.zero_add, Int.add_zero, Int.le_refl, t24_0, t24_1, t187_0, t187_1, t187_2, m25]
  by_cases hn : 0 ≤ n ∧ n ≤ M 13 0 1
  · rw [if_pos hn]
    refine ⟨Fr.mset Fr.refl (Or.inl ⟨rfl, rfl, rfl⟩), ?_⟩
    have k3 : mset M 13 0 1 n 22 0 3 = M 13 0 1 := by rw [mset_3, if_neg (by simp), h1]
    rw [k3, if_neg (by omega), if_pos hn.2]
    refine ⟨rfl, Fr.mset (Fr.mset Fr.refl (Or.inl ⟨rfl, rfl, rfl⟩)) (Or.inr (Or.inl ⟨rfl, rfl, rfl⟩)), ?_⟩
    unfold ITp
    rw [mset_3, if_neg (by simp), mset_3, if_pos ⟨rfl, rfl, rfl⟩, mset_3, if_pos ⟨rfl, rfl, rfl⟩, mset_o (by simp), mset_o (by simp), mset_o (by simp), mset_o (by simp)]
    exact ⟨rfl, hn.1, by omega, fun k q1 q2 => h4 k q1 (by omega)⟩
  · rw [if_neg hn]
    refine ⟨Fr.refl, ?_⟩
    by_cases hm : n < 0
    · rw [if_pos hm]
      exact ⟨Fr.refl, hI⟩
    · rw [if_neg hm, if_neg (by omega)]
      exact ⟨Fr.refl, hI⟩
theorem op_at (h : ITp M) : Op2 S0 S0 26 [vR 1 0, vI n] 188 [vR 22 0, vI n] M ITp := by
  have hI := h
  obtain ⟨h1, h2, h3, h4⟩ := h
  unfold Op2
  rw [t26_0, m114 (by rw [bLen_0]; omega), kI_v, kI_v]
  refine ⟨Fr.refl, ?_⟩
  simp only [kI_v, kL_v, kV_v, kR_v, kX_n, kX_e, bd_e, b2i_e0, b2i_e1, b2i_nb, nb_0, nb_1, cmp_lt, cmp_le, cmp_gt, cmp_ge, cmp_eq, not_true_eq_false, not_false_eq_true, if_true, if_false, ite_true, ite_false, true_and, and_true, false_and, and_false, Int.reduceLT, Int.reduceLE, Int.reduceEq, Int.reduceSub, Int.reduceAdd, Int.reduceNeg, Int.reduceMul, Classical.not_not, Int.zero_add, Int.add_zero, Int.le_refl, t188_0, t188_1, t188_2, m189, and255]
  rw [← h1, w32_id (by omega) (by omega)]
  unfold bat
  by_cases hn : 0 ≤ n ∧ n < M 13 0 1
  · rw [if_neg (by omega), if_pos hn]
    exact ⟨by omega, by rw [h4 n hn.1 hn.2], Fr.refl, hI⟩
  · rw [if_pos (by omega), if_neg hn]
    exact ⟨rfl, Fr.refl, hI⟩
end Tape
