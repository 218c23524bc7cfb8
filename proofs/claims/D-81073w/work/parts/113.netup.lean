/-! STATIONS: what rows S and R make of them -/
section NetUp
variable {M P N : Mem} {Q : AR → Mem → Prop} {x y l a b c d e s t n v : Int} {C : List Int} {f : Nat} {i k : Int}
theorem CNet_st (h : CNet M P) (h0 : 0 ≤ P 22 0 9) : CNet (cst M x y) (kst P x y) := by
  obtain ⟨h1, h2, h3⟩ := h
  have h1 : M 5 0 0 = P 22 0 9 := h1
  unfold CNet cst kst
  simp (disch := omega) only [kI_v, kL_v, kV_v, kR_v, kX_n, kX_e, bd_e, b2i_e0, b2i_e1, b2i_nb, nb_0, nb_1, cmp_lt, cmp_le, cmp_gt, cmp_ge, cmp_eq, not_true_eq_false, not_false_eq_true, if_true, if_false, ite_true, ite_false, true_and, and_true, false_and, and_false, Int.reduceLT, Int.reduceLE, Int.reduceEq, Int.reduceSub, Int.reduceAdd, Int.reduceNeg, Int.reduceMul, Classical.not_not, Int.zero_add, Int.add_zero, Int.le_refl, lt_T, lt_F, le_T, le_F, eq_T, eq_F, w32_id, ↓reduceIte, mset_3, Nat.reduceEqDiff, reduceCtorEq, and_self, mset_2, fup_at]
  refine ⟨by omega, fun j j1 j2 => ?_, h3⟩
  simp only [fup_at, h1]
  by_cases c : j = P 22 0 9
  · rw [if_pos c, if_pos c, if_pos c, if_pos c]
    exact ⟨rfl, rfl⟩
  · rw [if_neg c, if_neg c, if_neg c, if_neg c]
    exact h2 j j1 (by omega)
theorem RNet_st (h : RNet M P) (h0 : 0 ≤ P 22 0 9) : RNet (kst M x y) (kst P x y) := by
  obtain ⟨h1, h2, h3⟩ := h
  have h1 : M 22 0 9 = P 22 0 9 := h1
  unfold RNet kst
  simp (disch := omega) only [kI_v, kL_v, kV_v, kR_v, kX_n, kX_e, bd_e, b2i_e0, b2i_e1, b2i_nb, nb_0, nb_1, cmp_lt, cmp_le, cmp_gt, cmp_ge, cmp_eq, not_true_eq_false, not_false_eq_true, if_true, if_false, ite_true, ite_false, true_and, and_true, false_and, and_false, Int.reduceLT, Int.reduceLE, Int.reduceEq, Int.reduceSub, Int.reduceAdd, Int.reduceNeg, Int.reduceMul, Classical.not_not, Int.zero_add, Int.add_zero, Int.le_refl, lt_T, lt_F, le_T, le_F, eq_T, eq_F, w32_id, ↓reduceIte, mset_3, Nat.reduceEqDiff, reduceCtorEq, and_self, mset_2, fup_at]
  refine ⟨by omega, fun j j1 j2 => ?_, h3⟩
  simp only [fup_at, h1]
  by_cases c : j = P 22 0 9
  · rw [if_pos c, if_pos c, if_pos c, if_pos c]
    exact ⟨rfl, rfl⟩
  · rw [if_neg c, if_neg c, if_neg c, if_neg c]
    exact h2 j j1 (by omega)
theorem WNet_st (h : WNet P) (h0 : P 22 0 9 < 12) (hx : 0 ≤ x ∧ x ≤ 63 ∧ 0 ≤ y ∧ y ≤ 63) : WNet (kst P x y) := by
  obtain ⟨h1, h2, h3⟩ := h
  unfold WNet kst
  simp (disch := omega) only [kI_v, kL_v, kV_v, kR_v, kX_n, kX_e, bd_e, b2i_e0, b2i_e1, b2i_nb, nb_0, nb_1, cmp_lt, cmp_le, cmp_gt, cmp_ge, cmp_eq, not_true_eq_false, not_false_eq_true, if_true, if_false, ite_true, ite_false, true_and, and_true, false_and, and_false, Int.reduceLT, Int.reduceLE, Int.reduceEq, Int.reduceSub, Int.reduceAdd, Int.reduceNeg, Int.reduceMul, Classical.not_not, Int.zero_add, Int.add_zero, Int.le_refl, lt_T, lt_F, le_T, le_F, eq_T, eq_F, w32_id, ↓reduceIte, mset_3, Nat.reduceEqDiff, reduceCtorEq, and_self, mset_2, fup_at]
  refine ⟨by omega, fun j j1 j2 => ?_, h3⟩
  simp only [fup_at]
  by_cases c : j = P 22 0 9
  · rw [if_pos c, if_pos c]
    omega
  · rw [if_neg c, if_neg c]
    exact h2 j j1 (by omega)
/-- a sample comes -/
def ctk (M : Mem) (a v : Int) : Mem := if M 5004 0 a = 0 then mset (mset M 5004 0 a 1) 5003 0 a v else M
def ptk (P : Mem) (a v : Int) : Mem := if P 22012 0 a = 0 then mset (mset P 22012 0 a 1) 22013 0 a v else P
def kkp (M : Mem) (a v : Int) : Mem := mset (mset M 22013 0 a (if M 22012 0 a = 0 then v else M 22013 0 a)) 22012 0 a 1
def ctL (M : Mem) (a : Int) : List Int → Mem
  | [] => M
  | v :: L => ctL (ctk M a v) (a + 1) L
def ptL (M : Mem) (a : Int) : List Int → Mem
  | [] => M
  | v :: L => ptL (ptk M a v) (a + 1) L
def kkL (M : Mem) (a : Int) : List Int → Mem
  | [] => M
  | v :: L => kkL (kkp M a v) (a + 1) L
theorem CNet_tk (h : CNet M P) (hw : WNet P) : CNet (ctk M a v) (ptk P a v) := by
  obtain ⟨h1, h2, h3⟩ := h
  obtain ⟨w1, w2, w3⟩ := hw
  unfold ctk ptk
  by_cases hr : 0 ≤ a ∧ a < 49152
  · obtain ⟨e1, e2⟩ := h3 a hr.1 hr.2
    rw [e1]
    by_cases c : P 22012 0 a = 0
    · rw [if_pos c, if_pos c]
      unfold CNet
      simp (disch := omega) only [kI_v, kL_v, kV_v, kR_v, kX_n, kX_e, bd_e, b2i_e0, b2i_e1, b2i_nb, nb_0, nb_1, cmp_lt, cmp_le, cmp_gt, cmp_ge, cmp_eq, not_true_eq_false, not_false_eq_true, if_true, if_false, ite_true, ite_false, true_and, and_true, false_and, and_false, Int.reduceLT, Int.reduceLE, Int.reduceEq, Int.reduceSub, Int.reduceAdd, Int.reduceNeg, Int.reduceMul, Classical.not_not, Int.zero_add, Int.add_zero, Int.le_refl, lt_T, lt_F, le_T, le_F, eq_T, eq_F, w32_id, ↓reduceIte, mset_3, Nat.reduceEqDiff, reduceCtorEq, and_self, mset_2, fup_at]
      refine ⟨h1, h2, fun j j1 j2 => ?_⟩
      simp only [fup_at]
      by_cases cj : j = a
      · rw [if_pos cj, if_pos cj, if_pos cj, if_pos cj]
        exact ⟨rfl, fun _ => rfl⟩
      · rw [if_neg cj, if_neg cj, if_neg cj, if_neg cj]
        exact h3 j j1 j2
    · rw [if_neg c, if_neg c]
      exact ⟨h1, h2, h3⟩
  · have q : ∀ (A B : Mem), (A = M ∨ A = mset (mset M 5004 0 a 1) 5003 0 a v) → (B = P ∨ B = mset (mset P 22012 0 a 1) 22013 0 a v) → CNet A B := by
      intro A B hA hB
      rcases hA with rfl | rfl <;> rcases hB with rfl | rfl
      all_goals
        unfold CNet
        (try simp (disch := omega) only [kI_v, kL_v, kV_v, kR_v, kX_n, kX_e, bd_e, b2i_e0, b2i_e1, b2i_nb, nb_0, nb_1, cmp_lt, cmp_le, cmp_gt, cmp_ge, cmp_eq, not_true_eq_false, not_false_eq_true, if_true, if_false, ite_true, ite_false, true_and, and_true, false_and, and_false, Int.reduceLT, Int.reduceLE, Int.reduceEq, Int.reduceSub, Int.reduceAdd, Int.reduceNeg, Int.reduceMul, Classical.not_not, Int.zero_add, Int.add_zero, Int.le_refl, lt_T, lt_F, le_T, le_F, eq_T, eq_F, w32_id, ↓reduceIte, mset_3, Nat.reduceEqDiff, reduceCtorEq, and_self, mset_2, fup_at])
        refine ⟨h1, h2, fun j j1 j2 => ?_⟩
        have cj : ¬ j = a := by omega
        (try simp only [fup_at])
        (try simp (disch := omega) only [kI_v, kL_v, kV_v, kR_v, kX_n, kX_e, bd_e, b2i_e0, b2i_e1, b2i_nb, nb_0, nb_1, cmp_lt, cmp_le, cmp_gt, cmp_ge, cmp_eq, not_true_eq_false, not_false_eq_true, if_true, if_false, ite_true, ite_false, true_and, and_true, false_and, and_false, Int.reduceLT, Int.reduceLE, Int.reduceEq, Int.reduceSub, Int.reduceAdd, Int.reduceNeg, Int.reduceMul, Classical.not_not, Int.zero_add, Int.add_zero, Int.le_refl, lt_T, lt_F, le_T, le_F, eq_T, eq_F, w32_id, ↓reduceIte, mset_3, Nat.reduceEqDiff, reduceCtorEq, and_self, cj])
        exact h3 j j1 j2
    apply q
    · split
      · exact Or.inr rfl
      · exact Or.inl rfl
    · split
      · exact Or.inr rfl
      · exact Or.inl rfl
theorem RNet_kp (h : RNet M P) (hw : WNet P) (hr : 0 ≤ a ∧ a < 49152) : RNet (kkp M a v) (ptk P a v) := by
  obtain ⟨h1, h2, h3⟩ := h
  obtain ⟨w1, w2, w3⟩ := hw
  obtain ⟨e1, e2⟩ := h3 a hr.1 hr.2
  unfold kkp ptk
  rw [e1]
  by_cases c : P 22012 0 a = 0
  · rw [if_pos c, if_pos c]
    unfold RNet
    simp (disch := omega) only [kI_v, kL_v, kV_v, kR_v, kX_n, kX_e, bd_e, b2i_e0, b2i_e1, b2i_nb, nb_0, nb_1, cmp_lt, cmp_le, cmp_gt, cmp_ge, cmp_eq, not_true_eq_false, not_false_eq_true, if_true, if_false, ite_true, ite_false, true_and, and_true, false_and, and_false, Int.reduceLT, Int.reduceLE, Int.reduceEq, Int.reduceSub, Int.reduceAdd, Int.reduceNeg, Int.reduceMul, Classical.not_not, Int.zero_add, Int.add_zero, Int.le_refl, lt_T, lt_F, le_T, le_F, eq_T, eq_F, w32_id, ↓reduceIte, mset_3, Nat.reduceEqDiff, reduceCtorEq, and_self, mset_2, fup_at]
    refine ⟨h1, h2, fun j j1 j2 => ?_⟩
    simp only [fup_at]
    by_cases cj : j = a
    · rw [if_pos cj, if_pos cj, if_pos cj, if_pos cj]
      exact ⟨rfl, fun _ => rfl⟩
    · rw [if_neg cj, if_neg cj, if_neg cj, if_neg cj]
      exact h3 j j1 j2
  · rw [if_neg c, if_neg c]
    have c1 : P 22012 0 a = 1 := by rcases (w3 a hr.1 hr.2).1 with q | q; exact absurd q c; exact q
    unfold RNet
    simp (disch := omega) only [kI_v, kL_v, kV_v, kR_v, kX_n, kX_e, bd_e, b2i_e0, b2i_e1, b2i_nb, nb_0, nb_1, cmp_lt, cmp_le, cmp_gt, cmp_ge, cmp_eq, not_true_eq_false, not_false_eq_true, if_true, if_false, ite_true, ite_false, true_and, and_true, false_and, and_false, Int.reduceLT, Int.reduceLE, Int.reduceEq, Int.reduceSub, Int.reduceAdd, Int.reduceNeg, Int.reduceMul, Classical.not_not, Int.zero_add, Int.add_zero, Int.le_refl, lt_T, lt_F, le_T, le_F, eq_T, eq_F, w32_id, ↓reduceIte, mset_3, Nat.reduceEqDiff, reduceCtorEq, and_self, mset_2, fup_at]
    refine ⟨h1, h2, fun j j1 j2 => ?_⟩
    simp only [fup_at]
    by_cases cj : j = a
    · rw [if_pos cj, if_pos cj, cj]
      exact ⟨c1.symm, fun _ => e2 c1⟩
    · rw [if_neg cj, if_neg cj]
      exact h3 j j1 j2
theorem WNet_tk (hw : WNet P) (hv : I32 v) : WNet (ptk P a v) := by
  obtain ⟨w1, w2, w3⟩ := hw
  unfold ptk
  by_cases c : P 22012 0 a = 0
  · rw [if_pos c]
    unfold WNet
    simp (disch := omega) only [kI_v, kL_v, kV_v, kR_v, kX_n, kX_e, bd_e, b2i_e0, b2i_e1, b2i_nb, nb_0, nb_1, cmp_lt, cmp_le, cmp_gt, cmp_ge, cmp_eq, not_true_eq_false, not_false_eq_true, if_true, if_false, ite_true, ite_false, true_and, and_true, false_and, and_false, Int.reduceLT, Int.reduceLE, Int.reduceEq, Int.reduceSub, Int.reduceAdd, Int.reduceNeg, Int.reduceMul, Classical.not_not, Int.zero_add, Int.add_zero, Int.le_refl, lt_T, lt_F, le_T, le_F, eq_T, eq_F, w32_id, ↓reduceIte, mset_3, Nat.reduceEqDiff, reduceCtorEq, and_self, mset_2, fup_at]
    refine ⟨w1, w2, fun j j1 j2 => ?_⟩
    simp only [fup_at]
    by_cases cj : j = a
    · rw [if_pos cj, if_pos cj]
      exact ⟨Or.inr rfl, fun _ => hv⟩
    · rw [if_neg cj, if_neg cj]
      exact w3 j j1 j2
  · rw [if_neg c]
    exact ⟨w1, w2, w3⟩
theorem net_L : ∀ (L : List Int) (M N P : Mem) (a : Int), (∀ v ∈ L, I32 v) → 0 ≤ a → a + L.length ≤ 49152 → WNet P → WNet (ptL P a L) ∧ (CNet M P → CNet (ctL M a L) (ptL P a L)) ∧ (RNet N P → RNet (kkL N a L) (ptL P a L))
  | [], M, N, P, a, _, _, _, hw => ⟨hw, id, id⟩
  | v :: L, M, N, P, a, h1, h2, h3, hw => by
    rw [List.length_cons] at h3
    have := net_L L (ctk M a v) (kkp N a v) (ptk P a v) (a + 1) (fun u hu => h1 u (List.mem_cons_of_mem _ hu)) (by omega) (by omega) (WNet_tk hw (h1 v List.mem_cons_self))
    exact ⟨this.1, fun q => this.2.1 (CNet_tk q hw), fun q => this.2.2 (RNet_kp q hw (by omega))⟩
theorem ctk_fr : Fr (fun f _ _ => f = 5003 ∨ f = 5004) M (ctk M a v) := by
  unfold ctk
  split
  · exact Fr.mset (Fr.mset Fr.refl (by simp)) (by simp)
  · exact Fr.refl
theorem ctL_fr : ∀ (L : List Int) (M : Mem) (a : Int), Fr (fun f _ _ => f = 5003 ∨ f = 5004) M (ctL M a L)
  | [], _, _ => Fr.refl
  | v :: L, M, a => Fr.trans ctk_fr (ctL_fr L _ _)
theorem ptk_fr : Fr (fun f _ _ => f = 22012 ∨ f = 22013) M (ptk M a v) := by
  unfold ptk
  split
  · exact Fr.mset (Fr.mset Fr.refl (by simp)) (by simp)
  · exact Fr.refl
theorem ptL_fr : ∀ (L : List Int) (M : Mem) (a : Int), Fr (fun f _ _ => f = 22012 ∨ f = 22013) M (ptL M a L)
  | [], _, _ => Fr.refl
  | v :: L, M, a => Fr.trans ptk_fr (ptL_fr L _ _)
theorem kkp_fr : Fr (fun f _ _ => f = 22012 ∨ f = 22013) M (kkp M a v) := Fr.mset (Fr.mset Fr.refl (by simp)) (by simp)
theorem kkL_fr : ∀ (L : List Int) (M : Mem) (a : Int), Fr (fun f _ _ => f = 22012 ∨ f = 22013) M (kkL M a L)
  | [], _, _ => Fr.refl
  | v :: L, M, a => Fr.trans kkp_fr (kkL_fr L _ _)
theorem kkL_r {L : List Int} (h1 : ¬ f = 22012) (h2 : ¬ f = 22013) : kkL M a L f i = M f i := by
  funext k
  exact kkL_fr L M a f i k (by simp [h1, h2])
theorem ctL_r {L : List Int} (h1 : ¬ f = 5003) (h2 : ¬ f = 5004) : ctL M a L f i = M f i := by
  funext k
  exact ctL_fr L M a f i k (by simp [h1, h2])
/-- the model's row R -/
theorem kmid_kkp : kkp (kmid M C) a v = kmid (kkp M a v) C := by
  have e1 : kmid M C 22012 0 = M 22012 0 := by unfold kmid; rw [mset_o (by simp), movl_r (by decide)]
  have e2 : kmid M C 22013 0 = M 22013 0 := by unfold kmid; rw [mset_o (by simp), movl_r (by decide)]
  unfold kkp
  rw [e1, e2]
  generalize (if M 22012 0 a = 0 then v else M 22013 0 a) = z
  unfold kmid
  rw [show mset (mset M 22013 0 a z) 22012 0 a 1 22 0 5 = M 22 0 5 by rw [mset_3, if_neg (by simp), mset_3, if_neg (by simp)]]
  rw [← mset_movl_comm (by simp), ← mset_movl_comm (by simp)]
  funext f' i' k'
  simp only [mset_3]
  by_cases q1 : f' = 22
  · subst q1
    simp
  · simp [q1]
theorem m204_1 (hs : 0 ≤ s ∧ s < 12) (ht : 0 ≤ t) (htn : t + n ≤ 4096) (hn : n ≤ 56) : ∀ (L : List Int) (k : Int) (N : Mem) (C : List Int), 0 ≤ k → k + L.length = n → (∀ j : Nat, j < L.length → N 22017 0 (k + j) = L.getD j 0) → 0 ≤ N 22 0 5 → N 22 0 5 + 2 + C.length + 4 * L.length ≤ 61000 → (Tq 204 1 [vR 22 0, vI s, vI t, vI n, vI k, vJ] [] (kmid N C) Q ↔ Tq 204 4 [vR 22 0, vJ, vJ, vJ, vJ, vJ] [] (kmid (kkL N (4096 * s + t + k) L) (C ++ L.flatMap be4)) Q)
  | [], k, N, C, h1, h2, h3, h4, h5 => by
    rw [List.length_nil] at h2
    rw [t204_1, if_pos (by omega)]
    rw [List.flatMap_nil, List.append_nil]
    rfl
  | v :: L, k, N, C, h1, h2, h3, h4, h5 => by
    rw [List.length_cons] at h2 h5
    have hv := h3 0 (by simp)
    rw [show k + ((0 : Nat) : Int) = k by omega, List.getD_cons_zero] at hv
    have r : ∀ {C : List Int} {f : Nat} {i : Int}, ¬ f = 22 → ¬ f = 22004 → kmid N C f i = N f i := fun h1 h2 => by unfold kmid; rw [mset_o (fun q => h1 q.1), movl_r h2]
    have ih := m204_1 hs ht htn hn L (k + 1) (kkp N (4096 * s + t + k) v) (C ++ be4 v) (by omega) (by omega) (fun j hj => by
      have := h3 (j + 1) (by simp; omega)
      rw [List.getD_cons_succ, show k + ((j + 1 : Nat) : Int) = k + 1 + j by omega] at this
      rw [← this]
      exact kkp_fr _ _ _ (by simp)) (by rw [kkp_fr _ _ _ (by simp)]; exact h4) (by rw [kkp_fr _ _ _ (by simp), List.length_append, be4_len]; omega)
    have e5 : C ++ be4 v ++ L.flatMap be4 = C ++ (v :: L).flatMap be4 := by rw [List.flatMap_cons, List.append_assoc]
    rw [e5, show 4096 * s + t + (k + 1) = 4096 * s + t + k + 1 by omega] at ih
    show _ ↔ Tq 204 4 _ _ (kmid (kkL (kkp N (4096 * s + t + k) v) (4096 * s + t + k + 1) L) _) Q
    rw [← ih, ← kmid_kkp]
    unfold kkp
    rw [t204_1, if_neg (by omega), r (by decide) (by decide), hv, m201 h4 (by omega), kV_v, w32_id (z := 4096 * s) (by omega) (by omega), w32_id (z := 4096 * s + t) (by omega) (by omega), w32_id (z := 4096 * s + t + k) (by omega) (by omega), r (by decide) (by decide), r (by decide) (by decide)]
    have fin : ∀ z : Int, Tq 204 3 [vR 22 0, vI s, vI t, vI n, vI k, vI (4096 * s + t + k)] [vI z, vI (4096 * s + t + k), vR 22013 0] (kmid N (C ++ be4 v)) Q ↔ Tq 204 1 [vR 22 0, vI s, vI t, vI n, vI (k + 1), vJ] [] (mset (mset (kmid N (C ++ be4 v)) 22013 0 (4096 * s + t + k) z) 22012 0 (4096 * s + t + k) 1) Q := by
      intro z
      rw [t204_3, w32_id (z := k + 1) (by omega) (by omega)]
      exact andi (by omega) (andi (by omega) Iff.rfl)
    refine andi (by omega) (andi (by omega) ?_)
    by_cases c : N 22012 0 (4096 * s + t + k) = 0
    · rw [if_pos c, if_pos c, t204_2, r (by decide) (by decide), hv, fin]
      exact andi (by omega) Iff.rfl
    · rw [if_neg c, if_neg c, fin]
      exact andi (by omega) Iff.rfl
theorem m204 {L : List Int} (hs : 0 ≤ s ∧ s < 12) (ht : 0 ≤ t) (htn : t + n ≤ 4096) (hn : n ≤ 56) (hl : (L.length : Int) = n) (hc : ∀ j : Nat, j < L.length → M 22017 0 j = L.getD j 0) (h0 : 0 ≤ M 22 0 5) (h1 : M 22 0 5 + 19 + 4 * n ≤ 60000) (hr : 0 ≤ M 22 0 6 ∧ M 22 0 6 ≤ 60000) : Tq 204 0 [vR 22 0, vI s, vI t, vI n, vJ, vJ] [] M Q ↔ Q (.inl none) (kgw (kkL M (4096 * s + t) L) (cont (82, s :: t :: n :: L))) := by
  have hN : ∀ k, kkL M (4096 * s + t) L 22 0 k = M 22 0 k := fun k => by rw [kkL_r (by decide) (by decide)]
  rw [t204_0, m200 h0 (by omega), kV_v, m201 h0 (by simp; omega), kV_v, m201 h0 (by simp [be4_len]; omega), kV_v, m201 h0 (by simp [be4_len]; omega), kV_v, m204_1 hs ht htn hn L 0 M _ (by omega) (by omega) (fun j hj => by rw [Int.zero_add]; exact hc j hj) h0 (by simp [be4_len]; omega), t204_4, Int.add_zero, m202 (by rw [hN]; exact h0) (by rw [hN, List.length_append, fm4_len]; simp [be4_len]; omega) (by rw [hN]; exact hr.1) (by rw [hN]; exact hr.2), kV_v]
  rw [cont_N (by decide)]
  have : [w8 82] ++ be4 s ++ be4 t ++ be4 n ++ L.flatMap be4 = w8 82 :: (s :: t :: n :: L).flatMap be4 := by simp [List.flatMap_cons]
  rw [this]
end NetUp
