/-! STATIONS -/
/-- it ends with a value and changes nothing -/
def RtI (y b : Nat) (ls st : List AV) (M : Mem) (v : Int) : Prop := ∀ Q, Tq y b ls st M Q ↔ Q (.inl (some (vI v))) M
def RtL (y b : Nat) (ls st : List AV) (M : Mem) (v : Int) : Prop := ∀ Q, Tq y b ls st M Q ↔ Q (.inl (some (vL v))) M
theorem Op2_ret {y z : Nat} {as bs : List AV} {M : Mem} {I : Mem → Prop} {v : Int} (h1 : RtI y 0 as [] M v) (h2 : RtI z 0 bs [] M v) (hI : I M) : Op2 S0 S0 y as z bs M I := by
  unfold Op2
  rw [h1, kI_v]
  refine ⟨Fr.refl, ?_⟩
  rw [h2, kI_v]
  exact ⟨rfl, Fr.refl, hI⟩
theorem Op2L_ret {y z : Nat} {as bs : List AV} {M : Mem} {I : Mem → Prop} {v : Int} (h1 : RtL y 0 as [] M v) (h2 : RtL z 0 bs [] M v) (hI : I M) : Op2L S0 S0 y as z bs M I := by
  unfold Op2L
  rw [h1, kL_v]
  refine ⟨Fr.refl, ?_⟩
  rw [h2, kL_v]
  exact ⟨rfl, Fr.refl, hI⟩
def WNet' (n : Int) (x y s k : Int → Int) : Prop := (0 ≤ n ∧ n ≤ 12) ∧ (∀ j, 0 ≤ j → j < n → (0 ≤ x j ∧ x j ≤ 63) ∧ (0 ≤ y j ∧ y j ≤ 63)) ∧ (∀ j, 0 ≤ j → j < 49152 → (k j = 0 ∨ k j = 1) ∧ (k j = 1 → -2147483648 ≤ s j ∧ s j < 2147483648))
def CNet' (n : Int) (x y s k : Int → Int) (n' : Int) (x' y' s' k' : Int → Int) : Prop := n = n' ∧ (∀ j, 0 ≤ j → j < n' → x j = x' j ∧ y j = y' j) ∧ (∀ j, 0 ≤ j → j < 49152 → k j = k' j ∧ (k' j = 1 → s j = s' j))
def RNet' (n : Int) (x y s k : Int → Int) (n' : Int) (x' y' s' k' : Int → Int) : Prop := CNet' n x y s k n' x' y' s' k'
def LWNet (f : Nat) (i k : Int) : Prop := (f = 22 ∧ i = 0 ∧ k = 9) ∨ (f = 22010 ∧ i = 0) ∨ (f = 22011 ∧ i = 0) ∨ (f = 22013 ∧ i = 0) ∨ (f = 22012 ∧ i = 0)
def WNet (M : Mem) : Prop := WNet' (M 22 0 9) (M 22010 0) (M 22011 0) (M 22013 0) (M 22012 0)
theorem WNet_cg {M M' : Mem} (h : ∀ f i k, LWNet f i k → M' f i k = M f i k) (q : WNet M) : WNet M' := by
  have e0 : M' 22 0 9 = M 22 0 9 := h _ _ _ (by simp [LWNet])
  have e1 : M' 22010 0 = M 22010 0 := by funext k; exact h _ _ _ (by simp [LWNet])
  have e2 : M' 22011 0 = M 22011 0 := by funext k; exact h _ _ _ (by simp [LWNet])
  have e3 : M' 22013 0 = M 22013 0 := by funext k; exact h _ _ _ (by simp [LWNet])
  have e4 : M' 22012 0 = M 22012 0 := by funext k; exact h _ _ _ (by simp [LWNet])
  unfold WNet
  rw [e0, e1, e2, e3, e4]
  exact q
theorem WNet_fr {S : Nat → Int → Int → Prop} {M M' : Mem} (q : WNet M) (h : Fr S M M') (hs : ∀ f i k, LWNet f i k → ¬ S f i k) : WNet M' := WNet_cg (fun f i k hl => h f i k (hs f i k hl)) q
def LCNet (f : Nat) (i k : Int) : Prop := (f = 5 ∧ i = 0 ∧ k = 0) ∨ (f = 5001 ∧ i = 0) ∨ (f = 5002 ∧ i = 0) ∨ (f = 5003 ∧ i = 0) ∨ (f = 5004 ∧ i = 0)
def LPCNet (f : Nat) (i k : Int) : Prop := (f = 22 ∧ i = 0 ∧ k = 9) ∨ (f = 22010 ∧ i = 0) ∨ (f = 22011 ∧ i = 0) ∨ (f = 22013 ∧ i = 0) ∨ (f = 22012 ∧ i = 0)
def CNet (M P : Mem) : Prop := CNet' (M 5 0 0) (M 5001 0) (M 5002 0) (M 5003 0) (M 5004 0) (P 22 0 9) (P 22010 0) (P 22011 0) (P 22013 0) (P 22012 0)
theorem CNet_cg {M M' P P' : Mem} (h : ∀ f i k, LCNet f i k → M' f i k = M f i k) (h' : ∀ f i k, LPCNet f i k → P' f i k = P f i k) (q : CNet M P) : CNet M' P' := by
  have e0 : M' 5 0 0 = M 5 0 0 := h _ _ _ (by simp [LCNet])
  have e1 : M' 5001 0 = M 5001 0 := by funext k; exact h _ _ _ (by simp [LCNet])
  have e2 : M' 5002 0 = M 5002 0 := by funext k; exact h _ _ _ (by simp [LCNet])
  have e3 : M' 5003 0 = M 5003 0 := by funext k; exact h _ _ _ (by simp [LCNet])
  have e4 : M' 5004 0 = M 5004 0 := by funext k; exact h _ _ _ (by simp [LCNet])
  have e100 : P' 22 0 9 = P 22 0 9 := h' _ _ _ (by simp [LPCNet])
  have e101 : P' 22010 0 = P 22010 0 := by funext k; exact h' _ _ _ (by simp [LPCNet])
  have e102 : P' 22011 0 = P 22011 0 := by funext k; exact h' _ _ _ (by simp [LPCNet])
  have e103 : P' 22013 0 = P 22013 0 := by funext k; exact h' _ _ _ (by simp [LPCNet])
  have e104 : P' 22012 0 = P 22012 0 := by funext k; exact h' _ _ _ (by simp [LPCNet])
  unfold CNet
  rw [e0, e1, e2, e3, e4, e100, e101, e102, e103, e104]
  exact q
theorem CNet_fr {S : Nat → Int → Int → Prop} {M M' P : Mem} (q : CNet M P) (h : Fr S M M') (hs : ∀ f i k, LCNet f i k → ¬ S f i k) : CNet M' P := CNet_cg (fun f i k hl => h f i k (hs f i k hl)) (fun _ _ _ _ => rfl) q
theorem CNet_frP {S : Nat → Int → Int → Prop} {M P P' : Mem} (q : CNet M P) (h : Fr S P P') (hs : ∀ f i k, LPCNet f i k → ¬ S f i k) : CNet M P' := CNet_cg (fun _ _ _ _ => rfl) (fun f i k hl => h f i k (hs f i k hl)) q
def LRNet (f : Nat) (i k : Int) : Prop := (f = 22 ∧ i = 0 ∧ k = 9) ∨ (f = 22010 ∧ i = 0) ∨ (f = 22011 ∧ i = 0) ∨ (f = 22013 ∧ i = 0) ∨ (f = 22012 ∧ i = 0)
def LPRNet (f : Nat) (i k : Int) : Prop := (f = 22 ∧ i = 0 ∧ k = 9) ∨ (f = 22010 ∧ i = 0) ∨ (f = 22011 ∧ i = 0) ∨ (f = 22013 ∧ i = 0) ∨ (f = 22012 ∧ i = 0)
def RNet (M P : Mem) : Prop := RNet' (M 22 0 9) (M 22010 0) (M 22011 0) (M 22013 0) (M 22012 0) (P 22 0 9) (P 22010 0) (P 22011 0) (P 22013 0) (P 22012 0)
theorem RNet_cg {M M' P P' : Mem} (h : ∀ f i k, LRNet f i k → M' f i k = M f i k) (h' : ∀ f i k, LPRNet f i k → P' f i k = P f i k) (q : RNet M P) : RNet M' P' := by
  have e0 : M' 22 0 9 = M 22 0 9 := h _ _ _ (by simp [LRNet])
  have e1 : M' 22010 0 = M 22010 0 := by funext k; exact h _ _ _ (by simp [LRNet])
  have e2 : M' 22011 0 = M 22011 0 := by funext k; exact h _ _ _ (by simp [LRNet])
  have e3 : M' 22013 0 = M 22013 0 := by funext k; exact h _ _ _ (by simp [LRNet])
  have e4 : M' 22012 0 = M 22012 0 := by funext k; exact h _ _ _ (by simp [LRNet])
  have e100 : P' 22 0 9 = P 22 0 9 := h' _ _ _ (by simp [LPRNet])
  have e101 : P' 22010 0 = P 22010 0 := by funext k; exact h' _ _ _ (by simp [LPRNet])
  have e102 : P' 22011 0 = P 22011 0 := by funext k; exact h' _ _ _ (by simp [LPRNet])
  have e103 : P' 22013 0 = P 22013 0 := by funext k; exact h' _ _ _ (by simp [LPRNet])
  have e104 : P' 22012 0 = P 22012 0 := by funext k; exact h' _ _ _ (by simp [LPRNet])
  unfold RNet
  rw [e0, e1, e2, e3, e4, e100, e101, e102, e103, e104]
  exact q
theorem RNet_fr {S : Nat → Int → Int → Prop} {M M' P : Mem} (q : RNet M P) (h : Fr S M M') (hs : ∀ f i k, LRNet f i k → ¬ S f i k) : RNet M' P := RNet_cg (fun f i k hl => h f i k (hs f i k hl)) (fun _ _ _ _ => rfl) q
theorem RNet_frP {S : Nat → Int → Int → Prop} {M P P' : Mem} (q : RNet M P) (h : Fr S P P') (hs : ∀ f i k, LPRNet f i k → ¬ S f i k) : RNet M P' := RNet_cg (fun _ _ _ _ => rfl) (fun f i k hl => h f i k (hs f i k hl)) q
section Net
variable {M P : Mem} {Q : AR → Mem → Prop} {s t k w x y : Int}
theorem m353 (h : 0 ≤ M 5 0 0 ∧ M 5 0 0 ≤ 12) : Tq 353 0 [vR 5 0, vI s] [] M Q ↔ Q (.inl (some (vI (b2i (0 ≤ s ∧ s < M 5 0 0))))) M := by
  simp only [kI_v, kL_v, kV_v, kR_v, kX_n, kX_e, bd_e, b2i_e0, b2i_e1, b2i_nb, nb_0, nb_1, cmp_lt, cmp_le, cmp_gt, cmp_ge, cmp_eq, not_true_eq_false, not_false_eq_true, if_true, if_false, ite_true, ite_false, true_and, and_true, false_and, and_false, Int.reduceLT, Int.reduceLE, Int.reduceEq, Int.reduceSub, Int.reduceAdd, Int.reduceNeg, Int.reduceMul, Classical.not_not, Int.zero_add, Int.add_zero, Int.le_refl, t353_0, m25]
  rw [w32_id (by omega) (by omega), b2i_cg (show (0 ≤ s ∧ s ≤ M 5 0 0 - 1) ↔ (0 ≤ s ∧ s < M 5 0 0) by omega)]
theorem m270 (h : 0 ≤ M 22 0 9 ∧ M 22 0 9 ≤ 12) : Tq 270 0 [vR 22 0, vI s] [] M Q ↔ Q (.inl (some (vI (b2i (0 ≤ s ∧ s < M 22 0 9))))) M := by
  simp only [kI_v, kL_v, kV_v, kR_v, kX_n, kX_e, bd_e, b2i_e0, b2i_e1, b2i_nb, nb_0, nb_1, cmp_lt, cmp_le, cmp_gt, cmp_ge, cmp_eq, not_true_eq_false, not_false_eq_true, if_true, if_false, ite_true, ite_false, true_and, and_true, false_and, and_false, Int.reduceLT, Int.reduceLE, Int.reduceEq, Int.reduceSub, Int.reduceAdd, Int.reduceNeg, Int.reduceMul, Classical.not_not, Int.zero_add, Int.add_zero, Int.le_refl, t270_0, m189]
  rw [w32_id (by omega) (by omega), b2i_cg (show (0 ≤ s ∧ s ≤ M 22 0 9 - 1) ↔ (0 ≤ s ∧ s < M 22 0 9) by omega)]
theorem m355 (h1 : 0 ≤ s) (h2 : s < 12) (h3 : 0 ≤ t) (h4 : t < 4096) : Tq 355 0 [vR 5 0, vI s, vI t] [] M Q ↔ Q (.inl (some (vI (nb (M 5004 0 (s * 4096 + t)))))) M := by
  rw [t355_0, w32_id (z := s * 4096) (by omega) (by omega), w32_id (by omega) (by omega)]
  exact ⟨fun q => q.2, fun q => ⟨by omega, q⟩⟩
theorem op_known {I : Mem → Prop} (hw : WNet P) (hc : CNet M P) (hr : RNet M P) (hI : I M) : Op2 S0 S0 35 [vR 1 0, vI s, vI t] 269 [vR 22 0, vI s, vI t] M I := by
  obtain ⟨⟨w1, w2⟩, w3, w4⟩ := hw
  obtain ⟨c1, c2, c3⟩ := hc
  obtain ⟨r1, r2, r3⟩ := hr
  by_cases hb : (0 ≤ s ∧ s < P 22 0 9) ∧ (0 ≤ t ∧ t ≤ 4095)
  · obtain ⟨⟨a1, a2⟩, a3, a4⟩ := hb
    have ek := (c3 (s * 4096 + t) (by omega) (by omega)).1
    have er := (r3 (s * 4096 + t) (by omega) (by omega)).1
    have wk := (w4 (s * 4096 + t) (by omega) (by omega)).1
    refine Op2_ret (v := P 22012 0 (s * 4096 + t)) (fun Q => ?_) (fun Q => ?_) hI
    · simp only [kI_v, kL_v, kV_v, kR_v, kX_n, kX_e, bd_e, b2i_e0, b2i_e1, b2i_nb, nb_0, nb_1, cmp_lt, cmp_le, cmp_gt, cmp_ge, cmp_eq, not_true_eq_false, not_false_eq_true, if_true, if_false, ite_true, ite_false, true_and, and_true, false_and, and_false, Int.reduceLT, Int.reduceLE, Int.reduceEq, Int.reduceSub, Int.reduceAdd, Int.reduceNeg, Int.reduceMul, Classical.not_not, Int.zero_add, Int.add_zero, Int.le_refl, t35_0, t35_1, t35_2, t35_3, t35_4, m353 (M := M) (show 0 ≤ M 5 0 0 ∧ M 5 0 0 ≤ 12 by omega), m34]
      rw [if_neg (by omega), if_pos ⟨a3, a4⟩, m355 (by omega) (by omega) (by omega) (by omega), kI_v, ek, nb_id wk]
      rcases wk with e | e <;> rw [e] <;> rfl
    · simp only [kI_v, kL_v, kV_v, kR_v, kX_n, kX_e, bd_e, b2i_e0, b2i_e1, b2i_nb, nb_0, nb_1, cmp_lt, cmp_le, cmp_gt, cmp_ge, cmp_eq, not_true_eq_false, not_false_eq_true, if_true, if_false, ite_true, ite_false, true_and, and_true, false_and, and_false, Int.reduceLT, Int.reduceLE, Int.reduceEq, Int.reduceSub, Int.reduceAdd, Int.reduceNeg, Int.reduceMul, Classical.not_not, Int.zero_add, Int.add_zero, Int.le_refl, t269_0, t269_1, t269_2, t269_3, t269_4, m270 (M := M) (show 0 ≤ M 22 0 9 ∧ M 22 0 9 ≤ 12 by omega), m219]
      rw [if_neg (by omega), if_pos ⟨a3, a4⟩, w32_id (z := 4096 * s) (by omega) (by omega), w32_id (by omega) (by omega), Int.mul_comm 4096 s, er, and_iff_right (by omega)]
      rcases wk with e | e <;> rw [e] <;> rfl
  · refine Op2_ret (v := -1) (fun Q => ?_) (fun Q => ?_) hI
    · simp only [kI_v, kL_v, kV_v, kR_v, kX_n, kX_e, bd_e, b2i_e0, b2i_e1, b2i_nb, nb_0, nb_1, cmp_lt, cmp_le, cmp_gt, cmp_ge, cmp_eq, not_true_eq_false, not_false_eq_true, if_true, if_false, ite_true, ite_false, true_and, and_true, false_and, and_false, Int.reduceLT, Int.reduceLE, Int.reduceEq, Int.reduceSub, Int.reduceAdd, Int.reduceNeg, Int.reduceMul, Classical.not_not, Int.zero_add, Int.add_zero, Int.le_refl, t35_0, t35_1, t35_2, t35_3, t35_4, m353 (M := M) (show 0 ≤ M 5 0 0 ∧ M 5 0 0 ≤ 12 by omega), m34]
      by_cases h1 : ¬ (0 ≤ s ∧ s < M 5 0 0)
      · rw [if_pos h1]
      · rw [if_neg h1, if_neg (by omega)]
    · simp only [kI_v, kL_v, kV_v, kR_v, kX_n, kX_e, bd_e, b2i_e0, b2i_e1, b2i_nb, nb_0, nb_1, cmp_lt, cmp_le, cmp_gt, cmp_ge, cmp_eq, not_true_eq_false, not_false_eq_true, if_true, if_false, ite_true, ite_false, true_and, and_true, false_and, and_false, Int.reduceLT, Int.reduceLE, Int.reduceEq, Int.reduceSub, Int.reduceAdd, Int.reduceNeg, Int.reduceMul, Classical.not_not, Int.zero_add, Int.add_zero, Int.le_refl, t269_0, t269_1, t269_2, t269_3, t269_4, m270 (M := M) (show 0 ≤ M 22 0 9 ∧ M 22 0 9 ≤ 12 by omega), m219]
      by_cases h1 : ¬ (0 ≤ s ∧ s < M 22 0 9)
      · rw [if_pos h1]
      · rw [if_neg h1, if_neg (by omega)]
theorem op_sample {I : Mem → Prop} (hw : WNet P) (hc : CNet M P) (hr : RNet M P) (hI : I M) : Op2 S0 S0 36 [vR 1 0, vI s, vI t] 271 [vR 22 0, vI s, vI t] M I := by
  obtain ⟨⟨w1, w2⟩, w3, w4⟩ := hw
  obtain ⟨c1, c2, c3⟩ := hc
  obtain ⟨r1, r2, r3⟩ := hr
  by_cases hb : (0 ≤ s ∧ s < P 22 0 9) ∧ (0 ≤ t ∧ t ≤ 4095)
  · obtain ⟨⟨a1, a2⟩, a3, a4⟩ := hb
    obtain ⟨ek, es⟩ := c3 (s * 4096 + t) (by omega) (by omega)
    obtain ⟨er, et⟩ := r3 (s * 4096 + t) (by omega) (by omega)
    have wk := (w4 (s * 4096 + t) (by omega) (by omega)).1
    refine Op2_ret (v := if P 22012 0 (s * 4096 + t) = 0 then 0 else P 22013 0 (s * 4096 + t)) (fun Q => ?_) (fun Q => ?_) hI
    · simp only [kI_v, kL_v, kV_v, kR_v, kX_n, kX_e, bd_e, b2i_e0, b2i_e1, b2i_nb, nb_0, nb_1, cmp_lt, cmp_le, cmp_gt, cmp_ge, cmp_eq, not_true_eq_false, not_false_eq_true, if_true, if_false, ite_true, ite_false, true_and, and_true, false_and, and_false, Int.reduceLT, Int.reduceLE, Int.reduceEq, Int.reduceSub, Int.reduceAdd, Int.reduceNeg, Int.reduceMul, Classical.not_not, Int.zero_add, Int.add_zero, Int.le_refl, t36_0, t36_1, t36_2, m353 (M := M) (show 0 ≤ M 5 0 0 ∧ M 5 0 0 ≤ 12 by omega), m34]
      rw [if_neg (by omega), if_neg (by omega), m355 (by omega) (by omega) (by omega) (by omega), kI_v, ek, nb_id wk, w32_id (z := s * 4096) (by omega) (by omega), w32_id (by omega) (by omega)]
      by_cases e : P 22012 0 (s * 4096 + t) = 0
      · rw [if_pos e, if_pos e]
      · rw [if_neg e, if_neg e, es (by omega), and_iff_right (by omega)]
    · simp only [kI_v, kL_v, kV_v, kR_v, kX_n, kX_e, bd_e, b2i_e0, b2i_e1, b2i_nb, nb_0, nb_1, cmp_lt, cmp_le, cmp_gt, cmp_ge, cmp_eq, not_true_eq_false, not_false_eq_true, if_true, if_false, ite_true, ite_false, true_and, and_true, false_and, and_false, Int.reduceLT, Int.reduceLE, Int.reduceEq, Int.reduceSub, Int.reduceAdd, Int.reduceNeg, Int.reduceMul, Classical.not_not, Int.zero_add, Int.add_zero, Int.le_refl, t271_0, t271_1, t271_2, m270 (M := M) (show 0 ≤ M 22 0 9 ∧ M 22 0 9 ≤ 12 by omega), m219]
      rw [if_neg (by omega), if_neg (by omega), w32_id (z := 4096 * s) (by omega) (by omega), w32_id (by omega) (by omega), Int.mul_comm 4096 s, er, and_iff_right (by omega)]
      by_cases e : P 22012 0 (s * 4096 + t) = 0
      · rw [if_pos e, if_pos e]
      · rw [if_neg e, if_neg e, et (by omega), and_iff_right (by omega)]
  · refine Op2_ret (v := 0) (fun Q => ?_) (fun Q => ?_) hI
    · simp only [kI_v, kL_v, kV_v, kR_v, kX_n, kX_e, bd_e, b2i_e0, b2i_e1, b2i_nb, nb_0, nb_1, cmp_lt, cmp_le, cmp_gt, cmp_ge, cmp_eq, not_true_eq_false, not_false_eq_true, if_true, if_false, ite_true, ite_false, true_and, and_true, false_and, and_false, Int.reduceLT, Int.reduceLE, Int.reduceEq, Int.reduceSub, Int.reduceAdd, Int.reduceNeg, Int.reduceMul, Classical.not_not, Int.zero_add, Int.add_zero, Int.le_refl, t36_0, t36_1, t36_2, m353 (M := M) (show 0 ≤ M 5 0 0 ∧ M 5 0 0 ≤ 12 by omega), m34]
      by_cases h1 : ¬ (0 ≤ s ∧ s < M 5 0 0)
      · rw [if_pos h1]
      · rw [if_neg h1, if_pos (by omega)]
    · simp only [kI_v, kL_v, kV_v, kR_v, kX_n, kX_e, bd_e, b2i_e0, b2i_e1, b2i_nb, nb_0, nb_1, cmp_lt, cmp_le, cmp_gt, cmp_ge, cmp_eq, not_true_eq_false, not_false_eq_true, if_true, if_false, ite_true, ite_false, true_and, and_true, false_and, and_false, Int.reduceLT, Int.reduceLE, Int.reduceEq, Int.reduceSub, Int.reduceAdd, Int.reduceNeg, Int.reduceMul, Classical.not_not, Int.zero_add, Int.add_zero, Int.le_refl, t271_0, t271_1, t271_2, m270 (M := M) (show 0 ≤ M 22 0 9 ∧ M 22 0 9 ≤ 12 by omega), m219]
      by_cases h1 : ¬ (0 ≤ s ∧ s < M 22 0 9)
      · rw [if_pos h1]
      · rw [if_neg h1, if_pos (by omega)]
/-- gaps: both loops in step -/
theorem gap_loop (hs : 0 ≤ s ∧ s < 12) (he : ∀ j, 0 ≤ j → j < 49152 → M 5004 0 j = M 22012 0 j ∧ (M 5004 0 j = 0 ∨ M 5004 0 j = 1)) (hk : -2147483648 ≤ k ∧ k < 2147483648) : ∀ (n : Nat) (t l u f a : Int), 0 ≤ t → t + n = 4096 → 0 ≤ l → l = k - f → 0 ≤ f → f ≤ t → (u = -99999999 ∧ a = -99999999 ∨ u = a + 1 ∧ 0 ≤ a ∧ a < t) → ∃ v, RtI 357 1 [vR 5 0, vI s, vJ, vI w, vI l, vI u, vI t] [] M v ∧ RtI 272 3 [vR 22 0, vI s, vI k, vI w, vI f, vI a, vI t] [] M v := by
  intro n
  induction n with
  | zero =>
    intro t l u f a h1 h2 h3 h4 h5 h6 h7
    refine ⟨-99999999, fun Q => ?_, fun Q => ?_⟩
    · rw [t357_1, if_pos (by omega), t357_7]
    · rw [t272_3, if_pos (by omega), t272_9]
  | succ n ih =>
    intro t l u f a h1 h2 h3 h4 h5 h6 h7
    obtain ⟨e1, e2⟩ := he (s * 4096 + t) (by omega) (by omega)
    have st1 : ∀ Q, Tq 357 1 [vR 5 0, vI s, vJ, vI w, vI l, vI u, vI t] [] M Q ↔ _ := fun Q => t357_1
    have st2 : ∀ Q, Tq 272 3 [vR 22 0, vI s, vI k, vI w, vI f, vI a, vI t] [] M Q ↔ _ := fun Q => t272_3
    have b1 : ∀ Q, Tq 357 1 [vR 5 0, vI s, vJ, vI w, vI l, vI u, vI t] [] M Q ↔ (if M 5004 0 (s * 4096 + t) = 0 then Tq 357 1 [vR 5 0, vI s, vJ, vI w, vI l, vI u, vI (t + 1)] [] M Q else if u = -99999999 ∨ t ≤ u then Tq 357 1 [vR 5 0, vI s, vJ, vI w, vI l, vI (t + 1), vI (t + 1)] [] M Q else if ¬ l = 0 then Tq 357 1 [vR 5 0, vI s, vJ, vI w, vI (l - 1), vI (t + 1), vI (t + 1)] [] M Q else Q (.inl (some (vI (if w = 0 then u else t - u)))) M) := by
      intro Q
      rw [st1 Q, if_neg (by omega), if_neg (by omega), m355 hs.1 hs.2 (by omega) (by omega), kI_v, nb_id e2]
      simp only [kI_v, kL_v, kV_v, kR_v, kX_n, kX_e, bd_e, b2i_e0, b2i_e1, b2i_nb, nb_0, nb_1, cmp_lt, cmp_le, cmp_gt, cmp_ge, cmp_eq, not_true_eq_false, not_false_eq_true, if_true, if_false, ite_true, ite_false, true_and, and_true, false_and, and_false, Int.reduceLT, Int.reduceLE, Int.reduceEq, Int.reduceSub, Int.reduceAdd, Int.reduceNeg, Int.reduceMul, Classical.not_not, Int.zero_add, Int.add_zero, Int.le_refl, t357_2, t357_3, t357_4, t357_5, t357_6]
      rw [w32_id (z := t + 1) (by omega) (by omega), w32_id (z := l + -1) (by omega) (by omega)]
      by_cases c0 : M 5004 0 (s * 4096 + t) = 0
      · rw [if_pos c0, if_pos c0]
      · rw [if_neg c0, if_neg c0]
        by_cases c1 : u = -99999999
        · rw [if_pos c1, if_pos (Or.inl c1)]
        · by_cases c2 : t ≤ u
          · rw [if_neg c1, if_pos c2, if_pos (Or.inr c2)]
          · rw [if_neg c1, if_neg c2, if_neg (show ¬ (u = -99999999 ∨ t ≤ u) by omega)]
            by_cases c3 : l = 0
            · rw [if_neg (show ¬ ¬ l = 0 by omega), if_neg (show ¬ ¬ l = 0 by omega)]
              by_cases c4 : w = 0
              · rw [if_neg (show ¬ ¬ w = 0 by omega), if_pos c4]
              · rw [if_pos c4, if_neg c4, w32_id (by omega) (by omega)]
            · rw [if_pos c3, if_pos c3, show l + -1 = l - 1 by omega]
    have b2 : ∀ Q, Tq 272 3 [vR 22 0, vI s, vI k, vI w, vI f, vI a, vI t] [] M Q ↔ (if M 5004 0 (s * 4096 + t) = 0 then Tq 272 3 [vR 22 0, vI s, vI k, vI w, vI f, vI a, vI (t + 1)] [] M Q else if u = -99999999 ∨ t ≤ u then Tq 272 3 [vR 22 0, vI s, vI k, vI w, vI f, vI t, vI (t + 1)] [] M Q else if ¬ l = 0 then Tq 272 3 [vR 22 0, vI s, vI k, vI w, vI (f + 1), vI t, vI (t + 1)] [] M Q else Q (.inl (some (vI (if w = 0 then u else t - u)))) M) := by
      intro Q
      rw [st2 Q, if_neg (by omega), w32_id (z := 4096 * s) (by omega) (by omega), w32_id (by omega) (by omega), Int.mul_comm 4096 s, ← e1, and_iff_right (by omega)]
      simp only [kI_v, kL_v, kV_v, kR_v, kX_n, kX_e, bd_e, b2i_e0, b2i_e1, b2i_nb, nb_0, nb_1, cmp_lt, cmp_le, cmp_gt, cmp_ge, cmp_eq, not_true_eq_false, not_false_eq_true, if_true, if_false, ite_true, ite_false, true_and, and_true, false_and, and_false, Int.reduceLT, Int.reduceLE, Int.reduceEq, Int.reduceSub, Int.reduceAdd, Int.reduceNeg, Int.reduceMul, Classical.not_not, Int.zero_add, Int.add_zero, Int.le_refl, t272_4, t272_5, t272_6, t272_7, t272_8]
      rw [w32_id (z := t + 1) (by omega) (by omega), w32_id (z := f + 1) (by omega) (by omega), w32_id (z := a + 1) (by omega) (by omega)]
      by_cases c0 : M 5004 0 (s * 4096 + t) = 0
      · rw [if_pos c0, if_pos c0]
      · rw [if_neg c0, if_neg c0]
        by_cases c1 : u = -99999999
        · rw [if_pos (show a = -99999999 by omega), if_pos (Or.inl c1)]
        · by_cases c2 : t ≤ u
          · rw [if_neg (show ¬ a = -99999999 by omega), if_pos (show t ≤ a + 1 by omega), if_pos (Or.inr c2)]
          · rw [if_neg (show ¬ a = -99999999 by omega), if_neg (show ¬ t ≤ a + 1 by omega), if_neg (show ¬ (u = -99999999 ∨ t ≤ u) by omega)]
            by_cases c3 : l = 0
            · rw [if_neg (show ¬ ¬ f = k by omega), if_neg (show ¬ ¬ l = 0 by omega)]
              by_cases c4 : w = 0
              · rw [if_neg (show ¬ ¬ w = 0 by omega), if_pos c4, show u = a + 1 by omega]
              · rw [if_pos c4, if_neg c4, w32_id (z := t - a) (by omega) (by omega), w32_id (by omega) (by omega), show t - a - 1 = t - u by omega]
            · rw [if_pos (show ¬ f = k by omega), if_pos c3]
    by_cases c0 : M 5004 0 (s * 4096 + t) = 0
    · obtain ⟨v, v1, v2⟩ := ih (t + 1) l u f a (by omega) (by omega) h3 h4 h5 (by omega) (by omega)
      exact ⟨v, fun Q => by rw [b1, if_pos c0, v1], fun Q => by rw [b2, if_pos c0, v2]⟩
    · by_cases c1 : u = -99999999 ∨ t ≤ u
      · obtain ⟨v, v1, v2⟩ := ih (t + 1) l (t + 1) f t (by omega) (by omega) h3 h4 h5 (by omega) (by omega)
        exact ⟨v, fun Q => by rw [b1, if_neg c0, if_pos c1, v1], fun Q => by rw [b2, if_neg c0, if_pos c1, v2]⟩
      · by_cases c2 : l = 0
        · exact ⟨if w = 0 then u else t - u, fun Q => by rw [b1, if_neg c0, if_neg c1, if_neg (by simpa using c2)], fun Q => by rw [b2, if_neg c0, if_neg c1, if_neg (by simpa using c2)]⟩
        · obtain ⟨v, v1, v2⟩ := ih (t + 1) (l - 1) (t + 1) (f + 1) t (by omega) (by omega) (by omega) (by omega) (by omega) (by omega) (by omega)
          exact ⟨v, fun Q => by rw [b1, if_neg c0, if_neg c1, if_pos c2, v1], fun Q => by rw [b2, if_neg c0, if_neg c1, if_pos c2, v2]⟩
end Net
