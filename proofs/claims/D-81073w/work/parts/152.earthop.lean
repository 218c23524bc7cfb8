/-! EARTH: operations -/
def SEa (f : Nat) (i k : Int) : Prop := SEaC f i k ∨ SEaM f i k
/-- the last distance whose time is no more -/
def invF (T : Int → Int) (t : Int) : Nat → Int
  | 0 => -99999999
  | k + 1 => if T k ≤ t then k else invF T t k
def cea (M : Mem) (a b c : Int) : Mem := mset (mset (mset M 3000 0 a b) 3000 0 (16 + a) c) 3 0 6 1
def pea (P : Mem) (a b c : Int) : Mem := mset (mset P 22025 0 a b) 22025 0 (16 + a) c
section EarthOp
variable {M N P : Mem} {Q : AR → Mem → Prop} {ph x z t a b c : Int}
theorem CEa_R (hc : CEa M P) {N : Mem} (h : Fr SEaM M N) : CEa N P := CEa_fr hc h (fun f i k hl => by unfold LCEa at hl; unfold SEaM; omega)
theorem REa_C (hr : REa M P) {N : Mem} (h : Fr SEaC M N) : REa N P := REa_fr hr h (fun f i k hl => by unfold LREa at hl; unfold SEaC; omega)
theorem op_travel (hw : WEa P) (hc : CEa M P) (hr : REa M P) : Op2 SEaC SEa 58 [vR 1 0, vI ph, vI x, vI z] 310 [vR 22 0, vI ph, vI x, vI z] M (fun M2 => CEa M2 P ∧ REa M2 P) := by
  by_cases q : (0 ≤ ph ∧ ph ≤ 1) ∧ (0 ≤ x ∧ x ≤ 89) ∧ (0 ≤ z ∧ z ≤ 15)
  · obtain ⟨q1, q2, q3⟩ := q
    obtain ⟨M1, a1, a2, a3, a4, a5⟩ := m162 (ph := ph) (x := x) (z := z) hw hc (by omega) (by omega) (by omega)
    obtain ⟨M2, b1, b2, b3, b4, b5⟩ := m262 (ph := ph) (x := x) (z := z) hw (REa_C hr a1) (by omega) (by omega) (by omega)
    unfold Op2
    rw [t58_0, m25, kI_v, b2i_t q1, if_neg (by decide), m25, kI_v, b2i_t q2, if_neg (by decide), m25, kI_v, b2i_t q3, if_neg (by decide), a5, kI_v, t58_2, kI_v]
    refine ⟨a1, ?_⟩
    rw [t310_0, m189, kI_v, b2i_t q1, if_neg (by decide), m189, kI_v, b2i_t q2, if_neg (by decide), m189, kI_v, b2i_t q3, if_neg (by decide), b5, kI_v, t310_2, kI_v]
    exact ⟨rfl, (a1.mono (fun f i k h => Or.inl h)).trans (b1.mono (fun f i k h => Or.inr h)), CEa_R a2 b1, b2⟩
  · refine Op2_r (v := -1) (fun Q => ?_) (fun Q => ?_) ⟨hc, hr⟩
    · rw [t58_0, m25, kI_v, t58_1, t58_2]
      refine ifi (fun _ => Iff.rfl) (fun d1 => ?_)
      rw [m25, kI_v, t58_1, t58_2]
      refine ifi (fun _ => Iff.rfl) (fun d2 => ?_)
      rw [m25, kI_v, t58_1, t58_2]
      refine ifi (fun _ => Iff.rfl) (fun d3 => ?_)
      rw [b2i_e0] at d1 d2 d3
      omega
    · rw [t310_0, m189, kI_v, t310_1, t310_2]
      refine ifi (fun _ => Iff.rfl) (fun d1 => ?_)
      rw [m189, kI_v, t310_1, t310_2]
      refine ifi (fun _ => Iff.rfl) (fun d2 => ?_)
      rw [m189, kI_v, t310_1, t310_2]
      refine ifi (fun _ => Iff.rfl) (fun d3 => ?_)
      rw [b2i_e0] at d1 d2 d3
      omega
theorem m166_1 (hc : CEa M P) (h0 : M 3 0 6 = 0) (hp : ph = 0 ∨ ph = 1) (hz : 0 ≤ z ∧ z < 16) : ∀ (r d : Nat), d + r = 90 → (Tq 166 1 [vR 3 0, vI ph, vI t, vI z, vI (invF (fun x => trv P ph x z) t d), vI d] [] M Q ↔ Q (.inl (some (vI (invF (fun x => trv P ph x z) t 90)))) M) := by
  intro r
  induction r with
  | zero =>
    intro d hd
    rw [t166_1, if_pos (by omega), t166_4, show d = 90 by omega]
  | succ r ih =>
    intro d hd
    have nx := ih (d + 1) (by omega)
    have e : invF (fun x => trv P ph x z) t (d + 1) = if trv P ph d z ≤ t then (d : Int) else invF (fun x => trv P ph x z) t d := rfl
    rw [e, show ((d + 1 : Nat) : Int) = d + 1 by omega] at nx
    rw [t166_1, if_neg (by omega), m162n hc h0 hp (by omega) hz, kI_v, t166_2, t166_3, t166_3, w32_id (z := (d : Int) + 1) (by omega) (by omega)]
    by_cases q : trv P ph d z ≤ t
    · rw [if_neg (by omega)]
      rw [if_pos q] at nx
      exact nx
    · rw [if_pos (by omega)]
      rw [if_neg q] at nx
      exact nx
theorem m166 (hw : WEa P) (hc : CEa M P) (hp : ph = 0 ∨ ph = 1) (hz : 0 ≤ z ∧ z < 16) : ∃ M', Fr SEaC M M' ∧ CEa M' P ∧ ∀ Q : AR → Mem → Prop, (Tq 166 0 [vR 3 0, vI ph, vI t, vI z, vJ, vJ] [] M Q ↔ Q (.inl (some (vI (invF (fun x => trv P ph x z) t 90)))) M') := by
  obtain ⟨M', a1, a2, a3, a4, a5⟩ := m162 (ph := ph) (x := 0) (z := z) hw hc hp (by omega) hz
  refine ⟨M', a1, a2, fun Q => ?_⟩
  have nx := m166_1 (Q := Q) (t := t) a2 a3 hp hz 89 1 (by omega)
  have e : invF (fun x => trv P ph x z) t 1 = if trv P ph 0 z ≤ t then 0 else -99999999 := rfl
  rw [e, show ((1 : Nat) : Int) = 1 from rfl] at nx
  rw [t166_0, t166_1, if_neg (by decide), a5, kI_v, t166_2, t166_3, t166_3, w32_id (z := (0 : Int) + 1) (by omega) (by omega), Int.zero_add]
  by_cases q : trv P ph 0 z ≤ t
  · rw [if_neg (by omega)]
    rw [if_pos q] at nx
    exact nx
  · rw [if_pos (by omega)]
    rw [if_neg q] at nx
    exact nx
theorem m311_3 (hr : REa M P) (h0 : M 22 0 27 = 1) (hp : ph = 0 ∨ ph = 1) (hz : 0 ≤ z ∧ z < 16) : ∀ (d : Nat), d ≤ 90 → (Tq 311 3 [vR 22 0, vI ph, vI t, vI z, vI (d - 1)] [] M Q ↔ Q (.inl (some (vI (invF (fun x => trv P ph x z) t d)))) M) := by
  intro d
  induction d with
  | zero =>
    intro _
    rw [t311_3, if_pos (by omega), t311_5]
    rfl
  | succ d ih =>
    intro hd
    have nx := ih (by omega)
    have e : invF (fun x => trv P ph x z) t (d + 1) = if trv P ph d z ≤ t then (d : Int) else invF (fun x => trv P ph x z) t d := rfl
    rw [show ((d + 1 : Nat) : Int) - 1 = d by omega, t311_3, if_neg (by omega), m262n hr h0 hp (by omega) hz, kI_v, t311_4, w32_id (z := (d : Int) + -1) (by omega) (by omega), show (d : Int) + -1 = d - 1 by omega, nx, e]
    by_cases q : trv P ph d z ≤ t
    · rw [if_neg (by omega), if_pos q]
    · rw [if_pos (by omega), if_neg q]
theorem op_inverse (hw : WEa P) (hc : CEa M P) (hr : REa M P) : Op2 SEaC SEa 59 [vR 1 0, vI ph, vI t, vI z] 311 [vR 22 0, vI ph, vI t, vI z, vJ] M (fun M2 => CEa M2 P ∧ REa M2 P) := by
  by_cases q : (0 ≤ ph ∧ ph ≤ 1) ∧ (0 ≤ z ∧ z ≤ 15)
  · obtain ⟨q1, q3⟩ := q
    obtain ⟨M1, a1, a2, a5⟩ := m166 (ph := ph) (t := t) (z := z) hw hc (by omega) (by omega)
    have hr1 := REa_C hr a1
    obtain ⟨M2, b1, b2, b3, b4, b5⟩ := m262 (ph := ph) (x := 89) (z := z) hw hr1 (by omega) (by omega) (by omega)
    have run : ∀ Q : AR → Mem → Prop, (Tq 311 3 [vR 22 0, vI ph, vI t, vI z, vI 89] [] M1 Q ↔ Q (.inl (some (vI (invF (fun x => trv P ph x z) t 90)))) M2) := fun Q => by
      have nx := m311_3 (Q := Q) (t := t) b2 b3 (ph := ph) (z := z) (by omega) (by omega) 89 (by omega)
      have e : invF (fun x => trv P ph x z) t 90 = if trv P ph 89 z ≤ t then 89 else invF (fun x => trv P ph x z) t 89 := rfl
      rw [show ((89 : Nat) : Int) - 1 = 88 from rfl] at nx
      rw [t311_3, if_neg (by decide), b5, kI_v, t311_4, w32_id (z := (89 : Int) + -1) (by omega) (by omega), show (89 : Int) + -1 = 88 from rfl, nx, e]
      by_cases q : trv P ph 89 z ≤ t
      · rw [if_neg (by omega), if_pos q]
      · rw [if_pos (by omega), if_neg q]
    unfold Op2
    rw [t59_0, m25, kI_v, b2i_t q1, if_neg (by decide), m25, kI_v, b2i_t q3, if_neg (by decide), a5, kI_v, t59_2, kI_v]
    refine ⟨a1, ?_⟩
    rw [t311_0, m189, kI_v, b2i_t q1, if_neg (by decide), m189, kI_v, b2i_t q3, if_pos (by decide), t311_2, run, kI_v]
    exact ⟨rfl, (a1.mono (fun f i k h => Or.inl h)).trans (b1.mono (fun f i k h => Or.inr h)), CEa_R a2 b1, b2⟩
  · refine Op2_r (v := -1) (fun Q => ?_) (fun Q => ?_) ⟨hc, hr⟩
    · rw [t59_0, m25, kI_v, t59_1, t59_2]
      refine ifi (fun _ => Iff.rfl) (fun d1 => ?_)
      rw [m25, kI_v, t59_1, t59_2]
      refine ifi (fun _ => Iff.rfl) (fun d2 => ?_)
      rw [b2i_e0] at d1 d2
      omega
    · rw [t311_0, m189, kI_v, t311_1]
      refine ifi (fun _ => Iff.rfl) (fun d1 => ?_)
      rw [m189, kI_v, t311_1]
      rw [b2i_e0] at d1
      rw [if_neg (by rw [b2i_f (by omega)]; decide)]
theorem m161 (ha : 0 ≤ a ∧ a < 16) : Tq 161 0 [vR 3 0, vI a, vI b, vI c] [] M Q ↔ Q (.inl none) (cea M a b c) := by
  simp (disch := omega) only [kI_v, kL_v, kV_v, kR_v, kX_n, kX_e, bd_e, b2i_e0, b2i_e1, b2i_nb, nb_0, nb_1, cmp_lt, cmp_le, cmp_gt, cmp_ge, cmp_eq, not_true_eq_false, not_false_eq_true, if_true, if_false, ite_true, ite_false, true_and, and_true, false_and, and_false, Int.reduceLT, Int.reduceLE, Int.reduceEq, Int.reduceSub, Int.reduceAdd, Int.reduceNeg, Int.reduceMul, Classical.not_not, Int.zero_add, Int.add_zero, Int.le_refl, lt_T, lt_F, le_T, le_F, eq_T, eq_F, w32_id, ↓reduceIte, mset_3, Nat.reduceEqDiff, reduceCtorEq, and_self, t161_0]
  simp only [Int.reduceEq, false_or, true_and]
  rfl
theorem m57 (h0 : 0 ≤ M 13 1 1 ∧ M 13 1 1 ≤ 60000) (hr : 0 ≤ M 14 0 1 ∧ M 14 0 1 ≤ 60000) : Tq 57 0 [vR 1 0, vI a, vI b, vI c] [] M Q ↔ if ¬ ((0 ≤ a ∧ a ≤ 15) ∧ (1 ≤ b ∧ b ≤ 999) ∧ 1 ≤ c ∧ c ≤ 999) then Q (.inl (some (vI (-1)))) M else if 60000 < M 13 1 1 + 19 then Q (.inl (some (vI (-3)))) M else Q (.inl (some (vI 0))) (cea (lgw M (cont (68, [a, b, c]))) a b c) := by
  by_cases q : (0 ≤ a ∧ a ≤ 15) ∧ (1 ≤ b ∧ b ≤ 999) ∧ 1 ≤ c ∧ c ≤ 999
  · simp (disch := omega) only [kI_v, kL_v, kV_v, kR_v, kX_n, kX_e, bd_e, b2i_e0, b2i_e1, b2i_nb, nb_0, nb_1, cmp_lt, cmp_le, cmp_gt, cmp_ge, cmp_eq, not_true_eq_false, not_false_eq_true, if_true, if_false, ite_true, ite_false, true_and, and_true, false_and, and_false, Int.reduceLT, Int.reduceLE, Int.reduceEq, Int.reduceSub, Int.reduceAdd, Int.reduceNeg, Int.reduceMul, Classical.not_not, Int.zero_add, Int.add_zero, Int.le_refl, lt_T, lt_F, le_T, le_F, eq_T, eq_F, w32_id, ↓reduceIte, mset_3, Nat.reduceEqDiff, reduceCtorEq, and_self, t57_0, t57_1, t57_2, m25, m119]
    by_cases c2 : 60000 < M 13 1 1 + 19
    · simp (disch := omega) only [kI_v, kL_v, kV_v, kR_v, kX_n, kX_e, bd_e, b2i_e0, b2i_e1, b2i_nb, nb_0, nb_1, cmp_lt, cmp_le, cmp_gt, cmp_ge, cmp_eq, not_true_eq_false, not_false_eq_true, if_true, if_false, ite_true, ite_false, true_and, and_true, false_and, and_false, Int.reduceLT, Int.reduceLE, Int.reduceEq, Int.reduceSub, Int.reduceAdd, Int.reduceNeg, Int.reduceMul, Classical.not_not, Int.zero_add, Int.add_zero, Int.le_refl, lt_T, lt_F, le_T, le_F, eq_T, eq_F, w32_id, ↓reduceIte, mset_3, Nat.reduceEqDiff, reduceCtorEq, and_self, c2]
    · simp (disch := omega) only [kI_v, kL_v, kV_v, kR_v, kX_n, kX_e, bd_e, b2i_e0, b2i_e1, b2i_nb, nb_0, nb_1, cmp_lt, cmp_le, cmp_gt, cmp_ge, cmp_eq, not_true_eq_false, not_false_eq_true, if_true, if_false, ite_true, ite_false, true_and, and_true, false_and, and_false, Int.reduceLT, Int.reduceLE, Int.reduceEq, Int.reduceSub, Int.reduceAdd, Int.reduceNeg, Int.reduceMul, Classical.not_not, Int.zero_add, Int.add_zero, Int.le_refl, lt_T, lt_F, le_T, le_F, eq_T, eq_F, w32_id, ↓reduceIte, mset_3, Nat.reduceEqDiff, reduceCtorEq, and_self, c2, t57_3, m123, cont3]
      rw [m161 (by omega), kV_v]
  · simp only [kI_v, kL_v, kV_v, kR_v, kX_n, kX_e, bd_e, b2i_e0, b2i_e1, b2i_nb, nb_0, nb_1, cmp_lt, cmp_le, cmp_gt, cmp_ge, cmp_eq, not_true_eq_false, not_false_eq_true, if_true, if_false, ite_true, ite_false, true_and, and_true, false_and, and_false, Int.reduceLT, Int.reduceLE, Int.reduceEq, Int.reduceSub, Int.reduceAdd, Int.reduceNeg, Int.reduceMul, Classical.not_not, Int.zero_add, Int.add_zero, Int.le_refl, t57_0, t57_1, m25]
    rw [if_pos q]
    refine ifi (fun _ => Iff.rfl) (fun d1 => ifi (fun _ => Iff.rfl) (fun d2 => ?_))
    rw [if_neg (by omega)]
theorem m205 (h0 : 0 ≤ M 22 0 5 ∧ M 22 0 5 ≤ 60000) (hr : 0 ≤ M 22 0 6 ∧ M 22 0 6 ≤ 60000) : Tq 205 0 [vR 22 0, vI a, vI b, vI c] [] M Q ↔ if ¬ ((0 ≤ a ∧ a ≤ 15) ∧ (1 ≤ b ∧ b ≤ 999) ∧ 1 ≤ c ∧ c ≤ 999) then Q (.inl (some (vI (-1)))) M else if 60000 < M 22 0 5 + 19 then Q (.inl (some (vI (-3)))) M else Q (.inl (some (vI 0))) (kgw (mset (pea M a b c) 22 0 27 0) (cont (68, [a, b, c]))) := by
  by_cases q : (0 ≤ a ∧ a ≤ 15) ∧ (1 ≤ b ∧ b ≤ 999) ∧ 1 ≤ c ∧ c ≤ 999
  · simp (disch := omega) only [kI_v, kL_v, kV_v, kR_v, kX_n, kX_e, bd_e, b2i_e0, b2i_e1, b2i_nb, nb_0, nb_1, cmp_lt, cmp_le, cmp_gt, cmp_ge, cmp_eq, not_true_eq_false, not_false_eq_true, if_true, if_false, ite_true, ite_false, true_and, and_true, false_and, and_false, Int.reduceLT, Int.reduceLE, Int.reduceEq, Int.reduceSub, Int.reduceAdd, Int.reduceNeg, Int.reduceMul, Classical.not_not, Int.zero_add, Int.add_zero, Int.le_refl, lt_T, lt_F, le_T, le_F, eq_T, eq_F, w32_id, ↓reduceIte, mset_3, Nat.reduceEqDiff, reduceCtorEq, and_self, t205_0, t205_1, t205_2, m189, m198]
    by_cases c2 : 60000 < M 22 0 5 + 19
    · simp (disch := omega) only [kI_v, kL_v, kV_v, kR_v, kX_n, kX_e, bd_e, b2i_e0, b2i_e1, b2i_nb, nb_0, nb_1, cmp_lt, cmp_le, cmp_gt, cmp_ge, cmp_eq, not_true_eq_false, not_false_eq_true, if_true, if_false, ite_true, ite_false, true_and, and_true, false_and, and_false, Int.reduceLT, Int.reduceLE, Int.reduceEq, Int.reduceSub, Int.reduceAdd, Int.reduceNeg, Int.reduceMul, Classical.not_not, Int.zero_add, Int.add_zero, Int.le_refl, lt_T, lt_F, le_T, le_F, eq_T, eq_F, w32_id, ↓reduceIte, mset_3, Nat.reduceEqDiff, reduceCtorEq, and_self, c2]
    · simp (disch := omega) only [kI_v, kL_v, kV_v, kR_v, kX_n, kX_e, bd_e, b2i_e0, b2i_e1, b2i_nb, nb_0, nb_1, cmp_lt, cmp_le, cmp_gt, cmp_ge, cmp_eq, not_true_eq_false, not_false_eq_true, if_true, if_false, ite_true, ite_false, true_and, and_true, false_and, and_false, Int.reduceLT, Int.reduceLE, Int.reduceEq, Int.reduceSub, Int.reduceAdd, Int.reduceNeg, Int.reduceMul, Classical.not_not, Int.zero_add, Int.add_zero, Int.le_refl, lt_T, lt_F, le_T, le_F, eq_T, eq_F, w32_id, ↓reduceIte, mset_3, Nat.reduceEqDiff, reduceCtorEq, and_self, c2, t205_3]
      rw [m199 (by decide) (by decide) (by simp (disch := omega) only [kI_v, kL_v, kV_v, kR_v, kX_n, kX_e, bd_e, b2i_e0, b2i_e1, b2i_nb, nb_0, nb_1, cmp_lt, cmp_le, cmp_gt, cmp_ge, cmp_eq, not_true_eq_false, not_false_eq_true, if_true, if_false, ite_true, ite_false, true_and, and_true, false_and, and_false, Int.reduceLT, Int.reduceLE, Int.reduceEq, Int.reduceSub, Int.reduceAdd, Int.reduceNeg, Int.reduceMul, Classical.not_not, Int.zero_add, Int.add_zero, Int.le_refl, lt_T, lt_F, le_T, le_F, eq_T, eq_F, w32_id, ↓reduceIte, mset_3, Nat.reduceEqDiff, reduceCtorEq, and_self]) (by simp (disch := omega) only [kI_v, kL_v, kV_v, kR_v, kX_n, kX_e, bd_e, b2i_e0, b2i_e1, b2i_nb, nb_0, nb_1, cmp_lt, cmp_le, cmp_gt, cmp_ge, cmp_eq, not_true_eq_false, not_false_eq_true, if_true, if_false, ite_true, ite_false, true_and, and_true, false_and, and_false, Int.reduceLT, Int.reduceLE, Int.reduceEq, Int.reduceSub, Int.reduceAdd, Int.reduceNeg, Int.reduceMul, Classical.not_not, Int.zero_add, Int.add_zero, Int.le_refl, lt_T, lt_F, le_T, le_F, eq_T, eq_F, w32_id, ↓reduceIte, mset_3, Nat.reduceEqDiff, reduceCtorEq, and_self]) (by simp (disch := omega) only [kI_v, kL_v, kV_v, kR_v, kX_n, kX_e, bd_e, b2i_e0, b2i_e1, b2i_nb, nb_0, nb_1, cmp_lt, cmp_le, cmp_gt, cmp_ge, cmp_eq, not_true_eq_false, not_false_eq_true, if_true, if_false, ite_true, ite_false, true_and, and_true, false_and, and_false, Int.reduceLT, Int.reduceLE, Int.reduceEq, Int.reduceSub, Int.reduceAdd, Int.reduceNeg, Int.reduceMul, Classical.not_not, Int.zero_add, Int.add_zero, Int.le_refl, lt_T, lt_F, le_T, le_F, eq_T, eq_F, w32_id, ↓reduceIte, mset_3, Nat.reduceEqDiff, reduceCtorEq, and_self]) (by simp (disch := omega) only [kI_v, kL_v, kV_v, kR_v, kX_n, kX_e, bd_e, b2i_e0, b2i_e1, b2i_nb, nb_0, nb_1, cmp_lt, cmp_le, cmp_gt, cmp_ge, cmp_eq, not_true_eq_false, not_false_eq_true, if_true, if_false, ite_true, ite_false, true_and, and_true, false_and, and_false, Int.reduceLT, Int.reduceLE, Int.reduceEq, Int.reduceSub, Int.reduceAdd, Int.reduceNeg, Int.reduceMul, Classical.not_not, Int.zero_add, Int.add_zero, Int.le_refl, lt_T, lt_F, le_T, le_F, eq_T, eq_F, w32_id, ↓reduceIte, mset_3, Nat.reduceEqDiff, reduceCtorEq, and_self]), kV_v, contL (by decide)]
      simp only [Int.reduceEq, true_or, true_and]
      rfl
  · simp only [kI_v, kL_v, kV_v, kR_v, kX_n, kX_e, bd_e, b2i_e0, b2i_e1, b2i_nb, nb_0, nb_1, cmp_lt, cmp_le, cmp_gt, cmp_ge, cmp_eq, not_true_eq_false, not_false_eq_true, if_true, if_false, ite_true, ite_false, true_and, and_true, false_and, and_false, Int.reduceLT, Int.reduceLE, Int.reduceEq, Int.reduceSub, Int.reduceAdd, Int.reduceNeg, Int.reduceMul, Classical.not_not, Int.zero_add, Int.add_zero, Int.le_refl, t205_0, t205_1, m189]
    rw [if_pos q]
    refine ifi (fun _ => Iff.rfl) (fun d1 => ifi (fun _ => Iff.rfl) (fun d2 => ?_))
    rw [if_neg (by omega)]
theorem pea_25 : pea P a b c 22025 0 = fup (fup (P 22025 0) a b) (16 + a) c := by unfold pea; rw [mset_s, mset_s]
theorem CEa_d (h : CEa M P) : CEa (cea M a b c) (pea P a b c) := by
  obtain ⟨h1, h2, h3⟩ := h
  unfold CEa
  rw [pea_25]
  have e0 : cea M a b c 3 0 6 = 1 := by unfold cea; rw [mset_3, if_pos ⟨rfl, rfl, rfl⟩]
  have e1 : cea M a b c 3000 0 = fup (fup (M 3000 0) a b) (16 + a) c := by unfold cea; rw [mset_o (by simp), mset_s, mset_s]
  rw [e0, e1]
  refine ⟨fun k k1 k2 => ?_, Or.inr rfl, fun q => absurd q (by decide)⟩
  rw [fup_at, fup_at, fup_at, fup_at, h1 k k1 k2]
theorem REa_d (h : REa M P) : REa (mset (pea M a b c) 22 0 27 0) (pea P a b c) := by
  obtain ⟨h1, h2, h3⟩ := h
  unfold REa
  rw [pea_25]
  have e0 : mset (pea M a b c) 22 0 27 0 22 0 27 = 0 := by rw [mset_3, if_pos ⟨rfl, rfl, rfl⟩]
  have e1 : mset (pea M a b c) 22 0 27 0 22025 0 = fup (fup (M 22025 0) a b) (16 + a) c := by rw [mset_o (by simp), pea_25]
  rw [e0, e1]
  refine ⟨fun k k1 k2 => ?_, Or.inl rfl, fun q => absurd q (by decide)⟩
  rw [fup_at, fup_at, fup_at, fup_at, h1 k k1 k2]
theorem WEa_d (h : WEa P) (hb : 1 ≤ b ∧ b ≤ 999) (hc : 1 ≤ c ∧ c ≤ 999) : WEa (pea P a b c) := by
  unfold WEa
  rw [pea_25]
  intro k k1 k2
  rw [fup_at, fup_at]
  split
  · exact hc
  · split
    · exact hb
    · exact h k k1 k2
end EarthOp
