/-! WINDOWS: wave; what is known in a row -/
def akF (g : Int → Int) : Nat → Int → Int
  | 0, _ => 1
  | n + 1, a => if g a = 0 then 0 else akF g n (a + 1)
theorem akF_s {g : Int → Int} {n : Nat} {a : Int} : akF g (n + 1) a = if g a = 0 then 0 else akF g n (a + 1) := rfl
theorem akF_01 {g : Int → Int} : ∀ (n : Nat) (a : Int), akF g n a = 0 ∨ akF g n a = 1
  | 0, _ => Or.inr rfl
  | n + 1, a => by
    unfold akF
    split
    · exact Or.inl rfl
    · exact akF_01 n (a + 1)
theorem akF_cg {g g' : Int → Int} : ∀ (n : Nat) (a : Int), (∀ k, a ≤ k → k < a + n → g k = g' k) → akF g n a = akF g' n a
  | 0, _, _ => rfl
  | n + 1, a, h => by
    unfold akF
    rw [h a (by omega) (by omega), akF_cg n (a + 1) (fun k h1 h2 => h k (by omega) (by omega))]
theorem akF_all {g : Int → Int} : ∀ (n : Nat) (a : Int), akF g n a = 1 → ∀ k, a ≤ k → k < a + n → ¬ g k = 0
  | 0, _, _ => fun k h1 h2 => by omega
  | n + 1, a, h => by
    unfold akF at h
    split at h
    · cases h
    · rename_i hg
      intro k h1 h2
      by_cases hk : k = a
      · rw [hk]; exact hg
      · exact akF_all n (a + 1) h k (by omega) (by omega)
section Wave
variable {M P : Mem} {Q : AR → Mem → Prop} {s t k w x y l m n a b c d e : Int}
theorem and01 {a b : Int} (ha : a = 0 ∨ a = 1) (hb : b = 0 ∨ b = 1) : and32 a b = if a = 0 then 0 else b := by
  rcases ha with rfl | rfl <;> rcases hb with rfl | rfl <;> rfl
theorem m354_1 (hs : 0 ≤ s ∧ s < 12) (h0 : 0 ≤ a) (hn : 0 ≤ n) (h1 : a + n ≤ 4096) (hk : ∀ j, 0 ≤ j → j < 49152 → M 5004 0 j = 0 ∨ M 5004 0 j = 1) : ∀ (d : Nat) (t z : Int), a ≤ t → t + d = a + n → (z = 0 ∨ z = 1) → (Tq 354 1 [vR 5 0, vI s, vI a, vI n, vI z, vI t] [] M Q ↔ Q (.inl (some (vI (if z = 0 then 0 else akF (M 5004 0) d (s * 4096 + t))))) M) := by
  intro d
  induction d with
  | zero =>
    intro t z q1 q2 hz
    rw [t354_1, w32_id (z := a + n) (by omega) (by omega), if_pos (by omega), t354_2, nb_id hz]
    rcases hz with rfl | rfl <;> rfl
  | succ d ih =>
    intro t z q1 q2 hz
    have hb := hk (s * 4096 + t) (by omega) (by omega)
    rw [t354_1, w32_id (z := a + n) (by omega) (by omega), if_neg (by omega), m355 hs.1 hs.2 (by omega) (by omega), kI_v, nb_id hb, and01 hz hb, w32_id (z := t + 1) (by omega) (by omega), ih (t + 1) _ (by omega) (by omega) (by split; exact Or.inl rfl; exact hb)]
    have e : (if (if z = 0 then 0 else M 5004 0 (s * 4096 + t)) = 0 then 0 else akF (M 5004 0) d (s * 4096 + (t + 1))) = (if z = 0 then 0 else akF (M 5004 0) (d + 1) (s * 4096 + t)) := by
      rcases hz with rfl | rfl
      · rfl
      · rw [akF_s, show s * 4096 + (t + 1) = s * 4096 + t + 1 by omega]
        rfl
    rw [e]
theorem m354 (hs : 0 ≤ s ∧ s < 12) (h0 : 0 ≤ a) (hn : 0 ≤ n) (h1 : a + n ≤ 4096) (hk : ∀ j, 0 ≤ j → j < 49152 → M 5004 0 j = 0 ∨ M 5004 0 j = 1) : Tq 354 0 [vR 5 0, vI s, vI a, vI n, vJ, vJ] [] M Q ↔ Q (.inl (some (vI (akF (M 5004 0) n.toNat (s * 4096 + a))))) M := by
  rw [t354_0, m354_1 hs h0 hn h1 hk n.toNat a 1 (by omega) (by omega) (Or.inr rfl)]
  rfl
theorem m288_3 (hs : 0 ≤ s ∧ s < 12) (h0 : 0 ≤ a) (h1 : a + n ≤ 4096) : ∀ (d : Nat) (i : Int), 0 ≤ i → i + d = n → (Tq 288 3 [vR 22 0, vI w, vI s, vI a, vI n, vI i] [] M Q ↔ if akF (M 22012 0) d (s * 4096 + a + i) = 0 then Q (.inl (some (vI (-2)))) M else Tq 288 5 [vR 22 0, vI w, vI s, vI a, vI n, vJ] [] M Q) := by
  intro d
  induction d with
  | zero =>
    intro i q1 q2
    rw [t288_3, if_pos (by omega)]
    unfold akF
    rw [if_neg (by decide)]
  | succ d ih =>
    intro i q1 q2
    rw [t288_3, if_neg (by omega), w32_id (z := 4096 * s) (by omega) (by omega), w32_id (z := 4096 * s + a) (by omega) (by omega), w32_id (z := 4096 * s + a + i) (by omega) (by omega), Int.mul_comm 4096 s, t288_4, w32_id (z := i + 1) (by omega) (by omega), ih (i + 1) (by omega) (by omega)]
    refine andi (by omega) ?_
    rw [akF_s, show s * 4096 + a + (i + 1) = s * 4096 + a + i + 1 by omega]
    by_cases hz : M 22012 0 (s * 4096 + a + i) = 0
    · rw [if_neg (by simpa using hz), if_pos hz, if_pos rfl]
    · rw [if_pos hz, if_neg hz]
/-- n numbers of a row -/
def row (g : Int → Int) (a : Int) : Nat → List Int
  | 0 => []
  | n + 1 => row g a n ++ [g (a + n)]
theorem row_len {g : Int → Int} {a : Int} : ∀ n, (row g a n).length = n
  | 0 => rfl
  | n + 1 => by unfold row; rw [List.length_append, row_len n]; rfl
theorem row_get {g : Int → Int} {a : Int} : ∀ (n k : Nat), k < n → (row g a n).getD k 0 = g (a + k)
  | 0, k, h => by omega
  | n + 1, k, h => by
    unfold row
    rw [List.getD_eq_getElem?_getD]
    by_cases hk : k < n
    · rw [List.getElem?_append_left (by rw [row_len]; exact hk), ← List.getD_eq_getElem?_getD, row_get n k hk]
    · rw [List.getElem?_append_right (by rw [row_len]; omega), row_len, show k - n = 0 by omega, show k = n by omega]
      rfl
theorem row_mem {g : Int → Int} {a : Int} : ∀ (n : Nat) (v : Int), v ∈ row g a n → ∃ k : Nat, k < n ∧ v = g (a + k)
  | 0, v, h => by cases h
  | n + 1, v, h => by
    unfold row at h
    rcases List.mem_append.mp h with h | h
    · obtain ⟨k, h1, h2⟩ := row_mem n v h
      exact ⟨k, by omega, h2⟩
    · exact ⟨n, by omega, List.mem_singleton.mp h⟩
theorem m288_6 (hs : 0 ≤ s ∧ s < 12) (hw : 0 ≤ w ∧ w < 6) (h0 : 0 ≤ a) (h1 : a + n ≤ 4096) (hn : n ≤ 512) : ∀ (d i : Nat), (i : Int) + d = n → (Tq 288 6 [vR 22 0, vI w, vI s, vI a, vI n, vI i] [] (movl M 22021 0 (512 * w) (row (M 22013 0) (s * 4096 + a) i)) Q ↔ Tq 288 7 [vR 22 0, vI w, vI s, vI a, vI n, vJ] [] (movl M 22021 0 (512 * w) (row (M 22013 0) (s * 4096 + a) n.toNat)) Q) := by
  intro d
  induction d with
  | zero =>
    intro i q
    rw [t288_6, if_pos (by omega), show n.toNat = i by omega]
  | succ d ih =>
    intro i q
    rw [t288_6, if_neg (by omega), w32_id (z := 4096 * s) (by omega) (by omega), w32_id (z := 4096 * s + a) (by omega) (by omega), w32_id (z := 4096 * s + a + i) (by omega) (by omega), Int.mul_comm 4096 s, w32_id (z := 512 * w) (by omega) (by omega), w32_id (z := 512 * w + i) (by omega) (by omega), w32_id (z := (i : Int) + 1) (by omega) (by omega), movl_r (by decide), bd_e, mset_app (by rw [row_len])]
    refine andi (by omega) (andi (by omega) ?_)
    exact ih (i + 1) (by omega)
theorem op_wave (hw : WNet P) (hc : CNet M P) (hr : RNet M P) (hI : IWn M) (h3 : I32 x) (h4 : I32 n) : Op2 SWc SWn 39 [vR 1 0, vI w, vI s, vI x, vI n, vJ] 288 [vR 22 0, vI w, vI s, vI x, vI n, vJ] M IWn := by
  obtain ⟨⟨w1, w2⟩, w3, w4⟩ := hw
  obtain ⟨c1, c2, c3⟩ := hc
  obtain ⟨r1, r2, r3⟩ := hr
  by_cases hq : (0 ≤ w ∧ w ≤ 5) ∧ (0 ≤ s ∧ s < P 22 0 9) ∧ (0 ≤ x ∧ x ≤ 4095) ∧ (1 ≤ n ∧ n ≤ 512) ∧ x + n ≤ 4096
  · obtain ⟨q1, q2, q3, q4, q5⟩ := hq
    have hw6 : 0 ≤ w ∧ w < 6 := by omega
    have hs : 0 ≤ s ∧ s < 12 := by omega
    have g1 : ∀ {Q}, Tq 39 0 [vR 1 0, vI w, vI s, vI x, vI n, vJ] [] M Q ↔ Tq 39 2 [vR 1 0, vI w, vI s, vI x, vI n, vJ] [] M Q := by
      intro Q
      simp only [kI_v, kL_v, kV_v, kR_v, kX_n, kX_e, bd_e, b2i_e0, b2i_e1, b2i_nb, nb_0, nb_1, cmp_lt, cmp_le, cmp_gt, cmp_ge, cmp_eq, not_true_eq_false, not_false_eq_true, if_true, if_false, ite_true, ite_false, true_and, and_true, false_and, and_false, Int.reduceLT, Int.reduceLE, Int.reduceEq, Int.reduceSub, Int.reduceAdd, Int.reduceNeg, Int.reduceMul, Classical.not_not, Int.zero_add, Int.add_zero, Int.le_refl, t39_0, m40, m353 (M := M) (show 0 ≤ M 5 0 0 ∧ M 5 0 0 ≤ 12 by omega), m34, m25]
      rw [if_neg (show ¬ ¬ (0 ≤ w ∧ w ≤ 5) by omega), if_neg (show ¬ ¬ (0 ≤ s ∧ s < M 5 0 0) by omega), if_neg (show ¬ ¬ (0 ≤ x ∧ x ≤ 4095) by omega), if_neg (show ¬ ¬ (1 ≤ n ∧ n ≤ 512) by omega), w32_id (by omega) (by omega), if_pos q5]
    have g2 : ∀ {N Q}, N 22 0 9 = P 22 0 9 → (Tq 288 0 [vR 22 0, vI w, vI s, vI x, vI n, vJ] [] N Q ↔ Tq 288 2 [vR 22 0, vI w, vI s, vI x, vI n, vJ] [] N Q) := by
      intro N Q hN
      simp only [kI_v, kL_v, kV_v, kR_v, kX_n, kX_e, bd_e, b2i_e0, b2i_e1, b2i_nb, nb_0, nb_1, cmp_lt, cmp_le, cmp_gt, cmp_ge, cmp_eq, not_true_eq_false, not_false_eq_true, if_true, if_false, ite_true, ite_false, true_and, and_true, false_and, and_false, Int.reduceLT, Int.reduceLE, Int.reduceEq, Int.reduceSub, Int.reduceAdd, Int.reduceNeg, Int.reduceMul, Classical.not_not, Int.zero_add, Int.add_zero, Int.le_refl, t288_0, m289, m270 (M := N) (show 0 ≤ N 22 0 9 ∧ N 22 0 9 ≤ 12 by omega), m219, m189]
      rw [if_neg (show ¬ ¬ (0 ≤ w ∧ w ≤ 5) by omega), if_neg (show ¬ ¬ (0 ≤ s ∧ s < N 22 0 9) by omega), if_neg (show ¬ ¬ (0 ≤ x ∧ x ≤ 4095) by omega), if_neg (show ¬ ¬ (1 ≤ n ∧ n ≤ 512) by omega), w32_id (by omega) (by omega), if_pos q5]
    have hk : ∀ j, 0 ≤ j → j < 49152 → M 5004 0 j = 0 ∨ M 5004 0 j = 1 := fun j j1 j2 => by rw [(c3 j j1 j2).1]; exact (w4 j j1 j2).1
    have ek : akF (M 22012 0) n.toNat (s * 4096 + x) = akF (M 5004 0) n.toNat (s * 4096 + x) := akF_cg _ _ (fun k k1 k2 => by rw [(c3 k (by omega) (by omega)).1, (r3 k (by omega) (by omega)).1])
    unfold Op2
    rw [g1, t39_2, m354 hs q3.1 (by omega) q5 hk, kI_v]
    refine ifg (fun hz => ?_) (fun hz => ⟨Fr.refl, ?_⟩)
    · have h1k : akF (M 5004 0) n.toNat (s * 4096 + x) = 1 := by rcases akF_01 (g := M 5004 0) n.toNat (s * 4096 + x) with h | h; exact absurd h hz; exact h
      have hall := akF_all _ _ h1k
      have hsam : ∀ k, 0 ≤ k → k < n → M 5003 0 (s * 4096 + x + k) = M 22013 0 (s * 4096 + x + k) ∧ I32 (M 22013 0 (s * 4096 + x + k)) := fun k k1 k2 => by
        have hj := hall (s * 4096 + x + k) (by omega) (by omega)
        rw [(c3 _ (by omega) (by omega)).1] at hj
        have hw4 := w4 (s * 4096 + x + k) (by omega) (by omega)
        have h1 : P 22012 0 (s * 4096 + x + k) = 1 := by rcases hw4.1 with h | h; exact absurd h hj; exact h
        rw [(c3 _ (by omega) (by omega)).2 h1, (r3 _ (by omega) (by omega)).2 h1]
        exact ⟨rfl, hw4.2 h1⟩
      generalize hL : row (M 22013 0) (s * 4096 + x) n.toNat = L
      have l1 : (L.length : Int) = n := by rw [← hL, row_len]; omega
      have l2 : ∀ v ∈ L, I32 v := fun v hv => by
        rw [← hL] at hv
        obtain ⟨k, k1, k2⟩ := row_mem _ _ hv
        rw [k2]
        exact (hsam k (by omega) (by omega)).2
      simp only [kI_v, kL_v, kV_v, kR_v, kX_n, kX_e, bd_e, b2i_e0, b2i_e1, b2i_nb, nb_0, nb_1, cmp_lt, cmp_le, cmp_gt, cmp_ge, cmp_eq, not_true_eq_false, not_false_eq_true, if_true, if_false, ite_true, ite_false, true_and, and_true, false_and, and_false, Int.reduceLT, Int.reduceLE, Int.reduceEq, Int.reduceSub, Int.reduceAdd, Int.reduceNeg, Int.reduceMul, Classical.not_not, Int.zero_add, Int.add_zero, Int.le_refl, t39_3]
      rw [w32_id (z := s * 4096) (by omega) (by omega), w32_id (z := s * 4096 + x) (by omega) (by omega), mcpy_row]
      generalize hM1 : mset (mset (mset (mrow M 17000 w fun k => if 0 ≤ k ∧ k < 0 + n then M 5003 0 (s * 4096 + x + (k - 0)) else M 17000 w k) 17 w 2 n) 17 w 3 s) 17 w 4 x = M1
      have hF : Fr SWc M M1 := by
        rw [← hM1]
        exact Fr.mset (Fr.mset (Fr.mset (Fr.mrow Fr.refl (fun _ => Or.inr (Or.inl rfl))) (Or.inl rfl)) (Or.inl rfl)) (Or.inl rfl)
      have rr : ∀ f j, ¬ f = 17 → ¬ f = 17000 → M1 f j = M f j := fun f j h1 h2 => by
        rw [← hM1, mset_o (fun q => h1 q.1), mset_o (fun q => h1 q.1), mset_o (fun q => h1 q.1), mrow_2, if_neg (fun q => h2 q.1)]
      refine ⟨hw6, by omega, hF, ?_⟩
      have e6 := m288_6 (M := M1) (w := w) (Q := kI fun v2 M2 => n = v2 ∧ Fr SWn M M2 ∧ IWn M2) hs hw6 q3.1 q5 (by omega) n.toNat 0 (by omega)
      rw [show row (M1 22013 0) (s * 4096 + x) 0 = [] from rfl, movl_nil, rr 22013 0 (by decide) (by decide), hL] at e6
      rw [g2 (by rw [rr _ _ (by decide) (by decide)]; exact r1), t288_2, m288_3 hs q3.1 q5 n.toNat 0 (by omega) (by omega), Int.add_zero, rr 22012 0 (by decide) (by decide), ek, if_neg hz, t288_5]
      refine e6.mpr ?_
      simp only [kI_v, kL_v, kV_v, kR_v, kX_n, kX_e, bd_e, b2i_e0, b2i_e1, b2i_nb, nb_0, nb_1, cmp_lt, cmp_le, cmp_gt, cmp_ge, cmp_eq, not_true_eq_false, not_false_eq_true, if_true, if_false, ite_true, ite_false, true_and, and_true, false_and, and_false, Int.reduceLT, Int.reduceLE, Int.reduceEq, Int.reduceSub, Int.reduceAdd, Int.reduceNeg, Int.reduceMul, Classical.not_not, Int.zero_add, Int.add_zero, Int.le_refl, t288_7]
      refine ⟨hw6, hw6, hw6, Fr.mset (Fr.mset (Fr.mset (Fr.movl (SWc_le hF) (fun _ => by simp [SWn])) (by simp [SWn])) (by simp [SWn])) (by simp [SWn]), ?_⟩
      have q : ∀ f j, ¬ f = 22018 → ¬ f = 22019 → ¬ f = 22020 → ¬ f = 22021 → mset (mset (mset (movl M1 22021 0 (512 * w) L) 22018 0 w n) 22019 0 w s) 22020 0 w x f j = M1 f j := fun f j h1 h2 h3 h4 => by
        rw [mset_o (fun q => h3 q.1), mset_o (fun q => h2 q.1), mset_o (fun q => h1 q.1), movl_r h4]
      refine IWn_new (n' := n) (s' := s) (f' := x) hI hw6 q4 l1 l2 (Or.inr ⟨q2.1, by rw [show M 22 0 9 = P 22 0 9 from r1]; exact q2.2, q3.1, q5⟩) ?_ ?_ ?_ ?_ ?_ ?_ ?_ ?_ ?_ ?_ ?_
      · intro u hu
        rw [q _ _ (by decide) (by decide) (by decide) (by decide), ← hM1, mset_o (fun q => hu q.2), mset_o (fun q => hu q.2), mset_o (fun q => hu q.2), mrow_2, if_neg (by simp)]
      · rw [q _ _ (by decide) (by decide) (by decide) (by decide), ← hM1, mset_3, if_neg (by simp), mset_3, if_neg (by simp), mset_3, if_pos ⟨rfl, rfl, rfl⟩]
      · rw [q _ _ (by decide) (by decide) (by decide) (by decide), ← hM1, mset_3, if_neg (by simp), mset_3, if_pos ⟨rfl, rfl, rfl⟩]
      · rw [q _ _ (by decide) (by decide) (by decide) (by decide), ← hM1, mset_3, if_pos ⟨rfl, rfl, rfl⟩]
      · intro u
        rw [mset_o (by simp), mset_o (by simp), mset_s, movl_r (by decide), rr _ _ (by decide) (by decide), fup_at]
      · intro u
        rw [mset_o (by simp), mset_s, mset_o (by simp), movl_r (by decide), rr _ _ (by decide) (by decide), fup_at]
      · intro u
        rw [mset_s, mset_o (by simp), mset_o (by simp), movl_r (by decide), rr _ _ (by decide) (by decide), fup_at]
      · rw [q _ _ (by decide) (by decide) (by decide) (by decide), rr _ _ (by decide) (by decide)]
      · intro u hu
        rw [q _ _ (by decide) (by decide) (by decide) (by decide), ← hM1, mset_o (by simp), mset_o (by simp), mset_o (by simp), mrow_2, if_neg (fun q => hu q.2)]
      · intro k k1 k2
        rw [q _ _ (by decide) (by decide) (by decide) (by decide), ← hM1, mset_o (by simp), mset_o (by simp), mset_o (by simp), mrow_2, if_pos ⟨rfl, rfl⟩, if_pos (by omega), ← hL, row_get _ _ (by omega), Int.sub_zero, show ((k.toNat : Nat) : Int) = k by omega]
        exact (hsam k k1 k2).1
      · rw [mset_o (by simp), mset_o (by simp), mset_o (by simp), movl_s, rr _ _ (by decide) (by decide)]
    · rw [g2 r1, t288_2, m288_3 hs q3.1 q5 n.toNat 0 (by omega) (by omega), Int.add_zero, ek, if_pos (by omega), kI_v]
      exact ⟨rfl, Fr.refl, hI⟩
  · refine Op2_r (v := -1) (fun Q => ?_) (fun Q => ?_) hI
    · simp only [kI_v, kL_v, kV_v, kR_v, kX_n, kX_e, bd_e, b2i_e0, b2i_e1, b2i_nb, nb_0, nb_1, cmp_lt, cmp_le, cmp_gt, cmp_ge, cmp_eq, not_true_eq_false, not_false_eq_true, if_true, if_false, ite_true, ite_false, true_and, and_true, false_and, and_false, Int.reduceLT, Int.reduceLE, Int.reduceEq, Int.reduceSub, Int.reduceAdd, Int.reduceNeg, Int.reduceMul, Classical.not_not, Int.zero_add, Int.add_zero, Int.le_refl, t39_0, t39_1, m40, m353 (M := M) (show 0 ≤ M 5 0 0 ∧ M 5 0 0 ≤ 12 by omega), m34, m25]
      refine ifi (fun _ => Iff.rfl) (fun d1 => ifi (fun _ => Iff.rfl) (fun d2 => ifi (fun _ => Iff.rfl) (fun d3 => ifi (fun _ => Iff.rfl) (fun d4 => ?_))))
      rw [w32_id (by omega) (by omega), if_neg (by omega)]
    · simp only [kI_v, kL_v, kV_v, kR_v, kX_n, kX_e, bd_e, b2i_e0, b2i_e1, b2i_nb, nb_0, nb_1, cmp_lt, cmp_le, cmp_gt, cmp_ge, cmp_eq, not_true_eq_false, not_false_eq_true, if_true, if_false, ite_true, ite_false, true_and, and_true, false_and, and_false, Int.reduceLT, Int.reduceLE, Int.reduceEq, Int.reduceSub, Int.reduceAdd, Int.reduceNeg, Int.reduceMul, Classical.not_not, Int.zero_add, Int.add_zero, Int.le_refl, t288_0, t288_1, m289, m270 (M := M) (show 0 ≤ M 22 0 9 ∧ M 22 0 9 ≤ 12 by omega), m219, m189]
      refine ifi (fun _ => Iff.rfl) (fun d1 => ifi (fun _ => Iff.rfl) (fun d2 => ifi (fun _ => Iff.rfl) (fun d3 => ifi (fun _ => Iff.rfl) (fun d4 => ?_))))
      rw [w32_id (by omega) (by omega), if_neg (by omega)]
end Wave
