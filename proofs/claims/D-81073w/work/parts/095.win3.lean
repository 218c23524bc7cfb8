/-! WINDOWS: differ, filter -/
section Win3
variable {M N : Mem} {Q : AR → Mem → Prop} {s t k w x y l m n a b c d e : Int}
theorem cap_32 (x : Int) : I32 (cap x) := by have := cap_rng x; unfold I32; omega
theorem I32_app {L : List Int} {v : Int} (h : ∀ u ∈ L, I32 u) (hv : I32 v) : ∀ u ∈ L ++ [v], I32 u := by
  intro u hu
  rcases List.mem_append.mp hu with hu | hu
  · exact h u hu
  · rw [List.mem_singleton.mp hu]
    exact hv
theorem differ_loop (hw : 0 ≤ w ∧ w < 6) (hn : 0 ≤ n ∧ n ≤ 512) (hc : M 17 w 2 = n) : ∀ (d : Nat) (i : Int) (L : List Int), 1 ≤ i → (L.length : Int) = i → i + d = n → (∀ v ∈ L, I32 v) → ∃ L', (L'.length : Int) = n ∧ (∀ v ∈ L', I32 v) ∧ (∀ Q, Tq 140 1 [vR 17 w, vI i] [] (movl M 17001 w 0 L) Q ↔ Tq 140 2 [vR 17 w, vJ] [] (movl M 17001 w 0 L') Q) ∧ (∀ N, (∀ k, 0 ≤ k → k < n → M 17000 w k = N 22022 0 k) → ∀ Q, Tq 292 2 [vR 22 0, vI w, vI n, vI i] [] (movl N 22021 0 (512 * w) L) Q ↔ Tq 292 5 [vJ, vJ, vI n, vJ] [] (movl N 22021 0 (512 * w) L') Q) := by
  intro d
  induction d with
  | zero =>
    intro i L h0 h1 h2 h3
    refine ⟨L, by omega, h3, fun Q => ?_, fun N hx Q => ?_⟩
    · rw [t140_1, movl_r (by decide), hc, if_pos (by omega)]
    · rw [t292_2, if_pos (by omega)]
  | succ d ih =>
    intro i L h0 h1 h2 h3
    obtain ⟨L', l1, l2, l3, l4⟩ := ih (i + 1) (L ++ [cap (w64 (M 17000 w i - M 17000 w (i - 1)))]) (by omega) (by simp; omega) (by omega) (I32_app h3 (cap_32 _))
    refine ⟨L', l1, l2, fun Q => ?_, fun N hx Q => ?_⟩
    · rw [t140_1, movl_r (by decide), hc, if_neg (by omega), movl_r (by decide), w32_id (z := i - 1) (by omega) (by omega), m43, kI_v, bd_e, w32_id (z := i + 1) (by omega) (by omega), mset_app0 (by omega), l3]
      exact andi (by omega) (andi (by omega) (andi (by omega) Iff.rfl))
    · rw [t292_2, if_neg (by omega), if_pos (by omega), t292_3, movl_r (by decide), w32_id (z := i - 1) (by omega) (by omega), m293, kI_v, t292_4, bd_e, w32_id (z := i + 1) (by omega) (by omega), w32_id (z := 512 * w) (by omega) (by omega), w32_id (z := 512 * w + i) (by omega) (by omega), mset_app (by omega), ← hx i (by omega) (by omega), ← hx (i - 1) (by omega) (by omega), l4 N hx]
      exact andi (by omega) (andi (by omega) (andi (by omega) Iff.rfl))
theorem op_differ (hI : IWn M) : Op2 SWc SWn 42 [vR 1 0, vI w] 292 [vR 22 0, vI w, vJ, vJ] M IWn := by
  by_cases hb : 0 ≤ w ∧ w ≤ 5
  · unfold Op2
    obtain ⟨a1, a2, a3, a4, a5⟩ := hI w hb.1 (by omega)
    have hw : 0 ≤ w ∧ w < 6 := by omega
    simp only [kI_v, kL_v, kV_v, kR_v, kX_n, kX_e, bd_e, b2i_e0, b2i_e1, b2i_nb, nb_0, nb_1, cmp_lt, cmp_le, cmp_gt, cmp_ge, cmp_eq, not_true_eq_false, not_false_eq_true, if_true, if_false, ite_true, ite_false, true_and, and_true, false_and, and_false, Int.reduceLT, Int.reduceLE, Int.reduceEq, Int.reduceSub, Int.reduceAdd, Int.reduceNeg, Int.reduceMul, Classical.not_not, Int.zero_add, Int.add_zero, Int.le_refl, t42_0, t42_1, t42_2, m40]
    rw [if_pos hb, a1]
    refine ⟨hw, ifg (fun hz => ⟨hw, ?_⟩) (fun hz => ⟨Fr.refl, ?_⟩)⟩
    · obtain ⟨L, l1, l2, l3, l4⟩ := differ_loop (M := M) hw a2 a1 (M 22018 0 w - 1).toNat 1 [0] (by omega) (by simp) (by omega) (by simp [I32])
      simp only [kI_v, kL_v, kV_v, kR_v, kX_n, kX_e, bd_e, b2i_e0, b2i_e1, b2i_nb, nb_0, nb_1, cmp_lt, cmp_le, cmp_gt, cmp_ge, cmp_eq, not_true_eq_false, not_false_eq_true, if_true, if_false, ite_true, ite_false, true_and, and_true, false_and, and_false, Int.reduceLT, Int.reduceLE, Int.reduceEq, Int.reduceSub, Int.reduceAdd, Int.reduceNeg, Int.reduceMul, Classical.not_not, Int.zero_add, Int.add_zero, Int.le_refl, t140_0]
      rw [mset_movl, l3, t140_2, m139 a1 a2.1 a2.2 l1, kV_v, kV_v]
      refine ⟨mbec_fr, ?_⟩
      have e18 : mbec M w (M 22018 0 w) L 22018 0 = M 22018 0 := mbec_r (by decide) (by decide)
      have e21 : mbec M w (M 22018 0 w) L 22021 0 = M 22021 0 := mbec_r (by decide) (by decide)
      have l4 := l4 (masd (mbec M w (M 22018 0 w) L) w (M 22018 0 w)) (fun k q1 q2 => by rw [masd_b q1 q2, e21]; exact (a5 k q1 q2).1)
      simp only [kI_v, kL_v, kV_v, kR_v, kX_n, kX_e, bd_e, b2i_e0, b2i_e1, b2i_nb, nb_0, nb_1, cmp_lt, cmp_le, cmp_gt, cmp_ge, cmp_eq, not_true_eq_false, not_false_eq_true, if_true, if_false, ite_true, ite_false, true_and, and_true, false_and, and_false, Int.reduceLT, Int.reduceLE, Int.reduceEq, Int.reduceSub, Int.reduceAdd, Int.reduceNeg, Int.reduceMul, Classical.not_not, Int.zero_add, Int.add_zero, Int.le_refl, t292_0, t292_1, m289]
      rw [if_pos hb, m291 hw (by rw [e18]; exact a2), kI_v, e18, t292_2, if_neg (by omega), if_neg (show ¬ ¬ (0 : Int) = 0 by decide), t292_4, bd_e, w32_id (z := 512 * w) (by omega) (by omega), w32_id (z := 512 * w + 0) (by omega) (by omega), Int.add_zero, mset_movl, show w32 (0 + 1) = 1 from rfl, l4, t292_5, if_pos hz, t292_6, t292_7, kI_v]
      exact ⟨by omega, rfl, mwin_IWn hI hw rfl l1 l2⟩
    · simp only [kI_v, kL_v, kV_v, kR_v, kX_n, kX_e, bd_e, b2i_e0, b2i_e1, b2i_nb, nb_0, nb_1, cmp_lt, cmp_le, cmp_gt, cmp_ge, cmp_eq, not_true_eq_false, not_false_eq_true, if_true, if_false, ite_true, ite_false, true_and, and_true, false_and, and_false, Int.reduceLT, Int.reduceLE, Int.reduceEq, Int.reduceSub, Int.reduceAdd, Int.reduceNeg, Int.reduceMul, Classical.not_not, Int.zero_add, Int.add_zero, Int.le_refl, t292_0, t292_1, m289]
      rw [if_pos hb, m291 hw a2, kI_v, t292_2, if_pos (by omega), t292_5, if_neg hz, t292_7, kI_v]
      exact ⟨rfl, masd_IWn hI⟩
  · refine Op2_r (v := -1) (fun Q => ?_) (fun Q => ?_) hI
    · simp only [kI_v, kL_v, kV_v, kR_v, kX_n, kX_e, bd_e, b2i_e0, b2i_e1, b2i_nb, nb_0, nb_1, cmp_lt, cmp_le, cmp_gt, cmp_ge, cmp_eq, not_true_eq_false, not_false_eq_true, if_true, if_false, ite_true, ite_false, true_and, and_true, false_and, and_false, Int.reduceLT, Int.reduceLE, Int.reduceEq, Int.reduceSub, Int.reduceAdd, Int.reduceNeg, Int.reduceMul, Classical.not_not, Int.zero_add, Int.add_zero, Int.le_refl, t42_0, m40]
      rw [if_neg hb]
    · simp only [kI_v, kL_v, kV_v, kR_v, kX_n, kX_e, bd_e, b2i_e0, b2i_e1, b2i_nb, nb_0, nb_1, cmp_lt, cmp_le, cmp_gt, cmp_ge, cmp_eq, not_true_eq_false, not_false_eq_true, if_true, if_false, ite_true, ite_false, true_and, and_true, false_and, and_false, Int.reduceLT, Int.reduceLE, Int.reduceEq, Int.reduceSub, Int.reduceAdd, Int.reduceNeg, Int.reduceMul, Classical.not_not, Int.zero_add, Int.add_zero, Int.le_refl, t292_0, m289]
      rw [if_neg hb]
theorem w64_mod (z : Int) : w64 z % 18446744073709551616 = z % 18446744073709551616 := Int.bmod_emod
theorem w64_cg {a b : Int} (h : a % 18446744073709551616 = b % 18446744073709551616) : w64 a = w64 b := by
  unfold w64
  rw [← Int.emod_bmod, ← Int.emod_bmod (x := b)]
  show Int.bmod (a % 18446744073709551616) _ = Int.bmod (b % 18446744073709551616) _
  rw [h]
theorem w64_sub2 (v A B : Int) : w64 (v - w64 (A + B)) = w64 (w64 (v - A) - B) := by
  refine w64_cg ?_
  have h1 := w64_mod (A + B)
  have h2 := w64_mod (v - A)
  omega
theorem m142 {i : Int} (h : i < 512) : Tq 142 0 [vR 17 w, vI i] [] M Q ↔ Q (.inl (some (vI (if i < 0 then 0 else M 17000 w i)))) M := by
  simp only [kI_v, kL_v, kV_v, kR_v, kX_n, kX_e, bd_e, b2i_e0, b2i_e1, b2i_nb, nb_0, nb_1, cmp_lt, cmp_le, cmp_gt, cmp_ge, cmp_eq, not_true_eq_false, not_false_eq_true, if_true, if_false, ite_true, ite_false, true_and, and_true, false_and, and_false, Int.reduceLT, Int.reduceLE, Int.reduceEq, Int.reduceSub, Int.reduceAdd, Int.reduceNeg, Int.reduceMul, Classical.not_not, Int.zero_add, Int.add_zero, Int.le_refl, t142_0, t142_1, t142_2]
  refine ifi (fun d => ?_) (fun d => ?_)
  · rw [if_pos d]
  · rw [if_neg d]
    exact andi (by omega) Iff.rfl
theorem filter_loop (hw : 0 ≤ w ∧ w < 6) (hn : 0 ≤ n ∧ n ≤ 512) (hc : M 17 w 2 = n) : ∀ (f : Nat) (i y1 y2 : Int) (L : List Int), (L.length : Int) = i → i + f = n → (∀ v ∈ L, I32 v) → (i = 0 → y1 = 0) → (i ≤ 1 → y2 = 0) → (1 ≤ i → y1 = L.getD (i - 1).toNat 0) → (2 ≤ i → y2 = L.getD (i - 2).toNat 0) → ∃ L', (L'.length : Int) = n ∧ (∀ v ∈ L', I32 v) ∧ (∀ Q, Tq 141 1 [vR 17 w, vI a, vI b, vI c, vI d, vI e, vI i, vJ, vJ] [] (movl M 17001 w 0 L) Q ↔ Tq 141 6 [vR 17 w, vJ, vJ, vJ, vJ, vJ, vJ, vJ, vJ] [] (movl M 17001 w 0 L') Q) ∧ (∀ N, (∀ k, 0 ≤ k → k < n → M 17000 w k = N 22022 0 k) → ∀ Q, Tq 294 3 [vR 22 0, vI w, vI a, vI b, vI c, vI d, vI e, vI n, vL y1, vJ, vL y2, vJ, vI i, vJ, vJ, vJ, vJ, vJ] [] (movl N 22021 0 (512 * w) L) Q ↔ Tq 294 8 [vJ, vJ, vJ, vJ, vJ, vJ, vJ, vI n, vJ, vJ, vJ, vJ, vJ, vJ, vJ, vJ, vJ, vJ] [] (movl N 22021 0 (512 * w) L') Q) := by
  intro f
  induction f with
  | zero =>
    intro i y1 y2 L h1 h2 h3 g1 g2 g3 g4
    refine ⟨L, by omega, h3, fun Q => ?_, fun N hx Q => ?_⟩
    · rw [t141_1, movl_r (by decide), hc, if_pos (by omega)]
    · rw [t294_3, if_pos (by omega)]
  | succ f ih =>
    intro i y1 y2 L h1 h2 h3 g1 g2 g3 g4
    have hv := fun v : Int => (rfl : v = v)
    generalize hX1 : (if i < 1 then 0 else M 17000 w (i - 1)) = X1
    generalize hX2 : (if i < 2 then 0 else M 17000 w (i - 2)) = X2
    generalize hV : cap (shr64 (w64 (w64 (w64 (w64 (w64 (a * M 17000 w i) + w64 (b * X1)) + w64 (c * X2)) - w64 (d * y1)) - w64 (e * y2))) 14) = V
    obtain ⟨L', l1, l2, l3, l4⟩ := ih (i + 1) V y1 (L ++ [V]) (by simp; omega) (by omega) (I32_app h3 (by rw [← hV]; exact cap_32 _)) (by omega) (fun q => g1 (by omega)) (fun _ => by
        rw [show (i + 1 - 1).toNat = L.length by omega, List.getD_eq_getElem?_getD, List.getElem?_append_right (by omega)]
        simp) (fun _ => by
        rw [g3 (by omega), show (i + 1 - 2).toNat = (i - 1).toNat by omega, List.getD_eq_getElem?_getD, List.getD_eq_getElem?_getD, List.getElem?_append_left (by omega)])
    refine ⟨L', l1, l2, fun Q => ?_, fun N hx Q => ?_⟩
    · have e1 : (if i - 1 < 0 then 0 else movl M 17001 w 0 L 17000 w (i - 1)) = X1 := by
        rw [movl_r (by decide), ← hX1]
        by_cases hi : i < 1
        · rw [if_pos hi, if_pos (by omega)]
        · rw [if_neg hi, if_neg (by omega)]
      have e2 : (if i - 2 < 0 then 0 else movl M 17001 w 0 L 17000 w (i - 2)) = X2 := by
        rw [movl_r (by decide), ← hX2]
        by_cases hi : i < 2
        · rw [if_pos hi, if_pos (by omega)]
        · rw [if_neg hi, if_neg (by omega)]
      have fin : ∀ A B : Int, A = w64 (d * y1) → B = w64 (e * y2) → (Tq 141 5 [vR 17 w, vI a, vI b, vI c, vI d, vI e, vI i, vJ, vJ] [vL B, vL A, vL (w64 (w64 (w64 (a * M 17000 w i) + w64 (b * X1)) + w64 (c * X2)))] (movl M 17001 w 0 L) Q ↔ Tq 141 6 [vR 17 w, vJ, vJ, vJ, vJ, vJ, vJ, vJ, vJ] [] (movl M 17001 w 0 L') Q) := by
        intro A B hA hB
        rw [t141_5, m43, kI_v, bd_e, w64_sub2, hA, hB, hV, w32_id (z := i + 1) (by omega) (by omega), mset_app0 (by omega), l3]
        exact andi (by omega) Iff.rfl
      have fin2 : ∀ A : Int, A = w64 (d * y1) → (Tq 141 3 [vR 17 w, vI a, vI b, vI c, vI d, vI e, vI i, vJ, vJ] [vL A, vL (w64 (w64 (w64 (a * M 17000 w i) + w64 (b * X1)) + w64 (c * X2)))] (movl M 17001 w 0 L) Q ↔ Tq 141 6 [vR 17 w, vJ, vJ, vJ, vJ, vJ, vJ, vJ, vJ] [] (movl M 17001 w 0 L') Q) := by
        intro A hA
        rw [t141_3]
        refine ifi (fun q => ?_) (fun q => ?_)
        · rw [t141_4]
          exact fin A 0 hA (by rw [g2 q, Int.mul_zero]; rfl)
        · rw [w32_id (z := i - 2) (by omega) (by omega)]
          refine andi (by omega) (fin A _ hA ?_)
          rw [movl_s, ovl_in (by omega) (by omega), g4 (by omega), Int.sub_zero]
      rw [t141_1, movl_r (by decide), hc, if_neg (by omega), w32_id (z := i - 1) (by omega) (by omega), m142 (by omega), kI_v, w32_id (z := i - 2) (by omega) (by omega), m142 (by omega), kI_v, e1, e2, movl_r (by decide)]
      refine andi (by omega) (ifi (fun q => ?_) (fun q => ?_))
      · rw [t141_2]
        exact fin2 0 (by rw [g1 (by omega), Int.mul_zero]; rfl)
      · refine andi (by omega) (fin2 _ ?_)
        rw [movl_s, ovl_in (by omega) (by omega), g3 (by omega), Int.sub_zero]
    · have fin : Tq 294 7 [vR 22 0, vI w, vI a, vI b, vI c, vI d, vI e, vI n, vL y1, vJ, vL y2, vJ, vI i, vL X1, vJ, vJ, vJ, vJ] [vL X2] (movl N 22021 0 (512 * w) L) Q ↔ Tq 294 8 [vJ, vJ, vJ, vJ, vJ, vJ, vJ, vI n, vJ, vJ, vJ, vJ, vJ, vJ, vJ, vJ, vJ, vJ] [] (movl N 22021 0 (512 * w) L') Q := by
        rw [t294_7, movl_r (by decide), ← hx i (by omega) (by omega), m293, kI_v, bd_e, hV, w32_id (z := 512 * w) (by omega) (by omega), w32_id (z := 512 * w + i) (by omega) (by omega), w32_id (z := i + 1) (by omega) (by omega), mset_app (by omega), l4 N hx]
        exact andi (by omega) (andi (by omega) Iff.rfl)
      have fin2 : Tq 294 5 [vR 22 0, vI w, vI a, vI b, vI c, vI d, vI e, vI n, vL y1, vJ, vL y2, vJ, vI i, vJ, vJ, vJ, vJ, vJ] [vL X1] (movl N 22021 0 (512 * w) L) Q ↔ Tq 294 8 [vJ, vJ, vJ, vJ, vJ, vJ, vJ, vI n, vJ, vJ, vJ, vJ, vJ, vJ, vJ, vJ, vJ, vJ] [] (movl N 22021 0 (512 * w) L') Q := by
        rw [t294_5]
        refine ifi (fun q => ?_) (fun q => ?_)
        · rw [t294_6, movl_r (by decide), w32_id (z := i - 2) (by omega) (by omega), ← hx (i - 2) (by omega) (by omega)]
          rw [if_neg (by omega)] at hX2
          rw [hX2]
          exact andi (by omega) fin
        · rw [if_pos (by omega)] at hX2
          subst hX2
          exact fin
      rw [t294_3, if_neg (by omega)]
      refine ifi (fun q => ?_) (fun q => ?_)
      · rw [t294_4, movl_r (by decide), w32_id (z := i - 1) (by omega) (by omega), ← hx (i - 1) (by omega) (by omega)]
        rw [if_neg (by omega)] at hX1
        rw [hX1]
        exact andi (by omega) fin2
      · rw [if_pos (by omega)] at hX1
        subst hX1
        exact fin2
theorem op_filter (hI : IWn M) : Op2 SWc SWn 44 [vR 1 0, vI w, vI a, vI b, vI c, vI d, vI e] 294 [vR 22 0, vI w, vI a, vI b, vI c, vI d, vI e, vJ, vJ, vJ, vJ, vJ, vJ, vJ, vJ, vJ, vJ, vJ] M IWn := by
  by_cases hb : (0 ≤ w ∧ w ≤ 5) ∧ (-65536 ≤ a ∧ a ≤ 65536) ∧ (-65536 ≤ b ∧ b ≤ 65536) ∧ (-65536 ≤ c ∧ c ≤ 65536) ∧ (-65536 ≤ d ∧ d ≤ 65536) ∧ (-65536 ≤ e ∧ e ≤ 65536)
  · unfold Op2
    obtain ⟨hw5, ha, hb, hc, hd, he⟩ := hb
    obtain ⟨a1, a2, a3, a4, a5⟩ := hI w hw5.1 (by omega)
    have hw : 0 ≤ w ∧ w < 6 := by omega
    rw [t44_0]
    simp only [kI_v, kL_v, kV_v, kR_v, kX_n, kX_e, bd_e, b2i_e0, b2i_e1, b2i_nb, nb_0, nb_1, cmp_lt, cmp_le, cmp_gt, cmp_ge, cmp_eq, not_true_eq_false, not_false_eq_true, if_true, if_false, ite_true, ite_false, true_and, and_true, false_and, and_false, Int.reduceLT, Int.reduceLE, Int.reduceEq, Int.reduceSub, Int.reduceAdd, Int.reduceNeg, Int.reduceMul, Classical.not_not, Int.zero_add, Int.add_zero, Int.le_refl, t44_1, t44_2, t44_3, m40, m45]
    rw [if_neg (show ¬ ¬ (0 ≤ w ∧ w ≤ 5) by omega), if_neg (show ¬ ¬ (-65536 ≤ a ∧ a ≤ 65536) by omega), if_neg (show ¬ ¬ (-65536 ≤ b ∧ b ≤ 65536) by omega), if_neg (show ¬ ¬ (-65536 ≤ c ∧ c ≤ 65536) by omega), if_neg (show ¬ ¬ (-65536 ≤ d ∧ d ≤ 65536) by omega), if_pos he, a1]
    have g : ∀ {M Q}, Tq 294 0 [vR 22 0, vI w, vI a, vI b, vI c, vI d, vI e, vJ, vJ, vJ, vJ, vJ, vJ, vJ, vJ, vJ, vJ, vJ] [] M Q ↔ Tq 294 2 [vR 22 0, vI w, vI a, vI b, vI c, vI d, vI e, vJ, vJ, vJ, vJ, vJ, vJ, vJ, vJ, vJ, vJ, vJ] [] M Q := by
      intro M Q
      simp only [kI_v, kL_v, kV_v, kR_v, kX_n, kX_e, bd_e, b2i_e0, b2i_e1, b2i_nb, nb_0, nb_1, cmp_lt, cmp_le, cmp_gt, cmp_ge, cmp_eq, not_true_eq_false, not_false_eq_true, if_true, if_false, ite_true, ite_false, true_and, and_true, false_and, and_false, Int.reduceLT, Int.reduceLE, Int.reduceEq, Int.reduceSub, Int.reduceAdd, Int.reduceNeg, Int.reduceMul, Classical.not_not, Int.zero_add, Int.add_zero, Int.le_refl, t294_0, m289, m295]
      rw [if_neg (show ¬ ¬ (0 ≤ w ∧ w ≤ 5) by omega), if_neg (show ¬ ¬ (-65536 ≤ a ∧ a ≤ 65536) by omega), if_neg (show ¬ ¬ (-65536 ≤ b ∧ b ≤ 65536) by omega), if_neg (show ¬ ¬ (-65536 ≤ c ∧ c ≤ 65536) by omega), if_neg (show ¬ ¬ (-65536 ≤ d ∧ d ≤ 65536) by omega), if_pos he]
    refine ⟨hw, ifg (fun hz => ⟨hw, ?_⟩) (fun hz => ⟨Fr.refl, ?_⟩)⟩
    · obtain ⟨L, l1, l2, l3, l4⟩ := filter_loop (M := M) (a := a) (b := b) (c := c) (d := d) (e := e) hw a2 a1 (M 22018 0 w).toNat 0 0 0 [] (by simp) (by omega) (by simp) (fun _ => rfl) (fun _ => rfl) (by omega) (by omega)
      rw [movl_nil] at l3
      rw [t141_0, l3, t141_6, m139 a1 a2.1 a2.2 l1, kV_v, kV_v]
      refine ⟨mbec_fr, ?_⟩
      have e18 : mbec M w (M 22018 0 w) L 22018 0 = M 22018 0 := mbec_r (by decide) (by decide)
      have e21 : mbec M w (M 22018 0 w) L 22021 0 = M 22021 0 := mbec_r (by decide) (by decide)
      have l4 := l4 (masd (mbec M w (M 22018 0 w) L) w (M 22018 0 w)) (fun k q1 q2 => by rw [masd_b q1 q2, e21]; exact (a5 k q1 q2).1)
      rw [movl_nil] at l4
      rw [g, t294_2, m291 hw (by rw [e18]; exact a2), kI_v, e18, l4, t294_8, if_pos hz, t294_9, t294_10, kI_v]
      exact ⟨rfl, mwin_IWn hI hw rfl l1 l2⟩
    · rw [g, t294_2, m291 hw a2, kI_v, t294_3, if_pos (by omega), t294_8, if_neg hz, t294_10, kI_v]
      exact ⟨rfl, masd_IWn hI⟩
  · refine Op2_r (v := -1) (fun Q => ?_) (fun Q => ?_) hI
    · simp only [kI_v, kL_v, kV_v, kR_v, kX_n, kX_e, bd_e, b2i_e0, b2i_e1, b2i_nb, nb_0, nb_1, cmp_lt, cmp_le, cmp_gt, cmp_ge, cmp_eq, not_true_eq_false, not_false_eq_true, if_true, if_false, ite_true, ite_false, true_and, and_true, false_and, and_false, Int.reduceLT, Int.reduceLE, Int.reduceEq, Int.reduceSub, Int.reduceAdd, Int.reduceNeg, Int.reduceMul, Classical.not_not, Int.zero_add, Int.add_zero, Int.le_refl, t44_0, t44_1, m40, m45]
      refine ifi (fun _ => Iff.rfl) (fun d1 => ifi (fun _ => Iff.rfl) (fun d2 => ifi (fun _ => Iff.rfl) (fun d3 => ifi (fun _ => Iff.rfl) (fun d4 => ifi (fun _ => Iff.rfl) (fun d5 => ?_)))))
      rw [if_neg (by omega)]
    · simp only [kI_v, kL_v, kV_v, kR_v, kX_n, kX_e, bd_e, b2i_e0, b2i_e1, b2i_nb, nb_0, nb_1, cmp_lt, cmp_le, cmp_gt, cmp_ge, cmp_eq, not_true_eq_false, not_false_eq_true, if_true, if_false, ite_true, ite_false, true_and, and_true, false_and, and_false, Int.reduceLT, Int.reduceLE, Int.reduceEq, Int.reduceSub, Int.reduceAdd, Int.reduceNeg, Int.reduceMul, Classical.not_not, Int.zero_add, Int.add_zero, Int.le_refl, t294_0, t294_1, m289, m295]
      refine ifi (fun _ => Iff.rfl) (fun d1 => ifi (fun _ => Iff.rfl) (fun d2 => ifi (fun _ => Iff.rfl) (fun d3 => ifi (fun _ => Iff.rfl) (fun d4 => ifi (fun _ => Iff.rfl) (fun d5 => ?_)))))
      rw [if_neg (by omega)]
end Win3
