/-! WINDOWS: resample -/
section Win4
variable {M N : Mem} {Q : AR → Mem → Prop} {s t k w x y l m n a b c d e : Int}
theorem div32_nn {z : Int} (h1 : 0 ≤ z) (h2 : z < 2147483648) (h3 : 1 ≤ a) : div32 z a = z / a := by
  unfold div32
  rw [Int.tdiv_eq_ediv_of_nonneg h1]
  have h4 := Int.ediv_nonneg h1 (show 0 ≤ a by omega)
  have h5 := Int.ediv_le_self a h1
  exact w32_id (by omega) (by omega)
/-- the places that a number is taken from -/
theorem res_idx {i : Int} (hn : 1 ≤ n ∧ n ≤ 512) (ha : 1 ≤ a ∧ a ≤ 64) (hb : 1 ≤ b ∧ b ≤ 64) (hi : 0 ≤ i) (hi2 : i < (n - 1) * a / b + 1) (hi3 : i < 512) : w32 (i * b) = i * b ∧ 0 ≤ i * b ∧ i * b < 2147483648 ∧ 0 ≤ i * b / a ∧ i * b / a < n ∧ w32 (i * b / a * a) = i * b / a * a ∧ w32 (i * b - i * b / a * a) = i * b - i * b / a * a ∧ (¬ i * b - i * b / a * a = 0 → i * b / a + 1 < n) := by
  have h1 : i * b ≤ (n - 1) * a := by
    have : i ≤ (n - 1) * a / b := by omega
    exact (Int.le_ediv_iff_mul_le (by omega)).mp this
  have h2 : 0 ≤ i * b := Int.mul_nonneg hi (by omega)
  have h3 : (n - 1) * a ≤ 511 * 64 := Int.mul_le_mul (by omega) (by omega) (by omega) (by omega)
  have h4 : 0 ≤ i * b / a := Int.ediv_nonneg h2 (by omega)
  have h5 : i * b / a * a ≤ i * b := Int.ediv_mul_le _ (by omega)
  have h6 : 0 ≤ i * b / a * a := Int.mul_nonneg h4 (by omega)
  have h7 : i * b / a < n := by
    have : i * b / a ≤ (n - 1) * a / a := Int.ediv_le_ediv (by omega) h1
    rw [Int.mul_ediv_cancel _ (by omega)] at this
    omega
  refine ⟨w32_id (by omega) (by omega), h2, by omega, h4, h7, w32_id (by omega) (by omega), w32_id (by omega) (by omega), fun h => ?_⟩
  have h8 : i * b / a * a < (n - 1) * a := by omega
  have := Int.lt_of_mul_lt_mul_right h8 (by omega)
  omega
theorem resample_loop (hw : 0 ≤ w ∧ w < 6) (hn : 1 ≤ n ∧ n ≤ 512) (ha : 1 ≤ a ∧ a ≤ 64) (hb : 1 ≤ b ∧ b ≤ 64) (hm : m = (n - 1) * a / b + 1) (hm2 : m ≤ 512) (h32 : ∀ k, 0 ≤ k → k < n → I32 (M 17000 w k)) : ∀ (f : Nat) (i : Int) (L : List Int), (L.length : Int) = i → i + f = m → (∀ v ∈ L, I32 v) → ∃ L', (L'.length : Int) = m ∧ (∀ v ∈ L', I32 v) ∧ (∀ Q, Tq 143 1 [vR 17 w, vI a, vI b, vI m, vI i, vJ, vJ, vJ] [] (movl M 17001 w 0 L) Q ↔ Tq 143 4 [vR 17 w, vJ, vJ, vI m, vJ, vJ, vJ, vJ] [] (movl M 17001 w 0 L') Q) ∧ (∀ N, (∀ k, 0 ≤ k → k < n → M 17000 w k = N 22022 0 k) → ∀ Q, Tq 296 5 [vR 22 0, vI w, vI a, vI b, vJ, vI m, vI i, vJ, vJ, vJ, vJ] [] (movl N 22021 0 (512 * w) L) Q ↔ Tq 296 8 [vR 22 0, vI w, vJ, vJ, vJ, vI m, vJ, vJ, vJ, vJ, vJ] [] (movl N 22021 0 (512 * w) L') Q) := by
  intro f
  induction f with
  | zero =>
    intro i L h1 h2 h3
    refine ⟨L, by omega, h3, fun Q => ?_, fun N hx Q => ?_⟩
    · rw [t143_1, if_pos (by omega)]
    · rw [t296_5, if_pos (by omega)]
  | succ f ih =>
    intro i L h1 h2 h3
    obtain ⟨r1, r2, r3, r4, r5, r6, r7, r8⟩ := res_idx (i := i) hn ha hb (by omega) (by omega) (by omega)
    have hd := div32_nn (a := a) r2 r3 ha.1
    generalize hp : i * b / a = p at *
    generalize hr : i * b - p * a = r at *
    have hxp := h32 p r4 r5
    by_cases hz : r = 0
    · obtain ⟨L', l1, l2, l3, l4⟩ := ih (i + 1) (L ++ [M 17000 w p]) (by simp; omega) (by omega) (I32_app h3 hxp)
      refine ⟨L', l1, l2, fun Q => ?_, fun N hx Q => ?_⟩
      · rw [t143_1, if_neg (by omega), r1, hd, r6, hr, r7, if_neg (fun q => q (cmp_eq.mpr hz)), movl_r (by decide), t143_3, bd_e, w32_id (z := i + 1) (by omega) (by omega), mset_app0 (by omega), l3]
        exact andi (by omega) (andi (by omega) (andi (by omega) Iff.rfl))
      · have e1 : w32 (w64 (M 17000 w p + 0)) = M 17000 w p := by
          unfold I32 at hxp
          rw [Int.add_zero, w64_id (by omega) (by omega), w32_id (by omega) (by omega)]
        rw [t296_5, if_neg (by omega), r1, hd, r6, hr, r7, if_neg (fun q => q hz), t296_7, bd_e, movl_r (by decide), ← hx p r4 r5, e1, w32_id (z := i + 1) (by omega) (by omega), w32_id (z := 512 * w) (by omega) (by omega), w32_id (z := 512 * w + i) (by omega) (by omega), mset_app (by omega), l4 N hx]
        exact andi (by omega) (andi (by omega) (andi (by omega) Iff.rfl))
    · have r8 := r8 hz
      obtain ⟨L', l1, l2, l3, l4⟩ := ih (i + 1) (L ++ [w32 (w64 (M 17000 w p + fdv (w64 (w64 (M 17000 w (p + 1) - M 17000 w p) * r)) a))]) (by simp; omega) (by omega) (I32_app h3 (w32_rng _))
      refine ⟨L', l1, l2, fun Q => ?_, fun N hx Q => ?_⟩
      · rw [t143_1, if_neg (by omega), r1, hd, r6, hr, r7, if_pos (fun q => hz (cmp_eq.mp q)), t143_2, movl_r (by decide), w32_id (z := p + 1) (by omega) (by omega), m10 (by omega), kL_v, t143_3, bd_e, w32_id (z := i + 1) (by omega) (by omega), mset_app0 (by omega), l3]
        exact andi (by omega) (andi (by omega) (andi (by omega) (andi (by omega) (andi (by omega) Iff.rfl))))
      · rw [t296_5, if_neg (by omega), r1, hd, r6, hr, r7, if_pos hz, t296_6, movl_r (by decide), w32_id (z := p + 1) (by omega) (by omega), m10 (by omega), kL_v, t296_7, bd_e, movl_r (by decide), ← hx p r4 r5, ← hx (p + 1) (by omega) (by omega), w32_id (z := i + 1) (by omega) (by omega), w32_id (z := 512 * w) (by omega) (by omega), w32_id (z := 512 * w + i) (by omega) (by omega), mset_app (by omega), l4 N hx]
        exact andi (by omega) (andi (by omega) (andi (by omega) (andi (by omega) (andi (by omega) Iff.rfl))))
/-- one window is another one, the same on both sides -/
theorem IWn_new {M' : Mem} {L : List Int} {n' s' f' : Int} (hI : IWn M) (hw : 0 ≤ w ∧ w < 6) (hn : 1 ≤ n' ∧ n' ≤ 512) (hl : (L.length : Int) = n') (h32 : ∀ v ∈ L, I32 v) (hs : s' = -99999999 ∨ 0 ≤ s' ∧ s' < M 22 0 9 ∧ 0 ≤ f' ∧ f' + n' ≤ 4096) (e1 : ∀ u, ¬ u = w → M' 17 u = M 17 u) (c2 : M' 17 w 2 = n') (c3 : M' 17 w 3 = s') (c4 : M' 17 w 4 = f') (e2 : ∀ u, M' 22018 0 u = if u = w then n' else M 22018 0 u) (e3 : ∀ u, M' 22019 0 u = if u = w then s' else M 22019 0 u) (e4 : ∀ u, M' 22020 0 u = if u = w then f' else M 22020 0 u) (e5 : M' 22 0 9 = M 22 0 9) (e6 : ∀ u, ¬ u = w → M' 17000 u = M 17000 u) (e7 : ∀ k, 0 ≤ k → k < n' → M' 17000 w k = L.getD k.toNat 0) (e8 : M' 22021 0 = ovl (M 22021 0) (512 * w) L) : IWn M' := by
  unfold IWn
  intro u hu1 hu2
  rw [e2, e3, e4, e5, e8]
  obtain ⟨a1, a2, a3, a4, a5⟩ := hI u hu1 hu2
  by_cases hu : u = w
  · subst hu
    rw [if_pos rfl, if_pos rfl, if_pos rfl]
    refine ⟨c2, by omega, by omega, fun _ => ⟨c3, c4, hs⟩, fun k q1 q2 => ?_⟩
    have hk : k.toNat < L.length := by omega
    have hm : L.getD k.toNat 0 ∈ L := by
      rw [List.getD_eq_getElem?_getD, List.getElem?_eq_getElem hk]
      exact List.getElem_mem hk
    dsimp only
    rw [e7 k q1 q2, ovl_in (by omega) (by omega), show (512 * u + k - 512 * u).toNat = k.toNat by omega]
    exact ⟨rfl, h32 _ hm⟩
  · rw [if_neg hu, if_neg hu, if_neg hu, e1 u hu]
    refine ⟨a1, a2, a3, a4, fun k q1 q2 => ?_⟩
    dsimp only
    rw [e6 u hu, ovl_out (by omega)]
    exact a5 k q1 q2
/-- the one side's window after a new reckoning: its fields, then its numbers -/
def mres (M : Mem) (w m : Int) (L : List Int) : Mem := mbec (mset (mset M 17 w 2 m) 17 w 3 (-99999999)) w m L
theorem movl_mset_comm {f f' : Nat} {i k v i' a' : Int} {L : List Int} (h : ¬ f = f') : movl (mset M f i k v) f' i' a' L = mset (movl M f' i' a' L) f i k v := (mset_movl_comm (fun q => h q.1)).symm
theorem op_resample (hI : IWn M) : Op2 SWc SWn 46 [vR 1 0, vI w, vI a, vI b, vJ, vJ] 296 [vR 22 0, vI w, vI a, vI b, vJ, vJ, vJ, vJ, vJ, vJ, vJ] M IWn := by
  by_cases hq : (0 ≤ w ∧ w ≤ 5) ∧ (1 ≤ a ∧ a ≤ 64) ∧ (1 ≤ b ∧ b ≤ 64)
  · unfold Op2
    obtain ⟨hw5, ha, hb⟩ := hq
    obtain ⟨a1, a2, a3, a4, a5⟩ := hI w hw5.1 (by omega)
    have hw : 0 ≤ w ∧ w < 6 := by omega
    have g : ∀ {M Q}, Tq 296 0 [vR 22 0, vI w, vI a, vI b, vJ, vJ, vJ, vJ, vJ, vJ, vJ] [] M Q ↔ Tq 296 2 [vR 22 0, vI w, vI a, vI b, vJ, vJ, vJ, vJ, vJ, vJ, vJ] [] M Q := by
      intro M Q
      simp only [kI_v, kL_v, kV_v, kR_v, kX_n, kX_e, bd_e, b2i_e0, b2i_e1, b2i_nb, nb_0, nb_1, cmp_lt, cmp_le, cmp_gt, cmp_ge, cmp_eq, not_true_eq_false, not_false_eq_true, if_true, if_false, ite_true, ite_false, true_and, and_true, false_and, and_false, Int.reduceLT, Int.reduceLE, Int.reduceEq, Int.reduceSub, Int.reduceAdd, Int.reduceNeg, Int.reduceMul, Classical.not_not, Int.zero_add, Int.add_zero, Int.le_refl, t296_0, m289, m189]
      rw [if_neg (show ¬ ¬ (0 ≤ w ∧ w ≤ 5) by omega), if_neg (show ¬ ¬ (1 ≤ a ∧ a ≤ 64) by omega), if_pos hb]
    rw [t46_0]
    simp only [kI_v, kL_v, kV_v, kR_v, kX_n, kX_e, bd_e, b2i_e0, b2i_e1, b2i_nb, nb_0, nb_1, cmp_lt, cmp_le, cmp_gt, cmp_ge, cmp_eq, not_true_eq_false, not_false_eq_true, if_true, if_false, ite_true, ite_false, true_and, and_true, false_and, and_false, Int.reduceLT, Int.reduceLE, Int.reduceEq, Int.reduceSub, Int.reduceAdd, Int.reduceNeg, Int.reduceMul, Classical.not_not, Int.zero_add, Int.add_zero, Int.le_refl, m40, m25]
    rw [if_neg (show ¬ ¬ (0 ≤ w ∧ w ≤ 5) by omega), if_neg (show ¬ ¬ (1 ≤ a ∧ a ≤ 64) by omega), if_pos hb, t46_2, a1]
    refine ⟨hw, ifg (fun hz => ?_) (fun hz => ⟨Fr.refl, ?_⟩)⟩
    · have hn : 1 ≤ M 22018 0 w ∧ M 22018 0 w ≤ 512 := by omega
      have x1 : (M 22018 0 w - 1) * a ≤ 511 * 64 := Int.mul_le_mul (by omega) (by omega) (by omega) (by omega)
      have x2 : 0 ≤ (M 22018 0 w - 1) * a := Int.mul_nonneg (by omega) (by omega)
      have x3 := Int.ediv_nonneg x2 (show 0 ≤ b by omega)
      have x4 := Int.ediv_le_self b x2
      have em : w32 (div32 (w32 (w32 (M 22018 0 w - 1) * a)) b + 1) = (M 22018 0 w - 1) * a / b + 1 := by
        rw [w32_id (z := M 22018 0 w - 1) (by omega) (by omega), w32_id (z := (M 22018 0 w - 1) * a) (by omega) (by omega), div32_nn x2 (by omega) hb.1, w32_id (by omega) (by omega)]
      generalize hm : (M 22018 0 w - 1) * a / b + 1 = m at em
      rw [t46_3, a1, em]
      refine ⟨by omega, ifg (fun hf => ?_) (fun hf => ⟨Fr.refl, ?_⟩)⟩
      · obtain ⟨L, l1, l2, l3, l4⟩ := resample_loop (M := M) hw hn ha hb hm.symm hf (fun k q1 q2 => by rw [(a5 k q1 q2).1]; exact (a5 k q1 q2).2) m.toNat 0 [] (by simp) (by omega) (by simp)
        rw [movl_nil] at l3
        have s17 : mset (mset M 17 w 2 m) 17 w 3 (-99999999) 17 w 2 = m := by rw [mset_3, if_neg (by simp), mset_3, if_pos ⟨rfl, rfl, rfl⟩]
        rw [t46_4, t143_0, l3, t143_4, bd_e, bd_e, ← movl_mset_comm (by decide), ← movl_mset_comm (by decide), m139 s17 (by omega) hf l1, kV_v, kV_v, kI_v]
        have hF : Fr SWc M (mres M w m L) := Fr.trans (Fr.mset (Fr.mset Fr.refl (Or.inl rfl)) (Or.inl rfl)) mbec_fr
        refine ⟨hF, ?_⟩
        have rr : ∀ f j, ¬ f = 17 → ¬ f = 17000 → ¬ f = 17001 → mres M w m L f j = M f j := fun f j h1 h2 h3 => by
          unfold mres
          rw [mbec_r h2 h3, mset_o (fun q => h1 q.1), mset_o (fun q => h1 q.1)]
        have e18 := rr 22018 0 (by decide) (by decide) (by decide)
        have e21 := rr 22021 0 (by decide) (by decide) (by decide)
        have l4 := l4 (masd (mres M w m L) w (M 22018 0 w)) (fun k q1 q2 => by rw [masd_b q1 q2, e21]; exact (a5 k q1 q2).1)
        rw [movl_nil] at l4
        show Tq 296 0 _ _ (mres M w m L) _
        rw [g, t296_2, e18, if_pos hz, t296_3, em, if_pos hf, t296_4, m291 hw (by rw [e18]; exact a2), kI_v, e18, l4, t296_8, bd_e, bd_e, kI_v]
        refine ⟨hw, by omega, hw, hw, rfl, ?_, ?_⟩
        · refine Fr.mset (Fr.mset (Fr.movl (Fr.mrow (SWc_le hF) (fun _ => by simp [SWn])) (fun _ => by simp [SWn])) (by simp [SWn])) (by simp [SWn])
        · have q : ∀ f j, ¬ f = 22018 → ¬ f = 22019 → ¬ f = 22021 → ¬ f = 22022 → mset (mset (movl (masd (mres M w m L) w (M 22018 0 w)) 22021 0 (512 * w) L) 22018 0 w m) 22019 0 w (-99999999) f j = mres M w m L f j := fun f j h1 h2 h3 h4 => by
            rw [mset_o (fun q => h2 q.1), mset_o (fun q => h1 q.1), movl_r h3, masd_r h4]
          refine IWn_new (n' := m) (s' := -99999999) (f' := M 17 w 4) hI hw (by omega) l1 l2 (Or.inl rfl) ?_ ?_ ?_ ?_ ?_ ?_ ?_ ?_ ?_ ?_ ?_
          · intro u hu
            rw [q _ _ (by decide) (by decide) (by decide) (by decide)]
            unfold mres
            rw [mbec_r (by decide) (by decide), mset_o (fun q => hu q.2), mset_o (fun q => hu q.2)]
          · rw [q _ _ (by decide) (by decide) (by decide) (by decide)]
            unfold mres
            rw [mbec_r (by decide) (by decide), s17]
          · rw [q _ _ (by decide) (by decide) (by decide) (by decide)]
            unfold mres
            rw [mbec_r (by decide) (by decide), mset_3, if_pos ⟨rfl, rfl, rfl⟩]
          · rw [q _ _ (by decide) (by decide) (by decide) (by decide)]
            unfold mres
            rw [mbec_r (by decide) (by decide), mset_3, if_neg (by simp), mset_3, if_neg (by simp)]
          · intro u
            rw [mset_o (by simp), mset_s, movl_r (by decide), masd_r (by decide), e18, fup_at]
          · intro u
            rw [mset_s, mset_o (by simp), movl_r (by decide), masd_r (by decide), rr 22019 0 (by decide) (by decide) (by decide), fup_at]
          · intro u
            rw [q _ _ (by decide) (by decide) (by decide) (by decide), rr 22020 0 (by decide) (by decide) (by decide)]
            by_cases hu : u = w
            · rw [if_pos hu, hu, (a4 (by omega)).2.1]
            · rw [if_neg hu]
          · rw [q _ _ (by decide) (by decide) (by decide) (by decide), rr 22 0 (by decide) (by decide) (by decide)]
          · intro u hu
            rw [q _ _ (by decide) (by decide) (by decide) (by decide)]
            unfold mres mbec
            rw [mrow_2, if_neg (fun q => hu q.2), movl_r (by decide), mset_o (by simp), mset_o (by simp)]
          · intro k q1 q2
            rw [q _ _ (by decide) (by decide) (by decide) (by decide)]
            unfold mres mbec
            rw [mrow_2, if_pos ⟨rfl, rfl⟩, if_pos ⟨q1, q2⟩]
          · rw [mset_o (by simp), mset_o (by simp), movl_s, masd_r (by decide), e21]
      · rw [g, t296_2, if_pos hz, t296_3, em, if_neg hf, kI_v]
        exact ⟨hw, by omega, rfl, Fr.refl, hI⟩
    · rw [g, t296_2, if_neg hz, kI_v]
      exact ⟨hw, rfl, Fr.refl, hI⟩
  · refine Op2_r (v := -1) (fun Q => ?_) (fun Q => ?_) hI
    · simp only [kI_v, kL_v, kV_v, kR_v, kX_n, kX_e, bd_e, b2i_e0, b2i_e1, b2i_nb, nb_0, nb_1, cmp_lt, cmp_le, cmp_gt, cmp_ge, cmp_eq, not_true_eq_false, not_false_eq_true, if_true, if_false, ite_true, ite_false, true_and, and_true, false_and, and_false, Int.reduceLT, Int.reduceLE, Int.reduceEq, Int.reduceSub, Int.reduceAdd, Int.reduceNeg, Int.reduceMul, Classical.not_not, Int.zero_add, Int.add_zero, Int.le_refl, t46_0, t46_1, m40, m25]
      refine ifi (fun _ => Iff.rfl) (fun d1 => ifi (fun _ => Iff.rfl) (fun d2 => ?_))
      rw [if_neg (by omega)]
    · simp only [kI_v, kL_v, kV_v, kR_v, kX_n, kX_e, bd_e, b2i_e0, b2i_e1, b2i_nb, nb_0, nb_1, cmp_lt, cmp_le, cmp_gt, cmp_ge, cmp_eq, not_true_eq_false, not_false_eq_true, if_true, if_false, ite_true, ite_false, true_and, and_true, false_and, and_false, Int.reduceLT, Int.reduceLE, Int.reduceEq, Int.reduceSub, Int.reduceAdd, Int.reduceNeg, Int.reduceMul, Classical.not_not, Int.zero_add, Int.add_zero, Int.le_refl, t296_0, t296_1, m289, m189]
      refine ifi (fun _ => Iff.rfl) (fun d1 => ifi (fun _ => Iff.rfl) (fun d2 => ?_))
      rw [if_neg (by omega)]
end Win4
