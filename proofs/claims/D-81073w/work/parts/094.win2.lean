/-! WINDOWS: smooth, differ -/
def fdv (a b : Int) : Int := if 0 ≤ xor64 a b then div64 a b else if w64 (div64 a b * b) = a then div64 a b else w64 (div64 a b - 1)
section Win2
variable {M N : Mem} {Q : AR → Mem → Prop} {s t k w x y l m n : Int}
theorem m10 {a b : Int} (h : ¬ b = 0) : Tq 10 0 [vL a, vJ, vL b, vJ, vJ, vJ] [] M Q ↔ Q (.inl (some (vL (fdv a b)))) M := by
  simp only [kI_v, kL_v, kV_v, kR_v, kX_n, kX_e, bd_e, b2i_e0, b2i_e1, b2i_nb, nb_0, nb_1, cmp_lt, cmp_le, cmp_gt, cmp_ge, cmp_eq, not_true_eq_false, not_false_eq_true, if_true, if_false, ite_true, ite_false, true_and, and_true, false_and, and_false, Int.reduceLT, Int.reduceLE, Int.reduceEq, Int.reduceSub, Int.reduceAdd, Int.reduceNeg, Int.reduceMul, Classical.not_not, Int.zero_add, Int.add_zero, Int.le_refl, t10_0, t10_1]
  refine andi h ?_
  unfold fdv
  refine ifi (fun d => ?_) (fun d => ?_)
  · rw [if_pos d]
  · rw [if_neg d]
    refine ifi (fun d => ?_) (fun d => ?_)
    · rw [if_pos d]
    · rw [if_neg d]
/-- the numbers come aside -/
def masd (M : Mem) (w i : Int) : Mem := mrow M 22022 0 (fun k => if 0 ≤ k ∧ k < i then M 22021 0 (512 * w + k) else M 22022 0 k)
theorem m291_1 (hw : 0 ≤ w ∧ w < 6) (hn : 0 ≤ M 22018 0 w ∧ M 22018 0 w ≤ 512) : ∀ (d : Nat) (i : Int), 0 ≤ i → i + d = M 22018 0 w → (Tq 291 1 [vR 22 0, vI w, vI i] [] (masd M w i) Q ↔ Q (.inl (some (vI (M 22018 0 w)))) (masd M w (M 22018 0 w))) := by
  intro d
  have r18 : ∀ i, masd M w i 22018 0 = M 22018 0 := fun i => by unfold masd; rw [mrow_2, if_neg (by simp)]
  have r21 : ∀ i, masd M w i 22021 0 = M 22021 0 := fun i => by unfold masd; rw [mrow_2, if_neg (by simp)]
  induction d with
  | zero =>
    intro i h1 h2
    rw [t291_1, r18, if_pos (by omega), t291_2, r18, show i = M 22018 0 w by omega]
    exact andi (by omega) (andi (by omega) Iff.rfl)
  | succ d ih =>
    intro i h1 h2
    rw [t291_1, r18, if_neg (by omega), r21, w32_id (z := 512 * w) (by omega) (by omega), w32_id (z := 512 * w + i) (by omega) (by omega), w32_id (z := i + 1) (by omega) (by omega), bd_e]
    have e : mset (masd M w i) 22022 0 i (M 22021 0 (512 * w + i)) = masd M w (i + 1) := by
      unfold masd
      rw [mset_mrow]
      congr 1
      funext k
      rw [fup_at]
      by_cases hk : k = i
      · rw [if_pos hk, if_pos (by omega), hk]
      · rw [if_neg hk]
        by_cases hk2 : 0 ≤ k ∧ k < i
        · rw [if_pos hk2, if_pos (by omega)]
        · rw [if_neg hk2, if_neg (by omega)]
    rw [e]
    exact andi (by omega) (andi (by omega) (andi (by omega) (ih (i + 1) (by omega) (by omega))))
theorem m291 (hw : 0 ≤ w ∧ w < 6) (hn : 0 ≤ M 22018 0 w ∧ M 22018 0 w ≤ 512) : Tq 291 0 [vR 22 0, vI w, vJ] [] M Q ↔ Q (.inl (some (vI (M 22018 0 w)))) (masd M w (M 22018 0 w)) := by
  rw [t291_0]
  have e : masd M w 0 = M := by
    unfold masd
    rw [show (fun k : Int => if 0 ≤ k ∧ k < 0 then M 22021 0 (512 * w + k) else M 22022 0 k) = M 22022 0 from by funext k; rw [if_neg (by omega)], mrow_self]
  have := m291_1 (Q := Q) hw hn (M 22018 0 w).toNat 0 (by omega) (by omega)
  rw [e] at this
  exact this
theorem masd_r {f : Nat} {j i : Int} (h : ¬ f = 22022) : masd M w i f j = M f j := by unfold masd; rw [mrow_2, if_neg (fun q => h q.1)]
theorem masd_b {i : Int} (h1 : 0 ≤ k) (h2 : k < i) : masd M w i 22022 0 k = M 22021 0 (512 * w + k) := by unfold masd; rw [mrow_2, if_pos ⟨rfl, rfl⟩, if_pos ⟨h1, h2⟩]
/-- one more number behind -/
theorem mset_app {f : Nat} {i a : Int} {L : List Int} {v b : Int} (h : b = a + L.length) : mset (movl M f i a L) f i b v = movl M f i a (L ++ [v]) := by rw [mset_movl, movl_app h]
theorem mset_app0 {f : Nat} {i b : Int} {L : List Int} {v : Int} (h : b = L.length) : mset (movl M f i 0 L) f i b v = movl M f i 0 (L ++ [v]) := mset_app (by omega)
theorem movl_r {f g : Nat} {i j a : Int} {L : List Int} (h : ¬ g = f) : movl M f i a L g j = M g j := by rw [movl_2, if_neg (fun q => h q.1)]
def I32 (v : Int) : Prop := -2147483648 ≤ v ∧ v < 2147483648
/-- what a window becomes on the one side: y goes to x -/
def mbec (M : Mem) (w n : Int) (L : List Int) : Mem := mrow (movl M 17001 w 0 L) 17000 w (fun k => if 0 ≤ k ∧ k < n then L.getD k.toNat 0 else M 17000 w k)
theorem m139 {L : List Int} (hn : M 17 w 2 = n) (h0 : 0 ≤ n) (h1 : n ≤ 512) (hl : (L.length : Int) = n) : Tq 139 0 [vR 17 w] [] (movl M 17001 w 0 L) Q ↔ Q (.inl none) (mbec M w n L) := by
  simp only [kI_v, kL_v, kV_v, kR_v, kX_n, kX_e, bd_e, b2i_e0, b2i_e1, b2i_nb, nb_0, nb_1, cmp_lt, cmp_le, cmp_gt, cmp_ge, cmp_eq, not_true_eq_false, not_false_eq_true, if_true, if_false, ite_true, ite_false, true_and, and_true, false_and, and_false, Int.reduceLT, Int.reduceLE, Int.reduceEq, Int.reduceSub, Int.reduceAdd, Int.reduceNeg, Int.reduceMul, Classical.not_not, Int.zero_add, Int.add_zero, Int.le_refl, t139_0]
  rw [movl_r (by decide), hn, mcpy_row, movl_s, movl_r (by decide)]
  refine andi (by omega) ?_
  unfold mbec
  rw [show (fun k : Int => if 0 ≤ k ∧ k < 0 + n then ovl (M 17001 w) 0 L (0 + (k - 0)) else M 17000 w k) = (fun k => if 0 ≤ k ∧ k < n then L.getD k.toNat 0 else M 17000 w k) from by
    funext k
    by_cases hk : 0 ≤ k ∧ k < n
    · rw [if_pos hk, if_pos (by omega), ovl_in (by omega) (by omega), show (0 + (k - 0) - 0).toNat = k.toNat by omega]
    · rw [if_neg hk, if_neg (by omega)]]
theorem smooth_loop (hw : 0 ≤ w ∧ w < 6) (hn : 0 ≤ n ∧ n ≤ 512) (hc : M 17 w 2 = n) (hm : 1 ≤ m ∧ m ≤ 512) : ∀ (d : Nat) (i c : Int) (L : List Int), (L.length : Int) = i → i + d = n → (∀ v ∈ L, I32 v) → ∃ L', (L'.length : Int) = n ∧ (∀ v ∈ L', I32 v) ∧ (∀ Q, Tq 138 1 [vR 17 w, vI m, vL c, vJ, vI i] [] (movl M 17001 w 0 L) Q ↔ Tq 138 4 [vR 17 w, vJ, vJ, vJ, vJ] [] (movl M 17001 w 0 L') Q) ∧ (∀ N, (∀ k, 0 ≤ k → k < n → M 17000 w k = N 22022 0 k) → ∀ Q, Tq 290 3 [vR 22 0, vI w, vI m, vI n, vL c, vJ, vI i] [] (movl N 22021 0 (512 * w) L) Q ↔ Tq 290 6 [vJ, vJ, vJ, vI n, vJ, vJ, vJ] [] (movl N 22021 0 (512 * w) L') Q) := by
  intro d
  induction d with
  | zero =>
    intro i c L h1 h2 h3
    refine ⟨L, by omega, h3, fun Q => ?_, fun N hx Q => ?_⟩
    · rw [t138_1, movl_r (by decide), hc, if_pos (by omega)]
    · rw [t290_3, if_pos (by omega)]
  | succ d ih =>
    intro i c L h1 h2 h3
    have fin : ∀ z : Int, ∃ L', (L'.length : Int) = n ∧ (∀ v ∈ L', I32 v) ∧ (∀ Q, Tq 138 3 [vR 17 w, vI m, vJ, vJ, vI i] [vL z, vL (M 17000 w i), vL c] (movl M 17001 w 0 L) Q ↔ Tq 138 4 [vR 17 w, vJ, vJ, vJ, vJ] [] (movl M 17001 w 0 L') Q) ∧ (∀ N, (∀ k, 0 ≤ k → k < n → M 17000 w k = N 22022 0 k) → ∀ Q, Tq 290 5 [vR 22 0, vI w, vI m, vI n, vJ, vJ, vI i] [vL z, vL (N 22022 0 i), vL c] (movl N 22021 0 (512 * w) L) Q ↔ Tq 290 6 [vJ, vJ, vJ, vI n, vJ, vJ, vJ] [] (movl N 22021 0 (512 * w) L') Q) := by
      intro z
      obtain ⟨L', l1, l2, l3, l4⟩ := ih (i + 1) (w64 (c + w64 (M 17000 w i - z))) (L ++ [w32 (fdv (w64 (c + w64 (M 17000 w i - z))) (min (i + 1) m))]) (by simp; omega) (by omega) (by
        intro v hv
        rcases List.mem_append.mp hv with hv | hv
        · exact h3 v hv
        · rw [List.mem_singleton.mp hv]
          exact w32_rng _)
      refine ⟨L', l1, l2, fun Q => ?_, fun N hx Q => ?_⟩
      · rw [t138_3, m8, kI_v, w32_id (z := i + 1) (by omega) (by omega), m10 (by omega), kL_v, bd_e, mset_app0 (by omega), l3]
        exact andi (by omega) Iff.rfl
      · rw [t290_5, m8, kI_v, w32_id (z := i + 1) (by omega) (by omega), m10 (by omega), kL_v, bd_e, w32_id (z := 512 * w) (by omega) (by omega), w32_id (z := 512 * w + i) (by omega) (by omega), mset_app (by omega), ← hx i (by omega) (by omega), l4 N hx]
        exact andi (by omega) Iff.rfl
    by_cases c1 : i < m
    · obtain ⟨L', l1, l2, l3, l4⟩ := fin 0
      refine ⟨L', l1, l2, fun Q => ?_, fun N hx Q => ?_⟩
      · rw [t138_1, movl_r (by decide), hc, if_neg (by omega), if_pos c1, movl_r (by decide), t138_2, l3]
        exact andi (by omega) Iff.rfl
      · rw [t290_3, if_neg (by omega), if_neg (by omega), movl_r (by decide), l4 N hx]
        exact andi (by omega) Iff.rfl
    · obtain ⟨L', l1, l2, l3, l4⟩ := fin (M 17000 w (i - m))
      refine ⟨L', l1, l2, fun Q => ?_, fun N hx Q => ?_⟩
      · rw [t138_1, movl_r (by decide), hc, if_neg (by omega), if_neg c1, movl_r (by decide), w32_id (z := i - m) (by omega) (by omega), l3]
        exact andi (by omega) (andi (by omega) Iff.rfl)
      · rw [t290_3, if_neg (by omega), if_pos (by omega), movl_r (by decide), t290_4, movl_r (by decide), w32_id (z := i - m) (by omega) (by omega), ← hx (i - m) (by omega) (by omega), l4 N hx]
        exact andi (by omega) (andi (by omega) Iff.rfl)
def SWc (f : Nat) (_ _ : Int) : Prop := f = 17 ∨ f = 17000 ∨ f = 17001
def SWn (f : Nat) (_ _ : Int) : Prop := f = 17 ∨ f = 17000 ∨ f = 17001 ∨ f = 22018 ∨ f = 22019 ∨ f = 22020 ∨ f = 22021 ∨ f = 22022
theorem SWc_le {M M' : Mem} (h : Fr SWc M M') : Fr SWn M M' := h.mono (by simp only [SWc, SWn]; omega)
theorem mbec_fr {L : List Int} : Fr SWc M (mbec M w n L) := Fr.mrow (Fr.movl Fr.refl (fun _ => Or.inr (Or.inr rfl))) (fun _ => Or.inr (Or.inl rfl))
/-- one window's numbers are others, the same on both sides -/
theorem IWn_put {M' : Mem} {L : List Int} (hI : IWn M) (hw : 0 ≤ w ∧ w < 6) (hl : (L.length : Int) = M 22018 0 w) (h32 : ∀ v ∈ L, I32 v) (e1 : M' 17 = M 17) (e2 : M' 22018 0 = M 22018 0) (e3 : M' 22019 0 = M 22019 0) (e4 : M' 22020 0 = M 22020 0) (e5 : M' 22 0 9 = M 22 0 9) (e6 : ∀ u, ¬ u = w → M' 17000 u = M 17000 u) (e7 : ∀ k, 0 ≤ k → k < M 22018 0 w → M' 17000 w k = L.getD k.toNat 0) (e8 : M' 22021 0 = ovl (M 22021 0) (512 * w) L) : IWn M' := by
  unfold IWn
  rw [e1, e2, e3, e4, e5, e8]
  intro u hu1 hu2
  obtain ⟨a1, a2, a3, a4, a5⟩ := hI u hu1 hu2
  refine ⟨a1, a2, a3, a4, fun k q1 q2 => ?_⟩
  by_cases hu : u = w
  · subst hu
    have hk : k.toNat < L.length := by omega
    have hm : L.getD k.toNat 0 ∈ L := by
      rw [List.getD_eq_getElem?_getD, List.getElem?_eq_getElem hk]
      exact List.getElem_mem hk
    dsimp only
    rw [e7 k q1 q2, ovl_in (by omega) (by omega), show (512 * u + k - 512 * u).toNat = k.toNat by omega]
    exact ⟨rfl, h32 _ hm⟩
  · dsimp only
    rw [e6 u hu, ovl_out (by
      obtain ⟨b1, b2, -⟩ := hI w hw.1 hw.2
      omega)]
    exact a5 k q1 q2
/-- both end with the same value, nothing changes -/
theorem Op2_r {S1 S : Nat → Int → Int → Prop} {y z : Nat} {as bs : List AV} {I : Mem → Prop} {v : Int} (h1 : RtI y 0 as [] M v) (h2 : RtI z 0 bs [] M v) (hI : I M) : Op2 S1 S y as z bs M I := by
  unfold Op2
  rw [h1, kI_v]
  refine ⟨Fr.refl, ?_⟩
  rw [h2, kI_v]
  exact ⟨rfl, Fr.refl, hI⟩
def SAs (f : Nat) (_ _ : Int) : Prop := f = 22022
theorem masd_IWn {i : Int} (hI : IWn M) : Fr SWn M (masd M w i) ∧ IWn (masd M w i) := by
  have h : Fr SAs M (masd M w i) := Fr.mrow Fr.refl (fun _ => rfl)
  exact ⟨h.mono (by simp only [SAs, SWn]; omega), IWn_fr hI h (by simp only [LIWn, SAs]; omega)⟩
/-- the model's window, after both -/
def mwin (M : Mem) (w n : Int) (L : List Int) : Mem := movl (masd (mbec M w n L) w n) 22021 0 (512 * w) L
theorem mwin_IWn {L : List Int} (hI : IWn M) (hw : 0 ≤ w ∧ w < 6) (hn : n = M 22018 0 w) (hl : (L.length : Int) = n) (h32 : ∀ v ∈ L, I32 v) : Fr SWn M (mwin M w n L) ∧ IWn (mwin M w n L) := by
  subst hn
  constructor
  · unfold mwin masd
    exact Fr.movl (Fr.mrow (SWc_le mbec_fr) (fun _ => by simp [SWn])) (fun _ => by simp [SWn])
  · have b : ∀ f j, ¬ f = 17000 → ¬ f = 17001 → mbec M w (M 22018 0 w) L f j = M f j := fun f j h1 h2 => by
      unfold mbec
      rw [mrow_2, if_neg (fun q => h1 q.1), movl_r h2]
    have r : ∀ f j, ¬ f = 22021 → ¬ f = 22022 → mwin M w (M 22018 0 w) L f j = mbec M w (M 22018 0 w) L f j := fun f j h1 h2 => by
      unfold mwin
      rw [movl_r h1, masd_r h2]
    refine IWn_put hI hw hl h32 ?_ ?_ ?_ ?_ ?_ ?_ ?_ ?_
    · funext j
      rw [r 17 j (by decide) (by decide), b 17 j (by decide) (by decide)]
    · rw [r _ _ (by decide) (by decide), b _ _ (by decide) (by decide)]
    · rw [r _ _ (by decide) (by decide), b _ _ (by decide) (by decide)]
    · rw [r _ _ (by decide) (by decide), b _ _ (by decide) (by decide)]
    · rw [r _ _ (by decide) (by decide), b _ _ (by decide) (by decide)]
    · intro u hu
      rw [r _ _ (by decide) (by decide)]
      unfold mbec
      rw [mrow_2, if_neg (fun q => hu q.2), movl_r (by decide)]
    · intro k q1 q2
      rw [r _ _ (by decide) (by decide)]
      unfold mbec
      rw [mrow_2, if_pos ⟨rfl, rfl⟩, if_pos ⟨q1, q2⟩]
    · unfold mwin
      rw [movl_s, masd_r (by decide), b _ _ (by decide) (by decide)]
theorem mbec_r {L : List Int} {f : Nat} {j : Int} (h1 : ¬ f = 17000) (h2 : ¬ f = 17001) : mbec M w n L f j = M f j := by
  unfold mbec
  rw [mrow_2, if_neg (fun q => h1 q.1), movl_r h2]
theorem op_smooth (hI : IWn M) : Op2 SWc SWn 41 [vR 1 0, vI w, vI m] 290 [vR 22 0, vI w, vI m, vJ, vJ, vJ, vJ] M IWn := by
  unfold Op2
  by_cases hb : (0 ≤ w ∧ w ≤ 5) ∧ 1 ≤ m ∧ m ≤ 512
  · obtain ⟨a1, a2, a3, a4, a5⟩ := hI w hb.1.1 (by omega)
    have hw : 0 ≤ w ∧ w < 6 := by omega
    simp only [kI_v, kL_v, kV_v, kR_v, kX_n, kX_e, bd_e, b2i_e0, b2i_e1, b2i_nb, nb_0, nb_1, cmp_lt, cmp_le, cmp_gt, cmp_ge, cmp_eq, not_true_eq_false, not_false_eq_true, if_true, if_false, ite_true, ite_false, true_and, and_true, false_and, and_false, Int.reduceLT, Int.reduceLE, Int.reduceEq, Int.reduceSub, Int.reduceAdd, Int.reduceNeg, Int.reduceMul, Classical.not_not, Int.zero_add, Int.add_zero, Int.le_refl, t41_0, t41_1, t41_2, t41_3, m40, m25]
    rw [if_neg (show ¬ ¬ (0 ≤ w ∧ w ≤ 5) by omega), if_pos hb.2, a1]
    refine ⟨hw, ifg (fun hz => ⟨hw, ?_⟩) (fun hz => ⟨Fr.refl, ?_⟩)⟩
    · obtain ⟨L, l1, l2, l3, l4⟩ := smooth_loop (M := M) (m := m) hw a2 a1 hb.2 (M 22018 0 w).toNat 0 0 [] (by simp) (by omega) (by simp)
      rw [movl_nil] at l3
      rw [t138_0, l3, t138_4, m139 a1 a2.1 a2.2 l1, kV_v, kV_v]
      refine ⟨mbec_fr, ?_⟩
      have e18 : mbec M w (M 22018 0 w) L 22018 0 = M 22018 0 := mbec_r (by decide) (by decide)
      have e21 : mbec M w (M 22018 0 w) L 22021 0 = M 22021 0 := mbec_r (by decide) (by decide)
      have l4 := l4 (masd (mbec M w (M 22018 0 w) L) w (M 22018 0 w)) (fun k q1 q2 => by rw [masd_b q1 q2, e21]; exact (a5 k q1 q2).1)
      rw [movl_nil] at l4
      simp only [kI_v, kL_v, kV_v, kR_v, kX_n, kX_e, bd_e, b2i_e0, b2i_e1, b2i_nb, nb_0, nb_1, cmp_lt, cmp_le, cmp_gt, cmp_ge, cmp_eq, not_true_eq_false, not_false_eq_true, if_true, if_false, ite_true, ite_false, true_and, and_true, false_and, and_false, Int.reduceLT, Int.reduceLE, Int.reduceEq, Int.reduceSub, Int.reduceAdd, Int.reduceNeg, Int.reduceMul, Classical.not_not, Int.zero_add, Int.add_zero, Int.le_refl, t290_0, t290_1, t290_2, t290_6, t290_7, t290_8, m289, m189]
      rw [if_neg (show ¬ ¬ (0 ≤ w ∧ w ≤ 5) by omega), if_pos hb.2, m291 hw (by rw [e18]; exact a2), kI_v, e18, l4, t290_6, if_pos hz, t290_7, t290_8, kI_v]
      exact ⟨rfl, mwin_IWn hI hw rfl l1 l2⟩
    · simp only [kI_v, kL_v, kV_v, kR_v, kX_n, kX_e, bd_e, b2i_e0, b2i_e1, b2i_nb, nb_0, nb_1, cmp_lt, cmp_le, cmp_gt, cmp_ge, cmp_eq, not_true_eq_false, not_false_eq_true, if_true, if_false, ite_true, ite_false, true_and, and_true, false_and, and_false, Int.reduceLT, Int.reduceLE, Int.reduceEq, Int.reduceSub, Int.reduceAdd, Int.reduceNeg, Int.reduceMul, Classical.not_not, Int.zero_add, Int.add_zero, Int.le_refl, t290_0, t290_1, t290_2, m289, m189]
      rw [if_neg (show ¬ ¬ (0 ≤ w ∧ w ≤ 5) by omega), if_pos hb.2, m291 hw a2, kI_v, t290_3, if_pos (by omega), t290_6, if_neg hz, t290_8, kI_v]
      exact ⟨rfl, masd_IWn hI⟩
  · refine Op2_r (v := -1) (fun Q => ?_) (fun Q => ?_) hI
    · simp only [kI_v, kL_v, kV_v, kR_v, kX_n, kX_e, bd_e, b2i_e0, b2i_e1, b2i_nb, nb_0, nb_1, cmp_lt, cmp_le, cmp_gt, cmp_ge, cmp_eq, not_true_eq_false, not_false_eq_true, if_true, if_false, ite_true, ite_false, true_and, and_true, false_and, and_false, Int.reduceLT, Int.reduceLE, Int.reduceEq, Int.reduceSub, Int.reduceAdd, Int.reduceNeg, Int.reduceMul, Classical.not_not, Int.zero_add, Int.add_zero, Int.le_refl, t41_0, t41_1, m40, m25]
      refine ifi (fun d => Iff.rfl) (fun d => ?_)
      rw [if_neg (by omega)]
    · simp only [kI_v, kL_v, kV_v, kR_v, kX_n, kX_e, bd_e, b2i_e0, b2i_e1, b2i_nb, nb_0, nb_1, cmp_lt, cmp_le, cmp_gt, cmp_ge, cmp_eq, not_true_eq_false, not_false_eq_true, if_true, if_false, ite_true, ite_false, true_and, and_true, false_and, and_false, Int.reduceLT, Int.reduceLE, Int.reduceEq, Int.reduceSub, Int.reduceAdd, Int.reduceNeg, Int.reduceMul, Classical.not_not, Int.zero_add, Int.add_zero, Int.le_refl, t290_0, t290_1, m289, m189]
      refine ifi (fun d => Iff.rfl) (fun d => ?_)
      rw [if_neg (by omega)]
end Win2
