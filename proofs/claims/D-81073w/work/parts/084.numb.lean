/-! NUMBERS: roots, logarithms, the sine; both sides' -/
section Numb
variable {M : Mem} {Q : AR → Mem → Prop}
def clip (x : Int) : Int := max (-1048576) (min 1048576 x)
def cap (x : Int) : Int := max (-1073741824) (min 1073741824 x)
def bnd (x : Int) : Int := max (-1000000000) (min 1000000000 x)
theorem clip_rng (x : Int) : -1048576 ≤ clip x ∧ clip x ≤ 1048576 := by unfold clip; omega
theorem cap_rng (x : Int) : -1073741824 ≤ cap x ∧ cap x ≤ 1073741824 := by unfold cap; omega
theorem bnd_rng (x : Int) : -1000000000 ≤ bnd x ∧ bnd x ≤ 1000000000 := by unfold bnd; omega
theorem m50 {x : Int} : Tq 50 0 [vI x] [] M Q ↔ Q (.inl (some (vI (clip x)))) M := by simp only [kI_v, kL_v, kV_v, kR_v, kX_n, kX_e, bd_e, b2i_e0, b2i_e1, b2i_nb, nb_0, nb_1, cmp_lt, cmp_le, cmp_gt, cmp_ge, cmp_eq, not_true_eq_false, not_false_eq_true, if_true, if_false, ite_true, ite_false, true_and, and_true, false_and, and_false, Int.reduceLT, Int.reduceLE, Int.reduceEq, Int.reduceSub, Int.reduceAdd, Int.reduceNeg, Int.reduceMul, Classical.not_not, Int.zero_add, Int.add_zero, Int.le_refl, t50_0, m8, m9]; rfl
theorem m300 {x : Int} : Tq 300 0 [vI x] [] M Q ↔ Q (.inl (some (vI (clip x)))) M := by
  simp only [kI_v, kL_v, kV_v, kR_v, kX_n, kX_e, bd_e, b2i_e0, b2i_e1, b2i_nb, nb_0, nb_1, cmp_lt, cmp_le, cmp_gt, cmp_ge, cmp_eq, not_true_eq_false, not_false_eq_true, if_true, if_false, ite_true, ite_false, true_and, and_true, false_and, and_false, Int.reduceLT, Int.reduceLE, Int.reduceEq, Int.reduceSub, Int.reduceAdd, Int.reduceNeg, Int.reduceMul, Classical.not_not, Int.zero_add, Int.add_zero, Int.le_refl, t300_0, t300_1, t300_2, t300_3]
  unfold clip
  by_cases h1 : -1048576 ≤ x
  · by_cases h2 : x ≤ 1048576
    · rw [if_pos h1, if_pos h2, show max (-1048576) (min 1048576 x) = x by omega]
    · rw [if_pos h1, if_neg h2, show max (-1048576) (min 1048576 x) = 1048576 by omega]
  · rw [if_neg h1, show max (-1048576) (min 1048576 x) = -1048576 by omega]
theorem m43 {x : Int} : Tq 43 0 [vL x, vJ] [] M Q ↔ Q (.inl (some (vI (cap x)))) M := by
  simp only [kI_v, kL_v, kV_v, kR_v, kX_n, kX_e, bd_e, b2i_e0, b2i_e1, b2i_nb, nb_0, nb_1, cmp_lt, cmp_le, cmp_gt, cmp_ge, cmp_eq, not_true_eq_false, not_false_eq_true, if_true, if_false, ite_true, ite_false, true_and, and_true, false_and, and_false, Int.reduceLT, Int.reduceLE, Int.reduceEq, Int.reduceSub, Int.reduceAdd, Int.reduceNeg, Int.reduceMul, Classical.not_not, Int.zero_add, Int.add_zero, Int.le_refl, t43_0, m11, m12]
  have := cap_rng x
  rw [w32_id (z := max (-1073741824) (min 1073741824 x)) (by omega) (by omega)]
  rfl
theorem m293 {x : Int} : Tq 293 0 [vL x, vJ] [] M Q ↔ Q (.inl (some (vI (cap x)))) M := by
  simp only [kI_v, kL_v, kV_v, kR_v, kX_n, kX_e, bd_e, b2i_e0, b2i_e1, b2i_nb, nb_0, nb_1, cmp_lt, cmp_le, cmp_gt, cmp_ge, cmp_eq, not_true_eq_false, not_false_eq_true, if_true, if_false, ite_true, ite_false, true_and, and_true, false_and, and_false, Int.reduceLT, Int.reduceLE, Int.reduceEq, Int.reduceSub, Int.reduceAdd, Int.reduceNeg, Int.reduceMul, Classical.not_not, Int.zero_add, Int.add_zero, Int.le_refl, t293_0, t293_1, t293_2, t293_3]
  have hw : ∀ z : Int, -1073741824 ≤ z → z ≤ 1073741824 → w32 z = z := fun z _ _ => w32_id (by omega) (by omega)
  unfold cap
  by_cases h1 : -1073741824 ≤ x
  · by_cases h2 : x ≤ 1073741824
    · rw [if_pos h1, if_pos h2, show max (-1073741824) (min 1073741824 x) = x by omega, hw x h1 h2]
    · rw [if_pos h1, if_neg h2, show max (-1073741824) (min 1073741824 x) = 1073741824 by omega, hw _ (by omega) (by omega)]
  · rw [if_neg h1, show max (-1073741824) (min 1073741824 x) = -1073741824 by omega, hw _ (by omega) (by omega)]
theorem m347 {x : Int} : Tq 347 0 [vL x, vJ] [] M Q ↔ Q (.inl (some (vL (bnd x)))) M := by simp only [kI_v, kL_v, kV_v, kR_v, kX_n, kX_e, bd_e, b2i_e0, b2i_e1, b2i_nb, nb_0, nb_1, cmp_lt, cmp_le, cmp_gt, cmp_ge, cmp_eq, not_true_eq_false, not_false_eq_true, if_true, if_false, ite_true, ite_false, true_and, and_true, false_and, and_false, Int.reduceLT, Int.reduceLE, Int.reduceEq, Int.reduceSub, Int.reduceAdd, Int.reduceNeg, Int.reduceMul, Classical.not_not, Int.zero_add, Int.add_zero, Int.le_refl, t347_0, m11, m12]; rfl
theorem m251 {x : Int} : Tq 251 0 [vL x, vJ] [] M Q ↔ Q (.inl (some (vL (bnd x)))) M := by
  simp only [kI_v, kL_v, kV_v, kR_v, kX_n, kX_e, bd_e, b2i_e0, b2i_e1, b2i_nb, nb_0, nb_1, cmp_lt, cmp_le, cmp_gt, cmp_ge, cmp_eq, not_true_eq_false, not_false_eq_true, if_true, if_false, ite_true, ite_false, true_and, and_true, false_and, and_false, Int.reduceLT, Int.reduceLE, Int.reduceEq, Int.reduceSub, Int.reduceAdd, Int.reduceNeg, Int.reduceMul, Classical.not_not, Int.zero_add, Int.add_zero, Int.le_refl, t251_0, t251_1, t251_2, t251_3]
  unfold bnd
  by_cases h1 : -1000000000 ≤ x
  · by_cases h2 : x ≤ 1000000000
    · rw [if_pos h1, if_pos h2, show max (-1000000000) (min 1000000000 x) = x by omega]
    · rw [if_pos h1, if_neg h2, show max (-1000000000) (min 1000000000 x) = 1000000000 by omega]
  · rw [if_neg h1, show max (-1000000000) (min 1000000000 x) = -1000000000 by omega]
/-! roots -/
def rtN : Nat → Nat
  | 0 => 0
  | n + 1 => if (rtN n + 1) * (rtN n + 1) ≤ n + 1 then rtN n + 1 else rtN n
theorem rtN_spec : ∀ n : Nat, rtN n * rtN n ≤ n ∧ n < (rtN n + 1) * (rtN n + 1)
  | 0 => by decide
  | n + 1 => by
    obtain ⟨h1, h2⟩ := rtN_spec n
    unfold rtN
    by_cases h : (rtN n + 1) * (rtN n + 1) ≤ n + 1
    · rw [if_pos h]
      refine ⟨h, ?_⟩
      have : (rtN n + 1 + 1) * (rtN n + 1 + 1) = (rtN n + 1) * (rtN n + 1) + 2 * (rtN n + 1) + 1 := by grind
      omega
    · rw [if_neg h]
      omega
def rt (n : Int) : Int := rtN n.toNat
theorem rt_nn (n : Int) : 0 ≤ rt n := Int.natCast_nonneg _
theorem rt_spec {n : Int} (h : 0 ≤ n) : rt n * rt n ≤ n ∧ n < (rt n + 1) * (rt n + 1) := by
  obtain ⟨h1, h2⟩ := rtN_spec n.toNat
  unfold rt
  have e1 : ((rtN n.toNat : Nat) : Int) * (rtN n.toNat : Nat) = ((rtN n.toNat * rtN n.toNat : Nat) : Int) := by rw [Int.natCast_mul]
  have e2 : (((rtN n.toNat : Nat) : Int) + 1) * ((rtN n.toNat : Nat) + 1) = (((rtN n.toNat + 1) * (rtN n.toNat + 1) : Nat) : Int) := by rw [Int.natCast_mul, Int.natCast_add]; rfl
  rw [e1, e2]
  omega
theorem sq_lt {a b : Int} (h0 : 0 ≤ b) (h : a * a < b * b) : a < b := by
  rcases Int.lt_or_le a b with h1 | h1
  · exact h1
  · have := Int.mul_self_le_mul_self h0 h1
    omega
theorem rt_uniq {n r : Int} (h0 : 0 ≤ r) (h1 : r * r ≤ n) (h2 : n < (r + 1) * (r + 1)) : r = rt n := by
  have hn : 0 ≤ n := Int.le_trans (Int.mul_nonneg h0 h0) h1
  obtain ⟨h3, h4⟩ := rt_spec hn
  have h5 := rt_nn n
  have a1 : r < rt n + 1 := sq_lt (by omega) (by omega)
  have a2 : rt n < r + 1 := sq_lt (by omega) (by omega)
  omega
theorem rt_le {n b : Int} (hb : 0 ≤ b) (h : n < (b + 1) * (b + 1)) (hn : 0 ≤ n) : rt n ≤ b := by
  have := (rt_spec hn).1
  have : rt n < b + 1 := sq_lt (by omega) (by omega)
  omega
theorem m62_1 : ∀ (k : Nat) (r b n : Int), k ≤ 16 → b = (if k = 0 then 0 else 2 ^ (k - 1)) → 0 ≤ r → r * r ≤ n → n < (r + 2 ^ k) * (r + 2 ^ k) → r + 2 ^ k ≤ 65536 → (Tq 62 1 [vI n, vI r, vI b] [] M Q ↔ Q (.inl (some (vI (rt n)))) M)
  | 0, r, b, n, _, hb, h0, h1, h2, h3 => by
    have hb : b = 0 := hb
    have h2 : n < (r + 1) * (r + 1) := h2
    simp only [kI_v, kL_v, kV_v, kR_v, kX_n, kX_e, bd_e, b2i_e0, b2i_e1, b2i_nb, nb_0, nb_1, cmp_lt, cmp_le, cmp_gt, cmp_ge, cmp_eq, not_true_eq_false, not_false_eq_true, if_true, if_false, ite_true, ite_false, true_and, and_true, false_and, and_false, Int.reduceLT, Int.reduceLE, Int.reduceEq, Int.reduceSub, Int.reduceAdd, Int.reduceNeg, Int.reduceMul, Classical.not_not, Int.zero_add, Int.add_zero, Int.le_refl, t62_1, t62_4, hb]
    rw [← rt_uniq h0 h1 h2]
  | k + 1, r, b, n, hk, hb, h0, h1, h2, h3 => by
    have hb : b = 2 ^ k := hb
    have hp : (1 : Int) ≤ 2 ^ k := Int.pow_pos (by decide)
    have e2 : (2 : Int) ^ (k + 1) = 2 ^ k + 2 ^ k := by rw [Int.pow_succ]; omega
    rw [e2] at h2 h3
    have e3 : shr32 b 1 = (if k = 0 then 0 else 2 ^ (k - 1)) := by
      show b / 2 = _
      rw [hb]
      rcases k with _ | k
      · rfl
      · rw [if_neg (by omega), Int.pow_succ, Nat.add_sub_cancel]
        omega
    subst hb
    have hs1 : 0 ≤ (r + 2 ^ k) * (r + 2 ^ k) := Int.mul_nonneg (by omega) (by omega)
    have hs2 := Int.mul_self_le_mul_self (a := r + 2 ^ k) (b := 65536) (by omega) (by omega)
    rw [t62_1, if_neg (by omega), w32_id (z := r + 2 ^ k) (by omega) (by omega), w64_id (by omega) (by omega)]
    simp only [kI_v, kL_v, kV_v, kR_v, kX_n, kX_e, bd_e, b2i_e0, b2i_e1, b2i_nb, nb_0, nb_1, cmp_lt, cmp_le, cmp_gt, cmp_ge, cmp_eq, not_true_eq_false, not_false_eq_true, if_true, if_false, ite_true, ite_false, true_and, and_true, false_and, and_false, Int.reduceLT, Int.reduceLE, Int.reduceEq, Int.reduceSub, Int.reduceAdd, Int.reduceNeg, Int.reduceMul, Classical.not_not, Int.zero_add, Int.add_zero, Int.le_refl, t62_2, t62_3, e3]
    by_cases h : n < (r + 2 ^ k) * (r + 2 ^ k)
    · rw [if_pos h, w32_id (z := r) (by omega) (by omega)]
      exact m62_1 k r _ n (by omega) rfl h0 h1 h (by omega)
    · rw [if_neg h, w32_id (z := r + 2 ^ k) (by omega) (by omega)]
      refine m62_1 k (r + 2 ^ k) _ n (by omega) rfl (by omega) (by omega) ?_ (by omega)
      rw [show r + 2 ^ k + 2 ^ k = r + (2 ^ k + 2 ^ k) by omega]
      exact h2
theorem m62 {n : Int} (h0 : 0 ≤ n) (h1 : n < 2147483648) : Tq 62 0 [vI n, vJ, vJ] [] M Q ↔ Q (.inl (some (vI (rt n)))) M := by
  rw [t62_0]
  exact m62_1 16 0 32768 n (by omega) rfl (by omega) (by omega) (by
    show n < (0 + 65536) * (0 + 65536)
    omega) (by decide)
theorem m249_1 {n : Int} (h0 : 0 ≤ n) (h1 : n ≤ 2000000000) : ∀ (k : Nat) (r : Int), 0 ≤ r → rt n = r + k → (Tq 249 1 [vI n, vI r] [] M Q ↔ Q (.inl (some (vI (rt n)))) M) := by
  have hs := rt_spec h0
  have hr : rt n ≤ 44721 := rt_le (by decide) (by show n < 44722 * 44722; omega) h0
  intro k
  induction k with
  | zero =>
    intro r hr0 hr1
    have hr1 : rt n = r := by omega
    have a1 := Int.mul_self_le_mul_self (a := r + 1) (b := 44722) (by omega) (by omega)
    have a2 : 0 ≤ (r + 1) * (r + 1) := Int.mul_nonneg (by omega) (by omega)
    rw [t249_1, w32_id (z := r + 1) (by omega) (by omega), w32_id (by omega) (by omega), if_pos (by rw [← hr1]; exact hs.2), t249_2, hr1]
  | succ k ih =>
    intro r hr0 hr1
    have a1 := Int.mul_self_le_mul_self (a := r + 1) (b := rt n) (by omega) (by omega)
    have a2 : 0 ≤ (r + 1) * (r + 1) := Int.mul_nonneg (by omega) (by omega)
    rw [t249_1, w32_id (z := r + 1) (by omega) (by omega), w32_id (by omega) (by omega), if_neg (by omega)]
    exact ih (r + 1) (by omega) (by omega)
theorem m249 {n : Int} (h0 : 0 ≤ n) (h1 : n ≤ 2000000000) : Tq 249 0 [vI n, vJ] [] M Q ↔ Q (.inl (some (vI (rt n)))) M := by
  rw [t249_0]
  have := rt_nn n
  exact m249_1 h0 h1 (rt n).toNat 0 (by omega) (by omega)
end Numb
/-! frames: what may have changed -/
def Fr (S : Nat → Int → Int → Prop) (M M' : Mem) : Prop := ∀ f i k, ¬ S f i k → M' f i k = M f i k
theorem Fr.refl {S : Nat → Int → Int → Prop} {M : Mem} : Fr S M M := fun _ _ _ _ => rfl
theorem Fr.trans {S : Nat → Int → Int → Prop} {M M' M'' : Mem} (h : Fr S M M') (h' : Fr S M' M'') : Fr S M M'' := fun f i k q => (h' f i k q).trans (h f i k q)
theorem Fr.mono {S S' : Nat → Int → Int → Prop} {M M' : Mem} (h : Fr S M M') (hs : ∀ f i k, S f i k → S' f i k) : Fr S' M M' := fun f i k q => h f i k (fun q' => q (hs f i k q'))
theorem Fr.row {S : Nat → Int → Int → Prop} {M M' : Mem} (h : Fr S M M') (f : Nat) (i : Int) (hs : ∀ k, ¬ S f i k) : M' f i = M f i := by
  funext k
  exact h f i k (hs k)
theorem Fr.mset {S : Nat → Int → Int → Prop} {M M' : Mem} {f : Nat} {i k v : Int} (h : Fr S M M') (hs : S f i k) : Fr S M (mset M' f i k v) := by
  intro f' i' k' q
  rw [mset_3, if_neg (by rintro ⟨rfl, rfl, rfl⟩; exact q hs)]
  exact h f' i' k' q
/-- the model's row of roots -/
def SRt (f : Nat) (_ k : Int) : Prop := f = 22000 ∨ (f = 22 ∧ k = 1)
def RtOK (M : Mem) : Prop := 0 ≤ M 22 0 1 ∧ M 22 0 1 ≤ 70000 ∧ ∀ k, 0 ≤ k → k < M 22 0 1 → M 22000 0 k = rt k
section Numb2
variable {M : Mem} {Q : AR → Mem → Prop}
theorem rt_step {n : Int} (h : 0 < n) : rt n = if (rt (n - 1) + 1) * (rt (n - 1) + 1) ≤ n then rt (n - 1) + 1 else rt (n - 1) := by
  obtain ⟨m, rfl⟩ := Int.eq_ofNat_of_zero_le (Int.le_of_lt h)
  rcases m with _ | m
  · omega
  · have e : rt ((m + 1 : Nat) - 1) = rtN m := by
      unfold rt
      rw [show (((m + 1 : Nat) : Int) - 1).toNat = m by omega]
    rw [e]
    show ((rtN (m + 1) : Nat) : Int) = _
    rw [rtN]
    by_cases hc : (rtN m + 1) * (rtN m + 1) ≤ m + 1
    · have hc' : ((rtN m : Int) + 1) * ((rtN m : Int) + 1) ≤ ((m + 1 : Nat) : Int) := by
        have := Int.ofNat_le.mpr hc
        rw [Int.natCast_mul, Int.natCast_add] at this
        exact this
      rw [if_pos hc, if_pos hc']
      rfl
    · have hc' : ¬ ((rtN m : Int) + 1) * ((rtN m : Int) + 1) ≤ ((m + 1 : Nat) : Int) := by
        intro q
        apply hc
        apply Int.ofNat_le.mp
        rw [Int.natCast_mul, Int.natCast_add]
        exact q
      rw [if_neg hc, if_neg hc']
theorem m248_1 {n : Int} (h0 : 0 ≤ n) (h1 : n < 70000) : ∀ (k : Nat) (M : Mem), RtOK M → n < M 22 0 1 + k → (∀ M', Fr SRt M M' → RtOK M' → Q (.inl (some (vI (rt n)))) M') → Tq 248 1 [vR 22 0, vI n, vJ] [] M Q := by
  intro k
  induction k with
  | zero =>
    intro M hR hk hQ
    rw [t248_1, if_pos (by omega), t248_6, hR.2.2 n h0 (by omega)]
    exact ⟨⟨h0, h1⟩, hQ M Fr.refl hR⟩
  | succ k ih =>
    intro M hR hk hQ
    by_cases hlt : n < M 22 0 1
    · rw [t248_1, if_pos hlt, t248_6, hR.2.2 n h0 hlt]
      exact ⟨⟨h0, h1⟩, hQ M Fr.refl hR⟩
    · obtain ⟨r1, r2, r3⟩ := hR
      have put : ∀ v, v = rt (M 22 0 1) → Tq 248 5 [vR 22 0, vI n, vJ] [vI v, vI (M 22 0 1), vR 22000 0] M Q := by
        intro v hv
        simp only [kI_v, kL_v, kV_v, kR_v, kX_n, kX_e, bd_e, b2i_e0, b2i_e1, b2i_nb, nb_0, nb_1, cmp_lt, cmp_le, cmp_gt, cmp_ge, cmp_eq, not_true_eq_false, not_false_eq_true, if_true, if_false, ite_true, ite_false, true_and, and_true, false_and, and_false, Int.reduceLT, Int.reduceLE, Int.reduceEq, Int.reduceSub, Int.reduceAdd, Int.reduceNeg, Int.reduceMul, Classical.not_not, Int.zero_add, Int.add_zero, Int.le_refl, t248_5]
        refine ⟨⟨r1, by omega⟩, ?_⟩
        rw [mset_3, if_neg (by simp), w32_id (by omega) (by omega)]
        refine ih _ ⟨?_, ?_, ?_⟩ ?_ ?_
        · rw [mset_3, if_pos ⟨rfl, rfl, rfl⟩]; omega
        · rw [mset_3, if_pos ⟨rfl, rfl, rfl⟩]; omega
        · intro j hj1 hj2
          rw [mset_3, if_pos ⟨rfl, rfl, rfl⟩] at hj2
          rw [mset_3, if_neg (by simp), mset_3]
          by_cases hj : j = M 22 0 1
          · rw [if_pos ⟨rfl, rfl, hj⟩, hj]
            exact hv
          · rw [if_neg (by intro q; exact hj q.2.2)]
            exact r3 j hj1 (by omega)
        · rw [mset_3, if_pos ⟨rfl, rfl, rfl⟩]; omega
        · intro M' hf hR'
          refine hQ M' (Fr.trans ?_ hf) hR'
          exact Fr.mset (Fr.mset Fr.refl (Or.inl rfl)) (Or.inr ⟨rfl, rfl⟩)
      rw [t248_1, if_neg hlt]
      by_cases hz : M 22 0 1 = 0
      · rw [if_neg (by simpa using hz)]
        simp only [kI_v, kL_v, kV_v, kR_v, kX_n, kX_e, bd_e, b2i_e0, b2i_e1, b2i_nb, nb_0, nb_1, cmp_lt, cmp_le, cmp_gt, cmp_ge, cmp_eq, not_true_eq_false, not_false_eq_true, if_true, if_false, ite_true, ite_false, true_and, and_true, false_and, and_false, Int.reduceLT, Int.reduceLE, Int.reduceEq, Int.reduceSub, Int.reduceAdd, Int.reduceNeg, Int.reduceMul, Classical.not_not, Int.zero_add, Int.add_zero, Int.le_refl, t248_3, t248_4, hz]
        rw [if_pos (by decide)]
        have := put 0 (by rw [hz]; rfl)
        rw [hz] at this
        exact this
      · have hm := r3 (M 22 0 1 - 1) (by omega) (by omega)
        have hs := rt_spec (n := M 22 0 1 - 1) (by omega)
        have hnn := rt_nn (M 22 0 1 - 1)
        have hle : rt (M 22 0 1 - 1) ≤ 300 := rt_le (by decide) (by show M 22 0 1 - 1 < 301 * 301; omega) (by omega)
        have a1 := Int.mul_self_le_mul_self (a := rt (M 22 0 1 - 1) + 1) (b := 301) (by omega) (by omega)
        have a2 : 0 ≤ (rt (M 22 0 1 - 1) + 1) * (rt (M 22 0 1 - 1) + 1) := Int.mul_nonneg (by omega) (by omega)
        rw [if_pos hz, t248_2, w32_id (z := M 22 0 1 - 1) (by omega) (by omega), hm, t248_3, w32_id (z := rt (M 22 0 1 - 1) + 1) (by omega) (by omega), w32_id (by omega) (by omega)]
        refine ⟨by omega, ?_⟩
        have hst := rt_step (n := M 22 0 1) (by omega)
        by_cases hc : M 22 0 1 < (rt (M 22 0 1 - 1) + 1) * (rt (M 22 0 1 - 1) + 1)
        · rw [if_pos hc, t248_4]
          rw [if_neg (by omega)] at hst
          exact put _ hst.symm
        · rw [if_neg hc]
          rw [if_pos (by omega)] at hst
          exact put _ hst.symm
theorem m248 {n : Int} (hR : RtOK M) (h0 : 0 ≤ n) (h1 : n ≤ 2000000000) (hQ : ∀ M', Fr SRt M M' → RtOK M' → Q (.inl (some (vI (rt n)))) M') : Tq 248 0 [vR 22 0, vI n, vJ] [] M Q := by
  rw [t248_0]
  by_cases h : n < 70000
  · rw [if_pos h]
    exact m248_1 h0 h 70000 M hR (by have := hR.1; omega) hQ
  · rw [if_neg h, m249 h0 h1, kI_v]
    exact hQ M Fr.refl hR
/-- the distance of two places -/
def dis (x y u v : Int) : Int := rt ((x - u) * (x - u) + (y - v) * (y - v))
theorem sq_bd {a b : Int} (h : -b ≤ a) (h' : a ≤ b) : 0 ≤ a * a ∧ a * a ≤ b * b := by
  rcases Int.le_total 0 a with h0 | h0
  · exact ⟨Int.mul_nonneg h0 h0, Int.mul_self_le_mul_self h0 h'⟩
  · rw [← Int.neg_mul_neg a a]
    exact ⟨Int.mul_nonneg (by omega) (by omega), Int.mul_self_le_mul_self (by omega) (by omega)⟩
theorem dis_arg {x y u v : Int} (hx : 0 ≤ x ∧ x ≤ 63) (hy : 0 ≤ y ∧ y ≤ 63) (hu : 0 ≤ u ∧ u ≤ 63) (hv : 0 ≤ v ∧ v ≤ 63) : w32 (w32 (w32 (x - u) * w32 (x - u)) + w32 (w32 (y - v) * w32 (y - v))) = (x - u) * (x - u) + (y - v) * (y - v) ∧ 0 ≤ (x - u) * (x - u) + (y - v) * (y - v) ∧ (x - u) * (x - u) + (y - v) * (y - v) ≤ 7938 := by
  have h1 := sq_bd (a := x - u) (b := 63) (by omega) (by omega)
  have h2 := sq_bd (a := y - v) (b := 63) (by omega) (by omega)
  rw [w32_id (z := x - u) (by omega) (by omega), w32_id (z := y - v) (by omega) (by omega), w32_id (z := (x - u) * (x - u)) (by omega) (by omega), w32_id (z := (y - v) * (y - v)) (by omega) (by omega), w32_id (by omega) (by omega)]
  exact ⟨rfl, by omega, by omega⟩
theorem dis_rng {x y u v : Int} (hx : 0 ≤ x ∧ x ≤ 63) (hy : 0 ≤ y ∧ y ≤ 63) (hu : 0 ≤ u ∧ u ≤ 63) (hv : 0 ≤ v ∧ v ≤ 63) : 0 ≤ dis x y u v ∧ dis x y u v ≤ 89 := by
  obtain ⟨-, h2, h3⟩ := dis_arg hx hy hu hv
  exact ⟨rt_nn _, rt_le (by decide) (by show _ < 90 * 90; omega) h2⟩
theorem dis_comm {x y u v : Int} : dis x y u v = dis u v x y := by
  unfold dis
  rw [show (x - u) * (x - u) + (y - v) * (y - v) = (u - x) * (u - x) + (v - y) * (v - y) by grind]
theorem m61 {x y u v : Int} (hx : 0 ≤ x ∧ x ≤ 63) (hy : 0 ≤ y ∧ y ≤ 63) (hu : 0 ≤ u ∧ u ≤ 63) (hv : 0 ≤ v ∧ v ≤ 63) : Tq 61 0 [vI x, vI y, vI u, vI v] [] M Q ↔ Q (.inl (some (vI (dis x y u v)))) M := by
  obtain ⟨h1, h2, h3⟩ := dis_arg hx hy hu hv
  rw [t61_0, h1, m62 h2 (by omega), kI_v]
  rfl
theorem m247 {x y u v : Int} (hR : RtOK M) (hx : 0 ≤ x ∧ x ≤ 63) (hy : 0 ≤ y ∧ y ≤ 63) (hu : 0 ≤ u ∧ u ≤ 63) (hv : 0 ≤ v ∧ v ≤ 63) (hQ : ∀ M', Fr SRt M M' → RtOK M' → Q (.inl (some (vI (dis x y u v)))) M') : Tq 247 0 [vR 22 0, vI x, vI y, vI u, vI v] [] M Q := by
  obtain ⟨h1, h2, h3⟩ := dis_arg hx hy hu hv
  rw [t247_0, h1]
  exact m248 hR h2 (by omega) (fun M' hf hR' => hQ M' hf hR')
end Numb2
