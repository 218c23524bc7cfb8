/-! PICKS: by the variance, both loops in step -/
section Vari3
variable {M N : Mem} {Q : AR → Mem → Prop} {s t k w x y l m a b c d e : Int}
theorem lsp_cg {g g' : Int → Int} {a : Int} {n : Nat} (h : ∀ k, 0 ≤ k → k < n → g (a + k) = g' (a + k)) : lsp g a n = lsp g' a n := by
  unfold lsp
  rw [S1_cg n h, S2_cg n h]
theorem Sm_cg {g g' : Int → Int} {a : Int} {n : Nat} (h : ∀ k, 0 ≤ k → k < n → g (a + k) = g' (a + k)) (hs : Sm g a n) : Sm g' a n := fun k h1 h2 => by rw [← h k h1 h2]; exact hs k h1 h2
/-- a window's numbers, clipped -/
def wcl (M : Mem) (w : Int) : Int → Int := fun k => clip (M 17000 w k)
theorem wcl_sm {a : Int} {n : Nat} : Sm (wcl M w) a n := fun k _ _ => clip_rng _
theorem m145_1 {n : Nat} (hn : n ≤ 512) (hc : M 17 w 2 = n) : ∀ (d i : Nat), i + d = n → (Tq 145 1 [vR 17 w, vL (S1 (wcl M w) 0 i), vJ, vL (S2 (wcl M w) 0 i), vJ, vI i, vJ, vJ, vJ, vJ, vJ, vJ, vJ, vJ, vJ, vJ, vJ] [] M Q ↔ Tq 145 2 [vR 17 w, vL (S1 (wcl M w) 0 n), vJ, vL (S2 (wcl M w) 0 n), vJ, vJ, vJ, vJ, vJ, vJ, vJ, vJ, vJ, vJ, vJ, vJ, vJ] [] M Q) := by
  intro d
  induction d with
  | zero =>
    intro i h
    rw [t145_1, hc, if_pos (by omega), show n = i by omega]
  | succ d ih =>
    intro i h
    have h1 := S1_bd (i + 1) (wcl_sm (M := M) (w := w) (a := 0) (n := i + 1))
    have h2 := S2_bd (i + 1) (wcl_sm (M := M) (w := w) (a := 0) (n := i + 1))
    have h3 := clip_rng (M 17000 w i)
    have h4 := sq_bd (a := clip (M 17000 w i)) (b := 1048576) (by omega) (by omega)
    have e1 : S1 (wcl M w) 0 i + clip (M 17000 w i) = S1 (wcl M w) 0 (i + 1) := by
      show _ = S1 (wcl M w) 0 i + wcl M w (0 + i)
      rw [Int.zero_add]
      rfl
    have e2 : S2 (wcl M w) 0 i + clip (M 17000 w i) * clip (M 17000 w i) = S2 (wcl M w) 0 (i + 1) := by
      show _ = S2 (wcl M w) 0 i + wcl M w (0 + i) * wcl M w (0 + i)
      rw [Int.zero_add]
      rfl
    rw [t145_1, hc, if_neg (by omega), m50, kI_v, w64_id (z := clip (M 17000 w i) * clip (M 17000 w i)) (by omega) (by omega), e1, e2, w64_id (z := S1 (wcl M w) 0 (i + 1)) (by omega) (by omega), w64_id (z := S2 (wcl M w) 0 (i + 1)) (by omega) (by omega), w32_id (by omega) (by omega)]
    exact andi (by omega) (ih (i + 1) (by omega))
/-- what a cut at k is worth -/
def wor (g : Int → Int) (n k : Nat) : Int := k * lsp g 0 k + ((n : Int) - k) * lsp g k (n - k)
theorem wor_rng {g : Int → Int} {n k : Nat} (hk : 1 ≤ k) (hk2 : k < n) (hn : n ≤ 512) (h1 : Sm g 0 k) (h2 : Sm g k (n - k)) : (0 ≤ (k : Int) * lsp g 0 k ∧ (k : Int) * lsp g 0 k ≤ 8257024) ∧ (0 ≤ ((n : Int) - k) * lsp g k (n - k) ∧ ((n : Int) - k) * lsp g k (n - k) ≤ 8257024) := by
  have a1 := lsp_rng (show 1 ≤ k ∧ k ≤ 512 by omega) h1
  have a2 := lsp_rng (show 1 ≤ n - k ∧ n - k ≤ 512 by omega) h2
  have b1 : (k : Int) * lsp g 0 k ≤ 512 * 16127 := Int.mul_le_mul (by omega) (by omega) (by omega) (by omega)
  have b2 : ((n : Int) - k) * lsp g k (n - k) ≤ 512 * 16127 := Int.mul_le_mul (by omega) (by omega) (by omega) (by omega)
  have b3 := Int.mul_nonneg (show 0 ≤ (k : Int) by omega) a1.1
  have b4 := Int.mul_nonneg (show 0 ≤ (n : Int) - k by omega) a2.1
  omega
theorem vari_loop {n : Nat} (hn : 8 ≤ n ∧ n ≤ 512) (hc : M 17 w 2 = n) : ∀ (d k : Nat) (L B : Int), 2 ≤ k → k + d = n - 1 → 0 ≤ L → L ≤ 20000000 → (B = -99999999 ∨ 0 ≤ B ∧ B < (n : Int)) → ∃ v : Int, (v = -99999999 ∨ 0 ≤ v ∧ v < n) ∧ RtI 145 3 [vR 17 w, vL (S1 (wcl M w) 0 n), vJ, vL (S2 (wcl M w) 0 n), vJ, vL L, vJ, vI B, vL (S1 (wcl M w) 0 (k - 1)), vJ, vL (S2 (wcl M w) 0 (k - 1)), vJ, vI k, vJ, vJ, vJ, vJ] [] M v ∧ ∀ N, (∀ j : Int, 0 ≤ j → j < n → N 22022 0 j = wcl M w j) → RtI 303 1 [vR 22 0, vI n, vI B, vI L, vI k, vJ] [] N v := by
  intro d
  induction d with
  | zero =>
    intro k L B h1 h2 h3 h4 h5
    refine ⟨B, h5, fun Q => ?_, fun N hN Q => ?_⟩
    · rw [t145_3, hc, w32_id (by omega) (by omega), if_pos (by omega), t145_7]
    · rw [t303_1, w32_id (by omega) (by omega), if_pos (by omega), t303_3]
  | succ d ih =>
    intro k L B h1 h2 h3 h4 h5
    obtain ⟨j, rfl⟩ : ∃ j, k = j + 1 := ⟨k - 1, by omega⟩
    rw [show j + 1 - 1 = j by omega]
    have hr := wor_rng (g := wcl M w) (n := n) (k := j + 1) (by omega) (by omega) hn.2 wcl_sm wcl_sm
    have s1 := S1_bd (j + 1) (wcl_sm (M := M) (w := w) (a := 0) (n := j + 1))
    have s2 := S2_bd (j + 1) (wcl_sm (M := M) (w := w) (a := 0) (n := j + 1))
    have s3 := clip_rng (M 17000 w j)
    have s4 := sq_bd (a := clip (M 17000 w j)) (b := 1048576) (by omega) (by omega)
    have e1 : S1 (wcl M w) 0 j + clip (M 17000 w j) = S1 (wcl M w) 0 (j + 1) := by
      show _ = S1 (wcl M w) 0 j + wcl M w (0 + j)
      rw [Int.zero_add]
      rfl
    have e2 : S2 (wcl M w) 0 j + clip (M 17000 w j) * clip (M 17000 w j) = S2 (wcl M w) 0 (j + 1) := by
      show _ = S2 (wcl M w) 0 j + wcl M w (0 + j) * wcl M w (0 + j)
      rw [Int.zero_add]
      rfl
    have p1 : S1 (wcl M w) 0 n - S1 (wcl M w) 0 (j + 1) = S1 (wcl M w) ((j + 1 : Nat) : Int) (n - (j + 1)) := by
      have := S1_split (g := wcl M w) (a := 0) (j + 1) (n - (j + 1))
      rw [show j + 1 + (n - (j + 1)) = n by omega, Int.zero_add] at this
      omega
    have p2 : S2 (wcl M w) 0 n - S2 (wcl M w) 0 (j + 1) = S2 (wcl M w) ((j + 1 : Nat) : Int) (n - (j + 1)) := by
      have := S2_split (g := wcl M w) (a := 0) (j + 1) (n - (j + 1))
      rw [show j + 1 + (n - (j + 1)) = n by omega, Int.zero_add] at this
      omega
    have s5 := S1_bd (n - (j + 1)) (wcl_sm (M := M) (w := w) (a := ((j + 1 : Nat) : Int)) (n := n - (j + 1)))
    have s6 := S2_bd (n - (j + 1)) (wcl_sm (M := M) (w := w) (a := ((j + 1 : Nat) : Int)) (n := n - (j + 1)))
    have hcomp : ∀ Q, Tq 145 3 [vR 17 w, vL (S1 (wcl M w) 0 n), vJ, vL (S2 (wcl M w) 0 n), vJ, vL L, vJ, vI B, vL (S1 (wcl M w) 0 j), vJ, vL (S2 (wcl M w) 0 j), vJ, vI ((j + 1 : Nat) : Int), vJ, vJ, vJ, vJ] [] M Q ↔ if L ≤ wor (wcl M w) n (j + 1) then Tq 145 3 [vR 17 w, vL (S1 (wcl M w) 0 n), vJ, vL (S2 (wcl M w) 0 n), vJ, vL L, vJ, vI B, vL (S1 (wcl M w) 0 (j + 1)), vJ, vL (S2 (wcl M w) 0 (j + 1)), vJ, vI ((j + 1 + 1 : Nat) : Int), vJ, vJ, vJ, vJ] [] M Q else Tq 145 3 [vR 17 w, vL (S1 (wcl M w) 0 n), vJ, vL (S2 (wcl M w) 0 n), vJ, vL (wor (wcl M w) n (j + 1)), vJ, vI ((j + 1 : Nat) : Int), vL (S1 (wcl M w) 0 (j + 1)), vJ, vL (S2 (wcl M w) 0 (j + 1)), vJ, vI ((j + 1 + 1 : Nat) : Int), vJ, vJ, vJ, vJ] [] M Q := by
      intro Q
      have en : ((n : Int) - ((j + 1 : Nat) : Int)) = ((n - (j + 1) : Nat) : Int) := by omega
      rw [t145_3, hc, w32_id (z := (n : Int) - 2) (by omega) (by omega), if_neg (by omega), w32_id (z := ((j + 1 : Nat) : Int) - 1) (by omega) (by omega), show ((j + 1 : Nat) : Int) - 1 = j by omega, m50, kI_v, if_pos (by omega), w64_id (z := clip (M 17000 w j) * clip (M 17000 w j)) (by omega) (by omega), e1, e2, w64_id (z := S1 (wcl M w) 0 (j + 1)) (by omega) (by omega), w64_id (z := S2 (wcl M w) 0 (j + 1)) (by omega) (by omega)]
      rw [t145_4, m146v (by omega) wcl_sm, kL_v, m53v (by omega) wcl_sm, kI_v, hc, w32_id (z := (n : Int) - ((j + 1 : Nat) : Int)) (by omega) (by omega), p1, p2, w64_id (z := S1 (wcl M w) ((j + 1 : Nat) : Int) (n - (j + 1))) (by omega) (by omega), w64_id (z := S2 (wcl M w) ((j + 1 : Nat) : Int) (n - (j + 1))) (by omega) (by omega), en, m146v (by omega) wcl_sm, kL_v, m53v (by omega) wcl_sm, kI_v]
      rw [en] at hr
      rw [w64_id (z := ((j + 1 : Nat) : Int) * lsp (wcl M w) 0 (j + 1)) (by omega) (by omega), w64_id (z := ((n - (j + 1) : Nat) : Int) * lsp (wcl M w) ((j + 1 : Nat) : Int) (n - (j + 1))) (by omega) (by omega), w64_id (by omega) (by omega)]
      simp only [kI_v, kL_v, kV_v, kR_v, kX_n, kX_e, bd_e, b2i_e0, b2i_e1, b2i_nb, nb_0, nb_1, cmp_lt, cmp_le, cmp_gt, cmp_ge, cmp_eq, not_true_eq_false, not_false_eq_true, if_true, if_false, ite_true, ite_false, true_and, and_true, false_and, and_false, Int.reduceLT, Int.reduceLE, Int.reduceEq, Int.reduceSub, Int.reduceAdd, Int.reduceNeg, Int.reduceMul, Classical.not_not, Int.zero_add, Int.add_zero, Int.le_refl, t145_5, t145_6]
      rw [w32_id (z := ((j + 1 : Nat) : Int) + 1) (by omega) (by omega)]
      unfold wor
      rw [en]
      refine andi (by omega) ?_
      exact Iff.rfl
    have hmod : ∀ N, (∀ j : Int, 0 ≤ j → j < n → N 22022 0 j = wcl M w j) → ∀ Q, Tq 303 1 [vR 22 0, vI n, vI B, vI L, vI ((j + 1 : Nat) : Int), vJ] [] N Q ↔ if L ≤ wor (wcl M w) n (j + 1) then Tq 303 1 [vR 22 0, vI n, vI B, vI L, vI ((j + 1 + 1 : Nat) : Int), vJ] [] N Q else Tq 303 1 [vR 22 0, vI n, vI ((j + 1 : Nat) : Int), vI (wor (wcl M w) n (j + 1)), vI ((j + 1 + 1 : Nat) : Int), vJ] [] N Q := by
      intro N hN Q
      have c1 : ∀ k : Nat, 0 ≤ k → k < j + 1 → wcl M w (0 + k) = N 22022 0 (0 + k) := fun k k1 k2 => (hN (0 + k) (by omega) (by omega)).symm
      have c2 : ∀ k : Nat, 0 ≤ k → k < n - (j + 1) → wcl M w (((j + 1 : Nat) : Int) + k) = N 22022 0 (((j + 1 : Nat) : Int) + k) := fun k k1 k2 => (hN _ (by omega) (by omega)).symm
      rw [t303_1, w32_id (z := (n : Int) - 2) (by omega) (by omega), if_neg (by omega), m304 (by omega) (by omega) (by omega) (by rw [show (((j + 1 : Nat) : Int) - 0).toNat = j + 1 by omega]; exact Sm_cg c1 wcl_sm), kI_v, m304 (by omega) (by omega) (by omega) (by rw [show ((n : Int) - ((j + 1 : Nat) : Int)).toNat = n - (j + 1) by omega]; exact Sm_cg c2 wcl_sm), kI_v, show (((j + 1 : Nat) : Int) - 0).toNat = j + 1 by omega, show ((n : Int) - ((j + 1 : Nat) : Int)).toNat = n - (j + 1) by omega, ← lsp_cg c1, ← lsp_cg c2, w32_id (z := (n : Int) - ((j + 1 : Nat) : Int)) (by omega) (by omega), w32_id (z := ((j + 1 : Nat) : Int) * lsp (wcl M w) 0 (j + 1)) (by omega) (by omega), w32_id (z := ((n : Int) - ((j + 1 : Nat) : Int)) * lsp (wcl M w) ((j + 1 : Nat) : Int) (n - (j + 1))) (by omega) (by omega), w32_id (by omega) (by omega)]
      simp only [kI_v, kL_v, kV_v, kR_v, kX_n, kX_e, bd_e, b2i_e0, b2i_e1, b2i_nb, nb_0, nb_1, cmp_lt, cmp_le, cmp_gt, cmp_ge, cmp_eq, not_true_eq_false, not_false_eq_true, if_true, if_false, ite_true, ite_false, true_and, and_true, false_and, and_false, Int.reduceLT, Int.reduceLE, Int.reduceEq, Int.reduceSub, Int.reduceAdd, Int.reduceNeg, Int.reduceMul, Classical.not_not, Int.zero_add, Int.add_zero, Int.le_refl, t303_2]
      rw [w32_id (z := ((j + 1 : Nat) : Int) + 1) (by omega) (by omega)]
      exact Iff.rfl
    by_cases cc : L ≤ wor (wcl M w) n (j + 1)
    · obtain ⟨v, v0, v1, v2⟩ := ih (j + 1 + 1) L B (by omega) (by omega) h3 h4 h5
      exact ⟨v, v0, fun Q => by rw [hcomp, if_pos cc]; exact v1 Q, fun N hN Q => by rw [hmod N hN, if_pos cc]; exact v2 N hN Q⟩
    · have hw : 0 ≤ wor (wcl M w) n (j + 1) := by unfold wor; omega
      obtain ⟨v, v0, v1, v2⟩ := ih (j + 1 + 1) (wor (wcl M w) n (j + 1)) ((j + 1 : Nat) : Int) (by omega) (by omega) hw (Int.le_trans (Int.le_of_lt (Int.not_le.mp cc)) h4) (Or.inr ⟨Int.natCast_nonneg _, Int.ofNat_lt.mpr (by clear hr s1 s2 s3 s4 s5 s6 p1 p2 e1 e2 hcomp hmod; omega)⟩)
      exact ⟨v, v0, fun Q => by rw [hcomp, if_neg cc]; exact v1 Q, fun N hN Q => by rw [hmod N hN, if_neg cc]; exact v2 N hN Q⟩
end Vari3
