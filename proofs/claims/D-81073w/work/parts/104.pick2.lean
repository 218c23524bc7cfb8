/-! PICKS: pick -/
section Pick2
variable {M N : Mem} {Q : AR → Mem → Prop} {s t k w x y l m n a b c d e : Int}
/-- the numbers come aside, clipped -/
def mclp (M : Mem) (w i : Int) : Mem := mrow M 22022 0 (fun k => if 0 ≤ k ∧ k < i then clip (M 22021 0 (512 * w + k)) else M 22022 0 k)
theorem mclp_r {f : Nat} {j i : Int} (h : ¬ f = 22022) : mclp M w i f j = M f j := by unfold mclp; rw [mrow_2, if_neg (fun q => h q.1)]
theorem mclp_b {i : Int} (h1 : 0 ≤ k) (h2 : k < i) : mclp M w i 22022 0 k = clip (M 22021 0 (512 * w + k)) := by unfold mclp; rw [mrow_2, if_pos ⟨rfl, rfl⟩, if_pos ⟨h1, h2⟩]
theorem mclp_0 : mclp M w 0 = M := by
  unfold mclp
  rw [show (fun k : Int => if 0 ≤ k ∧ k < 0 then clip (M 22021 0 (512 * w + k)) else M 22022 0 k) = M 22022 0 from by funext k; rw [if_neg (by omega)], mrow_self]
theorem m301_9 {x1 x2 x3 x4 x5 x6 : Int} (hw : 0 ≤ w ∧ w < 6) (hn : 0 ≤ n ∧ n ≤ 512) : ∀ (d : Nat) (i : Int), 0 ≤ i → i + d = n → (Tq 301 9 [vR 22 0, vI w, vI x1, vI x2, vI x3, vI x4, vI x5, vI x6, vI n, vI i, vJ] [] (mclp M w i) Q ↔ Tq 301 10 [vR 22 0, vI w, vI x1, vI x2, vI x3, vI x4, vI x5, vI x6, vI n, vJ, vJ] [] (mclp M w n) Q) := by
  intro d
  induction d with
  | zero =>
    intro i h1 h2
    rw [t301_9, if_pos (by omega), show i = n by omega]
  | succ d ih =>
    intro i h1 h2
    rw [t301_9, if_neg (by omega), w32_id (z := 512 * w) (by omega) (by omega), w32_id (z := 512 * w + i) (by omega) (by omega), w32_id (z := i + 1) (by omega) (by omega), m300, kI_v, bd_e, mclp_r (by decide)]
    have e : mset (mclp M w i) 22022 0 i (clip (M 22021 0 (512 * w + i))) = mclp M w (i + 1) := by
      unfold mclp
      rw [mset_mrow]
      congr 1
      funext k
      rw [fup_at]
      by_cases hk : k = i
      · rw [if_pos hk, if_pos (by omega), hk]
      · rw [if_neg hk]
        by_cases hk2 : 0 ≤ k ∧ k < i
        · rw [if_pos hk2, if_pos (by omega)]
        · rw [if_neg hk2, if_neg (by omega)]
    rw [e]
    exact andi (by omega) (andi (by omega) (ih (i + 1) (by omega) (by omega)))
/-- the place that a window's pick is at: both sides find the same -/
theorem pick_at (hn : 0 ≤ n ∧ n ≤ 512) (hc : M 17 w 2 = n) (h : x = 0 ∧ 1 ≤ a ∧ 1 ≤ b ∧ (17 ≤ c ∧ c ≤ 256) ∨ ¬ x = 0 ∧ 8 ≤ n) : ∃ v : Int, (v = -99999999 ∨ 0 ≤ v ∧ v < n) ∧ (∀ (p q : Int) (Q : AR → Mem → Prop), Tq 51 7 [vR 1 0, vJ, vI x, vI a, vI b, vI c, vI p, vI q, vR 17 w, vJ, vJ] [] M Q ↔ Tq 51 9 [vR 1 0, vJ, vJ, vJ, vJ, vJ, vI p, vI q, vR 17 w, vJ, vJ] [vI v] M Q) ∧ ∀ N, (∀ j : Int, 0 ≤ j → j < n → N 22022 0 j = clip (M 17000 w j)) → ∀ (p q : Int) (Q : AR → Mem → Prop), Tq 301 10 [vR 22 0, vI w, vI x, vI a, vI b, vI c, vI p, vI q, vI n, vJ, vJ] [] N Q ↔ Tq 301 12 [vR 22 0, vI w, vJ, vJ, vJ, vJ, vI p, vI q, vJ, vJ, vJ] [vI v] N Q := by
  rcases h with ⟨hx, ha, hb, hcc⟩ | ⟨hx, h8⟩
  · obtain ⟨v, v0, v1, v2⟩ := rise_loop (M := M) (w := w) (a := a) (b := b) (c := c) hn hc ha hb hcc n.toNat 0 0 0 (by omega) (by omega) (by omega) (by omega)
    refine ⟨v, v0, fun p q Q => ?_, fun N hN p q Q => ?_⟩
    · rw [t51_7, if_neg (by omega), t144_0, v1, kI_v]
    · rw [t301_10, if_neg (by omega), t302_0, v2 N hN, kI_v]
  · obtain ⟨n', rfl⟩ : ∃ n' : Nat, n = n' := ⟨n.toNat, by omega⟩
    have hr := lsp_rng (g := wcl M w) (a := 0) (n := n') (by omega) wcl_sm
    have hl0 : 0 ≤ (n' : Int) * lsp (wcl M w) 0 n' := Int.mul_nonneg (by omega) hr.1
    have hl1 : (n' : Int) * lsp (wcl M w) 0 n' ≤ 512 * 16127 := Int.mul_le_mul (by omega) (by omega) (by omega) (by omega)
    obtain ⟨v, v0, v1, v2⟩ := vari_loop (M := M) (w := w) (n := n') (by omega) hc (n' - 1 - 2) 2 (n' * lsp (wcl M w) 0 n') (-99999999) (by omega) (by omega) hl0 (by omega) (Or.inl rfl)
    refine ⟨v, v0, fun p q Q => ?_, fun N hN p q Q => ?_⟩
    · have s3 := clip_rng (M 17000 w 0)
      have s4 := sq_bd (a := clip (M 17000 w 0)) (b := 1048576) (by omega) (by omega)
      have t1 := m145_1 (M := M) (w := w) (n := n') (Q := kI fun v1 M1 => Tq 51 9 [vR 1 0, vJ, vJ, vJ, vJ, vJ, vI p, vI q, vR 17 w, vJ, vJ] [vI v1] M1 Q) (by omega) hc n' 0 (by omega)
      have t1 : Tq 145 1 [vR 17 w, vL 0, vJ, vL 0, vJ, vI 0, vJ, vJ, vJ, vJ, vJ, vJ, vJ, vJ, vJ, vJ, vJ] [] M (kI fun v1 M1 => Tq 51 9 [vR 1 0, vJ, vJ, vJ, vJ, vJ, vI p, vI q, vR 17 w, vJ, vJ] [vI v1] M1 Q) ↔ _ := t1
      have e1 : S1 (wcl M w) 0 (2 - 1) = clip (M 17000 w 0) := by
        show 0 + wcl M w (0 + 0) = _
        rw [Int.zero_add, Int.zero_add]
        rfl
      have e2 : S2 (wcl M w) 0 (2 - 1) = clip (M 17000 w 0) * clip (M 17000 w 0) := by
        show 0 + wcl M w (0 + 0) * wcl M w (0 + 0) = _
        rw [Int.zero_add, Int.zero_add]
        rfl
      rw [t51_7, if_pos hx, t51_8, t145_0, t1, t145_2, hc, m146v (by omega) wcl_sm, kL_v, m53v (by omega) wcl_sm, kI_v, w64_id (z := (n' : Int) * lsp (wcl M w) 0 n') (by omega) (by omega)]
      rw [t145_3, hc, w32_id (z := (n' : Int) - 2) (by omega) (by omega), if_neg (by omega), show w32 (1 - 1) = 0 from rfl, m50, kI_v, if_neg (by decide), Int.zero_add, Int.zero_add, w64_id (z := clip (M 17000 w 0) * clip (M 17000 w 0)) (by omega) (by omega), w64_id (z := clip (M 17000 w 0)) (by omega) (by omega), w64_id (z := clip (M 17000 w 0) * clip (M 17000 w 0)) (by omega) (by omega), ← e2, ← e1]
      rw [t145_5, if_pos (cmp_ge.mpr (Int.le_refl _)), t145_6, show w32 (1 + 1) = 2 from rfl]
      refine andi (by omega) ?_
      exact v1 _
    · have c1 : ∀ k : Nat, 0 ≤ k → k < n' → wcl M w (0 + k) = N 22022 0 (0 + k) := fun k k1 k2 => (hN (0 + k) (by omega) (by omega)).symm
      rw [t301_10, if_pos hx, t301_11, t303_0, m304 (by omega) (by omega) (by omega) (by rw [show ((n' : Int) - 0).toNat = n' by omega]; exact Sm_cg c1 wcl_sm), kI_v, show ((n' : Int) - 0).toNat = n' by omega, ← lsp_cg c1, w32_id (by omega) (by omega)]
      exact v2 N hN _
end Pick2
