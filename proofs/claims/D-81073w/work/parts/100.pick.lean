/-! PICKS: by a ratio -/
section Pick
variable {M N : Mem} {Q : AR → Mem → Prop} {s t k w x y l m n a b c d e : Int}
theorem tdiv_bd {x a : Int} (h : 1 ≤ a) : (0 ≤ x → 0 ≤ x.tdiv a ∧ x.tdiv a ≤ x) ∧ (x ≤ 0 → x ≤ x.tdiv a ∧ x.tdiv a ≤ 0) := by
  have pos : ∀ x : Int, 0 ≤ x → 0 ≤ x.tdiv a ∧ x.tdiv a ≤ x := fun x hx => by
    rw [Int.tdiv_eq_ediv_of_nonneg hx]
    exact ⟨Int.ediv_nonneg hx (by omega), Int.ediv_le_self a hx⟩
  refine ⟨pos x, fun hx => ?_⟩
  have := pos (-x) (by omega)
  rw [Int.neg_tdiv] at this
  omega
/-- a mean goes on -/
def rst1 (z s a : Int) : Int := s + (z - s).tdiv a
theorem rst1_rng {z s a : Int} (ha : 1 ≤ a) (hz : 0 ≤ z ∧ z ≤ 268435456) (hs : 0 ≤ s ∧ s ≤ 268435456) : 0 ≤ rst1 z s a ∧ rst1 z s a ≤ 268435456 := by
  have := tdiv_bd (x := z - s) ha
  unfold rst1
  omega
theorem rst1_64 {z s a : Int} (ha : 1 ≤ a) (hz : 0 ≤ z ∧ z ≤ 268435456) (hs : 0 ≤ s ∧ s ≤ 268435456) : w64 (s + div64 (w64 (z - s)) a) = rst1 z s a := by
  have h1 := tdiv_bd (x := z - s) ha
  have h2 := rst1_rng ha hz hs
  unfold div64
  rw [w64_id (z := z - s) (by omega) (by omega), w64_id (z := (z - s).tdiv a) (by omega) (by omega)]
  unfold rst1 at h2 ⊢
  exact w64_id (by omega) (by omega)
theorem rst1_32 {z s a : Int} (ha : 1 ≤ a) (hz : 0 ≤ z ∧ z ≤ 268435456) (hs : 0 ≤ s ∧ s ≤ 268435456) : w32 (s + div32 (w32 (z - s)) a) = rst1 z s a := by
  have h1 := tdiv_bd (x := z - s) ha
  have h2 := rst1_rng ha hz hs
  unfold div32
  rw [w32_id (z := z - s) (by omega) (by omega), w32_id (z := (z - s).tdiv a) (by omega) (by omega)]
  unfold rst1 at h2 ⊢
  exact w32_id (by omega) (by omega)
theorem rise_loop (hn : 0 ≤ n ∧ n ≤ 512) (hc : M 17 w 2 = n) (ha : 1 ≤ a) (hb : 1 ≤ b) (hcc : 17 ≤ c ∧ c ≤ 256) : ∀ (d : Nat) (i s l : Int), 0 ≤ i → i + d = n → 0 ≤ s ∧ s ≤ 268435456 → 0 ≤ l ∧ l ≤ 268435456 → ∃ v, (v = -99999999 ∨ 0 ≤ v ∧ v < n) ∧ RtI 144 1 [vR 17 w, vI a, vI b, vI c, vL s, vJ, vL l, vJ, vI i, vJ, vJ] [] M v ∧ ∀ N, (∀ k, 0 ≤ k → k < n → N 22022 0 k = clip (M 17000 w k)) → RtI 302 1 [vR 22 0, vI n, vI a, vI b, vI c, vI s, vI l, vI i, vJ] [] N v := by
  intro d
  induction d with
  | zero =>
    intro i s l h1 h2 h3 h4
    refine ⟨-99999999, Or.inl rfl, fun Q => ?_, fun N hN Q => ?_⟩
    · rw [t144_1, if_pos (by omega), t144_3]
    · rw [t302_1, if_pos (by omega), t302_3]
  | succ d ih =>
    intro i s l h1 h2 h3 h4
    have hcl := clip_rng (M 17000 w i)
    generalize hA : (if 0 ≤ clip (M 17000 w i) then clip (M 17000 w i) else w32 (-clip (M 17000 w i))) = A
    have hA2 : 0 ≤ A ∧ A ≤ 1048576 := by
      rw [← hA]
      split
      · omega
      · rw [w32_id (by omega) (by omega)]; omega
    have z1 : w64 (256 * A) = 256 * A := w64_id (by omega) (by omega)
    have z2 : w32 (256 * A) = 256 * A := w32_id (by omega) (by omega)
    have hs := rst1_rng (z := 256 * A) (s := s) ha (by omega) h3
    have hl := rst1_rng (z := 256 * A) (s := l) hb (by omega) h4
    have e1 := rst1_64 (z := 256 * A) (s := s) ha (by omega) h3
    have e2 := rst1_64 (z := 256 * A) (s := l) hb (by omega) h4
    have e3 := rst1_32 (z := 256 * A) (s := s) ha (by omega) h3
    have e4 := rst1_32 (z := 256 * A) (s := l) hb (by omega) h4
    obtain ⟨v, v0, v1, v2⟩ := ih (i + 1) (rst1 (256 * A) s a) (rst1 (256 * A) l b) (by omega) (by omega) hs hl
    by_cases cc : i < b ∨ w64 (16 * rst1 (256 * A) s a) ≤ w64 (c * rst1 (256 * A) l b)
    · refine ⟨v, v0, fun Q => ?_, fun N hN Q => ?_⟩
      · refine Iff.trans ?_ (v1 Q)
        rw [t144_1, hc, if_neg (by omega), m50, kI_v, m13, kI_v, hA, z1, e1, e2]
        simp only [kI_v, kL_v, kV_v, kR_v, kX_n, kX_e, bd_e, b2i_e0, b2i_e1, b2i_nb, nb_0, nb_1, cmp_lt, cmp_le, cmp_gt, cmp_ge, cmp_eq, not_true_eq_false, not_false_eq_true, if_true, if_false, ite_true, ite_false, true_and, and_true, false_and, and_false, Int.reduceLT, Int.reduceLE, Int.reduceEq, Int.reduceSub, Int.reduceAdd, Int.reduceNeg, Int.reduceMul, Classical.not_not, Int.zero_add, Int.add_zero, Int.le_refl, t144_2]
        rw [w32_id (z := i + 1) (by omega) (by omega)]
        refine andi (by omega) (andi (by omega) (andi (by omega) (ifi (fun _ => Iff.rfl) (fun q => ?_))))
        rw [if_pos (by omega)]
      · refine Iff.trans ?_ (v2 N hN Q)
        rw [t302_1, if_neg (by omega), hN i (by omega) (by omega), m13, kI_v, hA, z2, e3, e4]
        simp only [kI_v, kL_v, kV_v, kR_v, kX_n, kX_e, bd_e, b2i_e0, b2i_e1, b2i_nb, nb_0, nb_1, cmp_lt, cmp_le, cmp_gt, cmp_ge, cmp_eq, not_true_eq_false, not_false_eq_true, if_true, if_false, ite_true, ite_false, true_and, and_true, false_and, and_false, Int.reduceLT, Int.reduceLE, Int.reduceEq, Int.reduceSub, Int.reduceAdd, Int.reduceNeg, Int.reduceMul, Classical.not_not, Int.zero_add, Int.add_zero, Int.le_refl, t302_2]
        rw [w32_id (z := i + 1) (by omega) (by omega)]
        refine andi (by omega) (andi (by omega) (andi (by omega) (ifi (fun _ => Iff.rfl) (fun q => ?_))))
        rw [if_pos (by omega)]
    · refine ⟨i, Or.inr (by omega), fun Q => ?_, fun N hN Q => ?_⟩
      · rw [t144_1, hc, if_neg (by omega), m50, kI_v, m13, kI_v, hA, z1, e1, e2, if_neg (by omega), if_neg (fun q => by have := cmp_le.mp q; omega)]
        exact andi (by omega) (andi (by omega) (andi (by omega) Iff.rfl))
      · rw [t302_1, if_neg (by omega), hN i (by omega) (by omega), m13, kI_v, hA, z2, e3, e4, if_neg (by omega), if_neg (fun q => by have := cmp_le.mp q; omega)]
        exact andi (by omega) (andi (by omega) (andi (by omega) Iff.rfl))
end Pick
