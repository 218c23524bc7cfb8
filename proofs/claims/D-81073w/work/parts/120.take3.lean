/-! LINES: a record that is whole, on the model's side -/
def STkM (x : Int) (f : Nat) (i k : Int) : Prop := f = 22012 ∨ f = 22013 ∨ (f = 22014 ∧ 10 * x + 1 ≤ k ∧ k ≤ 10 * x + 9) ∨ (f = 22015 ∧ 12 * x ≤ k ∧ k < 12 * x + 12) ∨ f = 22017 ∨ LRLog f i k
section Take3
variable {M N : Mem} {Q : AR → Mem → Prop} {x s t n v a z num cd ok : Int} {L : List Int} {rs : List (Int × List Int)}
theorem m277_9 {x3 : Int} (hs : 0 ≤ s ∧ s < 12) (ht : 0 ≤ t) (htn : t + n ≤ 4096) (hn : n ≤ 56) : ∀ (L : List Int) (k a b : Int), 0 ≤ k → k + L.length = n → 0 ≤ a → a ≤ k → 0 ≤ b → b ≤ k → (∀ j : Nat, j < L.length → N 22017 0 (k + j) = L.getD j 0) → (Tq 277 9 [vR 22 0, vJ, vJ, vI x3, vI s, vJ, vI t, vI n, vJ, vJ, vJ, vJ, vJ, vI a, vI b, vI k, vJ] [] N Q ↔ Tq 277 14 [vR 22 0, vJ, vJ, vI x3, vI s, vJ, vI t, vI n, vJ, vJ, vJ, vJ, vJ, vI (a + frs (N 22012 0) (4096 * s + t + k) L), vI (b + twc (N 22012 0) (N 22013 0) (4096 * s + t + k) L), vJ, vJ] [] N Q)
  | [], k, a, b, h1, h2, h3, h4, h5, h6, h7 => by
    rw [List.length_nil] at h2
    rw [t277_9, if_pos (by omega)]
    show _ ↔ Tq 277 14 [vR 22 0, vJ, vJ, vI x3, vI s, vJ, vI t, vI n, vJ, vJ, vJ, vJ, vJ, vI (a + 0), vI (b + 0), vJ, vJ] [] N Q
    rw [Int.add_zero, Int.add_zero]
  | v :: L, k, a, b, h1, h2, h3, h4, h5, h6, h7 => by
    rw [List.length_cons] at h2
    have hv := h7 0 (by simp)
    rw [show k + ((0 : Nat) : Int) = k by omega, List.getD_cons_zero] at hv
    have nx : ∀ j : Nat, j < L.length → N 22017 0 (k + 1 + j) = L.getD j 0 := fun j hj => by
      have := h7 (j + 1) (by simp; omega)
      rw [List.getD_cons_succ, show k + ((j + 1 : Nat) : Int) = k + 1 + j by omega] at this
      exact this
    have step : ∀ A B : Int, 0 ≤ A → A ≤ k + 1 → 0 ≤ B → B ≤ k + 1 → A + frs (N 22012 0) (4096 * s + t + k + 1) L = a + frs (N 22012 0) (4096 * s + t + k) (v :: L) → B + twc (N 22012 0) (N 22013 0) (4096 * s + t + k + 1) L = b + twc (N 22012 0) (N 22013 0) (4096 * s + t + k) (v :: L) → (Tq 277 9 [vR 22 0, vJ, vJ, vI x3, vI s, vJ, vI t, vI n, vJ, vJ, vJ, vJ, vJ, vI A, vI B, vI (k + 1), vJ] [] N Q ↔ Tq 277 14 [vR 22 0, vJ, vJ, vI x3, vI s, vJ, vI t, vI n, vJ, vJ, vJ, vJ, vJ, vI (a + frs (N 22012 0) (4096 * s + t + k) (v :: L)), vI (b + twc (N 22012 0) (N 22013 0) (4096 * s + t + k) (v :: L)), vJ, vJ] [] N Q) := by
      intro A B g1 g2 g3 g4 g5 g6
      have := m277_9 (x3 := x3) hs ht htn hn L (k + 1) A B (by omega) (by omega) g1 g2 g3 g4 nx
      rw [show 4096 * s + t + (k + 1) = 4096 * s + t + k + 1 by omega, g5, g6] at this
      exact this
    have hF : frs (N 22012 0) (4096 * s + t + k) (v :: L) = (if N 22012 0 (4096 * s + t + k) = 0 then 1 else 0) + frs (N 22012 0) (4096 * s + t + k + 1) L := rfl
    have hT : twc (N 22012 0) (N 22013 0) (4096 * s + t + k) (v :: L) = (if ¬ N 22012 0 (4096 * s + t + k) = 0 ∧ N 22013 0 (4096 * s + t + k) = v then 1 else 0) + twc (N 22012 0) (N 22013 0) (4096 * s + t + k + 1) L := rfl
    rw [t277_9, if_neg (by omega), w32_id (z := 4096 * s) (by omega) (by omega), w32_id (z := 4096 * s + t) (by omega) (by omega), w32_id (z := 4096 * s + t + k) (by omega) (by omega)]
    refine andi (by omega) ?_
    by_cases c : N 22012 0 (4096 * s + t + k) = 0
    · rw [if_pos c] at hF
      rw [if_neg (fun q => q.1 c)] at hT
      rw [if_pos c, t277_10, t277_11, if_pos c, t277_12, t277_13, w32_id (z := a + 1) (by omega) (by omega), w32_id (z := b + 0) (by omega) (by omega), w32_id (z := k + 1) (by omega) (by omega)]
      exact andi (by omega) (step _ _ (by omega) (by omega) (by omega) (by omega) (by rw [hF]; omega) (by rw [hT]; omega))
    · rw [if_neg c] at hF
      rw [if_neg c, t277_11, if_neg c, hv, t277_12, t277_13, t277_13, w32_id (z := a + 0) (by omega) (by omega), w32_id (z := b + 0) (by omega) (by omega), w32_id (z := b + 1) (by omega) (by omega), w32_id (z := k + 1) (by omega) (by omega)]
      refine andi (by omega) (andi (by omega) (andi (by omega) ?_))
      by_cases c2 : N 22013 0 (4096 * s + t + k) = v
      · rw [if_pos ⟨c, c2⟩] at hT
        rw [if_neg (by simpa using c2)]
        exact step _ _ (by omega) (by omega) (by omega) (by omega) (by rw [hF]; omega) (by rw [hT]; omega)
      · rw [if_neg (fun q => c2 q.2)] at hT
        rw [if_pos c2]
        exact step _ _ (by omega) (by omega) (by omega) (by omega) (by rw [hF]; omega) (by rw [hT]; omega)
theorem m277 {E : Int} (hx : 0 ≤ x ∧ x < 4) (hE : E = 1000 * x) (es : N 22016 0 (E + 1) % 256 = s) (enum : N 22016 0 (E + 2) % 256 = num) (ecd : N 22016 0 (E + 3) % 256 = cd) (ecb : 0 ≤ N 22016 0 (E + 3) ∧ N 22016 0 (E + 3) ≤ 2) (et : tw (N 22016 0) (E + 4) = t) (en : N 22016 0 (E + 6) % 256 = n) (ez : N 22016 0 (E + 7) % 256 = z) (hs : 0 ≤ s ∧ s < 12) (hn : 1 ≤ n ∧ n ≤ 56) (htn : t + n ≤ 4096)
    (hd0 : cd = 0 → ∀ Q, Tq 278 0 [vR 22 0, vI (E + 8), vI z, vI n, vJ] [] N Q ↔ Q (.inl (some (vI ok))) (movl N 22017 0 0 L)) (hd1 : cd = 1 → ∀ Q, Tq 279 0 [vR 22 0, vI (E + 8), vI z, vI n, vJ, vJ, vJ, vJ, vJ, vJ, vJ, vJ, vJ] [] N Q ↔ Q (.inl (some (vI ok))) (movl N 22017 0 0 L)) (hd2 : cd = 2 → ∀ Q, Tq 280 0 [vR 22 0, vI (E + 8), vI z, vI n, vJ, vJ, vJ, vJ, vJ] [] N Q ↔ Q (.inl (some (vI ok))) (movl N 22017 0 0 L)) (hok : ok = 0 ∨ ok = 1) (hL : ok = 1 → (L.length : Int) = n) (he : N 22015 0 (12 * x + s) = -99999999 ∨ 0 ≤ N 22015 0 (12 * x + s) ∧ N 22015 0 (12 * x + s) ≤ 255) (hlog : RLog N rs)
    (hQ : ∀ N' room fr, (room = 0 ∨ room = 1) → (room = 1 ↔ N 22 0 5 + 19 + 4 * n ≤ 60000) → fr = frs (N 22012 0) (4096 * s + t) L → Fr (STkM x) N N' → (∀ j, 1 ≤ j → j < 10 → N' 22014 0 (10 * x + j) = tkC (fun j => N 22014 0 (10 * x + j)) (N 22015 0 (12 * x + s)) num ok fr (twc (N 22012 0) (N 22013 0) (4096 * s + t) L) n room j) → (∀ j, 0 ≤ j → j < 12 → N' 22015 0 (12 * x + j) = (if ok = 0 then N 22015 0 (12 * x + j) else nmE (fun j => N 22015 0 (12 * x + j)) s num j)) → (ok = 1 ∧ 0 < fr ∧ room = 1 → RLog N' ((82, s :: t :: n :: L) :: rs) ∧ N' 22012 0 = kkL N (4096 * s + t) L 22012 0 ∧ N' 22013 0 = kkL N (4096 * s + t) L 22013 0) → (¬ (ok = 1 ∧ 0 < fr ∧ room = 1) → RLog N' rs ∧ N' 22012 0 = N 22012 0 ∧ N' 22013 0 = N 22013 0) → Q (.inl none) N') : Tq 277 0 [vR 22 0, vI x, vI E, vJ, vJ, vJ, vJ, vJ, vJ, vJ, vJ, vJ, vJ, vJ, vJ, vJ, vJ] [] N Q := by
  have hrg := hlog.rng
  have ht0 : 0 ≤ t := by rw [← et]; exact tw_rng.1
  have g3 : Tq 277 3 [vR 22 0, vI x, vJ, vI (10 * x), vI s, vI num, vI t, vI n, vJ, vJ, vJ, vJ, vJ, vJ, vJ, vJ, vJ] [vI ok] (movl N 22017 0 0 L) Q → Tq 277 0 [vR 22 0, vI x, vI E, vJ, vJ, vJ, vJ, vJ, vJ, vJ, vJ, vJ, vJ, vJ, vJ, vJ, vJ] [] N Q := by
    intro h
    rw [t277_0, w32_id (z := E + 1) (by omega) (by omega), w32_id (z := E + 2) (by omega) (by omega), w32_id (z := E + 4) (by omega) (by omega), m192_ear (by omega) (by omega), kI_v, w32_id (z := E + 6) (by omega) (by omega), w32_id (z := E + 7) (by omega) (by omega), w32_id (z := E + 3) (by omega) (by omega), w32_id (z := 10 * x) (by omega) (by omega), w32_id (z := E + 8) (by omega) (by omega), and255, and255, and255, and255, es, enum, en, ez, et]
    refine ⟨by omega, by omega, by omega, by omega, by omega, ifg (fun h0 => ?_) (fun h0 => ?_)⟩
    · rw [t277_1, w32_id (z := E + 8) (by omega) (by omega), t277_2, w32_id (z := E + 8) (by omega) (by omega)]
      refine ifg (fun h1 => ?_) (fun h1 => ?_)
      · rw [hd2 (by omega), kI_v]
        exact h
      · rw [hd1 (by omega), kI_v]
        exact h
    · rw [hd0 (by omega), kI_v]
      exact h
  refine g3 ?_
  have r : ∀ {f : Nat} {i : Int}, ¬ f = 22017 → movl N 22017 0 0 L f i = N f i := fun h => movl_r h
  rw [t277_3]
  refine ifg (fun h1 => ?_) (fun h0 => ?_)
  · have h1 : ok = 1 := by omega
    have hl := hL h1
    -- the number
    have g8 : ∀ N2, (∀ f i, ¬ f = 22014 → ¬ f = 22015 → N2 f i = movl N 22017 0 0 L f i) → (∀ k, (k < 10 * x + 1 ∨ 10 * x + 9 < k) → N2 22014 0 k = N 22014 0 k) → (∀ i, ¬ i = 0 → N2 22014 i = N 22014 i ∧ N2 22015 i = N 22015 i) → (∀ k, (k < 12 * x ∨ 12 * x + 12 ≤ k) → N2 22015 0 k = N 22015 0 k) → (∀ j, 1 ≤ j → j < 10 → N2 22014 0 (10 * x + j) = nmC (fun j => N 22014 0 (10 * x + j)) (N 22015 0 (12 * x + s)) num j) → (∀ j, 0 ≤ j → j < 12 → N2 22015 0 (12 * x + j) = nmE (fun j => N 22015 0 (12 * x + j)) s num j) → Tq 277 8 [vR 22 0, vJ, vJ, vI (10 * x), vI s, vJ, vI t, vI n, vJ, vJ, vJ, vJ, vJ, vJ, vJ, vJ, vJ] [] N2 Q := by
      intro N2 a1 a2 a6 a3 a4 a5
      have r2 : ∀ {f : Nat} {i : Int}, ¬ f = 22014 → ¬ f = 22015 → ¬ f = 22017 → N2 f i = N f i := fun h1 h2 h3 => by rw [a1 _ _ h1 h2, r h3]
      have q3 : ∀ j : Nat, j < L.length → N2 22017 0 j = L.getD j 0 := fun j hj => by rw [a1 _ _ (by decide) (by decide), movl_0g (by omega) (by omega), Int.toNat_natCast]
      have f2 : Fr (STkM x) N N2 := by
        intro f i k hs'
        simp only [STkM] at hs'
        by_cases c1 : f = 22014
        · subst c1
          by_cases ci : i = 0
          · subst ci; exact a2 k (by omega)
          · rw [(a6 i ci).1]
        · by_cases c2 : f = 22015
          · subst c2
            by_cases ci : i = 0
            · subst ci; exact a3 k (by omega)
            · rw [(a6 i ci).2]
          · rw [r2 c1 c2 (by omega)]
      have hL2 : RLog N2 rs := by
        unfold RLog
        rw [r2 (f := 22) (by decide) (by decide) (by decide), r2 (f := 22004) (by decide) (by decide) (by decide)]
        exact hlog
      have hft := ft_rng (K := N 22012 0) (S := N 22013 0) L (4096 * s + t)
      have l9 := m277_9 (N := N2) (Q := Q) (x3 := 10 * x) hs ht0 htn hn.2 L 0 0 0 (by omega) (by omega) (by omega) (by omega) (by omega) (by omega) (fun j hj => by rw [Int.zero_add]; exact q3 j hj)
      rw [Int.add_zero, Int.zero_add, Int.zero_add, r2 (f := 22012) (by decide) (by decide) (by decide), r2 (f := 22013) (by decide) (by decide) (by decide)] at l9
      have e5 : N2 22 0 5 = N 22 0 5 := by rw [r2 (by decide) (by decide) (by decide)]
      have e6 : N2 22 0 6 = N 22 0 6 := by rw [r2 (by decide) (by decide) (by decide)]
      rw [t277_8, l9, t277_14, w32_id (z := 4 * n) (by omega) (by omega), w32_id (z := 13 + 4 * n) (by omega) (by omega), m198 (by omega) (by omega) (by omega) (by omega), kI_v, w32_id (z := 10 * x + 6) (by omega) (by omega)]
      generalize hfr : frs (N 22012 0) (4096 * s + t) L = fr at hft
      generalize htw : twc (N 22012 0) (N 22013 0) (4096 * s + t) L = tc at hft
      have g15 : ∀ room : Int, (room = 0 ∨ room = 1) → (room = 1 ↔ N 22 0 5 + 19 + 4 * n ≤ 60000) → ¬ (0 < fr ∧ room = 0) → Tq 277 15 [vR 22 0, vJ, vJ, vI (10 * x), vI s, vJ, vI t, vI n, vJ, vJ, vJ, vJ, vJ, vI fr, vI tc, vJ, vJ] [] N2 Q := by
        intro room hr hr1 hnr
        rw [t277_15, w32_id (z := 10 * x + 2) (by omega) (by omega), w32_id (z := 10 * x + 7) (by omega) (by omega), w32_id (z := 10 * x + 8) (by omega) (by omega), w32_id (z := 10 * x + 9) (by omega) (by omega), w32_id (z := n - fr) (by omega) (by omega), w32_id (z := n - fr - tc) (by omega) (by omega)]
        simp (disch := omega) only [kI_v, kL_v, kV_v, kR_v, kX_n, kX_e, bd_e, b2i_e0, b2i_e1, b2i_nb, nb_0, nb_1, cmp_lt, cmp_le, cmp_gt, cmp_ge, cmp_eq, not_true_eq_false, not_false_eq_true, if_true, if_false, ite_true, ite_false, true_and, and_true, false_and, and_false, Int.reduceLT, Int.reduceLE, Int.reduceEq, Int.reduceSub, Int.reduceAdd, Int.reduceNeg, Int.reduceMul, Classical.not_not, Int.zero_add, Int.add_zero, Int.le_refl, lt_T, lt_F, le_T, le_F, eq_T, eq_F, w32_id, ↓reduceIte, mset_3, Nat.reduceEqDiff, reduceCtorEq, and_self]
        generalize hN3 : mset (mset (mset (mset N2 22014 0 (10 * x + 2) (w32 (N2 22014 0 (10 * x + 2) + 1))) 22014 0 (10 * x + 7) (w32 (N2 22014 0 (10 * x + 7) + fr))) 22014 0 (10 * x + 8) (w32 (N2 22014 0 (10 * x + 8) + tc))) 22014 0 (10 * x + 9) (w32 (N2 22014 0 (10 * x + 9) + (n - fr - tc))) = N3
        have x0 : ∀ {f : Nat} {i : Int}, ¬ f = 22014 → N3 f i = N2 f i := fun h => by
          rw [← hN3, mset_o (fun q => h q.1), mset_o (fun q => h q.1), mset_o (fun q => h q.1), mset_o (fun q => h q.1)]
        have f3 : Fr (STkM x) N N3 := by
          rw [← hN3]
          exact Fr.mset (Fr.mset (Fr.mset (Fr.mset f2 (Or.inr (Or.inr (Or.inl ⟨rfl, by omega, by omega⟩)))) (Or.inr (Or.inr (Or.inl ⟨rfl, by omega, by omega⟩)))) (Or.inr (Or.inr (Or.inl ⟨rfl, by omega, by omega⟩)))) (Or.inr (Or.inr (Or.inl ⟨rfl, by omega, by omega⟩)))
        have c3 : ∀ j, 1 ≤ j → j < 10 → N3 22014 0 (10 * x + j) = tkC (fun j => N 22014 0 (10 * x + j)) (N 22015 0 (12 * x + s)) num ok fr tc n room j := by
          intro j j1 j2
          unfold tkC
          rw [if_neg (show ¬ ok = 0 by omega), if_neg hnr, ← hN3]
          simp only [mset_3, true_and]
          rw [← a4 2 (by decide) (by decide), ← a4 7 (by decide) (by decide), ← a4 8 (by decide) (by decide), ← a4 9 (by decide) (by decide), ← a4 j j1 j2]
          by_cases k2 : j = 2
          · subst k2; rw [if_neg (by omega), if_neg (by omega), if_neg (by omega), if_pos (by omega), if_pos rfl]
          · by_cases k7 : j = 7
            · subst k7; rw [if_neg (by omega), if_neg (by omega), if_pos (by omega), if_neg (by decide), if_pos rfl]
            · by_cases k8 : j = 8
              · subst k8; rw [if_neg (by omega), if_pos (by omega), if_neg (by decide), if_neg (by decide), if_pos rfl]
              · by_cases k9 : j = 9
                · subst k9; rw [if_pos (by omega), if_neg (by decide), if_neg (by decide), if_neg (by decide), if_pos rfl]
                · rw [if_neg (by omega), if_neg (by omega), if_neg (by omega), if_neg (by omega), if_neg k2, if_neg k7, if_neg k8, if_neg k9]
        have e3 : ∀ j, 0 ≤ j → j < 12 → N3 22015 0 (12 * x + j) = (if ok = 0 then N 22015 0 (12 * x + j) else nmE (fun j => N 22015 0 (12 * x + j)) s num j) := fun j j1 j2 => by
          rw [x0 (by decide), a5 j j1 j2, if_neg (by omega)]
        have hL3 : RLog N3 rs := by
          unfold RLog
          rw [x0 (by decide), x0 (by decide)]
          exact hL2
        have y12 : N3 22012 0 = N 22012 0 := by rw [x0 (by decide), r2 (by decide) (by decide) (by decide)]
        have y13 : N3 22013 0 = N 22013 0 := by rw [x0 (by decide), r2 (by decide) (by decide) (by decide)]
        have y5 : N3 22 0 5 = N 22 0 5 := by rw [x0 (by decide), e5]
        have y6 : N3 22 0 6 = N 22 0 6 := by rw [x0 (by decide), e6]
        refine ifg (fun hz => ?_) (fun hz => ?_)
        · rw [t277_16]
          exact hQ N3 room fr hr hr1 hfr.symm f3 (by rw [htw]; exact c3) e3 (fun q => by omega) (fun _ => ⟨hL3, y12, y13⟩)
        · have hroom : N 22 0 5 + 19 + 4 * n ≤ 60000 := by
            rcases hr with q | q
            · exact absurd ⟨by omega, q⟩ hnr
            · exact hr1.mp q
          rw [m204 hs ht0 htn hn.2 hl (fun j hj => by rw [x0 (by decide)]; exact q3 j hj) (by omega) (by omega) (by omega), kV_v, t277_16]
          have ecl : ((cont (82, s :: t :: n :: L)).length : Int) = 13 + 4 * n := by rw [cont_len (by decide)]; simp; omega
          have hLk : RLog (kkL N3 (4096 * s + t) L) rs := RLog_fr hL3 (kkL_fr L N3 _) (by simp only [LRLog]; omega)
          have hg := RLog_add (r := (82, s :: t :: n :: L)) hLk (by rw [kkL_r (by decide) (by decide), y5]; omega)
          have yk : ∀ (L : List Int) (A B : Mem) (a : Int), A 22012 0 = B 22012 0 → A 22013 0 = B 22013 0 → kkL A a L 22012 0 = kkL B a L 22012 0 ∧ kkL A a L 22013 0 = kkL B a L 22013 0 := by
            intro L
            induction L with
            | nil => intro A B a e1 e2; exact ⟨e1, e2⟩
            | cons u L ih =>
              intro A B a e1 e2
              refine ih (kkp A a u) (kkp B a u) (a + 1) ?_ ?_
              · unfold kkp
                rw [mset_s, mset_s, mset_o (by simp), mset_o (by simp), e1]
              · unfold kkp
                rw [mset_o (f := 22012) (by simp), mset_o (f := 22012) (by simp), mset_s, mset_s, e1, e2]
          have yk := yk L N3 N (4096 * s + t) y12 y13
          refine hQ _ room fr hr hr1 hfr.symm (f3.trans (Fr.trans ((kkL_fr L N3 _).mono (by simp only [STkM]; omega)) (kgw_fr.mono (fun f i k h => Or.inr (Or.inr (Or.inr (Or.inr (Or.inr h)))))))) (fun j j1 j2 => ?_) (fun j j1 j2 => ?_) (fun _ => ⟨hg, ?_, ?_⟩) (fun q => ?_)
          · rw [kgw_r (by decide) (by decide), kkL_r (by decide) (by decide), htw]
            exact c3 j j1 j2
          · rw [kgw_r (by decide) (by decide), kkL_r (by decide) (by decide)]
            exact e3 j j1 j2
          · rw [kgw_r (by decide) (by decide), yk.1]
          · rw [kgw_r (by decide) (by decide), yk.2]
          · have : room = 1 := hr1.mpr hroom
            omega
      refine ifg (fun hz => ?_) (fun hz => ?_)
      · exact g15 (b2i (N 22 0 5 + 19 + 4 * n ≤ 60000)) b2i_01 b2i_e1 (by omega)
      · rw [e5]
        by_cases hroom : N 22 0 5 + 19 + 4 * n ≤ 60000
        · rw [if_pos (by rw [b2i_t (by omega)]; decide)]
          exact g15 1 (Or.inr rfl) ⟨fun _ => hroom, fun _ => rfl⟩ (by omega)
        · rw [if_neg (by rw [b2i_f (by omega)]; decide)]
          refine ⟨by omega, by omega, ?_⟩
          rw [bd_e]
          refine hQ _ 0 fr (Or.inl rfl) (by omega) hfr.symm (Fr.mset f2 (Or.inr (Or.inr (Or.inl ⟨rfl, by omega, by omega⟩)))) (fun j j1 j2 => ?_) (fun j j1 j2 => ?_) (fun q => by omega) (fun _ => ⟨?_, ?_, ?_⟩)
          · unfold tkC
            rw [if_neg (show ¬ ok = 0 by omega), if_pos (show 0 < fr ∧ (0 : Int) = 0 by omega), mset_3, ← a4 6 (by decide) (by decide), ← a4 j j1 j2]
            by_cases k6 : j = 6
            · subst k6; rw [if_pos ⟨rfl, rfl, rfl⟩, if_pos rfl]
            · rw [if_neg (by omega), if_neg k6]
          · rw [mset_o (by simp), a5 j j1 j2, if_neg (by omega)]
          · unfold RLog
            rw [mset_o (by simp), mset_o (by simp)]
            exact hL2
          · rw [mset_o (by simp), r2 (by decide) (by decide) (by decide)]
          · rw [mset_o (by simp), r2 (by decide) (by decide) (by decide)]
    have g6 : ∀ dd : Int, dd = nmd (N 22015 0 (12 * x + s)) num → Tq 277 6 [vR 22 0, vJ, vJ, vI (10 * x), vI s, vI num, vI t, vI n, vJ, vJ, vJ, vI (12 * x + s), vJ, vJ, vJ, vJ, vJ] [vI dd] (movl N 22017 0 0 L) Q := by
      intro dd hdd
      rw [t277_6, w32_id (z := 10 * x + 4) (by omega) (by omega), w32_id (z := num + 1) (by omega) (by omega), and255, r (by decide)]
      refine ifg (fun hz => ?_) (fun hz => ?_)
      · rw [t277_7, w32_id (z := 10 * x + 5) (by omega) (by omega)]
        refine ⟨by omega, by omega, ?_⟩
        rw [bd_e, r (f := 22014) (by decide)]
        refine g8 _ (fun f i h1 h2 => by rw [mset_o (fun q => h1 q.1)]) (fun k hk => by rw [mset_3, if_neg (by omega), r (by decide)]) (fun i hi => ⟨by rw [mset_o (fun q => hi q.2), r (by decide)], by rw [mset_o (by simp), r (by decide)]⟩) (fun k hk => by rw [mset_o (by simp), r (by decide)]) (fun j j1 j2 => ?_) (fun j j1 j2 => ?_)
        · unfold nmC
          rw [if_neg (by omega), fup_at, mset_3, r (by decide)]
          by_cases k5 : j = 5
          · subst k5; rw [if_pos ⟨rfl, rfl, rfl⟩, if_pos rfl]
          · rw [if_neg (by omega), if_neg k5]
        · rw [mset_o (by simp), r (by decide)]
          simp only [nmE]
          rw [if_neg (by omega)]
      · refine ⟨by omega, by omega, ?_⟩
        rw [bd_e]
        refine ⟨by omega, ?_⟩
        rw [bd_e]
        refine g8 _ (fun f i h1 h2 => by rw [mset_o (fun q => h2 q.1), mset_o (fun q => h1 q.1)]) (fun k hk => by rw [mset_o (by simp), mset_3, if_neg (by omega), r (by decide)]) (fun i hi => ⟨by rw [mset_o (by simp), mset_o (fun q => hi q.2), r (by decide)], by rw [mset_o (fun q => hi q.2), mset_o (by simp), r (by decide)]⟩) (fun k hk => by rw [mset_3, if_neg (by omega), mset_o (by simp), r (by decide)]) (fun j j1 j2 => ?_) (fun j j1 j2 => ?_)
        · unfold nmC
          rw [if_pos (by omega), fup_at, mset_o (by simp), mset_3, r (by decide), ← hdd]
          by_cases k5 : j = 4
          · subst k5; rw [if_pos ⟨rfl, rfl, rfl⟩, if_pos rfl]
          · rw [if_neg (by omega), if_neg k5]
        · simp only [nmE]
          rw [if_pos (by omega), fup_at, mset_3, mset_o (by simp), r (by decide)]
          by_cases k5 : j = s
          · rw [if_pos (by omega), if_pos k5]
          · rw [if_neg (by omega), if_neg k5]
    rw [t277_4, w32_id (z := 12 * x) (by omega) (by omega), w32_id (z := 12 * x + s) (by omega) (by omega), r (by decide)]
    refine ⟨by omega, ifg (fun hz => ?_) (fun hz => ?_)⟩
    · rw [t277_5, r (by decide), w32_id (z := num - N 22015 0 (12 * x + s)) (by omega) (by omega), and255]
      refine ⟨by omega, g6 _ ?_⟩
      unfold nmd
      rw [if_neg hz]
    · refine g6 _ ?_
      unfold nmd
      rw [if_pos (by omega)]
  · have h0 : ok = 0 := by omega
    rw [w32_id (z := 10 * x + 3) (by omega) (by omega)]
    refine ⟨by omega, by omega, ?_⟩
    rw [bd_e, r (f := 22014) (by decide)]
    refine hQ _ (b2i (N 22 0 5 + 19 + 4 * n ≤ 60000)) _ b2i_01 b2i_e1 rfl (Fr.mset (Fr.movl Fr.refl (fun _ => by simp [STkM])) (Or.inr (Or.inr (Or.inl ⟨rfl, by omega, by omega⟩)))) (fun j j1 j2 => ?_) (fun j j1 j2 => ?_) (fun q => by omega) (fun _ => ⟨?_, ?_, ?_⟩)
    · unfold tkC
      rw [if_pos h0, mset_3, r (by decide)]
      by_cases k3 : j = 3
      · subst k3; rw [if_pos ⟨rfl, rfl, rfl⟩, if_pos rfl]
      · rw [if_neg (by omega), if_neg k3]
    · rw [mset_o (by simp), r (by decide), if_pos h0]
    · unfold RLog
      rw [mset_o (by simp), mset_o (by simp), r (by decide), r (by decide)]
      exact hlog
    · rw [mset_o (by simp), r (by decide)]
    · rw [mset_o (by simp), r (by decide)]
end Take3
