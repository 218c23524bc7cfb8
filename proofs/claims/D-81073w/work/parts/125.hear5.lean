/-! LINES: hear, line -/
def ILn (M : Mem) : Prop := ∀ x, 0 ≤ x → x < 4 → LnM M x ∧ M 13 (3 + x) 1 ≤ 266 ∧ LnN M M x 0
section Hear5
variable {M N P : Mem} {Q : AR → Mem → Prop} {x y : Int} {rs : List (Int × List Int)}
def SLnC (f : Nat) (i k : Int) : Prop := f = 5003 ∨ f = 5004 ∨ f = 16001 ∨ f = 16002 ∨ f = 15000 ∨ LCLog f i k ∨ (f = 13 ∧ (i = 0 ∨ 3 ≤ i ∧ i ≤ 6)) ∨ (f = 13000 ∧ 3 ≤ i ∧ i ≤ 6)
def SLn (f : Nat) (i k : Int) : Prop := SLnC f i k ∨ f = 22012 ∨ f = 22013 ∨ f = 22014 ∨ f = 22015 ∨ f = 22016 ∨ f = 22017 ∨ LRLog f i k ∨ (f = 22 ∧ k = 3)
/-- rows come, both sides' states with them -/
def OpR (S1 S : Nat → Int → Int → Prop) (y : Nat) (as : List AV) (z : Nat) (bs : List AV) (M P : Mem) (rs : List (Int × List Int)) (I : Mem → Prop) : Prop := Tq y 0 as [] M (kI fun v1 M1 => Fr S1 M M1 ∧ Tq z 0 bs [] M1 (kI fun v2 M2 => v1 = v2 ∧ Fr S M M2 ∧ I M2 ∧ ∃ k rs' P', Ext k rs P rs' P' ∧ WNet P' ∧ CLog M2 rs' ∧ RLog M2 rs' ∧ CNet M2 P' ∧ RNet M2 P'))
theorem op_line {I : Mem → Prop} (h : ILn M) (hI : I M) : Op2 S0 S0 32 [vR 1 0, vI x, vI y] 274 [vR 22 0, vI x, vI y] M I := by
  by_cases hb : (0 ≤ x ∧ x ≤ 3) ∧ 0 ≤ y ∧ y ≤ 9
  · obtain ⟨h1, h2, h3⟩ := h x hb.1.1 (by omega)
    refine Op2_ret (v := M 22014 0 (10 * x + y)) (fun Q => ?_) (fun Q => ?_) hI
    · simp (disch := omega) only [kI_v, kL_v, kV_v, kR_v, kX_n, kX_e, bd_e, b2i_e0, b2i_e1, b2i_nb, nb_0, nb_1, cmp_lt, cmp_le, cmp_gt, cmp_ge, cmp_eq, not_true_eq_false, not_false_eq_true, if_true, if_false, ite_true, ite_false, true_and, and_true, false_and, and_false, Int.reduceLT, Int.reduceLE, Int.reduceEq, Int.reduceSub, Int.reduceAdd, Int.reduceNeg, Int.reduceMul, Classical.not_not, Int.zero_add, Int.add_zero, Int.le_refl, lt_T, lt_F, le_T, le_F, eq_T, eq_F, w32_id, ↓reduceIte, mset_3, Nat.reduceEqDiff, reduceCtorEq, and_self, t32_0, t32_1, t32_2, t32_3, t32_4, m25]
      by_cases c : y = 0
      · simp (disch := omega) only [kI_v, kL_v, kV_v, kR_v, kX_n, kX_e, bd_e, b2i_e0, b2i_e1, b2i_nb, nb_0, nb_1, cmp_lt, cmp_le, cmp_gt, cmp_ge, cmp_eq, not_true_eq_false, not_false_eq_true, if_true, if_false, ite_true, ite_false, true_and, and_true, false_and, and_false, Int.reduceLT, Int.reduceLE, Int.reduceEq, Int.reduceSub, Int.reduceAdd, Int.reduceNeg, Int.reduceMul, Classical.not_not, Int.zero_add, Int.add_zero, Int.le_refl, lt_T, lt_F, le_T, le_F, eq_T, eq_F, w32_id, ↓reduceIte, mset_3, Nat.reduceEqDiff, reduceCtorEq, and_self, c]
        rw [h3.1, Int.sub_zero]
      · simp (disch := omega) only [kI_v, kL_v, kV_v, kR_v, kX_n, kX_e, bd_e, b2i_e0, b2i_e1, b2i_nb, nb_0, nb_1, cmp_lt, cmp_le, cmp_gt, cmp_ge, cmp_eq, not_true_eq_false, not_false_eq_true, if_true, if_false, ite_true, ite_false, true_and, and_true, false_and, and_false, Int.reduceLT, Int.reduceLE, Int.reduceEq, Int.reduceSub, Int.reduceAdd, Int.reduceNeg, Int.reduceMul, Classical.not_not, Int.zero_add, Int.add_zero, Int.le_refl, lt_T, lt_F, le_T, le_F, eq_T, eq_F, w32_id, ↓reduceIte, mset_3, Nat.reduceEqDiff, reduceCtorEq, and_self, c]
        rw [h3.2.2.1 y (by omega) (by omega)]
    · simp (disch := omega) only [kI_v, kL_v, kV_v, kR_v, kX_n, kX_e, bd_e, b2i_e0, b2i_e1, b2i_nb, nb_0, nb_1, cmp_lt, cmp_le, cmp_gt, cmp_ge, cmp_eq, not_true_eq_false, not_false_eq_true, if_true, if_false, ite_true, ite_false, true_and, and_true, false_and, and_false, Int.reduceLT, Int.reduceLE, Int.reduceEq, Int.reduceSub, Int.reduceAdd, Int.reduceNeg, Int.reduceMul, Classical.not_not, Int.zero_add, Int.add_zero, Int.le_refl, lt_T, lt_F, le_T, le_F, eq_T, eq_F, w32_id, ↓reduceIte, mset_3, Nat.reduceEqDiff, reduceCtorEq, and_self, t274_0, t274_1, t274_2, m189]
  · refine Op2_ret (v := -1) (fun Q => ?_) (fun Q => ?_) hI
    · simp only [kI_v, kL_v, kV_v, kR_v, kX_n, kX_e, bd_e, b2i_e0, b2i_e1, b2i_nb, nb_0, nb_1, cmp_lt, cmp_le, cmp_gt, cmp_ge, cmp_eq, not_true_eq_false, not_false_eq_true, if_true, if_false, ite_true, ite_false, true_and, and_true, false_and, and_false, Int.reduceLT, Int.reduceLE, Int.reduceEq, Int.reduceSub, Int.reduceAdd, Int.reduceNeg, Int.reduceMul, Classical.not_not, Int.zero_add, Int.add_zero, Int.le_refl, t32_0, t32_1, t32_2, t32_3, t32_4, m25]
      refine ifi (fun d => Iff.rfl) (fun d => ?_)
      rw [if_neg (by omega)]
    · simp only [kI_v, kL_v, kV_v, kR_v, kX_n, kX_e, bd_e, b2i_e0, b2i_e1, b2i_nb, nb_0, nb_1, cmp_lt, cmp_le, cmp_gt, cmp_ge, cmp_eq, not_true_eq_false, not_false_eq_true, if_true, if_false, ite_true, ite_false, true_and, and_true, false_and, and_false, Int.reduceLT, Int.reduceLE, Int.reduceEq, Int.reduceSub, Int.reduceAdd, Int.reduceNeg, Int.reduceMul, Classical.not_not, Int.zero_add, Int.add_zero, Int.le_refl, t274_0, t274_1, t274_2, m189]
      refine ifi (fun d => Iff.rfl) (fun d => ?_)
      rw [if_pos (by omega)]
theorem op_hear (hT : ITp M) (h : ILn M) (hC : CLog M rs) (hR : RLog M rs) (hc : CNet M P) (hr : RNet M P) (hw : WNet P) : OpR SLnC SLn 29 [vR 1 0, vI x, vJ, vJ, vJ, vJ, vJ, vJ, vJ, vJ] 275 [vR 22 0, vI x, vJ, vJ, vJ, vJ, vJ, vJ, vJ] M P rs (fun M2 => ITp M2 ∧ ILn M2) := by
  unfold OpR
  rw [t29_0, m25, kI_v]
  by_cases hb : 0 ≤ x ∧ x ≤ 3
  · have hx : 0 ≤ x ∧ x < 4 := by omega
    obtain ⟨l1, l2, l3⟩ := h x hx.1 hx.2
    obtain ⟨t1, t2, t3, t4⟩ := id hT
    have t1 : M 13 0 1 = M 22 0 3 := t1
    obtain ⟨a1, a2, a3, a4⟩ := id l1
    obtain ⟨b1, b2, b3, b4⟩ := id l3
    have g : ∀ Q, Tq 29 2 [vR 1 0, vJ, vR 16 x, vI 0, vJ, vJ, vJ, vJ, vJ, vJ] [] M Q ↔ Tq 29 3 [vR 1 0, vJ, vR 16 x, vJ, vJ, vJ, vJ, vJ, vJ, vJ] [] (bapp M (3 + x) (row (fun k => w8 (M 13000 0 k)) 0 (M 13 0 1).toNat)) Q := fun Q => by
      have g := m29_2 (Q := Q) (M := M) (x := x) hx (by omega) (M 13 0 1).toNat 0 (by omega) (by omega) (by omega)
      rw [show row (fun k => w8 (M 13000 0 k)) 0 0 = [] from rfl, bapp_nil] at g
      exact g
    rw [if_pos (by rw [b2i_t hb]; decide), t29_1]
    refine ⟨hx, ?_⟩
    generalize hL : row (fun k => w8 (M 13000 0 k)) 0 (M 13 0 1).toNat = L at g
    have lL : (L.length : Int) = M 13 0 1 := by rw [← hL, row_len]; omega
    refine (g _).mpr ?_
    rw [t29_3, bd_e]
    refine ⟨by decide, ?_⟩
    generalize hM1 : mset (bapp M (3 + x) L) 13 0 1 0 = M1
    have u0 : ∀ {f : Nat} {i : Int}, ¬ f = 13 → ¬ f = 13000 → M1 f i = M f i := fun h1 h2 => by rw [← hM1, mset_o (fun q => h1 q.1), bapp_2, if_neg (fun q => h1 q.1), if_neg (fun q => h2 q.1)]
    have u13 : M1 13 (3 + x) 1 = M 13 (3 + x) 1 + M 13 0 1 := by rw [← hM1, mset_3, if_neg (by omega), bapp_sz, lL]
    have u131 : ∀ i, ¬ i = 0 → ¬ i = 3 + x → M1 13 i = M 13 i := fun i h0 h1 => by rw [← hM1, mset_o (fun q => h0 q.2), bapp_2, if_neg (fun q => h1 q.2), if_neg (by simp)]
    have u130 : ∀ i, ¬ i = 3 + x → M1 13000 i = M 13000 i := fun i h1 => by rw [← hM1, mset_o (by simp), bapp_2, if_neg (by simp), if_neg (fun q => h1 q.2)]
    have u13x : M1 13000 (3 + x) = ovl (M 13000 (3 + x)) (M 13 (3 + x) 1) L := by rw [← hM1, mset_o (by simp), bapp_cells]
    have frM : Fr SLnC M M1 := by
      rw [← hM1]
      refine Fr.mset (Fr.bapp Fr.refl ?_ (fun k => ?_)) ?_
      · exact Or.inr (Or.inr (Or.inr (Or.inr (Or.inr (Or.inr (Or.inl ⟨rfl, Or.inr ⟨by omega, by omega⟩⟩))))))
      · exact Or.inr (Or.inr (Or.inr (Or.inr (Or.inr (Or.inr (Or.inr ⟨rfl, by omega, by omega⟩))))))
      · exact Or.inr (Or.inr (Or.inr (Or.inr (Or.inr (Or.inr (Or.inl ⟨rfl, Or.inl rfl⟩))))))
    have hl1 : LnM M1 x := by
      refine ⟨by omega, fun k k1 k2 => ?_, fun j j1 j2 => by rw [u0 (by decide) (by decide)]; exact a3 j j1 j2, fun s s1 s2 => by rw [u0 (by decide) (by decide)]; exact a4 s s1 s2⟩
      rw [u13x]
      by_cases ck : k < M 13 (3 + x) 1
      · rw [ovl_out (Or.inl ck)]
        exact a2 k k1 ck
      · rw [ovl_in (by omega) (by omega), ← hL, row_get _ _ (by omega)]
        exact w8_w8 _
    have hC1 : CLog M1 rs := by
      unfold CLog
      rw [u131 1 (by decide) (by omega), u130 1 (by omega), u0 (by decide) (by decide)]
      exact hC
    have hN1 : CNet M1 P := CNet_cg (M := M) (fun f i k hl => by rw [u0 (by simp only [LCNet] at hl; omega) (by simp only [LCNet] at hl; omega)]) (fun _ _ _ _ => rfl) hc
    -- the loop, and what is behind it
    have main : Tq 29 17 [vR 1 0, vJ, vR 16 x, vI (M1 16001 x 2), vI 0, vI 1, vJ, vJ, vJ, vJ] [] M1 (kI fun v1 M2 => Fr SLnC M M2 ∧ Tq 275 0 [vR 22 0, vI x, vJ, vJ, vJ, vJ, vJ, vJ, vJ] [] M2 (kI fun v2 N2 => v1 = v2 ∧ Fr SLn M N2 ∧ (ITp N2 ∧ ILn N2) ∧ ∃ k rs' P', Ext k rs P rs' P' ∧ WNet P' ∧ CLog N2 rs' ∧ RLog N2 rs' ∧ CNet N2 P' ∧ RNet N2 P')) := by
      refine Tq_imp (hear_loop (bef := M1 16001 x 2) hx (M1 13 (3 + x) 1).toNat M1 P rs 0 hl1 (by omega) (by omega) (by omega) hC1 hN1 hw) ?_
      intro r M2 hq
      unfold HQ at hq
      rcases r with (_ | (v | w)) | i <;> try exact hq.elim
      rw [kI_v] at hq ⊢
      obtain ⟨k, rs', P', q1, q2, q3, q4, q5, q6, q7, q8⟩ := hq
      have q5' : Fr SLnC M1 M2 := q5.mono (fun f i k hs => by
        rcases hs with h | h | h | h | h | h | h | h
        · exact Or.inl h
        · exact Or.inr (Or.inl h)
        · exact Or.inr (Or.inr (Or.inl h.1))
        · exact Or.inr (Or.inr (Or.inr (Or.inl h.1)))
        · exact Or.inr (Or.inr (Or.inr (Or.inr (Or.inl h))))
        · exact Or.inr (Or.inr (Or.inr (Or.inr (Or.inr (Or.inl h)))))
        · exact Or.inr (Or.inr (Or.inr (Or.inr (Or.inr (Or.inr (Or.inl ⟨h.1, by omega⟩))))))
        · exact Or.inr (Or.inr (Or.inr (Or.inr (Or.inr (Or.inr (Or.inr ⟨h.1, by omega⟩))))))) 
      refine ⟨frM.trans q5', ?_⟩
      have fM := frM.trans q5'
      have wm : ∀ {f : Nat} {i : Int}, 22 ≤ f → ¬ f = 5003 → ¬ f = 5004 → ¬ f = 16001 → ¬ f = 16002 → ¬ f = 15000 → ¬ f = 13000 → M2 f i = M f i := fun h0 h1 h2 h3 h4 h5 h6 => fM.row _ _ (fun k => by simp only [SLnC, LCLog]; omega)
      have k0 : kfl M2 x [] = M2 := by
        unfold kfl
        rw [movl_nil]
        funext f i k
        rw [mset_3]
        split
        · rename_i e; rw [e.1, e.2.1, e.2.2]; simp
        · rfl
      have gk : ∀ Q, Tq 275 2 [vR 22 0, vI x, vI (10 * x), vI (1000 * x), vI 0, vJ, vJ, vJ, vJ] [] M2 Q ↔ Tq 275 3 [vR 22 0, vI x, vI (10 * x), vI (1000 * x), vJ, vJ, vJ, vJ, vJ] [] (kfl M2 x (row (fun k => w8 (M 22099 8 k)) 0 (M 13 0 1).toNat)) Q := fun Q => by
        have gk := m275_2 (Q := Q) (N := M2) (x := x) hx (by rw [wm (by decide) (by decide) (by decide) (by decide) (by decide) (by decide) (by decide)]; omega) (M2 22 0 3).toNat 0 (by rw [wm (by decide) (by decide) (by decide) (by decide) (by decide) (by decide) (by decide)]; omega) (by rw [wm (by decide) (by decide) (by decide) (by decide) (by decide) (by decide) (by decide)]; omega) (by rw [wm (by decide) (by decide) (by decide) (by decide) (by decide) (by decide) (by decide), wm (by decide) (by decide) (by decide) (by decide) (by decide) (by decide) (by decide)]; omega)
        rw [show row (fun k => w8 (M2 22099 8 k)) 0 0 = [] from rfl, k0, wm (f := 22099) (by decide) (by decide) (by decide) (by decide) (by decide) (by decide) (by decide), wm (f := 22) (by decide) (by decide) (by decide) (by decide) (by decide) (by decide) (by decide), ← t1] at gk
        exact gk
      have eL : row (fun k => w8 (M 22099 8 k)) 0 (M 13 0 1).toNat = L := by
        rw [← hL]
        have gen : ∀ n : Nat, (n : Int) ≤ M 13 0 1 → row (fun k => w8 (M 22099 8 k)) 0 n = row (fun k => w8 (M 13000 0 k)) 0 n := by
          intro n
          induction n with
          | zero => intro _; rfl
          | succ n ih =>
            intro hn
            show row _ 0 n ++ [w8 (M 22099 8 (0 + (n : Int)))] = row _ 0 n ++ [w8 (M 13000 0 (0 + (n : Int)))]
            rw [ih (by omega), t4 (0 + n) (by omega) (by omega)]
        exact gen _ (by omega)
      rw [eL] at gk
      rw [t275_0, m189, kI_v, if_pos (by rw [b2i_t hb]; decide), t275_1, w32_id (z := 10 * x) (by omega) (by omega), w32_id (z := 1000 * x) (by omega) (by omega)]
      refine (gk _).mpr ?_
      rw [t275_3, bd_e, w32_id (z := 10 * x + 2) (by omega) (by omega)]
      refine ⟨by omega, ?_⟩
      generalize hN0 : mset (kfl M2 x L) 22 0 3 0 = N0
      have z0 : ∀ {f : Nat} {i : Int}, ¬ f = 22 → ¬ f = 22014 → ¬ f = 22016 → N0 f i = M2 f i := fun h1 h2 h3 => by
        rw [← hN0, mset_o (fun q => h1 q.1)]
        unfold kfl
        rw [mset_o (fun q => h2 q.1), movl_r h3]
      have z22 : ∀ k, ¬ k = 3 → N0 22 0 k = M 22 0 k := fun k hk => by
        rw [← hN0, mset_3, if_neg (by simp [hk])]
        unfold kfl
        rw [mset_o (by simp), movl_r (by decide), wm (by decide) (by decide) (by decide) (by decide) (by decide) (by decide) (by decide)]
      have z14 : ∀ k, N0 22014 0 k = if k = 10 * x then M 22014 0 (10 * x) + M 13 0 1 else M 22014 0 k := fun k => by
        rw [← hN0, mset_o (by simp)]
        unfold kfl
        rw [mset_s, fup_at, lL, movl_r (by decide), wm (by decide) (by decide) (by decide) (by decide) (by decide) (by decide) (by decide)]
      have z16 : N0 22016 0 = ovl (M 22016 0) (1000 * x + M 22014 0 (10 * x)) L := by
        rw [← hN0, mset_o (by simp)]
        unfold kfl
        rw [mset_o (by simp), movl_s, wm (by decide) (by decide) (by decide) (by decide) (by decide) (by decide) (by decide), wm (by decide) (by decide) (by decide) (by decide) (by decide) (by decide) (by decide)]
      rw [Int.sub_zero] at b1
      have nl : LnN M1 N0 x 0 := by
        refine ⟨by rw [z14, if_pos rfl, u13, b1, Int.sub_zero], fun k k1 k2 => ?_, fun j j1 j2 => ?_, fun s s1 s2 => ?_⟩
        · rw [u13] at k2
          rw [z16, u13x, Int.zero_add, b1]
          by_cases ck : k < M 13 (3 + x) 1
          · rw [ovl_out (by omega), ovl_out (Or.inl ck), b2 k k1 (by omega), Int.zero_add]
          · rw [ovl_in (by omega) (by omega), ovl_in (by omega) (by omega), show 1000 * x + k - (1000 * x + M 13 (3 + x) 1) = k - M 13 (3 + x) 1 by omega]
        · rw [z14, if_neg (by omega), b3 j j1 j2, u0 (by decide) (by decide)]
        · rw [z0 (by decide) (by decide) (by decide), wm (by decide) (by decide) (by decide) (by decide) (by decide) (by decide) (by decide), b4 s s1 s2, u0 (by decide) (by decide)]
      have nR : RLog N0 rs := by
        unfold RLog
        rw [z22 5 (by decide), z22 6 (by decide), z0 (by decide) (by decide) (by decide), wm (by decide) (by decide) (by decide) (by decide) (by decide) (by decide) (by decide)]
        exact hR
      have nN : RNet N0 P := by
        refine RNet_cg (M := M) (fun f i k hl => ?_) (fun _ _ _ _ => rfl) hr
        simp only [LRNet] at hl
        rcases hl with ⟨rfl, rfl, rfl⟩ | ⟨rfl, rfl⟩ | ⟨rfl, rfl⟩ | ⟨rfl, rfl⟩ | ⟨rfl, rfl⟩
        · exact z22 9 (by decide)
        all_goals rw [z0 (by decide) (by decide) (by decide), wm (by decide) (by decide) (by decide) (by decide) (by decide) (by decide) (by decide)]
      have e2 : N0 22014 0 (10 * x + 2) = M1 16001 x 2 := nl.2.2.1 2 (by decide) (by decide)
      rw [e2]
      refine Tq_imp (q8 N0 nl nR nN) ?_
      intro r N1 hq
      rcases r with (_ | (v2 | w)) | i <;> try exact hq.elim
      rw [kI_v] at hq ⊢
      obtain ⟨p1, p2, p3, p4, p5⟩ := hq
      have fN0 : Fr SLn M2 N0 := by
        rw [← hN0]
        unfold kfl
        refine Fr.mset (Fr.mset (Fr.movl Fr.refl (fun k => ?_)) ?_) ?_
        · exact Or.inr (Or.inr (Or.inr (Or.inr (Or.inr (Or.inl rfl)))))
        · exact Or.inr (Or.inr (Or.inr (Or.inl rfl)))
        · exact Or.inr (Or.inr (Or.inr (Or.inr (Or.inr (Or.inr (Or.inr (Or.inr ⟨rfl, rfl⟩)))))))
      have fN1 : Fr SLn N0 N1 := p2.mono (fun f i k hs => by
        rcases hs with h | h | h | h | h | h | h
        · exact Or.inr (Or.inl h)
        · exact Or.inr (Or.inr (Or.inl h))
        · exact Or.inr (Or.inr (Or.inr (Or.inl h.1)))
        · exact Or.inr (Or.inr (Or.inr (Or.inr (Or.inl h.1))))
        · exact Or.inr (Or.inr (Or.inr (Or.inr (Or.inr (Or.inr (Or.inl h))))))
        · exact Or.inr (Or.inr (Or.inr (Or.inr (Or.inr (Or.inr (Or.inr (Or.inl h)))))))
        · exact Or.inr (Or.inr (Or.inr (Or.inr (Or.inr (Or.inl h.1))))))
      -- the one side lies untouched
      have cN : ∀ {f : Nat} {i : Int}, f < 22 ∨ (1000 ≤ f ∧ f < 22000) → N1 f i = M2 f i := fun hf => by
        rw [p2.row _ _ (fun k => by simp only [SHm, LRLog]; omega), z0 (by omega) (by omega) (by omega)]
      have e13 : M2 13 0 = M1 13 0 := q5.row _ _ (fun k => by simp only [SHr, LCLog]; omega)
      refine ⟨p1, (fM.mono (fun f i k h => Or.inl h)).trans (fN0.trans fN1), ⟨?_, ?_⟩, k, rs', P', q1, q4, ?_, p4, ?_, p5⟩
      · have g1 : N1 13 0 1 = 0 := by rw [cN (by omega), e13, ← hM1, mset_3, if_pos ⟨rfl, rfl, rfl⟩]
        have g2 : N1 22 0 3 = 0 := by rw [p2 _ _ _ (by simp [SHm, LRLog]), ← hN0, mset_3, if_pos ⟨rfl, rfl, rfl⟩]
        unfold ITp
        rw [g1, g2]
        exact ⟨rfl, by decide, by decide, fun k k1 k2 => by omega⟩
      · intro u u1 u2
        by_cases cu : u = x
        · subst cu
          have m : LnM N1 u := by
            unfold LnM
            rw [cN (by omega), cN (by omega), cN (by omega), cN (by omega)]
            exact q6
          refine ⟨m, by rw [cN (by omega)]; exact q7, ?_⟩
          unfold LnN at p3 ⊢
          rw [cN (f := 13) (by omega), cN (f := 13000) (by omega), cN (f := 16001) (by omega), cN (f := 16002) (by omega)]
          exact p3
        · obtain ⟨c1, c2, c3⟩ := h u u1 u2
          have o13 : N1 13 (3 + u) = M 13 (3 + u) := by rw [cN (by omega), q5.row _ _ (fun k => by simp only [SHr, LCLog]; omega), u131 _ (by omega) (by omega)]
          have o130 : N1 13000 (3 + u) = M 13000 (3 + u) := by rw [cN (by omega), q5.row _ _ (fun k => by simp only [SHr, LCLog]; omega), u130 _ (by omega)]
          have o161 : N1 16001 u = M 16001 u := by rw [cN (by omega), q5.row _ _ (fun k => by simp only [SHr, LCLog]; omega), u0 (by decide) (by decide)]
          have o162 : N1 16002 u = M 16002 u := by rw [cN (by omega), q5.row _ _ (fun k => by simp only [SHr, LCLog]; omega), u0 (by decide) (by decide)]
          have m : LnM N1 u := by
            unfold LnM
            rw [o13, o130, o161, o162]
            exact c1
          refine ⟨m, by rw [o13]; exact c2, ?_⟩
          unfold LnN
          rw [o13, o130, o161, o162]
          obtain ⟨d1, d2, d3, d4⟩ := c3
          refine ⟨?_, fun k k1 k2 => ?_, fun j j1 j2 => ?_, fun s s1 s2 => ?_⟩
          · rw [p2 _ _ _ (by simp only [SHm, LRLog]; omega), z14, if_neg (by omega), d1]
          · rw [p2 _ _ _ (by simp only [SHm, LRLog]; omega), z16, ovl_out (by omega), d2 k k1 k2]
          · rw [p2 _ _ _ (by simp only [SHm, LRLog]; omega), z14, if_neg (by omega), d3 j j1 j2]
          · rw [p2 _ _ _ (by simp only [SHm, LRLog]; omega), z0 (by decide) (by decide) (by decide), wm (by decide) (by decide) (by decide) (by decide) (by decide) (by decide) (by decide), d4 s s1 s2]
      · unfold CLog
        rw [cN (by omega), cN (by omega), cN (by omega)]
        exact q2
      · refine CNet_cg (M := M2) (fun f i k hl => ?_) (fun _ _ _ _ => rfl) q3
        rw [cN (by simp only [LCNet] at hl; omega)]
    have e0 : ∀ {Q}, Tq 29 17 [vR 1 0, vJ, vR 16 x, vI (M1 16001 x 2), vI 0, vI 1, vJ, vJ, vJ, vJ] [] M1 Q ↔ (if M1 13 (3 + x) 1 ≤ 0 then Tq 29 4 [vR 1 0, vJ, vR 16 x, vI (M1 16001 x 2), vI 0, vJ, vJ, vJ, vJ, vJ] [] M1 Q else Tq 29 5 [vR 1 0, vJ, vR 16 x, vI (M1 16001 x 2), vI 0, vJ, vJ, vJ, vJ, vJ] [vI 1] M1 Q) := by
      intro Q
      rw [t29_17]
      by_cases c : M1 13 (3 + x) 1 ≤ 0
      · rw [if_pos c, if_pos c, t29_18, t29_19, show and32 1 0 = 0 from rfl, t29_4, t29_5]
      · rw [if_neg c, if_neg c, t29_19, show and32 1 1 = 1 from rfl, t29_5]
    exact e0.mp main
  · rw [if_neg (by rw [b2i_f hb]; decide), kI_v]
    refine ⟨Fr.refl, ?_⟩
    rw [t275_0, m189, kI_v, if_neg (by rw [b2i_f hb]; decide), kI_v]
    exact ⟨rfl, Fr.refl, ⟨hT, h⟩, 0, rs, P, ⟨rfl, rfl⟩, hw, hC, hR, hc, hr⟩
end Hear5
