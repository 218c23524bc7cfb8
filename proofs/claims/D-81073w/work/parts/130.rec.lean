/-! RECORDS WRITTEN: record -/
def SRcC (f : Nat) (i k : Int) : Prop := STpC f i k ∨ f = 15000
def SRc (f : Nat) (i k : Int) : Prop := STp f i k ∨ f = 15000
section Rec
variable {M N P : Mem} {Q : AR → Mem → Prop} {a : Int → Int} {n s t cd num : Int}
theorem enc_all (hn : 1 ≤ n ∧ n ≤ 56) (hcd : 0 ≤ cd ∧ cd ≤ 2) (h32 : ∀ k, 0 ≤ k → k < n → I32 (a k)) : ∃ B : List Int, B.length ≤ 300 ∧ (∀ M H Q, SmC a n M → M 13 0 1 = 0 → H.length = 8 → (Tq 132 0 [vR 15 0, vR 13 0, vI cd, vI n, vJ] [] (bapp M 0 H) Q ↔ Q (.inl none) (bapp M 0 (H ++ B)))) ∧ (∀ N f, SmM a n f N → (cd = 0 → ∀ Q, Tq 284 0 [vR 22 0, vI f, vI n, vJ] [] N Q ↔ Q (.inl (some (vI (8 + B.length)))) (movl N 22099 8 8 B)) ∧ (cd = 1 → ∀ Q, Tq 285 0 [vR 22 0, vI f, vI n, vJ, vJ, vJ, vJ, vJ, vJ, vJ, vJ, vJ] [] N Q ↔ Q (.inl (some (vI (8 + B.length)))) (movl N 22099 8 8 B)) ∧ (cd = 2 → ∀ Q, Tq 287 0 [vR 22 0, vI f, vI n, vJ, vJ, vJ, vJ, vJ] [] N Q ↔ Q (.inl (some (vI (8 + B.length)))) (movl N 22099 8 8 B))) := by
  have sz : ∀ {M : Mem} {L : List Int}, M 13 0 1 = 0 → bapp M 0 L 13 0 1 = L.length := fun h0 => by rw [bapp_sz, h0]; omega
  rcases (show cd = 0 ∨ cd = 1 ∨ cd = 2 by omega) with rfl | rfl | rfl
  · -- plain
    have rl : ∀ i : Nat, ((row a 0 i).flatMap be4).length = 4 * i := fun i => by rw [fm4_len, row_len]
    have rs : ∀ i : Nat, (row a 0 (i + 1)).flatMap be4 = (row a 0 i).flatMap be4 ++ be4 (a i) := fun i => by
      show (row a 0 i ++ [a (0 + (i : Int))]).flatMap be4 = _
      rw [List.flatMap_append, Int.zero_add]
      simp
    refine ⟨(row a 0 n.toNat).flatMap be4, by rw [rl]; omega, fun M H Q hS h0 hH => ?_, fun N f hS => ⟨fun _ Q => ?_, fun h => by omega, fun h => by omega⟩⟩
    · have loop : ∀ (d k : Nat), (k : Int) + d = n → (Tq 132 3 [vR 15 0, vR 13 0, vJ, vI n, vI k] [] (bapp M 0 (H ++ (row a 0 k).flatMap be4)) Q ↔ Q (.inl none) (bapp M 0 (H ++ (row a 0 n.toNat).flatMap be4))) := by
        intro d
        induction d with
        | zero =>
          intro k hk
          rw [t132_3, if_pos (by omega), t132_4, show n.toNat = k by omega]
        | succ d ih =>
          intro k hk
          have hS' := SmC_bapp (L := H ++ (row a 0 k).flatMap be4) hS
          have z := sz (L := H ++ (row a 0 k).flatMap be4) h0
          rw [List.length_append, rl, hH] at z
          rw [t132_3, if_neg (by omega), hS' k (by omega) (by omega), m111 (by omega) (by rw [z, bLen_0]; omega), kV_v, bapp_app, w32_id (z := (k : Int) + 1) (by omega) (by omega), List.append_assoc, ← rs]
          exact andi (by omega) (ih (k + 1) (by omega))
      have l0 := loop n.toNat 0 (by omega)
      rw [show (row a 0 0).flatMap be4 = [] from rfl, List.append_nil] at l0
      rw [t132_0, if_pos (by decide), t132_1, if_pos (by decide), t132_2]
      exact l0
    · obtain ⟨s1, s2, s3⟩ := id hS
      have loop : ∀ (d k : Nat), (k : Int) + d = n → (Tq 284 1 [vR 22 0, vI f, vI n, vI k] [] (movl N 22099 8 8 ((row a 0 k).flatMap be4)) Q ↔ Tq 284 2 [vJ, vJ, vI n, vJ] [] (movl N 22099 8 8 ((row a 0 n.toNat).flatMap be4)) Q) := by
        intro d
        induction d with
        | zero =>
          intro k hk
          rw [t284_1, if_pos (by omega), show n.toNat = k by omega]
        | succ d ih =>
          intro k hk
          rw [t284_1, if_neg (by omega), w32_id (z := f + k) (by omega) (by omega), w32_id (z := 4 * (k : Int)) (by omega) (by omega), w32_id (z := 8 + 4 * (k : Int)) (by omega) (by omega), movl_r (by decide), s3 k (by omega) (by omega), m185_row (by omega) (by omega), kV_v, movl_app (by rw [rl]; omega), ← rs, w32_id (z := (k : Int) + 1) (by omega) (by omega)]
          exact andi (by omega) (ih (k + 1) (by omega))
      have l0 := loop n.toNat 0 (by omega)
      rw [show (row a 0 0).flatMap be4 = [] from rfl, movl_nil] at l0
      rw [t284_0]
      refine l0.trans ?_
      rw [t284_2, w32_id (z := 4 * n) (by omega) (by omega), w32_id (by omega) (by omega), rl, show 8 + ((4 * n.toNat : Nat) : Int) = 8 + 4 * n by omega]
  · -- steps
    have gl := gsE_len (a := a) (n := n) 56 1 hn.1
    refine ⟨be4 (a 0) ++ be4 (a (n - 1)) ++ gsE a n 56 1, by rw [List.length_append, List.length_append, be4_len, be4_len]; omega, fun M H Q hS h0 hH => ?_, fun N f hS => ⟨fun h => by omega, fun _ Q => ?_, fun h => by omega⟩⟩
    · have hS' := SmC_bapp (L := H) hS
      have hS2 := SmC_bapp (L := H ++ be4 (a 0)) hS
      have z1 := sz (L := H) h0
      have z2 := sz (L := H ++ be4 (a 0)) h0
      rw [List.length_append, be4_len] at z2
      rw [t132_0, if_neg (by decide), t133_0, hS' 0 (by decide) (by omega), m111 (by omega) (by rw [z1, bLen_0]; omega), kV_v, bapp_app, w32_id (z := n - 1) (by omega) (by omega), hS2 (n - 1) (by omega) (by omega), m111 (by omega) (by rw [z2, bLen_0]; omega), kV_v, bapp_app, st_C (L := []) hS h0 hn.2 56 1 _ (by omega) hn.1 (by omega) (by rw [List.length_append, List.length_append, be4_len, be4_len]; omega), kV_v, t132_4, List.append_assoc, List.append_assoc, List.append_assoc]
      exact andi (by decide) (andi (by omega) Iff.rfl)
    · have sm := st_M (Q := Q) hS hn.2 56 1 (be4 (a 0) ++ be4 (a (n - 1))) (by omega) hn.1 (by omega) (by rw [List.length_append, be4_len, be4_len]; omega)
      obtain ⟨s1, s2, s3⟩ := id hS
      have e0 := s3 0 (by decide) (by omega)
      rw [Int.add_zero] at e0
      rw [t285_0, e0, m185_row (by decide) (by decide), kV_v, w32_id (z := f + n) (by omega) (by omega), w32_id (z := f + n - 1) (by omega) (by omega), show f + n - 1 = f + (n - 1) by omega, movl_r (by decide), s3 (n - 1) (by omega) (by omega), m185_row (by decide) (by decide), kV_v, movl_app (by rw [be4_len]; decide)]
      refine andi (by omega) (andi (by omega) ?_)
      rw [← sm]
      rfl
  · -- packed
    obtain ⟨w, w1, w2, w3, w4⟩ := grow_all (a := a) hn.2 h32 n.toNat 0 1 (by omega) (by omega) (by omega) (by omega)
    have hnw : 0 ≤ n * w ∧ n * w ≤ 1792 := by
      have := Int.mul_le_mul hn.2 w2 (by omega) (by omega)
      have := Int.mul_nonneg (a := n) (b := w) (by omega) (by omega)
      omega
    refine ⟨w8 w :: pkB a n w ((n * w + 7) / 8).toNat, by rw [List.length_cons, show (pkB a n w ((n * w + 7) / 8).toNat).length = ((n * w + 7) / 8).toNat from row_len _]; omega, fun M H Q hS h0 hH => ?_, fun N f hS => ⟨fun h => by omega, fun h => by omega, fun _ Q => ?_⟩⟩
    · have hS' := SmC_bapp (L := H) hS
      have z1 := sz (L := H) h0
      have pc := pack_C (Q := kV fun M1 => Tq 132 4 [vJ, vJ, vJ, vJ, vJ] [] M1 Q) (L := H ++ [w8 w]) (w := w) hS h0 hn ⟨w1, w2⟩ (by rw [List.length_append]; simp; omega) n.toNat 0 0 0 (by omega) (by decide) (by simp)
      rw [show pkB a n w 0 = [] from rfl, List.append_nil] at pc
      rw [t132_0, if_pos (by decide), t132_1, if_neg (by decide), t135_0, w3 _ _ hS', t135_4, m113 (by omega) (by rw [z1, bLen_0]; omega), kV_v, bapp_app]
      refine pc.trans ?_
      rw [kV_v, t132_4, List.append_assoc, List.singleton_append]
    · rw [t287_0, w4 N f Q hS, pack_M hS hn ⟨w1, w2⟩]
theorem op_record (hw : WNet P) (hc : CNet M P) (hr : RNet M P) (hI : ITp M) (h32 : I32 t ∧ I32 n) : Op2 SRcC SRc 33 [vR 1 0, vI s, vI t, vI n, vI cd, vI num] 283 [vR 22 0, vI s, vI t, vI n, vI cd, vI num, vJ, vJ] M ITp := by
  obtain ⟨⟨w1, w2⟩, w3, w4⟩ := hw
  obtain ⟨c1, c2, c3⟩ := hc
  obtain ⟨r1, r2, r3⟩ := hr
  have c1 : M 5 0 0 = P 22 0 9 := c1
  have r1 : M 22 0 9 = P 22 0 9 := r1
  have x1 := h32.1
  have x2 := h32.2
  unfold I32 at x1 x2
  by_cases hq : (0 ≤ s ∧ s < P 22 0 9) ∧ (0 ≤ t ∧ t ≤ 4095) ∧ (1 ≤ n ∧ n ≤ 56) ∧ t + n ≤ 4096 ∧ (0 ≤ cd ∧ cd ≤ 2) ∧ (0 ≤ num ∧ num ≤ 255)
  · obtain ⟨q1, q2, q3, q4, q5, q6⟩ := hq
    have hs : 0 ≤ s ∧ s < 12 := by omega
    have g1 : ∀ {Q}, Tq 33 0 [vR 1 0, vI s, vI t, vI n, vI cd, vI num] [] M Q ↔ Tq 33 2 [vR 1 0, vI s, vI t, vI n, vI cd, vI num] [] M Q := by
      intro Q
      simp (disch := omega) only [kI_v, kL_v, kV_v, kR_v, kX_n, kX_e, bd_e, b2i_e0, b2i_e1, b2i_nb, nb_0, nb_1, cmp_lt, cmp_le, cmp_gt, cmp_ge, cmp_eq, not_true_eq_false, not_false_eq_true, if_true, if_false, ite_true, ite_false, true_and, and_true, false_and, and_false, Int.reduceLT, Int.reduceLE, Int.reduceEq, Int.reduceSub, Int.reduceAdd, Int.reduceNeg, Int.reduceMul, Classical.not_not, Int.zero_add, Int.add_zero, Int.le_refl, lt_T, lt_F, le_T, le_F, eq_T, eq_F, w32_id, ↓reduceIte, mset_3, Nat.reduceEqDiff, reduceCtorEq, and_self, t33_0, m353, m34, m25, c1]
    have g2 : ∀ {N Q}, N 22 0 9 = P 22 0 9 → (Tq 283 0 [vR 22 0, vI s, vI t, vI n, vI cd, vI num, vJ, vJ] [] N Q ↔ Tq 283 2 [vR 22 0, vI s, vI t, vI n, vI cd, vI num, vJ, vJ] [] N Q) := by
      intro N Q hN
      simp (disch := omega) only [kI_v, kL_v, kV_v, kR_v, kX_n, kX_e, bd_e, b2i_e0, b2i_e1, b2i_nb, nb_0, nb_1, cmp_lt, cmp_le, cmp_gt, cmp_ge, cmp_eq, not_true_eq_false, not_false_eq_true, if_true, if_false, ite_true, ite_false, true_and, and_true, false_and, and_false, Int.reduceLT, Int.reduceLE, Int.reduceEq, Int.reduceSub, Int.reduceAdd, Int.reduceNeg, Int.reduceMul, Classical.not_not, Int.zero_add, Int.add_zero, Int.le_refl, lt_T, lt_F, le_T, le_F, eq_T, eq_F, w32_id, ↓reduceIte, mset_3, Nat.reduceEqDiff, reduceCtorEq, and_self, t283_0, m270, m219, m189, hN]
    have hk : ∀ j, 0 ≤ j → j < 49152 → M 5004 0 j = 0 ∨ M 5004 0 j = 1 := fun j j1 j2 => by rw [(c3 j j1 j2).1]; exact (w4 j j1 j2).1
    have ek : akF (M 22012 0) n.toNat (s * 4096 + t) = akF (M 5004 0) n.toNat (s * 4096 + t) := akF_cg _ _ (fun k k1 k2 => by rw [(c3 k (by omega) (by omega)).1, (r3 k (by omega) (by omega)).1])
    have kn : ∀ {N Q}, N 22012 0 = M 22012 0 → ∀ (d : Nat) (i : Int), 0 ≤ i → i + d = n → (Tq 283 3 [vR 22 0, vI s, vI t, vI n, vI cd, vI num, vI (s * 4096 + t), vI i] [] N Q ↔ if akF (M 22012 0) d (s * 4096 + t + i) = 0 then Q (.inl (some (vI (-2)))) N else Tq 283 5 [vR 22 0, vI s, vI t, vI n, vI cd, vI num, vI (s * 4096 + t), vJ] [] N Q) := by
      intro N Q hN d
      induction d with
      | zero =>
        intro i i1 i2
        rw [t283_3, if_pos (by omega)]
        unfold akF
        rw [if_neg (by decide)]
      | succ d ih =>
        intro i i1 i2
        rw [t283_3, if_neg (by omega), w32_id (z := s * 4096 + t + i) (by omega) (by omega), t283_4, w32_id (z := i + 1) (by omega) (by omega), ih (i + 1) (by omega) (by omega), hN]
        refine andi (by omega) ?_
        rw [akF_s, show s * 4096 + t + (i + 1) = s * 4096 + t + i + 1 by omega]
        by_cases hz : M 22012 0 (s * 4096 + t + i) = 0
        · rw [if_neg (by simpa using hz), if_pos hz, if_pos rfl]
        · rw [if_pos hz, if_neg hz]
    have g3 : ∀ {N Q}, N 22 0 9 = P 22 0 9 → N 22012 0 = M 22012 0 → (Tq 283 0 [vR 22 0, vI s, vI t, vI n, vI cd, vI num, vJ, vJ] [] N Q ↔ if akF (M 5004 0) n.toNat (s * 4096 + t) = 0 then Q (.inl (some (vI (-2)))) N else Tq 283 5 [vR 22 0, vI s, vI t, vI n, vI cd, vI num, vI (s * 4096 + t), vJ] [] N Q) := by
      intro N Q h1 h2
      rw [g2 h1, t283_2, w32_id (z := 4096 * s) (by omega) (by omega), w32_id (z := 4096 * s + t) (by omega) (by omega), Int.mul_comm 4096 s, kn h2 n.toNat 0 (by omega) (by omega), Int.add_zero, ek]
    unfold Op2
    rw [g1, t33_2, m354 hs q2.1 (by omega) q4 hk, kI_v]
    refine ifg (fun hz => ?_) (fun hz => ⟨Fr.refl, ?_⟩)
    · have h1k : akF (M 5004 0) n.toNat (s * 4096 + t) = 1 := by rcases akF_01 (g := M 5004 0) n.toNat (s * 4096 + t) with h | h; exact absurd h hz; exact h
      have hall := akF_all _ _ h1k
      have hsam : ∀ k, 0 ≤ k → k < n → M 5003 0 (s * 4096 + t + k) = M 22013 0 (s * 4096 + t + k) ∧ I32 (M 22013 0 (s * 4096 + t + k)) := fun k k1 k2 => by
        have hj := hall (s * 4096 + t + k) (by omega) (by omega)
        rw [(c3 _ (by omega) (by omega)).1] at hj
        have hw4 := w4 (s * 4096 + t + k) (by omega) (by omega)
        have h1 : P 22012 0 (s * 4096 + t + k) = 1 := by rcases hw4.1 with h | h; exact absurd h hj; exact h
        rw [(c3 _ (by omega) (by omega)).2 h1, (r3 _ (by omega) (by omega)).2 h1]
        exact ⟨rfl, hw4.2 h1⟩
      obtain ⟨B, hB, eC, eM⟩ := enc_all (a := fun k => M 22013 0 (s * 4096 + t + k)) (cd := cd) q3 q5 (fun k k1 k2 => (hsam k k1 k2).2)
      rw [t33_3, w32_id (z := s * 4096) (by omega) (by omega), w32_id (z := s * 4096 + t) (by omega) (by omega), bd_e, bd_e, mcpy_row]
      refine ⟨by omega, ?_⟩
      generalize hM2 : mset (mrow M 15000 0 fun k => if 0 ≤ k ∧ k < 0 + n then M 5003 0 (s * 4096 + t + (k - 0)) else M 15000 0 k) 13 0 1 0 = M2
      have z0 : M2 13 0 1 = 0 := by rw [← hM2, mset_3, if_pos ⟨rfl, rfl, rfl⟩]
      have hF2 : Fr SRcC M M2 := by
        rw [← hM2]
        exact Fr.mset (Fr.mrow Fr.refl (fun _ => Or.inr rfl)) (Or.inl (Or.inl ⟨rfl, rfl, rfl⟩))
      have r2' : ∀ {f : Nat} {i : Int}, ¬ f = 13 → ¬ f = 15000 → M2 f i = M f i := fun h1 h2 => by rw [← hM2, mset_o (fun q => h1 q.1), mrow_2, if_neg (fun q => h2 q.1)]
      have hS : SmC (fun k => M 22013 0 (s * 4096 + t + k)) n M2 := fun k k1 k2 => by
        rw [← hM2, mset_o (by simp), mrow_2, if_pos ⟨rfl, rfl⟩, if_pos (by omega), Int.sub_zero]
        exact (hsam k k1 k2).1
      have sz : ∀ L : List Int, bapp M2 0 L 13 0 1 = L.length := fun L => by rw [bapp_sz, z0]; omega
      have b0 := bLen_0
      rw [m113 (by omega) (by omega), kV_v, m113 (by rw [sz]; simp) (by rw [sz, b0]; simp), kV_v, bapp_app, m113 (by rw [sz]; simp) (by rw [sz, b0]; simp), kV_v, bapp_app, m113 (by rw [sz]; simp) (by rw [sz, b0]; simp), kV_v, bapp_app, m112 (by rw [sz]; simp) (by rw [sz, b0]; simp), kV_v, bapp_app, m113 (by rw [sz]; simp [be2]) (by rw [sz, b0]; simp [be2]), kV_v, bapp_app, m113 (by rw [sz]; simp [be2]) (by rw [sz, b0]; simp [be2]), kV_v, bapp_app]
      generalize hH : [w8 165] ++ [w8 s] ++ [w8 num] ++ [w8 cd] ++ be2 t ++ [w8 n] = H7
      have l7 : H7.length = 7 := by rw [← hH]; rfl
      rw [eC M2 (H7 ++ [w8 0]) _ hS z0 (by rw [List.length_append, l7]; rfl), kV_v, List.append_assoc, List.singleton_append]
      refine ⟨by decide, ?_⟩
      rw [bd_e, sz, w8_w8]
      have ln : ((H7 ++ w8 0 :: B).length : Int) = 8 + B.length := by rw [List.length_append, List.length_cons, l7]; omega
      rw [ln, w32_id (by omega) (by omega)]
      have bs := bapp_set (M := M2) (x := w8 0) (v := w8 (8 + B.length - 8)) (L := H7) (S := B) z0
      rw [show ((H7.length : Nat) : Int) = 7 by rw [l7]; rfl] at bs
      rw [bs, show 8 + (B.length : Int) - 8 = B.length by omega, sz]
      generalize hF : H7 ++ w8 B.length :: B = F
      have lF : (F.length : Int) = 8 + B.length := by rw [← hF, List.length_append, List.length_cons, l7]; omega
      rw [lF, m115 (by decide) (by omega) (by rw [b0]; omega), kI_v, bapp_cells, z0]
      have sumE : ∀ g : Int → Int, sumF (ovl g 0 F) (8 + (B.length : Int) - 0).toNat 0 0 = sumL F := by
        intro g
        have := sumF_ovl (g := g) (a := 0) (b := 0) (L := []) (C := F) rfl
        rw [List.nil_append] at this
        rw [show (8 + (B.length : Int) - 0).toNat = F.length by omega, this]
      rw [sumE, m111 (by rw [sz]; omega) (by rw [sz, b0]; omega), kV_v, bapp_app, kI_v, sz]
      have hFr : Fr SRcC M (bapp M2 0 (F ++ be4 (sumL F))) := Fr.bapp hF2 (Or.inl (Or.inl ⟨rfl, rfl, rfl⟩)) (fun k => Or.inl (Or.inr ⟨rfl, rfl⟩))
      refine ⟨hFr, ?_⟩
      generalize hM3 : bapp M2 0 (F ++ be4 (sumL F)) = M3
      have r3' : ∀ {f : Nat} {i : Int}, ¬ f = 13 → ¬ f = 13000 → ¬ f = 15000 → M3 f i = M f i := fun h1 h2 h3 => by rw [← hM3, bapp_2, if_neg (fun q => h1 q.1), if_neg (fun q => h2 q.1), r2' h1 h3]
      have lf : ((F ++ be4 (sumL F)).length : Int) = 12 + B.length := by rw [List.length_append, be4_len]; omega
      rw [g3 (by rw [r3' (by decide) (by decide) (by decide)]; exact r1) (by rw [r3' (by decide) (by decide) (by decide)]), if_neg hz, t283_5]
      -- the head
      have hd7 : mset (movl (mset (mset (mset (mset M3 22099 8 0 (w8 (-91))) 22099 8 1 (w8 (w8 s))) 22099 8 2 (w8 (w8 num))) 22099 8 3 (w8 (w8 cd))) 22099 8 4 (be2 t)) 22099 8 6 (w8 (w8 n)) = movl M3 22099 8 0 H7 := by
        rw [w8_w8, w8_w8, w8_w8, w8_w8, mset_movl (M := M3), mset_app (by simp [be2]), mset_app (by simp), mset_app (by simp), mset_app (by simp), movl_app (by simp), ← hH]
        rfl
      have hS3 : SmM (fun k => M 22013 0 (s * 4096 + t + k)) n (s * 4096 + t) (movl M3 22099 8 0 H7) := SmM_movl ⟨by omega, by omega, fun k k1 k2 => by rw [r3' (by decide) (by decide) (by decide)]⟩
      obtain ⟨m0, m1, m2⟩ := eM _ _ hS3
      have fin : Tq 283 8 [vR 22 0, vJ, vJ, vJ, vJ, vJ, vJ, vJ] [vI (8 + B.length)] (movl (movl M3 22099 8 0 H7) 22099 8 8 B) (kI fun v2 M2 => ((F ++ be4 (sumL F)).length : Int) = v2 ∧ Fr SRc M M2 ∧ ITp M2) := by
        rw [t283_8]
        refine ⟨by decide, ?_⟩
        rw [bd_e, w8_w8, w32_id (by omega) (by omega), show 8 + (B.length : Int) - 8 = B.length by omega, mset_movl, movl_pre (by simp), movl_app (by rw [l7]; rfl), List.singleton_append, hF, m203_row (by decide) (by omega) (by omega), kI_v, movl_s]
        have := sumE (M3 22099 8)
        rw [Int.sub_zero] at this
        rw [this, m185_row (by omega) (by omega), kV_v, movl_app (by omega), bd_e, w32_id (by omega) (by omega), kI_v]
        have e3 : mset (movl M3 22099 8 0 (F ++ be4 (sumL F))) 22 0 3 (8 + B.length + 4) 22 0 3 = 12 + B.length := by rw [mset_3, if_pos ⟨rfl, rfl, rfl⟩]; omega
        refine ⟨by rw [e3, lf], Fr.mset (Fr.movl (hM3 ▸ hFr.mono (fun f i k h => by rcases h with h | h; exact Or.inl (by simp only [STpC, STp, LITp] at h ⊢; omega); exact Or.inr h)) (fun _ => Or.inl (by simp [STp, LITp]))) (Or.inl (by simp [STp, LITp])), ?_⟩
        have i1 : mset (movl M3 22099 8 0 (F ++ be4 (sumL F))) 22 0 3 (8 + B.length + 4) 13 0 1 = 12 + B.length := by rw [mset_3, if_neg (by simp), movl_r (by decide), ← hM3, sz, lf]
        have i2 : mset (movl M3 22099 8 0 (F ++ be4 (sumL F))) 22 0 3 (8 + B.length + 4) 13000 0 = ovl (M2 13000 0) 0 (F ++ be4 (sumL F)) := by rw [mset_o (by simp), movl_r (by decide), ← hM3, bapp_cells, z0]
        have i3 : mset (movl M3 22099 8 0 (F ++ be4 (sumL F))) 22 0 3 (8 + B.length + 4) 22099 8 = ovl (M3 22099 8) 0 (F ++ be4 (sumL F)) := by rw [mset_o (by simp), movl_s]
        unfold ITp
        rw [i1, i2, i3, e3]
        refine ⟨rfl, by omega, by omega, fun k k1 k2 => ?_⟩
        rw [ovl_in (by omega) (by omega), ovl_in (by omega) (by omega)]
      refine ⟨by decide, ?_⟩
      rw [bd_e]
      refine ⟨by decide, ?_⟩
      rw [bd_e]
      refine ⟨by decide, ?_⟩
      rw [bd_e]
      refine ⟨by decide, ?_⟩
      rw [bd_e, m186_row (by decide) (by decide), kV_v]
      refine ⟨by decide, ?_⟩
      rw [bd_e, hd7]
      refine ifg (fun hc0 => ?_) (fun hc0 => ?_)
      · rw [t283_6, t283_7]
        refine ifg (fun hc1 => ?_) (fun hc1 => ?_)
        · rw [m2 (by omega), kI_v]
          exact fin
        · rw [m1 (by omega), kI_v]
          exact fin
      · rw [m0 (by omega), kI_v]
        exact fin
    · rw [g3 r1 rfl, if_pos (by omega), kI_v]
      exact ⟨rfl, Fr.refl, hI⟩
  · have e1 : ∀ {Q}, Tq 33 0 [vR 1 0, vI s, vI t, vI n, vI cd, vI num] [] M Q ↔ Q (.inl (some (vI (-1)))) M := by
      intro Q
      simp only [kI_v, kL_v, kV_v, kR_v, kX_n, kX_e, bd_e, b2i_e0, b2i_e1, b2i_nb, nb_0, nb_1, cmp_lt, cmp_le, cmp_gt, cmp_ge, cmp_eq, not_true_eq_false, not_false_eq_true, if_true, if_false, ite_true, ite_false, true_and, and_true, false_and, and_false, Int.reduceLT, Int.reduceLE, Int.reduceEq, Int.reduceSub, Int.reduceAdd, Int.reduceNeg, Int.reduceMul, Classical.not_not, Int.zero_add, Int.add_zero, Int.le_refl, t33_0, t33_1, m353 (M := M) (show 0 ≤ M 5 0 0 ∧ M 5 0 0 ≤ 12 by omega), m34, m25]
      refine ifi (fun _ => Iff.rfl) (fun d1 => ifi (fun _ => Iff.rfl) (fun d2 => ifi (fun _ => Iff.rfl) (fun d3 => ?_)))
      rw [w32_id (z := t + n) (by omega) (by omega)]
      refine ifi (fun _ => Iff.rfl) (fun d4 => ifi (fun _ => Iff.rfl) (fun d5 => ?_))
      rw [if_neg (by omega)]
    have e2 : ∀ {Q}, Tq 283 0 [vR 22 0, vI s, vI t, vI n, vI cd, vI num, vJ, vJ] [] M Q ↔ Q (.inl (some (vI (-1)))) M := by
      intro Q
      simp only [kI_v, kL_v, kV_v, kR_v, kX_n, kX_e, bd_e, b2i_e0, b2i_e1, b2i_nb, nb_0, nb_1, cmp_lt, cmp_le, cmp_gt, cmp_ge, cmp_eq, not_true_eq_false, not_false_eq_true, if_true, if_false, ite_true, ite_false, true_and, and_true, false_and, and_false, Int.reduceLT, Int.reduceLE, Int.reduceEq, Int.reduceSub, Int.reduceAdd, Int.reduceNeg, Int.reduceMul, Classical.not_not, Int.zero_add, Int.add_zero, Int.le_refl, t283_0, t283_1, m270 (M := M) (show 0 ≤ M 22 0 9 ∧ M 22 0 9 ≤ 12 by omega), m219, m189]
      refine ifi (fun _ => Iff.rfl) (fun d1 => ifi (fun _ => Iff.rfl) (fun d2 => ifi (fun _ => Iff.rfl) (fun d3 => ?_)))
      rw [w32_id (z := t + n) (by omega) (by omega)]
      refine ifi (fun _ => Iff.rfl) (fun d4 => ifi (fun _ => Iff.rfl) (fun d5 => ?_))
      rw [if_neg (by omega)]
    unfold Op2
    rw [e1, kI_v]
    refine ⟨Fr.refl, ?_⟩
    rw [e2, kI_v]
    exact ⟨rfl, Fr.refl, hI⟩
end Rec
