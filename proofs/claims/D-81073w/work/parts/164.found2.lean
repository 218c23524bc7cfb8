/-! ASSOCIATE: found, whole -/
def fLv (x y z o m : Int) : List Int := [0, x, y, z, o, m, -99999999]
def fRw (x y z o m : Int) (A : List Int) (n : Int) : List Int := [x, y, z, o, m] ++ [n] ++ A
def fC (M : Mem) (e x y z o m : Int) (L : List Int) : Mem := cvs (lgw (movl (fX M e L) 1014 0 0 (fLv x y z o m)) (cont (69, fRw x y z o m (L.flatMap (ar5C M)) L.length))) e (fLv x y z o m) (M 4 0 10)
section Found2
variable {M P : Mem} {Q : AR → Mem → Prop} {e o n x y z m : Int} {L : List Int} {s : Int → Int}
theorem m63_5 {K : Mem} {H A : List Int} (he : 0 ≤ e ∧ e < 24) (hA : (A.length : Int) = 5 * n) (hn : 0 ≤ n ∧ n ≤ 24) (hK : ∀ k : Nat, k < A.length → K 7002 e k = A.getD k 0) (hH : H.length = 6) (h0 : 0 ≤ K 13 1 1) (h1 : K 13 1 1 + 31 + 20 * n ≤ 60000) {w : Int} : ∀ (r k : Nat), k + r = A.length → (Tq 63 5 [vR 1 0, vI n, vR 7 e, vJ, vI k, vJ] [] (lmid K w (cont (69, H ++ A.take k))) Q ↔ Tq 63 6 [vR 1 0, vJ, vR 7 e, vJ, vJ, vJ] [] (lmid K w (cont (69, H ++ A))) Q) := by
  intro r
  induction r with
  | zero =>
    intro k hk
    rw [t63_5, w32_id (z := 5 * n) (by omega) (by omega), if_pos (by omega), List.take_of_length_le (by omega)]
  | succ r ih =>
    intro k hk
    have nx := ih (k + 1) (by omega)
    rw [take_s (by omega), ← List.append_assoc, ← cont_a (by decide), ← hK k (by omega), show ((k + 1 : Nat) : Int) = (k : Int) + 1 by omega] at nx
    have cl := cont_len (l := 69) (L := H ++ A.take k) (by decide)
    rw [List.length_append, hH, List.length_take] at cl
    rw [t63_5, w32_id (z := 5 * n) (by omega) (by omega), if_neg (by omega), lmid_r (by decide) (by decide) (by decide), m111_l h0 (by omega), kV_v, w32_id (z := (k : Int) + 1) (by omega) (by omega), nx]
    exact andi (by omega) Iff.rfl
theorem m63 (he : M 6 0 1 = e ∧ 0 ≤ e ∧ e < 24) (hl : L.length ≤ 24) (hch : ∀ k : Nat, k < L.length → (0 ≤ M 1015 0 k ∧ M 1015 0 k < 64) ∧ M 19003 0 (M 1015 0 k) = L.getD k 0 ∧ M 19004 0 (M 1015 0 k) = s (L.getD k 0)) (hp : ∀ p ∈ L, (0 ≤ p ∧ p < 64) ∧ (0 ≤ M 18004 0 p ∧ M 18004 0 p ≤ 9) ∧ 0 ≤ s p - o ∧ s p - o ≤ 64) (ho : M 19 0 12 = o) (hx : M 19 0 9 = x) (hy : M 19 0 10 = y) (hz : M 19 0 11 = z) (h0 : 0 ≤ M 13 1 1) (h1 : M 13 1 1 + 31 + 20 * L.length ≤ 60000) (hr : 0 ≤ M 14 0 1 ∧ M 14 0 1 ≤ 60000) (hd : 0 ≤ M 6 0 2 ∧ M 6 0 2 ≤ 60000) : Tq 63 0 [vR 1 0, vI L.length, vJ, vJ, vJ, vJ] [] M Q ↔ Q (.inl none) (fC M e x y z o (mf (M 18004 0) s o L) L) := by
  have l1 := m63_1 (Q := Q) he hl hch hp ho L.length 0 (by omega)
  have e0 : fX M e (L.take 0) = cne M := by
    unfold fX
    rw [List.take_zero]
    show mrow (mset (movl (cne M) 7002 e 0 []) 7 e 3 0) 18006 0 (mkF (M 18006 0) e []) = cne M
    have e1 : mkF (M 18006 0) e [] = M 18006 0 := by funext p; exact if_neg (by simp)
    have e2 : mset (cne M) 7 e 3 0 = cne M := by
      funext f i k
      rw [mset_3]
      split
      · rename_i q
        obtain ⟨rfl, rfl, rfl⟩ := q
        unfold cne
        rw [mset_3, if_neg (by simp), mset_3, if_neg (by simp), mset_3, if_pos ⟨rfl, he.1.symm, rfl⟩]
      · rfl
    rw [movl_nil, e2, e1]
    have e3 : M 18006 0 = cne M 18006 0 := by unfold cne; rw [mset_o (by simp), mset_o (by simp), mset_o (by simp), mset_o (by simp)]
    rw [e3, mrow_self]
  rw [e0, List.take_zero] at l1
  have e00 : mf (M 18004 0) s o [] = 0 := rfl
  rw [e00, show ((0 : Nat) : Int) = 0 from rfl] at l1
  generalize hmis : mf (M 18004 0) s o L = mis at l1
  have X19 : ∀ k, fX M e L 19 0 k = M 19 0 k := fun k => by rw [fX_r (by decide) (by decide) (by decide) (by decide)]
  -- the draft
  have dr : mset (mset (mset (mset (mset (mset (mset (fX M e L) 1014 0 0 0) 1014 0 1 x) 1014 0 2 y) 1014 0 3 z) 1014 0 4 o) 1014 0 5 mis) 1014 0 6 (-99999999) = movl (fX M e L) 1014 0 0 (fLv x y z o mis) := by
    rw [mset_movl (M := fX M e L) (f := 1014), mset_app (by simp), mset_app (by simp), mset_app (by simp), mset_app (by simp), mset_app (by simp), mset_app (by simp)]
    rfl
  generalize hK : movl (fX M e L) 1014 0 0 (fLv x y z o mis) = K at dr
  have Kr : ∀ {f : Nat} {i : Int}, ¬ f = 1014 → K f i = fX M e L f i := fun h => by rw [← hK, movl_r h]
  have K13 : K 13 1 1 = M 13 1 1 := by rw [Kr (by decide), fX_r (by decide) (by decide) (by decide) (by decide)]
  have K14 : K 14 0 1 = M 14 0 1 := by rw [Kr (by decide), fX_r (by decide) (by decide) (by decide) (by decide)]
  have Kd : ∀ j : Nat, j < 7 → K 1014 0 j = (fLv x y z o mis).getD j 0 := fun j hj => by
    rw [← hK, movl_s, ovl_in (by omega) (by show (j : Int) < 0 + 7; omega), show ((j : Int) - 0).toNat = j by omega]
  have K72 : ∀ k : Nat, k < (L.flatMap (ar5C M)).length → K 7002 e k = (L.flatMap (ar5C M)).getD k 0 := fun k hk => by
    rw [Kr (by decide)]
    unfold fX
    rw [mrow_n (by simp), mset_o (by simp), movl_s, ovl_in (by omega) (by omega), show ((k : Int) - 0).toNat = k by omega]
  have K4 : K 4 0 10 = M 4 0 10 := by rw [Kr (by decide), fX_r (by decide) (by decide) (by decide) (by decide)]
  have K71 : K 7 e 1 = 0 := by
    rw [Kr (by decide)]
    unfold fX cne
    rw [mrow_n (by simp), mset_3, if_neg (by simp), movl_r (by decide), mset_3, if_neg (by simp), mset_3, if_neg (by simp), mset_3, if_neg (by simp), mset_3, if_pos ⟨rfl, he.1.symm, rfl⟩]
  have K62 : K 6 0 2 = M 6 0 2 := by
    rw [Kr (by decide)]
    unfold fX cne
    rw [mrow_n (by simp), mset_o (by simp), movl_r (by decide), mset_3, if_neg (by simp), mset_o (by simp), mset_o (by simp), mset_o (by simp)]
  have hA : ((L.flatMap (ar5C M)).length : Int) = 5 * L.length := by rw [fm5_len]; omega
  have l5 := m63_5 (Q := Q) (K := K) (e := e) (n := L.length) (H := [x, y, z, o, mis] ++ [(L.length : Int)]) (A := L.flatMap (ar5C M)) (w := 25 + 20 * L.length) he.2 hA (by omega) K72 rfl (by omega) (by omega) (L.flatMap (ar5C M)).length 0 (by omega)
  rw [List.take_zero, List.append_nil, show ((0 : Nat) : Int) = 0 from rfl] at l5
  have Kv : ∀ (C : List Int) (w : Int) (j : Nat), j < 7 → lmid K w C 1014 0 j = (fLv x y z o mis).getD j 0 := fun C w j hj => by rw [lmid_r (by decide) (by decide) (by decide), Kd j hj]
  have v1 : ∀ (C : List Int) (w : Int), lmid K w C 1014 0 1 = x := fun C w => Kv C w 1 (by decide)
  have v2 : ∀ (C : List Int) (w : Int), lmid K w C 1014 0 2 = y := fun C w => Kv C w 2 (by decide)
  have v3 : ∀ (C : List Int) (w : Int), lmid K w C 1014 0 3 = z := fun C w => Kv C w 3 (by decide)
  have v4 : ∀ (C : List Int) (w : Int), lmid K w C 1014 0 4 = o := fun C w => Kv C w 4 (by decide)
  have v5 : ∀ (C : List Int) (w : Int), lmid K w C 1014 0 5 = mis := fun C w => Kv C w 5 (by decide)
  have cc : cont (69, []) ++ be4 x ++ be4 y ++ be4 z ++ be4 o ++ be4 mis ++ be4 L.length = cont (69, [x, y, z, o, mis] ++ [(L.length : Int)]) := by
    rw [cont_a (by decide), cont_a (by decide), cont_a (by decide), cont_a (by decide), cont_a (by decide), cont_a (by decide)]
    rfl
  have c0 : cont (69, ([] : List Int)) = [w8 69] := by rw [cont_N (by decide)]; rfl
  have len0 : (cont (69, ([] : List Int))).length = 1 := by rw [c0]; rfl
  have w1 : w32 ((1 : Int) + 1) = 2 := rfl
  have w2 : w32 ((2 : Int) + 1) = 3 := rfl
  have w3 : w32 ((3 : Int) + 1) = 4 := rfl
  have w4 : w32 ((4 : Int) + 1) = 5 := rfl
  have w5 : w32 ((5 : Int) + 1) = 6 := rfl
  have cL := cont_len (l := 69) (L := fRw x y z o mis (L.flatMap (ar5C M)) L.length) (by decide)
  have lR : (fRw x y z o mis (L.flatMap (ar5C M)) L.length).length = 6 + 5 * L.length := by
    unfold fRw
    rw [List.length_append, fm5_len]
    rfl
  rw [lR] at cL
  have h5 : ∀ C : List Int, Tq 63 3 [vR 1 0, vI L.length, vR 7 e, vJ, vI 1, vJ] [] (lmid K (25 + 20 * L.length) (cont (69, []))) Q ↔ Tq 63 6 [vR 1 0, vJ, vR 7 e, vJ, vJ, vJ] [] (lmid K (25 + 20 * L.length) (cont (69, fRw x y z o mis (L.flatMap (ar5C M)) L.length))) Q := fun _ => by
    rw [t63_3, if_neg (by decide), v1, m111_l (by omega) (by rw [len0]; omega), kV_v, w1, t63_3, if_neg (by decide), v2, m111_l (by omega) (by rw [List.length_append, len0]; simp [be4_len]; omega), kV_v, w2, t63_3, if_neg (by decide), v3, m111_l (by omega) (by rw [List.length_append, List.length_append, len0]; simp [be4_len]; omega), kV_v, w3, t63_3, if_neg (by decide), v4, m111_l (by omega) (by rw [List.length_append, List.length_append, List.length_append, len0]; simp [be4_len]; omega), kV_v, w4, t63_3, if_neg (by decide), v5, m111_l (by omega) (by rw [List.length_append, List.length_append, List.length_append, List.length_append, len0]; simp [be4_len]; omega), kV_v, w5, t63_3, if_pos (by decide), t63_4, m111_l (by omega) (by rw [List.length_append, List.length_append, List.length_append, List.length_append, List.length_append, len0]; simp [be4_len]; omega), kV_v, cc, l5]
    exact andi (by decide) (andi (by decide) (andi (by decide) (andi (by decide) (andi (by decide) Iff.rfl))))
  have G : ∀ {f : Nat} {i : Int}, ¬ f = 13 → ¬ f = 13000 → ¬ f = 14 → lgw K (cont (69, fRw x y z o mis (L.flatMap (ar5C M)) L.length)) f i = K f i := fun a b c => lgw_r a b c
  rw [t63_0, m360 (by omega), kR_v, he.1, l1, t63_2, bd_e, bd_e, mset_3 (f' := 19), if_neg (by simp), X19, hx, bd_e, mset_3 (f' := 19), if_neg (by simp), mset_3 (f' := 19), if_neg (by simp), X19, hy, bd_e, mset_3 (f' := 19), if_neg (by simp), mset_3 (f' := 19), if_neg (by simp), mset_3 (f' := 19), if_neg (by simp), X19, hz, bd_e, mset_3 (f' := 19), if_neg (by simp), mset_3 (f' := 19), if_neg (by simp), mset_3 (f' := 19), if_neg (by simp), mset_3 (f' := 19), if_neg (by simp), X19, ho, bd_e, bd_e, dr, w32_id (z := 20 * (L.length : Int)) (by omega) (by omega), w32_id (z := 25 + 20 * (L.length : Int)) (by omega) (by omega), m121 (by omega) (by omega) (by omega) (by omega), kV_v, ← c0, h5 [], t63_6, m122 (by omega) (by omega) (by omega) (by omega) (by omega), kV_v, G (f := 4) (by decide) (by decide) (by decide), K4, m361_1014 (by rw [G (by decide) (by decide) (by decide), K71]; omega) (by rw [G (by decide) (by decide) (by decide), K62]; omega) rfl (fun j hj => by rw [G (by decide) (by decide) (by decide)]; exact Kd j hj), kV_v]
  unfold fC
  rw [hK]
  exact andi (by decide) (andi (by decide) (andi (by decide) (andi (by decide) (andi (by decide) (andi (by decide) (andi (by decide) Iff.rfl))))))
end Found2
