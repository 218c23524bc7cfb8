/-! RECORDS WRITTEN: groups of steps -/
theorem movl_ex {N : Mem} {f : Nat} {i a : Int} {L : List Int} : movl N f i a L = movl N f i a (L ++ [N f i (a + L.length)]) := by
  unfold movl
  congr 1
  funext k
  have hl : ((L ++ [N f i (a + L.length)]).length : Int) = L.length + 1 := by simp
  by_cases h1 : k < a
  · rw [ovl_out (Or.inl h1), ovl_out (Or.inl h1)]
  · by_cases h2 : k < a + L.length
    · rw [ovl_in (by omega) h2, ovl_in (by omega) (by omega), List.getD_eq_getElem?_getD, List.getD_eq_getElem?_getD, List.getElem?_append_left (by omega)]
    · by_cases h3 : k = a + L.length
      · rw [ovl_out (Or.inr (by omega)), ovl_in (by omega) (by omega), List.getD_eq_getElem?_getD, List.getElem?_append_right (by omega), show (k - a).toNat - L.length = 0 by omega, h3]
        rfl
      · rw [ovl_out (Or.inr (by omega)), ovl_out (Or.inr (by omega))]
theorem ovl_set {g : Int → Int} {a x v : Int} {L S : List Int} : fup (ovl g a (L ++ x :: S)) (a + L.length) v = ovl g a (L ++ v :: S) := by
  funext k
  have h1 : ((L ++ x :: S).length : Int) = L.length + S.length + 1 := by simp; omega
  have h2 : ((L ++ v :: S).length : Int) = L.length + S.length + 1 := by simp; omega
  rw [fup_at]
  by_cases c : k = a + L.length
  · rw [if_pos c, ovl_in (by omega) (by omega), List.getD_eq_getElem?_getD, List.getElem?_append_right (by omega), show (k - a).toNat - L.length = 0 by omega]
    rfl
  · rw [if_neg c]
    by_cases d : k < a ∨ a + (L.length + S.length + 1) ≤ k
    · rw [ovl_out (by omega), ovl_out (by omega)]
    · rw [ovl_in (by omega) (by omega), ovl_in (by omega) (by omega), List.getD_eq_getElem?_getD, List.getD_eq_getElem?_getD]
      by_cases e : k < a + L.length
      · rw [List.getElem?_append_left (by omega), List.getElem?_append_left (by omega)]
      · rw [List.getElem?_append_right (by omega), List.getElem?_append_right (by omega), show (k - a).toNat - L.length = ((k - a).toNat - L.length - 1) + 1 by omega, List.getElem?_cons_succ, List.getElem?_cons_succ]
theorem movl_set {N : Mem} {f : Nat} {i a x v : Int} {L S : List Int} : mset (movl N f i a (L ++ x :: S)) f i (a + L.length) v = movl N f i a (L ++ v :: S) := by
  unfold movl
  rw [mset_mrow, ovl_set]
theorem bapp_set {M : Mem} {x v : Int} {L S : List Int} (h0 : M 13 0 1 = 0) : mset (bapp M 0 (L ++ x :: S)) 13000 0 L.length v = bapp M 0 (L ++ v :: S) := by
  have e : (((L ++ x :: S).length : Nat) : Int) = ((L ++ v :: S).length : Nat) := by simp
  unfold bapp
  rw [h0, e]
  have := movl_set (N := M) (f := 13000) (i := 0) (a := 0) (x := x) (v := v) (L := L) (S := S)
  rw [Int.zero_add] at this
  rw [← this]
  funext f' i' k'
  simp only [mset_3]
  by_cases q : f' = 13
  · subst q; simp
  · simp [q]
section Enc2
variable {M N : Mem} {Q : AR → Mem → Prop} {a : Int → Int} {n i b c : Int}
def gpI (a : Int → Int) (n i : Int) : Nat → Int
  | 0 => i
  | k + 1 => gpI a n i k + mny (cdE a n (gpI a n i k))
def gpC (a : Int → Int) (n i : Int) : Nat → Int
  | 0 => 0
  | k + 1 => 4 * gpC a n i k + cdE a n (gpI a n i k)
def gpB (a : Int → Int) (n i : Int) : Nat → List Int
  | 0 => []
  | k + 1 => gpB a n i k ++ bsE a (cdE a n (gpI a n i k)) (gpI a n i k) (mny (cdE a n (gpI a n i k))).toNat
theorem mw_le {c : Int} (h : 0 ≤ c ∧ c ≤ 3) : wid c * mny c ≤ 4 * mny c ∧ 0 ≤ mny c ∧ mny c ≤ 4 ∧ 0 ≤ wid c * mny c := by
  rcases (show c = 0 ∨ c = 1 ∨ c = 2 ∨ c = 3 by omega) with rfl | rfl | rfl | rfl <;> decide
theorem gp_rng (hi : i ≤ n) : ∀ k : Nat, i ≤ gpI a n i k ∧ gpI a n i k ≤ n ∧ (k ≤ 4 → 0 ≤ gpC a n i k ∧ gpC a n i k < 4 ^ k) ∧ ((gpB a n i k).length : Int) ≤ 4 * (gpI a n i k - i)
  | 0 => ⟨Int.le_refl _, hi, fun _ => ⟨Int.le_refl _, by show (0 : Int) < 1; decide⟩, by simp [gpB, gpI]⟩
  | k + 1 => by
    obtain ⟨h1, h2, h3, h4⟩ := gp_rng hi k
    have hc := cdE_rng (a := a) (n := n) (i := gpI a n i k)
    have hm := mw_le hc
    have hf := cdE_fit (a := a) (n := n) (i := gpI a n i k) h2
    unfold gpI gpC gpB
    refine ⟨by omega, hf, fun hk => ?_, ?_⟩
    · have := h3 (by omega)
      rw [Int.pow_succ]
      omega
    · rw [List.length_append, Int.natCast_add, bsE_len, show (((mny (cdE a n (gpI a n i k))).toNat : Nat) : Int) = mny (cdE a n (gpI a n i k)) by omega]
      omega
theorem gp_adv (hi : i < n) : ∀ k : Nat, 1 ≤ k → i + 1 ≤ gpI a n i k
  | 0, h => by omega
  | k + 1, _ => by
    have hc := cdE_rng (a := a) (n := n) (i := gpI a n i k)
    have hm := mw_le hc
    unfold gpI
    by_cases e : k = 0
    · subst e
      show i + 1 ≤ i + mny (cdE a n i)
      have h0 : ¬ cdE a n i = 0 := by
        unfold cdE
        rw [if_neg (by omega)]
        split <;> (try split) <;> omega
      have := mw4 (c := cdE a n i) (by have := cdE_rng (a := a) (n := n) (i := i); omega)
      omega
    · have := gp_adv hi k (by omega)
      omega
def gsE (a : Int → Int) (n : Int) : Nat → Int → List Int
  | 0, _ => []
  | F + 1, i => if n ≤ i then [] else w8 (gpC a n i 4) :: (gpB a n i 4 ++ gsE a n F (gpI a n i 4))
theorem gsE_len : ∀ (F : Nat) (i : Int), i ≤ n → ((gsE a n F i).length : Int) ≤ 5 * (n - i)
  | 0, i, h => by simp [gsE]; omega
  | F + 1, i, h => by
    unfold gsE
    by_cases c : n ≤ i
    · rw [if_pos c]; simp; omega
    · rw [if_neg c, List.length_cons, List.length_append]
      have h1 := gp_rng (a := a) (n := n) h 4
      have h2 := gp_adv (a := a) (n := n) (i := i) (by omega) 4 (by decide)
      have h3 := gsE_len F (gpI a n i 4) h1.2.1
      omega
/-- the code of the one side -/
theorem cd_C {L : List Int} {g w k : Int} (hS : SmC a n M) (hn : n ≤ 56) (hi : 1 ≤ i ∧ i ≤ n) (hk : 0 ≤ k ∧ k < 4) (hw : 0 ≤ w ∧ w < 64) : Tq 133 2 [vR 15 0, vR 13 0, vI n, vI i, vI g, vI w, vI k, vJ, vJ, vJ] [] (bapp M 0 L) Q ↔ Tq 133 7 [vR 15 0, vR 13 0, vI n, vI i, vI g, vI (4 * w + cdE a n i), vI k, vI (cdE a n i), vI 0, vJ] [] (bapp M 0 L) Q := by
  have hS' := SmC_bapp (L := L) hS
  have fin : ∀ s : Int, s = cdE a n i → (Tq 133 6 [vR 15 0, vR 13 0, vI n, vI i, vI g, vI w, vI k, vJ, vJ, vJ] [vI s] (bapp M 0 L) Q ↔ Tq 133 7 [vR 15 0, vR 13 0, vI n, vI i, vI g, vI (4 * w + cdE a n i), vI k, vI (cdE a n i), vI 0, vJ] [] (bapp M 0 L) Q) := by
    intro s hs
    have := cdE_rng (a := a) (n := n) (i := i)
    rw [t133_6, w32_id (z := 4 * w) (by omega) (by omega), w32_id (z := 4 * w + s) (by omega) (by omega), hs]
  rw [t133_2, if_neg (by omega)]
  by_cases c0 : i = n
  · rw [if_neg (by simpa using c0), fin 0 (by unfold cdE; rw [if_pos c0])]
  · rw [if_pos c0, t133_3, m134 hS' hn hi (by decide) (by decide), kI_v]
    by_cases c1 : fitv a i 4 n 128 = 0
    · rw [if_pos c1, t133_4, m134 hS' hn hi (by decide) (by decide), kI_v]
      by_cases c2 : fitv a i 2 n 32768 = 0
      · rw [if_pos c2, t133_5, fin 3 (by unfold cdE; rw [if_neg c0, if_pos c1, if_pos c2])]
      · rw [if_neg c2, fin 2 (by unfold cdE; rw [if_neg c0, if_pos c1, if_neg c2])]
    · rw [if_neg c1, fin 1 (by unfold cdE; rw [if_neg c0, if_neg c1])]
theorem gp_C {L : List Int} {g i0 : Int} (hS : SmC a n M) (h0 : M 13 0 1 = 0) (hn : n ≤ 56) (hi : 1 ≤ i0 ∧ i0 ≤ n) (hL : (L.length : Int) + 4 * (n - i0) ≤ 400) : ∀ (d k : Nat), k + d = 4 → (Tq 133 2 [vR 15 0, vR 13 0, vI n, vI (gpI a n i0 k), vI g, vI (gpC a n i0 k), vI k, vJ, vJ, vJ] [] (bapp M 0 (L ++ gpB a n i0 k)) Q ↔ Tq 133 12 [vR 15 0, vR 13 0, vI n, vI (gpI a n i0 4), vI g, vI (gpC a n i0 4), vJ, vJ, vJ, vJ] [] (bapp M 0 (L ++ gpB a n i0 4)) Q) := by
  intro d
  induction d with
  | zero =>
    intro k hk
    have : k = 4 := by omega
    subst this
    rw [t133_2, if_pos (by decide)]
  | succ d ih =>
    intro k hk
    obtain ⟨r1, r2, r3, r4⟩ := gp_rng (a := a) hi.2 k
    have r3 := r3 (by omega)
    have hp : (4 : Int) ^ k ≤ 64 := by
      rcases (show k = 0 ∨ k = 1 ∨ k = 2 ∨ k = 3 by omega) with rfl | rfl | rfl | rfl <;> decide
    have hc := cdE_rng (a := a) (n := n) (i := gpI a n i0 k)
    have hm := mw_le hc
    have hf := cdE_fit (a := a) (n := n) (i := gpI a n i0 k) r2
    have es := enc_C (Q := Q) (L := L ++ gpB a n i0 k) (g := g) (w := 4 * gpC a n i0 k + cdE a n (gpI a n i0 k)) (k := k) (i := gpI a n i0 k) hS h0 hn (by omega) hf hc (by rw [List.length_append]; omega) (mny (cdE a n (gpI a n i0 k))).toNat 0 (by omega)
    rw [show ((0 : Nat) : Int) = 0 from rfl, Int.add_zero, show bsE a (cdE a n (gpI a n i0 k)) (gpI a n i0 k) 0 = [] from rfl, List.append_nil] at es
    rw [cd_C hS hn (by omega) (by omega) (by omega), es, t133_11, w32_id (z := (k : Int) + 1) (by omega) (by omega), List.append_assoc]
    exact ih (k + 1) (by omega)
theorem st_C {L : List Int} (hS : SmC a n M) (h0 : M 13 0 1 = 0) (hn : n ≤ 56) : ∀ (F : Nat) (i : Int) (L : List Int), 1 ≤ i → i ≤ n → n - i ≤ F → (L.length : Int) + 5 * (n - i) ≤ 400 → (Tq 133 1 [vR 15 0, vR 13 0, vI n, vI i, vJ, vJ, vJ, vJ, vJ, vJ] [] (bapp M 0 L) Q ↔ Q (.inl none) (bapp M 0 (L ++ gsE a n F i))) := by
  intro F
  induction F with
  | zero =>
    intro i L i1 i2 i3 i4
    rw [t133_1, if_pos (by omega), t133_13, show gsE a n 0 i = [] from rfl, List.append_nil]
  | succ F ih =>
    intro i L i1 i2 i3 i4
    unfold gsE
    by_cases c : n ≤ i
    · rw [t133_1, if_pos c, t133_13, if_pos c, List.append_nil]
    · have sz : bapp M 0 L 13 0 1 = L.length := by rw [bapp_sz, h0]; omega
      have h1 := gp_rng (a := a) (n := n) i2 4
      have h2 := gp_adv (a := a) (n := n) (i := i) (by omega) 4 (by decide)
      have gp := gp_C (Q := Q) (L := L ++ [0]) (g := L.length) (i0 := i) hS h0 hn ⟨i1, i2⟩ (by rw [List.length_append]; simp; omega) 4 0 (by decide)
      rw [show gpB a n i 0 = [] from rfl, List.append_nil, show gpI a n i 0 = i from rfl, show gpC a n i 0 = 0 from rfl, show ((0 : Nat) : Int) = 0 from rfl] at gp
      rw [t133_1, if_neg c, m113 (by omega) (by rw [sz, bLen_0]; omega), kV_v, bapp_app, sz, show w8 0 = 0 from rfl, gp, t133_12, w8_w8, bd_e, List.append_assoc, List.singleton_append, bapp_set h0, if_neg c, bLen_0]
      refine andi (by omega) ?_
      rw [ih (gpI a n i 4) _ (by omega) h1.2.1 (by omega) (by rw [List.length_append, List.length_cons]; omega), List.append_assoc, List.cons_append]
theorem cd_M {f p g w k : Int} (hS : SmM a n f N) (hn : n ≤ 56) (hi : 1 ≤ i ∧ i ≤ n) (hk : 0 ≤ k ∧ k < 4) : Tq 285 2 [vR 22 0, vI f, vI n, vI p, vI i, vI g, vI w, vI k, vJ, vJ, vJ, vJ] [] N Q ↔ Tq 285 11 [vR 22 0, vI f, vI n, vI p, vI i, vI g, vI w, vI k, vI (cdE a n i), vI (mny (cdE a n i)), vI 0, vJ] [] N Q := by
  have fin : ∀ s : Int, s = cdE a n i → (Tq 285 6 [vR 22 0, vI f, vI n, vI p, vI i, vI g, vI w, vI k, vJ, vJ, vJ, vJ] [vI s] N Q ↔ Tq 285 11 [vR 22 0, vI f, vI n, vI p, vI i, vI g, vI w, vI k, vI (cdE a n i), vI (mny (cdE a n i)), vI 0, vJ] [] N Q) := by
    intro s hs
    have := cdE_rng (a := a) (n := n) (i := i)
    rw [← hs, t285_6, t285_7, t285_8, t285_9, t285_10, t285_10, t285_10, t285_10]
    rcases (show s = 0 ∨ s = 1 ∨ s = 2 ∨ s = 3 by omega) with h | h | h | h
    · rw [if_neg (by simpa using h), h]; rfl
    · rw [if_pos (by omega), if_neg (by simpa using h), h]; rfl
    · rw [if_pos (by omega), if_pos (by omega), if_neg (by simpa using h), h]; rfl
    · rw [if_pos (by omega), if_pos (by omega), if_pos (by omega), h]; rfl
  rw [t285_2, if_neg (by omega)]
  by_cases c0 : i = n
  · rw [if_neg (by omega), fin 0 (by unfold cdE; rw [if_pos c0])]
  · rw [if_pos (by omega), t285_3, m286 hS hn hi (by decide) (by decide), kI_v]
    by_cases c1 : fitv a i 4 n 128 = 0
    · rw [if_pos c1, t285_4, m286 hS hn hi (by decide) (by decide), kI_v]
      by_cases c2 : fitv a i 2 n 32768 = 0
      · rw [if_pos c2, t285_5, fin 3 (by unfold cdE; rw [if_neg c0, if_pos c1, if_pos c2])]
      · rw [if_neg c2, fin 2 (by unfold cdE; rw [if_neg c0, if_pos c1, if_neg c2])]
    · rw [if_neg c1, fin 1 (by unfold cdE; rw [if_neg c0, if_neg c1])]
theorem or32_2 {w c : Int} (hw : 0 ≤ w ∧ w < 64) (hc : 0 ≤ c ∧ c ≤ 3) : or32 (shl32 w 2) c = 4 * w + c := by
  have := @or_disj w c 2 (by decide) hc.1 (by show c < 4; omega)
  unfold shl32
  rw [show (2 : Int) ^ ((2 : Int) % 32).toNat = 2 ^ 2 from rfl, this, show (2 : Int) ^ 2 = 4 from rfl, w32_id (by omega) (by omega)]
  omega
theorem gp_M {L : List Int} {f g i0 : Int} (hS : SmM a n f N) (hn : n ≤ 56) (hi : 1 ≤ i0 ∧ i0 ≤ n) (hL : 8 + (L.length : Int) + 4 * (n - i0) ≤ 400) : ∀ (d k : Nat), k + d = 4 → (Tq 285 2 [vR 22 0, vI f, vI n, vI (8 + (L ++ gpB a n i0 k).length), vI (gpI a n i0 k), vI g, vI (gpC a n i0 k), vI k, vJ, vJ, vJ, vJ] [] (movl N 22099 8 8 (L ++ gpB a n i0 k)) Q ↔ Tq 285 18 [vR 22 0, vI f, vI n, vI (8 + (L ++ gpB a n i0 4).length), vI (gpI a n i0 4), vI g, vI (gpC a n i0 4), vJ, vJ, vJ, vJ, vJ] [] (movl N 22099 8 8 (L ++ gpB a n i0 4)) Q) := by
  intro d
  induction d with
  | zero =>
    intro k hk
    have : k = 4 := by omega
    subst this
    rw [t285_2, if_pos (by decide)]
  | succ d ih =>
    intro k hk
    obtain ⟨r1, r2, r3, r4⟩ := gp_rng (a := a) hi.2 k
    have r3 := r3 (by omega)
    have hp : (4 : Int) ^ k ≤ 64 := by
      rcases (show k = 0 ∨ k = 1 ∨ k = 2 ∨ k = 3 by omega) with rfl | rfl | rfl | rfl <;> decide
    have hc := cdE_rng (a := a) (n := n) (i := gpI a n i0 k)
    have hm := mw_le hc
    have hf := cdE_fit (a := a) (n := n) (i := gpI a n i0 k) r2
    have hS' := SmM_movl (p := 8) (L := L ++ gpB a n i0 k) hS
    have hl : ((L ++ gpB a n i0 k).length : Int) = L.length + (gpB a n i0 k).length := by rw [List.length_append]; omega
    have bl : ((bsE a (cdE a n (gpI a n i0 k)) (gpI a n i0 k) (mny (cdE a n (gpI a n i0 k))).toNat).length : Int) = wid (cdE a n (gpI a n i0 k)) * mny (cdE a n (gpI a n i0 k)) := by
      rw [bsE_len, show (((mny (cdE a n (gpI a n i0 k))).toNat : Nat) : Int) = mny (cdE a n (gpI a n i0 k)) by omega]
    have nl : ((L ++ gpB a n i0 (k + 1)).length : Int) = L.length + (gpB a n i0 k).length + wid (cdE a n (gpI a n i0 k)) * mny (cdE a n (gpI a n i0 k)) := by
      show (((L ++ (gpB a n i0 k ++ _)).length : Nat) : Int) = _
      rw [List.length_append, List.length_append, Int.natCast_add, Int.natCast_add, bl]
      omega
    have next := ih (k + 1) (by omega)
    rw [nl] at next
    rw [cd_M hS' hn (by omega) (by omega), hl]
    by_cases c0 : cdE a n (gpI a n i0 k) = 0
    · have e0 : mny (cdE a n (gpI a n i0 k)) = 0 ∧ wid (cdE a n (gpI a n i0 k)) * mny (cdE a n (gpI a n i0 k)) = 0 := by rw [c0]; decide
      rw [t285_11, if_pos (by omega), t285_15, if_neg (by simpa using c0), t285_17, or32_2 (by omega) hc, w32_id (z := (k : Int) + 1) (by omega) (by omega), w32_id (by omega) (by omega)]
      rw [e0.2] at next
      have ei : gpI a n i0 (k + 1) = gpI a n i0 k := by show gpI a n i0 k + mny _ = _; omega
      have eb : gpB a n i0 (k + 1) = gpB a n i0 k := by
        show gpB a n i0 k ++ bsE _ _ _ (mny (cdE a n (gpI a n i0 k))).toNat = _
        rw [e0.1]
        exact List.append_nil _
      rw [ei, eb, ← Int.add_assoc 8, ← Int.add_assoc 8] at next
      rw [← Int.add_assoc 8]
      exact next
    · have e4 := mw4 (c := cdE a n (gpI a n i0 k)) (by omega)
      have es := enc_M (Q := Q) (f := f) (p := 8 + (L.length + (gpB a n i0 k).length)) (L := L ++ gpB a n i0 k) (g := g) (w := gpC a n i0 k) (k := k) (i := gpI a n i0 k) hS hn (by omega) hf (c := cdE a n (gpI a n i0 k)) (by omega) (by rw [hl]) (by omega) (mny (cdE a n (gpI a n i0 k))).toNat 0 (by omega)
      rw [show ((0 : Nat) : Int) = 0 from rfl, Int.add_zero, show bsE a (cdE a n (gpI a n i0 k)) (gpI a n i0 k) 0 = [] from rfl, List.append_nil] at es
      rw [es, t285_15, if_pos c0, t285_16, t285_17, or32_2 (by omega) hc, w32_id (z := (k : Int) + 1) (by omega) (by omega), w32_id (by omega) (by omega), List.append_assoc]
      rw [e4.1, show 8 + ((L.length : Int) + (gpB a n i0 k).length + 4) = 8 + (L.length + (gpB a n i0 k).length) + 4 by omega] at next
      exact next
theorem st_M {f : Int} (hS : SmM a n f N) (hn : n ≤ 56) : ∀ (F : Nat) (i : Int) (L : List Int), 1 ≤ i → i ≤ n → n - i ≤ F → 8 + (L.length : Int) + 5 * (n - i) ≤ 400 → (Tq 285 1 [vR 22 0, vI f, vI n, vI (8 + L.length), vI i, vJ, vJ, vJ, vJ, vJ, vJ, vJ] [] (movl N 22099 8 8 L) Q ↔ Q (.inl (some (vI (8 + (L ++ gsE a n F i).length)))) (movl N 22099 8 8 (L ++ gsE a n F i))) := by
  intro F
  induction F with
  | zero =>
    intro i L i1 i2 i3 i4
    rw [t285_1, if_pos (by omega), t285_19, show gsE a n 0 i = [] from rfl, List.append_nil]
  | succ F ih =>
    intro i L i1 i2 i3 i4
    unfold gsE
    by_cases c : n ≤ i
    · rw [t285_1, if_pos c, t285_19, if_pos c, List.append_nil]
    · have h1 := gp_rng (a := a) (n := n) i2 4
      have h2 := gp_adv (a := a) (n := n) (i := i) (by omega) 4 (by decide)
      have gp := gp_M (Q := Q) (f := f) (L := L ++ [N 22099 8 (8 + L.length)]) (g := 8 + L.length) (i0 := i) hS hn ⟨i1, i2⟩ (by rw [List.length_append]; simp; omega) 4 0 (by decide)
      rw [show gpB a n i 0 = [] from rfl, List.append_nil, show gpI a n i 0 = i from rfl, show gpC a n i 0 = 0 from rfl, show ((0 : Nat) : Int) = 0 from rfl, ← movl_ex, show 8 + (((L ++ [N 22099 8 (8 + L.length)]).length : Nat) : Int) = 8 + L.length + 1 by simp; omega] at gp
      rw [t285_1, if_neg c, w32_id (z := 8 + (L.length : Int) + 1) (by omega) (by omega), gp, t285_18, w8_w8, bd_e, List.append_assoc, List.singleton_append, movl_set, if_neg c]
      refine andi (by omega) ?_
      have := ih (gpI a n i 4) (L ++ w8 (gpC a n i 4) :: gpB a n i 4) (by omega) h1.2.1 (by omega) (by rw [List.length_append, List.length_cons]; omega)
      rw [List.append_assoc, List.cons_append, show (((L ++ w8 (gpC a n i 4) :: gpB a n i 4).length : Nat) : Int) = ((L ++ N 22099 8 (8 + L.length) :: gpB a n i 4).length : Nat) by simp] at this
      exact this
end Enc2
