/-! EVENTS: merge -/
theorem or01 {a b : Int} (ha : a = 0 ∨ a = 1) (hb : b = 0 ∨ b = 1) : or32 a b = if a = 0 then b else 1 := by
  rcases ha with rfl | rfl <;> rcases hb with rfl | rfl <;> rfl
theorem hkG_01 {A : Int → Int} {s p : Int} (n : Nat) : hkG A s p n = 0 ∨ hkG A s p n = 1 := by
  rcases hkG_spec (A := A) (s := s) (p := p) n with ⟨h, _⟩ | ⟨h, _⟩
  · exact Or.inl h
  · exact Or.inr h
def arow (P : Mem) (e : Int) : Int → Int := fun k => P 22031 0 (120 * e + k)
/-- how many go over -/
def msl (P : Mem) (a b : Int) (k : Nat) : List Nat := sel (arow P a) (arow P b) (P 22030 0 a).toNat k
def mls (P : Mem) (a b : Int) (k : Nat) : List Int := mgL (arow P a) (arow P b) (P 22030 0 a).toNat k
def pmg (P : Mem) (a b : Int) : Mem := mset (mset (movl P 22031 0 (120 * a + 5 * P 22030 0 a) (mls P a b (P 22030 0 b).toNat)) 22030 0 a (P 22030 0 a + (msl P a b (P 22030 0 b).toNat).length)) 22035 0 b a
section Mg2
variable {M N P : Mem} {Q : AR → Mem → Prop} {a b e s p x1 x2 x3 x4 x5 : Int}
theorem m372 (hn : 0 ≤ M 7 e 3 ∧ M 7 e 3 ≤ 24) : Tq 372 0 [vR 7 e, vI s, vI p, vJ, vJ] [] M Q ↔ Q (.inl (some (vI (hkG (M 7002 e) s p (M 7 e 3).toNat)))) M := by
  have loop : ∀ (d j : Nat), (j : Int) + d = M 7 e 3 → (Tq 372 1 [vR 7 e, vI s, vI p, vI (hkG (M 7002 e) s p j), vI j] [] M Q ↔ Q (.inl (some (vI (hkG (M 7002 e) s p (M 7 e 3).toNat)))) M) := by
    intro d
    induction d with
    | zero =>
      intro j hj
      rw [t372_1, if_pos (by omega), t372_4, nb_id (hkG_01 _), show (M 7 e 3).toNat = j by omega]
    | succ d ih =>
      intro j hj
      have nx := ih (j + 1) (by omega)
      have e1 : hkG (M 7002 e) s p (j + 1) = if M 7002 e (5 * j) = s ∧ M 7002 e (5 * j + 2) = p then 1 else hkG (M 7002 e) s p j := rfl
      rw [t372_1, if_neg (by omega), m371 (by omega) (by omega), kI_v, m371 (by omega) (by omega), kI_v, Int.add_zero, t372_2, t372_3, t372_3, or01 (hkG_01 j) (Or.inl rfl), or01 (hkG_01 j) (Or.inr rfl), w32_id (z := (j : Int) + 1) (by omega) (by omega)]
      rw [e1, show ((j + 1 : Nat) : Int) = j + 1 by omega] at nx
      have z0 : (if hkG (M 7002 e) s p j = 0 then 0 else 1 : Int) = hkG (M 7002 e) s p j := by rcases hkG_01 (A := M 7002 e) (s := s) (p := p) j with h | h <;> rw [h] <;> rfl
      have z1 : (if hkG (M 7002 e) s p j = 0 then 1 else 1 : Int) = 1 := by split <;> rfl
      rw [z0, z1]
      by_cases c1 : M 7002 e (5 * j) = s
      · rw [if_neg (by simpa using c1)]
        by_cases c2 : M 7002 e (5 * j + 2) = p
        · rw [if_neg (by simpa using c2)]
          rw [if_pos ⟨c1, c2⟩] at nx
          exact nx
        · rw [if_pos c2]
          rw [if_neg (fun q => c2 q.2)] at nx
          exact nx
      · rw [if_pos c1]
        rw [if_neg (fun q => c1 q.1)] at nx
        exact nx
  rw [t372_0]
  exact loop (M 7 e 3).toNat 0 (by omega)
theorem m368 (hn : 0 ≤ M 7 e 3 ∧ M 7 e 3 < 24) : Tq 368 0 [vR 7 e, vI x1, vI x2, vI x3, vI x4, vI x5, vJ] [] M Q ↔ Q (.inl none) (mset (movl M 7002 e (5 * M 7 e 3) [x1, x2, x3, x4, x5]) 7 e 3 (M 7 e 3 + 1)) := by
  rw [t368_0, w32_id (z := 5 * M 7 e 3) (by omega) (by omega)]
  simp (disch := omega) only [kI_v, kL_v, kV_v, kR_v, kX_n, kX_e, bd_e, b2i_e0, b2i_e1, b2i_nb, nb_0, nb_1, cmp_lt, cmp_le, cmp_gt, cmp_ge, cmp_eq, not_true_eq_false, not_false_eq_true, if_true, if_false, ite_true, ite_false, true_and, and_true, false_and, and_false, Int.reduceLT, Int.reduceLE, Int.reduceEq, Int.reduceSub, Int.reduceAdd, Int.reduceNeg, Int.reduceMul, Classical.not_not, Int.zero_add, Int.add_zero, Int.le_refl, lt_T, lt_F, le_T, le_F, eq_T, eq_F, w32_id, ↓reduceIte, mset_3, Nat.reduceEqDiff, reduceCtorEq, and_self]
  rw [mset_movl (M := M) (f := 7002), mset_app (by simp), mset_app (by simp), mset_app (by simp), mset_app (by simp)]
  rfl
/-- the facts of a merge -/
theorem mg_facts (hw : WBk P) (ha : 0 ≤ a ∧ a < P 22 0 28) (hst : P 22 0 9 ≤ 12) : OkN (arow P a) (P 22030 0 a).toNat (P 22 0 9) ∧ Dst (arow P a) (P 22030 0 a).toNat := by
  obtain ⟨w1, w2, w3⟩ := hw
  obtain ⟨v1, v2, v3, v4, v5, v6, -⟩ := w3 a ha.1 ha.2
  constructor
  · intro k hk
    have := v5 k (by omega) (by omega)
    unfold arow
    rw [← Int.add_assoc, ← Int.add_assoc, ← Int.add_assoc, ← Int.add_assoc]
    exact this
  · intro i k hik hk
    have := v6 i k (by omega) (by omega) (by omega)
    unfold arow
    rw [← Int.add_assoc, ← Int.add_assoc]
    exact this
theorem msl_bd (hw : WBk P) (ha : 0 ≤ a ∧ a < P 22 0 28) (hb : 0 ≤ b ∧ b < P 22 0 28) (hst : P 22 0 9 ≤ 12) {k : Nat} (hk : (k : Int) ≤ P 22030 0 b) : P 22030 0 a + (msl P a b k).length ≤ 24 := by
  obtain ⟨f1, f2⟩ := mg_facts hw ha hst
  obtain ⟨g1, g2⟩ := mg_facts hw hb hst
  have := sel_bd hst f1 f2 g1 g2 (k := k) (by omega)
  have ra := (hw.2.2 a ha.1 ha.2).1
  unfold msl
  omega
theorem m363 (hw : WBk P) (hc : CBk M P) (ha : 0 ≤ a ∧ a < P 22 0 28) (hb : 0 ≤ b ∧ b < P 22 0 28) (hab : ¬ a = b) (hst : P 22 0 9 ≤ 12) : Tq 363 0 [vR 6 0, vI a, vI b, vJ, vJ, vJ] [] M Q ↔ Q (.inl none) (mset (mset (movl M 7002 a (5 * P 22030 0 a) (mls P a b (P 22030 0 b).toNat)) 7 a 3 (P 22030 0 a + (msl P a b (P 22030 0 b).toNat).length)) 7 b 4 a) := by
  obtain ⟨f1, f2⟩ := mg_facts hw ha hst
  obtain ⟨g1, g2⟩ := mg_facts hw hb hst
  have bdk := fun (k : Nat) (hk : (k : Int) ≤ P 22030 0 b) => msl_bd (k := k) hw ha hb hst hk
  obtain ⟨w1, w2, w3⟩ := hw
  obtain ⟨va, -⟩ := w3 a ha.1 ha.2
  obtain ⟨vb, -⟩ := w3 b hb.1 hb.2
  obtain ⟨c1, c2, c3⟩ := hc
  obtain ⟨a1, a2, a3, a4, a5, a6⟩ := c3 a ha.1 ha.2
  obtain ⟨b1, b2, b3, b4, b5, b6⟩ := c3 b hb.1 hb.2
  have eB : ∀ (k : Nat) (w : Int), (k : Int) < P 22030 0 b → 0 ≤ w → w < 5 → M 7002 b (5 * k + w) = arow P b (5 * k + w) := fun k w h1 h2 h3 => b6 _ (by omega) (by omega)
  have loop : ∀ (d k : Nat), (k : Int) + d = P 22030 0 b → (Tq 363 1 [vJ, vI a, vJ, vR 7 a, vR 7 b, vI k] [] (mset (movl M 7002 a (5 * P 22030 0 a) (mls P a b k)) 7 a 3 (P 22030 0 a + (msl P a b k).length)) Q ↔ Tq 363 3 [vJ, vI a, vJ, vJ, vR 7 b, vJ] [] (mset (movl M 7002 a (5 * P 22030 0 a) (mls P a b (P 22030 0 b).toNat)) 7 a 3 (P 22030 0 a + (msl P a b (P 22030 0 b).toNat).length)) Q) := by
    intro d
    induction d with
    | zero =>
      intro k hk
      have r7 : mset (movl M 7002 a (5 * P 22030 0 a) (mls P a b k)) 7 a 3 (P 22030 0 a + (msl P a b k).length) 7 b 3 = P 22030 0 b := by rw [mset_3, if_neg (fun q => hab q.2.1.symm), movl_r (by decide), b2]
      rw [t363_1, r7, if_pos (by omega), show (P 22030 0 b).toNat = k by omega]
    | succ d ih =>
      intro k hk
      have bk := bdk k (by omega)
      have bk1 := bdk (k + 1) (by omega)
      generalize hM1 : mset (movl M 7002 a (5 * P 22030 0 a) (mls P a b k)) 7 a 3 (P 22030 0 a + (msl P a b k).length) = M1
      have r7 : M1 7 b 3 = P 22030 0 b := by rw [← hM1, mset_3, if_neg (fun q => hab q.2.1.symm), movl_r (by decide), b2]
      have rb : M1 7002 b = M 7002 b := by rw [← hM1, mset_o (by simp), movl_2, if_neg (fun q => hab q.2.symm)]
      have ra3 : M1 7 a 3 = P 22030 0 a + (msl P a b k).length := by rw [← hM1, mset_3, if_pos ⟨rfl, rfl, rfl⟩]
      have ra : M1 7002 a = ovl (M 7002 a) (5 * P 22030 0 a) (mls P a b k) := by rw [← hM1, mset_o (by simp), movl_s]
      have v0 := eB k 0 (by omega) (by decide) (by decide)
      have v1 := eB k 1 (by omega) (by decide) (by decide)
      have v2 := eB k 2 (by omega) (by decide) (by decide)
      have v3 := eB k 3 (by omega) (by decide) (by decide)
      have v4 := eB k 4 (by omega) (by decide) (by decide)
      simp only [Int.add_zero] at v0
      have lm : ((mls P a b k).length : Int) = 5 * (msl P a b k).length := by
        show (((mgL _ _ _ _).length : Nat) : Int) = _
        rw [mgL_len]
        unfold msl
        omega
      have hh : hkG (M1 7002 a) (arow P b (5 * k)) (arow P b (5 * k + 2)) (M1 7 a 3).toNat = hkG (arow P a) (arow P b (5 * k)) (arow P b (5 * k + 2)) (P 22030 0 a).toNat := by
        rw [← has_own (A := arow P a) (own := (P 22030 0 a).toNat) (nb := (P 22030 0 b).toNat) g2 (by omega)]
        rw [ra3, show (P 22030 0 a + ((msl P a b k).length : Int)).toNat = (P 22030 0 a).toNat + (sel (arow P a) (arow P b) (P 22030 0 a).toNat k).length by unfold msl; omega]
        have eq : ∀ j : Int, 0 ≤ j → j < 5 * (P 22030 0 a + (msl P a b k).length) → M1 7002 a j = mgA (arow P a) (arow P b) (P 22030 0 a).toNat k j := fun j j1 j2 => by
          rw [ra]
          unfold mgA
          rw [show 5 * (((P 22030 0 a).toNat : Nat) : Int) = 5 * P 22030 0 a by omega]
          show ovl (M 7002 a) _ (mls P a b k) j = ovl (arow P a) _ (mls P a b k) j
          by_cases cj : j < 5 * P 22030 0 a
          · rw [ovl_out (Or.inl cj), ovl_out (Or.inl cj)]
            exact a6 j j1 cj
          · rw [ovl_in (by omega) (by omega), ovl_in (by omega) (by omega)]
        refine hkG_cg ⟨?_, ?_⟩
        · rintro ⟨q, q1, q2, q3⟩
          unfold msl at eq
          exact ⟨q, q1, by rw [← eq _ (by omega) (by omega)]; exact q2, by rw [← eq _ (by omega) (by omega)]; exact q3⟩
        · rintro ⟨q, q1, q2, q3⟩
          unfold msl at eq
          exact ⟨q, q1, by rw [eq _ (by omega) (by omega)]; exact q2, by rw [eq _ (by omega) (by omega)]; exact q3⟩
      have nx := ih (k + 1) (by omega)
      have es : msl P a b (k + 1) = msl P a b k ++ (if hkG (arow P a) (arow P b (5 * k)) (arow P b (5 * k + 2)) (P 22030 0 a).toNat = 0 then [k] else []) := rfl
      have em : mls P a b (k + 1) = mls P a b k ++ (if hkG (arow P a) (arow P b (5 * k)) (arow P b (5 * k + 2)) (P 22030 0 a).toNat = 0 then arr5 (arow P b) k else []) := by
        show (sel _ _ _ k ++ _).flatMap _ = _
        rw [List.flatMap_append]
        congr 1
        split
        · simp
        · rfl
      rw [t363_1, r7, if_neg (by omega), m371 (by omega) (by decide), kI_v, m371 (by omega) (by decide), kI_v, Int.add_zero, rb, v0, v2, m372 (by omega), kI_v, hh, t363_2, w32_id (z := (k : Int) + 1) (by omega) (by omega)]
      by_cases c : hkG (arow P a) (arow P b (5 * k)) (arow P b (5 * k + 2)) (P 22030 0 a).toNat = 0
      · rw [if_neg (by simpa using c)]
        rw [if_pos c] at es em
        rw [es, List.length_append] at bk1
        have bk2 : P 22030 0 a + ((msl P a b k).length : Int) + 1 ≤ 24 := by have : ([k] : List Nat).length = 1 := rfl; omega
        rw [m371 (by omega) (by decide), kI_v, m371 (by omega) (by decide), kI_v, m371 (by omega) (by decide), kI_v, m371 (by omega) (by decide), kI_v, m371 (by omega) (by decide), kI_v, Int.add_zero, rb, v0, v1, v2, v3, v4, m368 (by omega), kV_v, t363_2, w32_id (z := (k : Int) + 1) (by omega) (by omega)]
        have eM : mset (movl M1 7002 a (5 * M1 7 a 3) [arow P b (5 * k), arow P b (5 * k + 1), arow P b (5 * k + 2), arow P b (5 * k + 3), arow P b (5 * k + 4)]) 7 a 3 (M1 7 a 3 + 1) = mset (movl M 7002 a (5 * P 22030 0 a) (mls P a b (k + 1))) 7 a 3 (P 22030 0 a + (msl P a b (k + 1)).length) := by
          rw [ra3, ← hM1, em, es, ← mset_movl_comm (by simp), movl_app (by omega), mset_mset, List.length_append]
          rw [show P 22030 0 a + (((msl P a b k).length + [k].length : Nat) : Int) = P 22030 0 a + (msl P a b k).length + 1 by simp; omega]
          rfl
        rw [eM]
        exact nx
      · rw [if_pos c]
        rw [if_neg c, List.append_nil] at es em
        rw [em, es, hM1] at nx
        exact nx
  have l0 := loop (P 22030 0 b).toNat 0 (by omega)
  have z0 : mset (movl M 7002 a (5 * P 22030 0 a) (mls P a b 0)) 7 a 3 (P 22030 0 a + (msl P a b 0).length) = M := by
    rw [show mls P a b 0 = [] from rfl, show msl P a b 0 = [] from rfl, movl_nil]
    funext f i k
    rw [mset_3]
    split
    · rename_i q
      obtain ⟨rfl, rfl, rfl⟩ := q
      rw [a2]
      simp
    · rfl
  rw [z0] at l0
  rw [t363_0, show (0 : Int) = ((0 : Nat) : Int) from rfl, l0, t363_3, bd_e]
  exact andi (by omega) (andi (by omega) Iff.rfl)
end Mg2
