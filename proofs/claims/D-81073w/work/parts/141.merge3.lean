/-! EVENTS: merge, the model's side -/
def kmg (N P : Mem) (a b : Int) : Mem := mset (mset (movl N 22031 0 (120 * a + 5 * P 22030 0 a) (mls P a b (P 22030 0 b).toNat)) 22030 0 a (P 22030 0 a + (msl P a b (P 22030 0 b).toNat).length)) 22035 0 b a
def cmg (M P : Mem) (a b : Int) : Mem := mset (mset (movl M 7002 a (5 * P 22030 0 a) (mls P a b (P 22030 0 b).toNat)) 7 a 3 (P 22030 0 a + (msl P a b (P 22030 0 b).toNat).length)) 7 b 4 a
section Mg3
variable {M N P : Mem} {Q : AR → Mem → Prop} {a b x4 x5 s p : Int}
theorem m212_7 {own : Nat} (ha : 0 ≤ a ∧ a < 24) (ho : own ≤ 24) (hx : 0 ≤ x5 ∧ x5 + 2 < 2880) (hs : N 22031 0 x5 = s) (hp : N 22031 0 (x5 + 2) = p) : ∀ d j : Nat, j + d = own → (Tq 212 7 [vR 22 0, vI a, vI b, vI own, vI x4, vI x5, vI (hkG (arow N a) s p j), vI j, vJ] [] N Q ↔ Tq 212 10 [vR 22 0, vI a, vI b, vI own, vI x4, vI x5, vI (hkG (arow N a) s p own), vJ, vJ] [] N Q) := by
  intro d
  induction d with
  | zero =>
    intro j hj
    rw [t212_7, if_pos (by omega), show j = own by omega]
  | succ d ih =>
    intro j hj
    have nx := ih (j + 1) (by omega)
    have e1 : hkG (arow N a) s p (j + 1) = if arow N a (5 * j) = s ∧ arow N a (5 * j + 2) = p then 1 else hkG (arow N a) s p j := rfl
    rw [t212_7, if_neg (by omega), w32_id (z := 24 * a) (by omega) (by omega), w32_id (z := 24 * a + (j : Int)) (by omega) (by omega), w32_id (z := 5 * (24 * a + (j : Int))) (by omega) (by omega), w32_id (z := 5 * (24 * a + (j : Int)) + 2) (by omega) (by omega), w32_id (z := x5 + 2) (by omega) (by omega), hs, hp, show 5 * (24 * a + (j : Int)) = 120 * a + 5 * j by omega, show 120 * a + 5 * (j : Int) + 2 = 120 * a + (5 * j + 2) by omega, t212_8, t212_9, t212_9, or01 (hkG_01 j) (Or.inl rfl), or01 (hkG_01 j) (Or.inr rfl), w32_id (z := (j : Int) + 1) (by omega) (by omega)]
    rw [e1, show ((j + 1 : Nat) : Int) = j + 1 by omega] at nx
    have z0 : (if hkG (arow N a) s p j = 0 then 0 else 1 : Int) = hkG (arow N a) s p j := by rcases hkG_01 (A := arow N a) (s := s) (p := p) j with h | h <;> rw [h] <;> rfl
    have z1 : (if hkG (arow N a) s p j = 0 then 1 else 1 : Int) = 1 := by split <;> rfl
    rw [z0, z1]
    refine andi (by omega) (andi (by omega) ?_)
    by_cases c1 : N 22031 0 (120 * a + 5 * j) = s
    · rw [if_neg (by simpa using c1)]
      refine andi (by omega) (andi (by omega) ?_)
      by_cases c2 : N 22031 0 (120 * a + (5 * j + 2)) = p
      · rw [if_neg (by simpa using c2)]
        rw [if_pos ⟨c1, c2⟩] at nx
        exact nx
      · rw [if_pos c2]
        rw [if_neg (fun q => c2 q.2)] at nx
        exact nx
    · rw [if_pos c1]
      rw [if_neg (fun q => c1 q.1)] at nx
      exact nx
theorem m212_11 (ha : 0 ≤ a ∧ a < 24) (hn : 0 ≤ N 22030 0 a ∧ N 22030 0 a < 24) (hx : 0 ≤ x5 ∧ x5 + 5 ≤ 2880) (hd : x5 + 5 ≤ 120 * a + 5 * N 22030 0 a ∨ 120 * a + 5 * N 22030 0 a + 5 ≤ x5) {own : Int} : Tq 212 11 [vR 22 0, vI a, vI b, vI own, vI x4, vI x5, vJ, vI 0, vJ] [] N Q ↔ Tq 212 12 [vR 22 0, vI a, vI b, vI own, vI x4, vJ, vJ, vJ, vJ] [] (movl N 22031 0 (120 * a + 5 * N 22030 0 a) [N 22031 0 x5, N 22031 0 (x5 + 1), N 22031 0 (x5 + 2), N 22031 0 (x5 + 3), N 22031 0 (x5 + 4)]) Q := by
  have e30 : ∀ (M : Mem) k v, mset M 22031 0 k v 22030 0 a = M 22030 0 a := fun M k v => by rw [mset_3, if_neg (by simp)]
  generalize hr : N 22030 0 a = r at hn hd
  have step : ∀ (M : Mem) (j : Int), 0 ≤ j → j < 5 → M 22030 0 a = r → (Tq 212 11 [vR 22 0, vI a, vI b, vI own, vI x4, vI x5, vJ, vI j, vJ] [] M Q ↔ Tq 212 11 [vR 22 0, vI a, vI b, vI own, vI x4, vI x5, vJ, vI (j + 1), vJ] [] (mset M 22031 0 (120 * a + 5 * r + j) (M 22031 0 (x5 + j))) Q) := fun M j j1 j2 hM => by
    rw [t212_11, if_neg (by omega), hM, w32_id (z := 24 * a) (by omega) (by omega), w32_id (z := 24 * a + r) (by omega) (by omega), w32_id (z := 5 * (24 * a + r)) (by omega) (by omega), w32_id (z := 5 * (24 * a + r) + j) (by omega) (by omega), w32_id (z := x5 + j) (by omega) (by omega), w32_id (z := j + 1) (by omega) (by omega), bd_e, show 5 * (24 * a + r) + j = 120 * a + 5 * r + j by omega]
    exact andi (by omega) (andi (by omega) (andi (by omega) Iff.rfl))
  rw [step N 0 (by omega) (by omega) hr]
  rw [step _ (0 + 1) (by omega) (by omega) (by rw [e30, hr])]
  rw [step _ (0 + 1 + 1) (by omega) (by omega) (by rw [e30, e30, hr])]
  rw [step _ (0 + 1 + 1 + 1) (by omega) (by omega) (by rw [e30, e30, e30, hr])]
  rw [step _ (0 + 1 + 1 + 1 + 1) (by omega) (by omega) (by rw [e30, e30, e30, e30, hr])]
  rw [t212_11, if_pos (by omega)]
  simp only [Int.add_zero, Int.zero_add, Int.reduceAdd]
  have out : ∀ (M : Mem) (i j v : Int), 0 ≤ i → i < 5 → 0 ≤ j → j < 5 → mset M 22031 0 (120 * a + 5 * r + i) v 22031 0 (x5 + j) = M 22031 0 (x5 + j) := fun M i j v _ _ _ _ => by rw [mset_3, if_neg (by omega)]
  have out0 : ∀ (M : Mem) (j v : Int), 0 ≤ j → j < 5 → mset M 22031 0 (120 * a + 5 * r) v 22031 0 (x5 + j) = M 22031 0 (x5 + j) := fun M j v _ _ => by rw [mset_3, if_neg (by omega)]
  rw [out _ 3 4 _ (by decide) (by decide) (by decide) (by decide), out _ 2 4 _ (by decide) (by decide) (by decide) (by decide), out _ 1 4 _ (by decide) (by decide) (by decide) (by decide), out0 _ 4 _ (by decide) (by decide), out _ 2 3 _ (by decide) (by decide) (by decide) (by decide), out _ 1 3 _ (by decide) (by decide) (by decide) (by decide), out0 _ 3 _ (by decide) (by decide), out _ 1 2 _ (by decide) (by decide) (by decide) (by decide), out0 _ 2 _ (by decide) (by decide), out0 _ 1 _ (by decide) (by decide)]
  rw [mset_movl (M := N) (f := 22031), mset_app (by simp), mset_app (by simp), mset_app (by simp), mset_app (by simp)]
  rfl
theorem m212_6 (hw : WBk P) (hr : RBk N P) (ha : 0 ≤ a ∧ a < P 22 0 28) (hb : 0 ≤ b ∧ b < P 22 0 28) (hab : ¬ a = b) (hst : P 22 0 9 ≤ 12) : Tq 212 6 [vR 22 0, vI a, vI b, vI (P 22030 0 a), vI 0, vJ, vJ, vJ, vJ] [] N Q ↔ Tq 212 14 [vR 22 0, vI a, vI b, vJ, vJ, vJ, vJ, vJ, vJ] [] (mset (movl N 22031 0 (120 * a + 5 * P 22030 0 a) (mls P a b (P 22030 0 b).toNat)) 22030 0 a (P 22030 0 a + (msl P a b (P 22030 0 b).toNat).length)) Q := by
  obtain ⟨f1, f2⟩ := mg_facts hw ha hst
  obtain ⟨g1, g2⟩ := mg_facts hw hb hst
  have bdk := fun (k : Nat) (hk : (k : Int) ≤ P 22030 0 b) => msl_bd (k := k) hw ha hb hst hk
  obtain ⟨w1, w2, w3⟩ := hw
  obtain ⟨va, -⟩ := w3 a ha.1 ha.2
  obtain ⟨vb, -⟩ := w3 b hb.1 hb.2
  obtain ⟨c1, c2, c3⟩ := hr
  obtain ⟨a1, a2, a3, a4, a5, a6⟩ := c3 a ha.1 ha.2
  obtain ⟨b1, b2, b3, b4, b5, b6⟩ := c3 b hb.1 hb.2
  have eB : ∀ (k : Nat) (w : Int), (k : Int) < P 22030 0 b → 0 ≤ w → w < 5 → N 22031 0 (120 * b + (5 * k + w)) = arow P b (5 * k + w) := fun k w h1 h2 h3 => b6 _ (by omega) (by omega)
  have loop : ∀ (d k : Nat), (k : Int) + d = P 22030 0 b → (Tq 212 6 [vR 22 0, vI a, vI b, vI (P 22030 0 a), vI k, vJ, vJ, vJ, vJ] [] (mset (movl N 22031 0 (120 * a + 5 * P 22030 0 a) (mls P a b k)) 22030 0 a (P 22030 0 a + (msl P a b k).length)) Q ↔ Tq 212 14 [vR 22 0, vI a, vI b, vJ, vJ, vJ, vJ, vJ, vJ] [] (mset (movl N 22031 0 (120 * a + 5 * P 22030 0 a) (mls P a b (P 22030 0 b).toNat)) 22030 0 a (P 22030 0 a + (msl P a b (P 22030 0 b).toNat).length)) Q) := by
    intro d
    induction d with
    | zero =>
      intro k hk
      have r7 : mset (movl N 22031 0 (120 * a + 5 * P 22030 0 a) (mls P a b k)) 22030 0 a (P 22030 0 a + (msl P a b k).length) 22030 0 b = P 22030 0 b := by rw [mset_3, if_neg (fun q => hab q.2.2.symm), movl_r (by decide), b2]
      rw [t212_6, r7, if_pos (by omega), show (P 22030 0 b).toNat = k by omega]
      exact andi (by omega) Iff.rfl
    | succ d ih =>
      intro k hk
      have bk := bdk k (by omega)
      have bk1 := bdk (k + 1) (by omega)
      generalize hM1 : mset (movl N 22031 0 (120 * a + 5 * P 22030 0 a) (mls P a b k)) 22030 0 a (P 22030 0 a + (msl P a b k).length) = M1
      have lm : ((mls P a b k).length : Int) = 5 * (msl P a b k).length := by
        show (((mgL _ _ _ _).length : Nat) : Int) = _
        rw [mgL_len]
        unfold msl
        omega
      have r7 : M1 22030 0 b = P 22030 0 b := by rw [← hM1, mset_3, if_neg (fun q => hab q.2.2.symm), movl_r (by decide), b2]
      have ra3 : M1 22030 0 a = P 22030 0 a + (msl P a b k).length := by rw [← hM1, mset_3, if_pos ⟨rfl, rfl, rfl⟩]
      have ra : M1 22031 0 = ovl (N 22031 0) (120 * a + 5 * P 22030 0 a) (mls P a b k) := by rw [← hM1, mset_o (by simp), movl_s]
      have rb : ∀ w : Int, 0 ≤ w → w < 5 → M1 22031 0 (5 * (24 * b + k) + w) = arow P b (5 * k + w) := fun w w1 w2 => by
        rw [ra, ovl_out (by omega), show 5 * (24 * b + (k : Int)) + w = 120 * b + (5 * k + w) by omega]
        exact eB k w (by omega) w1 w2
      have rb0 := rb 0 (by decide) (by decide)
      simp only [Int.add_zero] at rb0
      have hh : hkG (arow M1 a) (arow P b (5 * k)) (arow P b (5 * k + 2)) (P 22030 0 a).toNat = hkG (arow P a) (arow P b (5 * k)) (arow P b (5 * k + 2)) (P 22030 0 a).toNat := by
        have eq : ∀ j : Int, 0 ≤ j → j < 5 * P 22030 0 a → arow M1 a j = arow P a j := fun j j1 j2 => by
          show M1 22031 0 (120 * a + j) = _
          rw [ra, ovl_out (by omega)]
          exact a6 j j1 j2
        refine hkG_cg ⟨?_, ?_⟩
        · rintro ⟨q, q1, q2, q3⟩
          exact ⟨q, q1, by rw [← eq _ (by omega) (by omega)]; exact q2, by rw [← eq _ (by omega) (by omega)]; exact q3⟩
        · rintro ⟨q, q1, q2, q3⟩
          exact ⟨q, q1, by rw [eq _ (by omega) (by omega)]; exact q2, by rw [eq _ (by omega) (by omega)]; exact q3⟩
      have nx := ih (k + 1) (by omega)
      have es : msl P a b (k + 1) = msl P a b k ++ (if hkG (arow P a) (arow P b (5 * k)) (arow P b (5 * k + 2)) (P 22030 0 a).toNat = 0 then [k] else []) := rfl
      have em : mls P a b (k + 1) = mls P a b k ++ (if hkG (arow P a) (arow P b (5 * k)) (arow P b (5 * k + 2)) (P 22030 0 a).toNat = 0 then arr5 (arow P b) k else []) := by
        show (sel _ _ _ k ++ _).flatMap _ = _
        rw [List.flatMap_append]
        congr 1
        split
        · simp
        · rfl
      have i7 := m212_7 (N := M1) (a := a) (b := b) (x4 := k) (x5 := 5 * (24 * b + k)) (Q := Q) (own := (P 22030 0 a).toNat) (by omega) (by omega) (by omega) rb0 (rb 2 (by decide) (by decide)) (P 22030 0 a).toNat 0 (by omega)
      rw [show (((P 22030 0 a).toNat : Nat) : Int) = P 22030 0 a by omega, hh] at i7
      rw [t212_6, r7, if_neg (by omega), w32_id (z := 24 * b) (by omega) (by omega), w32_id (z := 24 * b + (k : Int)) (by omega) (by omega), w32_id (z := 5 * (24 * b + (k : Int))) (by omega) (by omega)]
      refine andi (by omega) (i7.trans ?_)
      rw [t212_10]
      by_cases c : hkG (arow P a) (arow P b (5 * k)) (arow P b (5 * k + 2)) (P 22030 0 a).toNat = 0
      · rw [if_neg (by simpa using c)]
        rw [if_pos c] at es em
        rw [es, List.length_append] at bk1
        have bk2 : P 22030 0 a + ((msl P a b k).length : Int) + 1 ≤ 24 := by have : ([k] : List Nat).length = 1 := rfl; omega
        rw [m212_11 (by omega) (by omega) (by omega) (by rw [ra3]; omega), rb0, rb 1 (by decide) (by decide), rb 2 (by decide) (by decide), rb 3 (by decide) (by decide), rb 4 (by decide) (by decide), t212_12, movl_r (by decide), w32_id (by omega) (by omega), bd_e, t212_13, w32_id (z := (k : Int) + 1) (by omega) (by omega)]
        have eM : mset (movl M1 22031 0 (120 * a + 5 * M1 22030 0 a) [arow P b (5 * k), arow P b (5 * k + 1), arow P b (5 * k + 2), arow P b (5 * k + 3), arow P b (5 * k + 4)]) 22030 0 a (M1 22030 0 a + 1) = mset (movl N 22031 0 (120 * a + 5 * P 22030 0 a) (mls P a b (k + 1))) 22030 0 a (P 22030 0 a + (msl P a b (k + 1)).length) := by
          rw [ra3, ← hM1, em, es, ← mset_movl_comm (by simp), movl_app (by omega), mset_mset, List.length_append]
          rw [show P 22030 0 a + (((msl P a b k).length + [k].length : Nat) : Int) = P 22030 0 a + (msl P a b k).length + 1 by simp; omega]
          rfl
        rw [eM]
        exact andi (by omega) (andi (by omega) nx)
      · rw [if_pos c, t212_13, w32_id (z := (k : Int) + 1) (by omega) (by omega)]
        rw [if_neg c, List.append_nil] at es em
        rw [em, es, hM1] at nx
        exact nx
  have l0 := loop (P 22030 0 b).toNat 0 (by omega)
  have z0 : mset (movl N 22031 0 (120 * a + 5 * P 22030 0 a) (mls P a b 0)) 22030 0 a (P 22030 0 a + (msl P a b 0).length) = N := by
    rw [show mls P a b 0 = [] from rfl, show msl P a b 0 = [] from rfl, movl_nil]
    funext f i k
    rw [mset_3]
    split
    · rename_i q
      obtain ⟨rfl, rfl, rfl⟩ := q
      rw [a2]
      simp
    · rfl
  rw [z0] at l0
  exact l0
end Mg3
