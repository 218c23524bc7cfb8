/-! DECODINGS: plain, steps -/
theorem tw_cg {g h : Int → Int} {a b : Int} (h0 : h b = g a) (h1 : h (b + 1) = g (a + 1)) : tw h b = tw g a := by unfold tw; rw [h0, h1]
theorem fo_cg {g h : Int → Int} {a b : Int} (q : ∀ i, 0 ≤ i → i < 4 → h (b + i) = g (a + i)) : fo h b = fo g a := by
  have q0 := q 0 (by decide) (by decide)
  rw [Int.add_zero, Int.add_zero] at q0
  unfold fo
  rw [tw_cg q0 (q 1 (by decide) (by decide)), tw_cg (q 2 (by decide) (by decide)) (by rw [show b + 2 + 1 = b + 3 by omega, show a + 2 + 1 = a + 3 by omega]; exact q 3 (by decide) (by decide))]
/-- the bytes of a body lie there -/
def BdC (g : Int → Int) (z : Int) (M : Mem) (j B : Int) : Prop := 0 ≤ B ∧ B + z ≤ bLen j ∧ ∀ k, 0 ≤ k → k < z → M 13000 j (B + k) = g k
def BdM (g : Int → Int) (z : Int) (N : Mem) (E : Int) : Prop := 0 ≤ E ∧ E + z ≤ 4000 ∧ ∀ k, 0 ≤ k → k < z → N 22016 0 (E + k) = g k
theorem movl_0g {M : Mem} {f : Nat} {i k : Int} {L : List Int} (h0 : 0 ≤ k) (h1 : k < L.length) : movl M f i 0 L f i k = L.getD k.toNat 0 := by
  rw [movl_s, ovl_in h0 (by omega), Int.sub_zero]
def mny (c : Int) : Int := if c = 1 then 4 else if c = 2 then 2 else if c = 3 then 1 else 0
def wid (c : Int) : Int := if c = 1 then 1 else if c = 2 then 2 else 4
def stv (g : Int → Int) (c q : Int) : Int := if c = 1 then g q else if c = 2 then w16 (tw g q) else fo g q
section Dec
variable {M N : Mem} {Q : AR → Mem → Prop} {g : Int → Int} {z n j B E c p q : Int}
theorem m127 : Tq 127 0 [vI c] [] M Q ↔ Q (.inl (some (vI (mny c)))) M := by
  simp only [kI_v, kL_v, kV_v, kR_v, kX_n, kX_e, bd_e, b2i_e0, b2i_e1, b2i_nb, nb_0, nb_1, cmp_lt, cmp_le, cmp_gt, cmp_ge, cmp_eq, not_true_eq_false, not_false_eq_true, if_true, if_false, ite_true, ite_false, true_and, and_true, false_and, and_false, Int.reduceLT, Int.reduceLE, Int.reduceEq, Int.reduceSub, Int.reduceAdd, Int.reduceNeg, Int.reduceMul, Classical.not_not, Int.zero_add, Int.add_zero, Int.le_refl, t127_0, t127_1, t127_2, t127_3, t127_4]
  unfold mny
  refine ifi (fun h1 => ?_) (fun h1 => ?_)
  · rw [if_neg h1]
    refine ifi (fun h2 => ?_) (fun h2 => ?_)
    · rw [if_neg h2]
      refine ifi (fun h3 => ?_) (fun h3 => ?_)
      · rw [if_neg h3]
      · rw [if_pos (by omega)]
    · rw [if_pos (by omega)]
  · rw [if_pos (by omega)]
theorem m128 : Tq 128 0 [vI c] [] M Q ↔ Q (.inl (some (vI (wid c)))) M := by
  simp only [kI_v, kL_v, kV_v, kR_v, kX_n, kX_e, bd_e, b2i_e0, b2i_e1, b2i_nb, nb_0, nb_1, cmp_lt, cmp_le, cmp_gt, cmp_ge, cmp_eq, not_true_eq_false, not_false_eq_true, if_true, if_false, ite_true, ite_false, true_and, and_true, false_and, and_false, Int.reduceLT, Int.reduceLE, Int.reduceEq, Int.reduceSub, Int.reduceAdd, Int.reduceNeg, Int.reduceMul, Classical.not_not, Int.zero_add, Int.add_zero, Int.le_refl, t128_0, t128_1, t128_2, t128_3]
  unfold wid
  refine ifi (fun h1 => ?_) (fun h1 => ?_)
  · rw [if_neg h1]
    refine ifi (fun h2 => ?_) (fun h2 => ?_)
    · rw [if_neg h2]
    · rw [if_pos (by omega)]
  · rw [if_pos (by omega)]
theorem m129 (h0 : 0 ≤ q) (h1 : q + wid c ≤ bLen j) : Tq 129 0 [vR 13 j, vI q, vI c] [] M Q ↔ Q (.inl (some (vI (stv (M 13000 j) c q)))) M := by
  unfold wid at h1
  unfold stv
  rw [t129_0, t129_1, t129_2]
  by_cases c1 : c = 1
  · rw [if_pos c1] at h1
    rw [if_neg (by omega), if_pos c1, t129_3]
    exact andi (by omega) Iff.rfl
  · rw [if_neg c1] at h1
    rw [if_pos c1, if_neg c1]
    by_cases c2 : c = 2
    · rw [if_pos c2] at h1
      rw [if_neg (by omega), if_pos c2, m116 h0 (by omega), kI_v, t129_3]
    · rw [if_neg c2] at h1
      rw [if_pos c2, if_neg c2, m117 h0 (by omega), kI_v, t129_3]
theorem stv_cg {h : Int → Int} {a b : Int} (q : ∀ i, 0 ≤ i → i < wid c → h (b + i) = g (a + i)) : stv h c b = stv g c a := by
  unfold stv
  unfold wid at q
  by_cases c1 : c = 1
  · rw [if_pos c1] at q
    rw [if_pos c1, if_pos c1]
    have := q 0 (by omega) (by omega)
    rw [Int.add_zero, Int.add_zero] at this
    exact this
  · rw [if_neg c1] at q
    rw [if_neg c1, if_neg c1]
    by_cases c2 : c = 2
    · rw [if_pos c2] at q
      rw [if_pos c2, if_pos c2]
      have := q 0 (by omega) (by omega)
      rw [Int.add_zero, Int.add_zero] at this
      rw [tw_cg this (q 1 (by omega) (by omega))]
    · rw [if_neg c2] at q
      rw [if_neg c2, if_neg c2]
      exact fo_cg q
theorem plain_dec (hn : 1 ≤ n ∧ n ≤ 56) (hz : 0 ≤ z ∧ z ≤ 255) : ∃ (ok : Int) (L : List Int), (ok = 0 ∨ ok = 1) ∧ L.length ≤ 56 ∧ (ok = 1 → (L.length : Int) = n ∧ ∀ v ∈ L, I32 v) ∧ (∀ M j B, BdC g z M j B → ∀ Q, Tq 131 0 [vR 15 0, vR 13 j, vI B, vI z, vI n, vJ] [] M Q ↔ Q (.inl (some (vI ok))) (movl M 15000 0 0 L)) ∧ (∀ N E, BdM g z N E → ∀ Q, Tq 278 0 [vR 22 0, vI E, vI z, vI n, vJ] [] N Q ↔ Q (.inl (some (vI ok))) (movl N 22017 0 0 L)) := by
  by_cases h4 : z = 4 * n
  · have key : ∀ v ∈ row (fun k => fo g (4 * k)) 0 n.toNat, I32 v := by
      intro v hv
      obtain ⟨k, k1, k2⟩ := row_mem _ _ hv
      rw [k2]
      exact fo_rng
    refine ⟨1, row (fun k => fo g (4 * k)) 0 n.toNat, Or.inr rfl, by rw [row_len]; omega, fun _ => ⟨by rw [row_len]; omega, key⟩, ?_, ?_⟩
    · intro M j B hB Q
      obtain ⟨b1, b2, b3⟩ := hB
      have hl := bLen_rng j
      have loop : ∀ (d i : Nat), (i : Int) + d = n → (Tq 131 2 [vR 15 0, vR 13 j, vI B, vJ, vI n, vI i] [] (movl M 15000 0 0 (row (fun k => fo g (4 * k)) 0 i)) Q ↔ Q (.inl (some (vI 1))) (movl M 15000 0 0 (row (fun k => fo g (4 * k)) 0 n.toNat))) := by
        intro d
        induction d with
        | zero =>
          intro i hi
          rw [t131_2, if_pos (by omega), t131_3, nb_1, show n.toNat = i by omega]
        | succ d ih =>
          intro i hi
          rw [t131_2, if_neg (by omega), w32_id (z := 4 * (i : Int)) (by omega) (by omega), w32_id (z := B + 4 * i) (by omega) (by omega), m117 (by omega) (by omega), kI_v, movl_r (by decide), bd_e, w32_id (z := (i : Int) + 1) (by omega) (by omega), mset_app0 (by rw [row_len])]
          rw [fo_cg (g := g) (a := 4 * i) (fun u u1 u2 => by rw [show B + 4 * (i : Int) + u = B + (4 * i + u) by omega, b3 _ (by omega) (by omega)])]
          have e : row (fun k => fo g (4 * k)) 0 i ++ [fo g (4 * i)] = row (fun k => fo g (4 * k)) 0 (i + 1) := by
            show _ = row (fun k => fo g (4 * k)) 0 i ++ [fo g (4 * (0 + (i : Int)))]
            rw [Int.zero_add]
          rw [e]
          exact andi (by omega) (ih (i + 1) (by omega))
      have := loop n.toNat 0 (by omega)
      rw [show row (fun k => fo g (4 * k)) 0 0 = [] from rfl, movl_nil] at this
      rw [t131_0, w32_id (by omega) (by omega), if_pos h4, t131_1]
      exact this
    · intro N E hE Q
      obtain ⟨b1, b2, b3⟩ := hE
      have loop : ∀ (d i : Nat), (i : Int) + d = n → (Tq 278 1 [vR 22 0, vI E, vI z, vI n, vI i] [] (movl N 22017 0 0 (row (fun k => fo g (4 * k)) 0 i)) Q ↔ Q (.inl (some (vI 1))) (movl N 22017 0 0 (row (fun k => fo g (4 * k)) 0 n.toNat))) := by
        intro d
        induction d with
        | zero =>
          intro i hi
          rw [t278_1, if_pos (by omega), t278_2, w32_id (z := 4 * n) (by omega) (by omega), if_neg (by omega), t278_4, nb_1, show n.toNat = i by omega]
        | succ d ih =>
          intro i hi
          rw [t278_1, if_neg (by omega), w32_id (z := 4 * n) (by omega) (by omega), if_neg (by omega), w32_id (z := 4 * (i : Int)) (by omega) (by omega), w32_id (z := E + 4 * i) (by omega) (by omega), m195_ear (by omega) (by omega), kI_v, movl_r (by decide), bd_e, w32_id (z := (i : Int) + 1) (by omega) (by omega), mset_app0 (by rw [row_len])]
          rw [fo_cg (g := g) (a := 4 * i) (fun u u1 u2 => by rw [show E + 4 * (i : Int) + u = E + (4 * i + u) by omega, b3 _ (by omega) (by omega)])]
          have e : row (fun k => fo g (4 * k)) 0 i ++ [fo g (4 * i)] = row (fun k => fo g (4 * k)) 0 (i + 1) := by
            show _ = row (fun k => fo g (4 * k)) 0 i ++ [fo g (4 * (0 + (i : Int)))]
            rw [Int.zero_add]
          rw [e]
          exact andi (by omega) (ih (i + 1) (by omega))
      have := loop n.toNat 0 (by omega)
      rw [show row (fun k => fo g (4 * k)) 0 0 = [] from rfl, movl_nil] at this
      rw [t278_0]
      exact this
  · refine ⟨0, [], Or.inl rfl, by simp, fun h => by omega, ?_, ?_⟩
    · intro M j B hB Q
      rw [t131_0, w32_id (by omega) (by omega), if_neg h4, nb_0, movl_nil]
    · intro N E hE Q
      rw [t278_0, t278_1, if_neg (by omega), w32_id (by omega) (by omega), if_pos h4, t278_2, w32_id (by omega) (by omega), if_pos h4, t278_3, t278_4, nb_0, movl_nil]
/-- the last of a list -/
def lst (L : List Int) : Int := L.getD (L.length - 1) 0
theorem lst_app {L : List Int} {v : Int} : lst (L ++ [v]) = v := by
  unfold lst
  rw [List.length_append, List.getD_eq_getElem?_getD, List.getElem?_append_right (by simp)]
  simp
/-- what one code adds -/
def stL (g : Int → Int) (c p : Int) (L : List Int) : Nat → List Int
  | 0 => L
  | i + 1 => stL g c p L i ++ [w32 (lst (stL g c p L i) + stv g c (p + wid c * i))]
theorem stL_len {L : List Int} : ∀ i : Nat, (stL g c p L i).length = L.length + i
  | 0 => rfl
  | i + 1 => by
    unfold stL
    rw [List.length_append, stL_len i]
    rfl
theorem stL_32 {L : List Int} (h : ∀ v ∈ L, I32 v) : ∀ i : Nat, ∀ v ∈ stL g c p L i, I32 v
  | 0 => h
  | i + 1 => I32_app (stL_32 h i) (w32_rng _)
theorem step_C {L : List Int} {x2 x5 x8 x9 : Int} (hB : BdC g z M j B) (hz : z ≤ 255) (hp : 0 ≤ p) (hL : 1 ≤ L.length) (hc : 0 ≤ c) (hn : (L.length : Int) + mny c ≤ 56) (hw : p + wid c * mny c ≤ z) : ∀ (d i : Nat), (i : Int) + d = mny c → (Tq 126 11 [vR 15 0, vR 13 j, vI x2, vJ, vI n, vI x5, vI (B + p + wid c * i), vI (L.length + i), vI x8, vI x9, vI c, vI (mny c), vI i] [] (movl M 15000 0 0 (stL g c p L i)) Q ↔ Tq 126 12 [vR 15 0, vR 13 j, vI x2, vJ, vI n, vI x5, vI (B + p + wid c * mny c), vI (L.length + mny c), vI x8, vI x9, vJ, vJ, vJ] [] (movl M 15000 0 0 (stL g c p L (mny c).toNat)) Q) := by
  obtain ⟨b1, b2, b3⟩ := hB
  have hl := bLen_rng j
  have hw1 : 1 ≤ wid c ∧ wid c ≤ 4 := by unfold wid; split <;> (try split) <;> omega
  have hm : 0 ≤ mny c ∧ mny c ≤ 4 := by unfold mny; split <;> (try split) <;> (try split) <;> omega
  intro d
  induction d with
  | zero =>
    intro i hi
    rw [t126_11, if_pos (by omega), show (mny c).toNat = i by omega, show mny c = i by omega]
  | succ d ih =>
    intro i hi
    have hb : wid c * i + wid c ≤ wid c * mny c := by
      rw [show wid c * i + wid c = wid c * (i + 1) by rw [Int.mul_add, Int.mul_one]]
      exact Int.mul_le_mul_of_nonneg_left (by omega) (by omega)
    have hb0 : 0 ≤ wid c * i := Int.mul_nonneg (by omega) (by omega)
    rw [t126_11, if_neg (by omega), w32_id (z := (L.length : Int) + i - 1) (by omega) (by omega), m129 (by omega) (by omega), kI_v, bd_e, m128, kI_v, movl_r (g := 13000) (by decide)]
    rw [movl_0g (by omega) (by rw [stL_len]; omega), mset_app0 (by rw [stL_len]; omega)]
    rw [stv_cg (g := g) (a := p + wid c * i) (fun u u1 u2 => by rw [show B + p + wid c * i + u = B + (p + wid c * i + u) by omega, b3 _ (by omega) (by omega)])]
    rw [show ((L.length : Int) + i - 1).toNat = (stL g c p L i).length - 1 by rw [stL_len]; omega]
    rw [w32_id (z := B + p + wid c * i + wid c) (by omega) (by omega), w32_id (z := (L.length : Int) + i + 1) (by omega) (by omega), w32_id (z := (i : Int) + 1) (by omega) (by omega)]
    refine andi (by omega) (andi (by omega) ?_)
    have := ih (i + 1) (by omega)
    rw [show B + p + wid c * ((i + 1 : Nat) : Int) = B + p + wid c * i + wid c by rw [show ((i + 1 : Nat) : Int) = i + 1 by omega, Int.mul_add, Int.mul_one]; omega, show (L.length : Int) + ((i + 1 : Nat) : Int) = L.length + i + 1 by omega] at this
    exact this
theorem step_M {L : List Int} {x1 x5 x7 x8 : Int} (hE : BdM g z N E) (hz : z ≤ 255) (hp : 0 ≤ p) (hL : 1 ≤ L.length) (hc : 1 ≤ c ∧ c ≤ 3) (hn : (L.length : Int) + mny c ≤ 56) (hw : p + wid c * mny c ≤ z) : ∀ (d i : Nat), (i : Int) + d = mny c → (Tq 279 12 [vR 22 0, vI x1, vJ, vI n, vI (E + p), vI x5, vI (L.length + i), vI x7, vI x8, vI c, vI (mny c), vI i, vJ] [] (movl N 22017 0 0 (stL g c p L i)) Q ↔ Tq 279 16 [vR 22 0, vI x1, vJ, vI n, vI (E + p), vI x5, vI (L.length + mny c), vI x7, vI x8, vI c, vJ, vJ, vJ] [] (movl N 22017 0 0 (stL g c p L (mny c).toNat)) Q) := by
  obtain ⟨b1, b2, b3⟩ := hE
  have hw1 : 1 ≤ wid c ∧ wid c ≤ 4 := by unfold wid; split <;> (try split) <;> omega
  have hm : 0 ≤ mny c ∧ mny c ≤ 4 := by unfold mny; split <;> (try split) <;> (try split) <;> omega
  intro d
  induction d with
  | zero =>
    intro i hi
    rw [t279_12, if_pos (by omega), show (mny c).toNat = i by omega, show mny c = i by omega]
  | succ d ih =>
    intro i hi
    have hb : wid c * i + wid c ≤ wid c * mny c := by
      rw [show wid c * i + wid c = wid c * (i + 1) by rw [Int.mul_add, Int.mul_one]]
      exact Int.mul_le_mul_of_nonneg_left (by omega) (by omega)
    have hb0 : 0 ≤ wid c * i := Int.mul_nonneg (by omega) (by omega)
    have fin : Tq 279 15 [vR 22 0, vI x1, vJ, vI n, vI (E + p), vI x5, vI (L.length + i), vI x7, vI x8, vI c, vI (mny c), vI i, vJ] [vI (stv g c (p + wid c * i))] (movl N 22017 0 0 (stL g c p L i)) Q ↔ Tq 279 16 [vR 22 0, vI x1, vJ, vI n, vI (E + p), vI x5, vI (L.length + mny c), vI x7, vI x8, vI c, vJ, vJ, vJ] [] (movl N 22017 0 0 (stL g c p L (mny c).toNat)) Q := by
      rw [t279_15, w32_id (z := (L.length : Int) + i - 1) (by omega) (by omega), bd_e, movl_0g (by omega) (by rw [stL_len]; omega), mset_app0 (by rw [stL_len]; omega)]
      rw [show ((L.length : Int) + i - 1).toNat = (stL g c p L i).length - 1 by rw [stL_len]; omega]
      rw [w32_id (z := (L.length : Int) + i + 1) (by omega) (by omega), w32_id (z := (i : Int) + 1) (by omega) (by omega)]
      refine andi (by omega) (andi (by omega) ?_)
      have := ih (i + 1) (by omega)
      rw [show (L.length : Int) + ((i + 1 : Nat) : Int) = L.length + i + 1 by omega] at this
      exact this
    have hv : stv g c (p + wid c * i) = stv (N 22016 0) c (E + p + wid c * i) := (stv_cg (fun u u1 u2 => by rw [show E + p + wid c * i + u = E + (p + wid c * i + u) by omega, b3 _ (by omega) (by omega)])).symm
    rw [hv] at fin
    rw [t279_12, if_neg (by omega), movl_r (by decide)]
    rcases (show c = 1 ∨ c = 2 ∨ c = 3 by omega) with rfl | rfl | rfl
    · have w1 : wid 1 = 1 := rfl
      rw [w1] at hb hb0
      rw [w1] at hw
      rw [if_neg (by decide), w32_id (z := E + p + i) (by omega) (by omega)]
      refine andi (by omega) ?_
      have e : stv (N 22016 0) 1 (E + p + wid 1 * i) = N 22016 0 (E + p + i) := by
        show N 22016 0 (E + p + 1 * i) = _
        rw [Int.one_mul]
      rw [e] at fin
      exact fin
    · have e : stv (N 22016 0) 2 (E + p + wid 2 * i) = w16 (tw (N 22016 0) (E + p + 2 * i)) := rfl
      have w2 : wid 2 = 2 := rfl
      rw [w2] at hb hb0
      rw [w2] at hw
      rw [if_pos (by decide), t279_13, if_neg (by decide), w32_id (z := 2 * (i : Int)) (by omega) (by omega), w32_id (z := E + p + 2 * i) (by omega) (by omega), m192_ear (by omega) (by omega), kI_v, movl_r (by decide)]
      rw [e] at fin
      exact fin
    · have m3 : mny 3 = 1 := rfl
      have w3 : wid 3 = 4 := rfl
      rw [m3, w3] at hw
      rw [m3] at hi
      have i0 : i = 0 := by omega
      subst i0
      have e : stv (N 22016 0) 3 (E + p + wid 3 * ((0 : Nat) : Int)) = fo (N 22016 0) (E + p) := by
        show fo (N 22016 0) (E + p + 4 * ((0 : Nat) : Int)) = _
        rw [show E + p + 4 * ((0 : Nat) : Int) = E + p by omega]
      rw [if_pos (by decide), t279_13, if_pos (by decide), t279_14, m195_ear (by omega) (by omega), kI_v, movl_r (by decide)]
      rw [e] at fin
      exact fin
end Dec
