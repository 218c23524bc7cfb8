/-! RECORDS WRITTEN: plain, steps -/
/-- n numbers from the tape's bench: samples a, both sides -/
def SmC (a : Int → Int) (n : Int) (M : Mem) : Prop := ∀ k, 0 ≤ k → k < n → M 15000 0 k = a k
def SmM (a : Int → Int) (n b : Int) (N : Mem) : Prop := 0 ≤ b ∧ b + n ≤ 49152 ∧ ∀ k, 0 ≤ k → k < n → N 22013 0 (b + k) = a k
theorem SmC_bapp {a : Int → Int} {n : Int} {M : Mem} {L : List Int} (h : SmC a n M) : SmC a n (bapp M 0 L) := fun k k1 k2 => by rw [bapp_2, if_neg (by simp), if_neg (by simp)]; exact h k k1 k2
theorem SmM_movl {a : Int → Int} {n b p : Int} {N : Mem} {L : List Int} (h : SmM a n b N) : SmM a n b (movl N 22099 8 p L) := ⟨h.1, h.2.1, fun k k1 k2 => by rw [movl_r (by decide)]; exact h.2.2 k k1 k2⟩
/-- the difference at k -/
def dfa (a : Int → Int) (k : Int) : Int := w32 (a k - a (k - 1))
/-- whether so many lie within a bound -/
def ftF (d : Int → Int) (b : Int) : Nat → Int → Int
  | 0, _ => 1
  | m + 1, k => if -b ≤ d k ∧ d k < b then ftF d b m (k + 1) else 0
theorem ftF_s {d : Int → Int} {b : Int} {m : Nat} {k : Int} : ftF d b (m + 1) k = if -b ≤ d k ∧ d k < b then ftF d b m (k + 1) else 0 := rfl
theorem ftF_01 {d : Int → Int} {b : Int} : ∀ (m : Nat) (k : Int), ftF d b m k = 0 ∨ ftF d b m k = 1
  | 0, _ => Or.inr rfl
  | m + 1, k => by
    rw [ftF_s]
    split
    · exact ftF_01 m (k + 1)
    · exact Or.inl rfl
section Enc
variable {M N : Mem} {Q : AR → Mem → Prop} {a : Int → Int} {n i b c : Int}
theorem m134_3 {m : Int} (hS : SmC a n M) (hn : n ≤ 56) (hi : 1 ≤ i) (hm : i + m ≤ n) (hb : 0 ≤ b ∧ b ≤ 32768) : ∀ (d : Nat) (k : Int), i ≤ k → k + d = i + m → (Tq 134 3 [vR 15 0, vI i, vI m, vJ, vI b, vI 1, vI k, vJ] [] M Q ↔ Q (.inl (some (vI (ftF (dfa a) b d k)))) M) := by
  intro d
  induction d with
  | zero =>
    intro k k1 k2
    rw [t134_3, w32_id (z := i + m) (by omega) (by omega), if_pos (by omega), t134_6, nb_1]
    rfl
  | succ d ih =>
    intro k k1 k2
    have e0 : Tq 134 3 [vR 15 0, vI i, vI m, vJ, vI b, vI 0, vI (k + 1), vJ] [] M Q ↔ Q (.inl (some (vI 0))) M := by
      rw [t134_3]
      refine ifi (fun _ => by rw [t134_6, nb_0]) (fun _ => ?_)
      rw [if_pos rfl, t134_6, nb_0]
    rw [t134_3, w32_id (z := i + m) (by omega) (by omega), if_neg (by omega), if_neg (by decide), w32_id (z := k - 1) (by omega) (by omega), w32_id (z := -b) (by omega) (by omega), hS k (by omega) (by omega), hS (k - 1) (by omega) (by omega), t134_4, t134_5, t134_5, w32_id (z := k + 1) (by omega) (by omega), e0, ih (k + 1) (by omega) (by omega), ftF_s]
    refine andi (by omega) (andi (by omega) ?_)
    show (if dfa a k < -b then _ else if b ≤ dfa a k then _ else _) ↔ _
    refine ifi (fun h => ?_) (fun h => ifi (fun h2 => ?_) (fun h2 => ?_))
    · rw [if_neg (by omega)]
    · rw [if_neg (by omega)]
    · rw [if_pos (by omega)]
def fitv (a : Int → Int) (i m n b : Int) : Int := if i + m ≤ n then ftF (dfa a) b m.toNat i else 0
theorem m134 {m : Int} (hS : SmC a n M) (hn : n ≤ 56) (hi : 1 ≤ i ∧ i ≤ n) (hm : 0 ≤ m ∧ m ≤ 4) (hb : 0 ≤ b ∧ b ≤ 32768) : Tq 134 0 [vR 15 0, vI i, vI m, vI n, vI b, vJ, vJ, vJ] [] M Q ↔ Q (.inl (some (vI (fitv a i m n b)))) M := by
  unfold fitv
  rw [t134_0, w32_id (z := i + m) (by omega) (by omega), t134_1, t134_2, t134_2]
  by_cases c : i + m ≤ n
  · rw [if_neg (by omega), if_pos c, m134_3 hS hn hi.1 c hb m.toNat i (by omega) (by omega)]
  · rw [if_pos (by omega), if_neg c, t134_3]
    refine ifi (fun _ => by rw [t134_6, nb_0]) (fun _ => ?_)
    rw [if_pos rfl, t134_6, nb_0]
theorem m286_1 {m f : Int} (hS : SmM a n f N) (hn : n ≤ 56) (hi : 1 ≤ i ∧ i ≤ n) (hm : 0 ≤ m ∧ m ≤ 4) (hb : 0 ≤ b ∧ b ≤ 32768) : ∀ (d : Nat) (j : Int), 0 ≤ j → j + d = m → i + j ≤ n → (Tq 286 1 [vR 22 0, vI f, vI i, vI n, vI m, vI b, vI j] [] N Q ↔ Q (.inl (some (vI (if i + m ≤ n then ftF (dfa a) b d (i + j) else 0)))) N) := by
  obtain ⟨h1, h2, h3⟩ := hS
  intro d
  induction d with
  | zero =>
    intro j j1 j2 j3
    rw [t286_1, if_pos (by omega), t286_4, nb_1, if_pos (by omega)]
    rfl
  | succ d ih =>
    intro j j1 j2 j3
    rw [t286_1, if_neg (by omega), w32_id (z := i + j) (by omega) (by omega)]
    by_cases c : n ≤ i + j
    · rw [if_pos c, t286_2, nb_0, if_neg (by omega)]
    · rw [if_neg c, w32_id (z := f + i) (by omega) (by omega), w32_id (z := f + i + j) (by omega) (by omega), w32_id (z := f + i + j - 1) (by omega) (by omega), w32_id (z := -b) (by omega) (by omega), w32_id (z := b - 1) (by omega) (by omega), show f + i + j - 1 = f + (i + j - 1) by omega, show f + i + j = f + (i + j) by omega, h3 _ (by omega) (by omega), h3 _ (by omega) (by omega), m189, kI_v, t286_2, nb_0, t286_3, w32_id (z := j + 1) (by omega) (by omega)]
      refine andi (by omega) (andi (by omega) ?_)
      rw [ih (j + 1) (by omega) (by omega) (by omega), ftF_s, show i + (j + 1) = i + j + 1 by omega]
      show (if ¬ b2i (-b ≤ dfa a (i + j) ∧ dfa a (i + j) ≤ b - 1) = 0 then _ else _) ↔ _
      by_cases c2 : -b ≤ dfa a (i + j) ∧ dfa a (i + j) < b
      · rw [if_pos (by rw [b2i_t (by omega)]; decide), if_pos c2]
      · rw [if_neg (by rw [b2i_f (by omega)]; decide), if_neg c2, ite_self]
theorem m286 {m f : Int} (hS : SmM a n f N) (hn : n ≤ 56) (hi : 1 ≤ i ∧ i ≤ n) (hm : 0 ≤ m ∧ m ≤ 4) (hb : 0 ≤ b ∧ b ≤ 32768) : Tq 286 0 [vR 22 0, vI f, vI i, vI n, vI m, vI b, vJ] [] N Q ↔ Q (.inl (some (vI (fitv a i m n b)))) N := by
  unfold fitv
  rw [t286_0, m286_1 hS hn hi hm hb m.toNat 0 (by omega) (by omega) (by omega), Int.add_zero]
/-- the code at i -/
def cdE (a : Int → Int) (n i : Int) : Int := if i = n then 0 else if fitv a i 4 n 128 = 0 then (if fitv a i 2 n 32768 = 0 then 3 else 2) else 1
theorem cdE_rng : 0 ≤ cdE a n i ∧ cdE a n i ≤ 3 := by unfold cdE; split <;> (try split) <;> (try split) <;> omega
theorem cdE_fit (h : i ≤ n) : i + mny (cdE a n i) ≤ n := by
  have m1 : mny 1 = 4 := rfl
  have m2 : mny 2 = 2 := rfl
  have m3 : mny 3 = 1 := rfl
  have m0 : mny 0 = 0 := rfl
  unfold cdE
  by_cases c0 : i = n
  · rw [if_pos c0]; omega
  · rw [if_neg c0]
    by_cases c1 : fitv a i 4 n 128 = 0
    · rw [if_pos c1]
      by_cases c2 : fitv a i 2 n 32768 = 0
      · rw [if_pos c2]; omega
      · rw [if_neg c2, m2]
        unfold fitv at c2
        by_cases q : i + 2 ≤ n
        · exact q
        · rw [if_neg q] at c2; omega
    · rw [if_neg c1, m1]
      unfold fitv at c1
      by_cases q : i + 4 ≤ n
      · exact q
      · rw [if_neg q] at c1; omega
/-- one step as bytes -/
def stE (a : Int → Int) (c k : Int) : List Int := if c = 1 then [w8 (dfa a k)] else if c = 2 then be2 (dfa a k) else be4 (dfa a k)
/-- the bytes of j steps from i on -/
def bsE (a : Int → Int) (c i : Int) : Nat → List Int
  | 0 => []
  | j + 1 => bsE a c i j ++ stE a c (i + j)
theorem stE_len {k : Int} : ((stE a c k).length : Int) = wid c := by
  unfold stE wid
  split
  · rfl
  · split <;> rfl
theorem bsE_len : ∀ j : Nat, ((bsE a c i j).length : Int) = wid c * j
  | 0 => by simp [bsE]
  | j + 1 => by
    unfold bsE
    rw [List.length_append, Int.natCast_add, bsE_len j, stE_len, show ((j + 1 : Nat) : Int) = j + 1 by omega, Int.mul_add, Int.mul_one]
/-- a code's steps are written -/
theorem enc_C {L : List Int} {g w k : Int} (hS : SmC a n M) (h0 : M 13 0 1 = 0) (hn : n ≤ 56) (hi : 1 ≤ i) (hin : i + mny c ≤ n) (hc : 0 ≤ c ∧ c ≤ 3) (hL : (L.length : Int) + wid c * mny c ≤ 400) : ∀ (d j : Nat), (j : Int) + d = mny c → (Tq 133 7 [vR 15 0, vR 13 0, vI n, vI (i + j), vI g, vI w, vI k, vI c, vI j, vJ] [] (bapp M 0 (L ++ bsE a c i j)) Q ↔ Tq 133 11 [vR 15 0, vR 13 0, vI n, vI (i + mny c), vI g, vI w, vI k, vJ, vJ, vJ] [] (bapp M 0 (L ++ bsE a c i (mny c).toNat)) Q) := by
  have hw1 : 1 ≤ wid c ∧ wid c ≤ 4 := by unfold wid; split <;> (try split) <;> omega
  intro d
  induction d with
  | zero =>
    intro j hj
    rw [t133_7, m127, kI_v, if_pos (by omega), show (mny c).toNat = j by omega, show mny c = j by omega]
  | succ d ih =>
    intro j hj
    have hm : mny c ≤ 4 := by unfold mny; split <;> (try split) <;> (try split) <;> omega
    have e1 : wid c * j + wid c ≤ wid c * mny c := by
      rw [show wid c * j + wid c = wid c * (j + 1) by rw [Int.mul_add, Int.mul_one]]
      exact Int.mul_le_mul_of_nonneg_left (by omega) (by omega)
    have e0 : 0 ≤ wid c * j := Int.mul_nonneg (by omega) (by omega)
    have sz : bapp M 0 (L ++ bsE a c i j) 13 0 1 = L.length + wid c * j := by rw [bapp_sz, h0, List.length_append, Int.natCast_add, bsE_len]; omega
    have hS' := SmC_bapp (L := L ++ bsE a c i j) hS
    rw [t133_7, m127, kI_v, if_neg (by omega), w32_id (z := i + j - 1) (by omega) (by omega), hS' _ (by omega) (by omega), hS' _ (by omega) (by omega)]
    have nx : ∀ Q, Tq 133 10 [vR 15 0, vR 13 0, vI n, vI (i + j), vI g, vI w, vI k, vI c, vI j, vJ] [] (bapp M 0 (L ++ bsE a c i j ++ stE a c (i + j))) Q ↔ Tq 133 7 [vR 15 0, vR 13 0, vI n, vI (i + (j + 1 : Nat)), vI g, vI w, vI k, vI c, vI (j + 1 : Nat), vJ] [] (bapp M 0 (L ++ bsE a c i (j + 1))) Q := by
      intro Q
      rw [t133_10, w32_id (z := i + j + 1) (by omega) (by omega), w32_id (z := (j : Int) + 1) (by omega) (by omega), List.append_assoc, show i + ((j + 1 : Nat) : Int) = i + j + 1 by omega]
      rfl
    refine andi (by omega) (andi (by omega) ?_)
    rw [← ih (j + 1) (by omega), ← nx]
    show (if ¬ c = 1 then Tq 133 8 [vR 15 0, vR 13 0, vI n, vI (i + j), vI g, vI w, vI k, vI c, vI j, vI (dfa a (i + j))] [] _ Q else Tq 113 0 [vR 13 0, vI (dfa a (i + j))] [] _ _) ↔ _
    by_cases c1 : c = 1
    · rw [if_neg (by simpa using c1), m113 (by omega) (by rw [sz, bLen_0]; omega), kV_v, bapp_app]
      unfold stE
      rw [if_pos c1]
    · rw [if_pos c1, t133_8]
      by_cases c2 : c = 2
      · have w2 : wid c = 2 := by rw [c2]; rfl
        rw [if_neg (by simpa using c2), m112 (by omega) (by rw [sz, bLen_0]; omega), kV_v, bapp_app]
        unfold stE
        rw [if_neg c1, if_pos c2]
      · have w4 : wid c = 4 := by unfold wid; rw [if_neg c1, if_neg c2]
        rw [if_pos c2, t133_9, m111 (by omega) (by rw [sz, bLen_0]; omega), kV_v, bapp_app]
        unfold stE
        rw [if_neg c1, if_neg c2]
theorem enc_M {L : List Int} {f p g w k : Int} (hS : SmM a n f N) (hn : n ≤ 56) (hi : 1 ≤ i) (hin : i + mny c ≤ n) (hc : 1 ≤ c ∧ c ≤ 3) (hp : p = 8 + L.length) (hL : p + wid c * mny c ≤ 400) : ∀ (d j : Nat), (j : Int) + d = mny c → (Tq 285 11 [vR 22 0, vI f, vI n, vI p, vI (i + j), vI g, vI w, vI k, vI c, vI (mny c), vI j, vJ] [] (movl N 22099 8 8 (L ++ bsE a c i j)) Q ↔ Tq 285 15 [vR 22 0, vI f, vI n, vI p, vI (i + mny c), vI g, vI w, vI k, vI c, vJ, vJ, vJ] [] (movl N 22099 8 8 (L ++ bsE a c i (mny c).toNat)) Q) := by
  have hw1 : 1 ≤ wid c ∧ wid c ≤ 4 := by unfold wid; split <;> (try split) <;> omega
  intro d
  induction d with
  | zero =>
    intro j hj
    rw [t285_11, if_pos (by omega), show (mny c).toNat = j by omega, show mny c = j by omega]
  | succ d ih =>
    intro j hj
    have hm : mny c ≤ 4 := by unfold mny; split <;> (try split) <;> (try split) <;> omega
    have e1 : wid c * j + wid c ≤ wid c * mny c := by
      rw [show wid c * j + wid c = wid c * (j + 1) by rw [Int.mul_add, Int.mul_one]]
      exact Int.mul_le_mul_of_nonneg_left (by omega) (by omega)
    have e0 : 0 ≤ wid c * j := Int.mul_nonneg (by omega) (by omega)
    have ll : (((L ++ bsE a c i j).length : Nat) : Int) = L.length + wid c * j := by rw [List.length_append, Int.natCast_add, bsE_len]
    have hS' := SmM_movl (p := 8) (L := L ++ bsE a c i j) hS
    obtain ⟨s1, s2, s3⟩ := hS'
    rw [t285_11, if_neg (by omega), w32_id (z := f + (i + j)) (by omega) (by omega), w32_id (z := f + (i + j) - 1) (by omega) (by omega), show f + (i + (j : Int)) - 1 = f + (i + j - 1) by omega, s3 _ (by omega) (by omega), s3 _ (by omega) (by omega)]
    have nx : ∀ Q, Tq 285 14 [vR 22 0, vI f, vI n, vI p, vI (i + j), vI g, vI w, vI k, vI c, vI (mny c), vI j, vJ] [] (movl N 22099 8 8 (L ++ bsE a c i j ++ stE a c (i + j))) Q ↔ Tq 285 11 [vR 22 0, vI f, vI n, vI p, vI (i + (j + 1 : Nat)), vI g, vI w, vI k, vI c, vI (mny c), vI (j + 1 : Nat), vJ] [] (movl N 22099 8 8 (L ++ bsE a c i (j + 1))) Q := by
      intro Q
      rw [t285_14, w32_id (z := i + j + 1) (by omega) (by omega), w32_id (z := (j : Int) + 1) (by omega) (by omega), List.append_assoc, show i + ((j + 1 : Nat) : Int) = i + j + 1 by omega]
      rfl
    refine andi (by omega) (andi (by omega) ?_)
    rw [← ih (j + 1) (by omega), ← nx]
    show (if ¬ c = 1 then Tq 285 12 [vR 22 0, vI f, vI n, vI p, vI (i + j), vI g, vI w, vI k, vI c, vI (mny c), vI j, vI (dfa a (i + j))] [] _ Q else _ ∧ bd (mset _ 22099 8 _ (w8 (w8 (dfa a (i + j))))) _) ↔ _
    rcases (show c = 1 ∨ c = 2 ∨ c = 3 by omega) with rfl | rfl | rfl
    · have w1 : wid 1 = 1 := rfl
      rw [w1] at e0 e1 ll hL
      rw [if_neg (by decide), w32_id (z := p + j) (by omega) (by omega), bd_e, w8_w8, mset_app (by rw [ll]; omega)]
      exact andi (by omega) Iff.rfl
    · have w2 : wid 2 = 2 := rfl
      rw [w2] at e0 e1 ll hL
      rw [if_pos (by decide), t285_12, if_neg (by decide), w32_id (z := 2 * (j : Int)) (by omega) (by omega), w32_id (z := p + 2 * j) (by omega) (by omega), m186_row (by omega) (by omega), kV_v, movl_app (by rw [ll]; omega)]
      rfl
    · have m3 : mny 3 = 1 := rfl
      have w3 : wid 3 = 4 := rfl
      rw [w3] at e0 e1 ll hL
      rw [m3] at hj e1 hL
      have j0 : j = 0 := by omega
      subst j0
      rw [if_pos (by decide), t285_12, if_pos (by decide), t285_13, m185_row (by omega) (by omega), kV_v, movl_app (by rw [ll]; omega)]
      rfl
end Enc
