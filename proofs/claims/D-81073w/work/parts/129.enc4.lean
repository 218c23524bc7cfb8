/-! RECORDS WRITTEN: packed, the model's -/
theorem w8_cg {a b : Int} (h : a % 256 = b % 256) : w8 a = w8 b := by
  unfold w8
  rw [← Int.emod_bmod a 256, ← Int.emod_bmod b 256]
  show Int.bmod (a % 256) 256 = Int.bmod (b % 256) 256
  rw [h]
theorem or_byte {X y : Int} {s : Nat} (hs : s ≤ 8) (hX : 0 ≤ X ∧ X < 256) (hXs : X % 2 ^ s = 0) (hy : 0 ≤ y ∧ y < 2 ^ s) : w8 (or32 (w8 X) y) = w8 (X + y) := by
  have hp := pow_256 hs
  have r8 := w8_rng X
  have m8 := w8_mod X
  rw [u32_or, w8_w32]
  refine w8_cg ?_
  have e2 : (y % 4294967296).toNat = y.toNat := by omega
  rw [e2]
  have e1 : ((w8 X % 4294967296).toNat ||| y.toNat) % 2 ^ 8 = X.toNat ||| y.toNat := by
    rw [Nat.or_mod_two_pow]
    have a1 : (w8 X % 4294967296).toNat % 2 ^ 8 = X.toNat := by
      show (w8 X % 4294967296).toNat % 256 = X.toNat
      omega
    have a2 : y.toNat % 2 ^ 8 = y.toNat := by
      show y.toNat % 256 = y.toNat
      omega
    rw [a1, a2]
  have e0 : ((2 : Int) ^ s) = ((2 ^ s : Nat) : Int) := by rw [Int.natCast_pow]; rfl
  have e3 : X.toNat ||| y.toNat = X.toNat + y.toNat := by
    rw [e0] at hXs hy
    have hd : (2 ^ s : Nat) ∣ X.toNat := by
      refine Nat.dvd_of_mod_eq_zero ?_
      have := hXs
      obtain ⟨x, rfl⟩ := Int.eq_ofNat_of_zero_le hX.1
      rw [Int.toNat_natCast]
      exact Int.ofNat.inj this
    obtain ⟨c, hc⟩ := hd
    rw [hc]
    exact (Nat.two_pow_add_eq_or_of_lt (by omega) c).symm
  have e4 : ((((w8 X % 4294967296).toNat ||| y.toNat : Nat) : Int)) % 256 = ((((w8 X % 4294967296).toNat ||| y.toNat) % 2 ^ 8 : Nat) : Int) := by
    rw [Int.natCast_emod]
    rfl
  rw [e4, e1, e3]
  omega
theorem ovl_upd {g : Int → Int} {a v : Int} {L L' : List Int} {j : Nat} (hl : L'.length = L.length) (hj : j < L.length) (h : ∀ i : Nat, i < L.length → L'.getD i 0 = if i = j then v else L.getD i 0) : fup (ovl g a L) (a + j) v = ovl g a L' := by
  funext k
  rw [fup_at]
  by_cases c : k < a ∨ a + L.length ≤ k
  · rw [if_neg (by omega), ovl_out c, ovl_out (by omega)]
  · rw [ovl_in (L := L') (by omega) (by omega), h (k - a).toNat (by omega)]
    by_cases e : k = a + j
    · rw [if_pos e, if_pos (by omega)]
    · rw [if_neg e, if_neg (by omega), ovl_in (by omega) (by omega)]
theorem row_upd {N : Mem} {x v : Int} {E j : Nat} {f : Int → Int} (hj : j < E) : mset (movl N 22099 8 8 (x :: row f 0 E)) 22099 8 (9 + j) v = movl N 22099 8 8 (x :: row (fup f j v) 0 E) := by
  unfold movl
  rw [mset_mrow, show 9 + (j : Int) = 8 + ((j + 1 : Nat) : Int) by omega]
  rw [ovl_upd (L' := x :: row (fup f j v) 0 E) (by rw [List.length_cons, List.length_cons, row_len, row_len]) (by rw [List.length_cons, row_len]; omega)]
  intro i hi
  rw [List.length_cons, row_len] at hi
  rcases i with _ | i
  · rw [if_neg (by omega), List.getD_cons_zero, List.getD_cons_zero]
  · rw [List.getD_cons_succ, List.getD_cons_succ, row_get _ _ (by omega), row_get _ _ (by omega), Int.zero_add, fup_at]
    by_cases e : i = j
    · rw [if_pos (by omega), if_pos (by omega)]
    · rw [if_neg (by omega), if_neg (by omega)]
theorem row_cg {f g : Int → Int} {a : Int} : ∀ n : Nat, (∀ k : Int, a ≤ k → k < a + n → f k = g k) → row f a n = row g a n
  | 0, _ => rfl
  | n + 1, h => by
    unfold row
    rw [row_cg n (fun k h1 h2 => h k h1 (by omega)), h (a + n) (by omega) (by omega)]
section Enc4
variable {M N : Mem} {Q : AR → Mem → Prop} {a : Int → Int} {n w : Int}
/-- the bits so far -/
def bT (a : Int → Int) (n w t q : Int) : Int := if q < t then bP a n w q else 0
theorem bT_01 {t q : Int} : bT a n w t q = 0 ∨ bT a n w t q = 1 := by
  unfold bT
  split
  · exact bP_01
  · exact Or.inl rfl
theorem bT_add {j t : Int} {r : Nat} (hr : r < 8) (ht : t = 8 * j + r) : bw (bT a n w (t + 1)) (8 * j) 8 = bw (bT a n w t) (8 * j) 8 + bP a n w t * 2 ^ (7 - r) ∧ bw (bT a n w t) (8 * j) 8 = bw (bT a n w t) (8 * j) r * 2 ^ (8 - r) := by
  have e : ∀ T : Int, t ≤ T → T ≤ t + 1 → bw (bT a n w T) (8 * j) 8 = (2 * bw (bT a n w t) (8 * j) r + bT a n w T t) * 2 ^ (7 - r) := by
    intro T h1 h2
    have : bw (bT a n w T) (8 * j) (r + 1 + (7 - r)) = bw (bT a n w T) (8 * j) (r + 1) * 2 ^ (7 - r) + bw (bT a n w T) (8 * j + ((r + 1 : Nat) : Int)) (7 - r) := bw_app _
    rw [show r + 1 + (7 - r) = 8 by omega] at this
    rw [this, bw_zero (7 - r) (fun q q1 q2 => by unfold bT; rw [if_neg (by omega)]), Int.add_zero, bw_s, ← ht]
    rw [bw_cg (β' := bT a n w t) r (fun q q1 q2 => by unfold bT; rw [if_pos (by omega), if_pos (by omega)])]
  have e1 := e (t + 1) (by omega) (by omega)
  have e0 := e t (by omega) (by omega)
  have b1 : bT a n w (t + 1) t = bP a n w t := if_pos (by omega)
  have b0 : bT a n w t t = 0 := if_neg (by omega)
  rw [b1] at e1
  rw [b0, Int.add_zero] at e0
  constructor
  · rw [e1, e0, Int.add_mul]
  · rw [e0, show 8 - r = (7 - r) + 1 by omega, Int.pow_succ, Int.mul_comm 2 (bw (bT a n w t) (8 * j) r), Int.mul_assoc, Int.mul_comm 2]
theorem bit_M {f k E0 : Int} {E : Nat} (hS : SmM a n f N) (hn : 1 ≤ n ∧ n ≤ 56) (hw : 1 ≤ w ∧ w ≤ 32) (hk : 0 ≤ k ∧ k < n) (hE : (E : Int) = (n * w + 7) / 8) : ∀ (d i : Nat), (i : Int) + d = w → (Tq 287 8 [vR 22 0, vI f, vI n, vI w, vI E0, vI (72 + (k * w + i)), vI k, vI (w - 1 - i)] [] (movl N 22099 8 8 (w8 w :: row (fun j => w8 (bw (bT a n w (k * w + i)) (8 * j) 8)) 0 E)) Q ↔ Tq 287 9 [vR 22 0, vI f, vI n, vI w, vI E0, vI (72 + (k * w + w)), vI k, vJ] [] (movl N 22099 8 8 (w8 w :: row (fun j => w8 (bw (bT a n w (k * w + w)) (8 * j) 8)) 0 E)) Q) := by
  have hnw : 0 ≤ n * w ∧ n * w ≤ 1792 := by
    have := Int.mul_le_mul hn.2 hw.2 (by omega) (by omega)
    have := Int.mul_nonneg (a := n) (b := w) (by omega) (by omega)
    omega
  have e1 : k * w + w ≤ n * w := by
    rw [show k * w + w = (k + 1) * w by rw [Int.add_mul, Int.one_mul]]
    exact Int.mul_le_mul_of_nonneg_right (by omega) (by omega)
  have e0 : 0 ≤ k * w := Int.mul_nonneg (by omega) (by omega)
  intro d
  induction d with
  | zero =>
    intro i hi
    rw [t287_8, if_pos (by omega), show (i : Int) = w by omega]
  | succ d ih =>
    intro i hi
    obtain ⟨s1, s2, s3⟩ := SmM_movl (p := 8) (L := w8 w :: row (fun j => w8 (bw (bT a n w (k * w + i)) (8 * j) 8)) 0 E) hS
    generalize ht : k * w + i = t
    have ht0 : 0 ≤ t ∧ t < n * w := by omega
    obtain ⟨j, hj⟩ : ∃ j : Nat, (j : Int) = t / 8 := ⟨(t / 8).toNat, by omega⟩
    obtain ⟨r, hr⟩ : ∃ r : Nat, (r : Int) = t % 8 := ⟨(t % 8).toNat, by omega⟩
    have hjE : j < E := by omega
    have hb : and32 (shr32 (a k) (w - 1 - i)) 1 = bP a n w t := by
      rw [and1, ← ht, bP_at hw.1 hk (by omega)]
      unfold shr32
      rw [show ((w - 1 - (i : Int)) % 32).toNat = (w - 1 - i).toNat by omega]
    obtain ⟨u1, u2⟩ := bT_add (a := a) (n := n) (w := w) (j := j) (t := t) (r := r) (by omega) (by omega)
    have hX := bw_rng (β := bT a n w t) (fun q => bT_01) (a := 8 * j) 8
    have hp7 : (0 : Int) < 2 ^ (7 - r) := Int.pow_pos (by decide)
    have hp7b : (2 : Int) ^ (7 - r) ≤ 256 := (pow_256 (c := 7 - r) (by omega)).2
    have h8r : (2 : Int) ^ (8 - r) = 2 ^ (7 - r) * 2 := by rw [show 8 - r = (7 - r) + 1 by omega, Int.pow_succ]
    have hbp := bP_01 (a := a) (n := n) (w := w) (q := t)
    have hby : 0 ≤ bP a n w t * 2 ^ (7 - r) ∧ bP a n w t * 2 ^ (7 - r) < 2 ^ (8 - r) := by
      rw [h8r]
      rcases hbp with q | q <;> rw [q] <;> omega
    have cell : movl N 22099 8 8 (w8 w :: row (fun j => w8 (bw (bT a n w t) (8 * j) 8)) 0 E) 22099 8 (9 + j) = w8 (bw (bT a n w t) (8 * j) 8) := by
      rw [movl_s, ovl_in (by omega) (by rw [List.length_cons, row_len]; omega), show (9 + (j : Int) - 8).toNat = j + 1 by omega, List.getD_cons_succ, row_get _ _ hjE, Int.zero_add]
    have sh : shl32 (bP a n w t) (7 - r) = bP a n w t * 2 ^ (7 - r) := by
      unfold shl32
      rw [show ((7 - (r : Int)) % 32).toNat = 7 - r by omega]
      have : (2 : Int) ^ (8 - r) ≤ 256 := (pow_256 (c := 8 - r) (by omega)).2
      exact w32_id (by omega) (by omega)
    have upd : w8 (w8 (or32 (w8 (bw (bT a n w t) (8 * j) 8)) (bP a n w t * 2 ^ (7 - r)))) = w8 (bw (bT a n w (t + 1)) (8 * j) 8) := by
      rw [w8_w8, or_byte (s := 8 - r) (by omega) (by show _ ∧ _ < (256 : Int); exact hX) (by rw [u2]; exact Int.mul_emod_left _ _) hby, u1]
    rw [ht] at s3
    rw [t287_8, if_neg (by omega), div32_nn (by omega) (by omega) (by omega), rem32_nn (by omega), show (72 + t) / 8 = 9 + (j : Int) by omega, show (72 + t) % 8 = (r : Int) by omega, w32_id (z := 7 - (r : Int)) (by omega) (by omega), w32_id (z := f + k) (by omega) (by omega), s3 k hk.1 hk.2, hb, sh, cell, upd, bd_e, w32_id (z := 72 + t + 1) (by omega) (by omega), w32_id (z := w - 1 - (i : Int) + -1) (by omega) (by omega), row_upd hjE]
    have nx := ih (i + 1) (by omega)
    have er : row (fup (fun j => w8 (bw (bT a n w t) (8 * j) 8)) j (w8 (bw (bT a n w (t + 1)) (8 * j) 8))) 0 E = row (fun j => w8 (bw (bT a n w (t + 1)) (8 * j) 8)) 0 E := by
      refine row_cg E (fun q q1 q2 => ?_)
      rw [fup_at]
      by_cases c : q = j
      · rw [if_pos c, c]
      · rw [if_neg c]
        show w8 _ = w8 _
        rw [bw_cg (β' := bT a n w (t + 1)) 8 (fun y y1 y2 => by unfold bT; by_cases cy : y < t; rw [if_pos cy, if_pos (by omega)]; rw [if_neg cy, if_neg (by omega)])]
    rw [er]
    rw [show k * w + ((i + 1 : Nat) : Int) = t + 1 by omega, show w - 1 - ((i + 1 : Nat) : Int) = w - 1 - i + -1 by omega, ← Int.add_assoc 72] at nx
    exact andi (by decide) (andi (by omega) (andi (by omega) (andi (by decide) (andi (by omega) nx))))
theorem pack_M {f : Int} (hS : SmM a n f N) (hn : 1 ≤ n ∧ n ≤ 56) (hw : 1 ≤ w ∧ w ≤ 32) : Tq 287 4 [vR 22 0, vI f, vI n, vI w, vJ, vJ, vJ, vJ] [] N Q ↔ Q (.inl (some (vI (8 + (w8 w :: pkB a n w ((n * w + 7) / 8).toNat).length)))) (movl N 22099 8 8 (w8 w :: pkB a n w ((n * w + 7) / 8).toNat)) := by
  have hnw : 0 ≤ n * w ∧ n * w ≤ 1792 := by
    have := Int.mul_le_mul hn.2 hw.2 (by omega) (by omega)
    have := Int.mul_nonneg (a := n) (b := w) (by omega) (by omega)
    omega
  obtain ⟨E, hE⟩ : ∃ E : Nat, (E : Int) = (n * w + 7) / 8 := ⟨((n * w + 7) / 8).toNat, by omega⟩
  rw [show ((n * w + 7) / 8).toNat = E by omega]
  have zero : ∀ (d i : Nat), i + d = E → (Tq 287 5 [vR 22 0, vI f, vI n, vI w, vI (9 + E), vI (9 + i), vJ, vJ] [] (movl N 22099 8 8 (w8 w :: row (fun _ => 0) 0 i)) Q ↔ Tq 287 6 [vR 22 0, vI f, vI n, vI w, vI (9 + E), vJ, vJ, vJ] [] (movl N 22099 8 8 (w8 w :: row (fun _ => 0) 0 E)) Q) := by
    intro d
    induction d with
    | zero =>
      intro i hi
      rw [t287_5, if_pos (by omega), show i = E by omega]
    | succ d ih =>
      intro i hi
      rw [t287_5, if_neg (by omega), bd_e, show w8 0 = 0 from rfl, w32_id (z := 9 + (i : Int) + 1) (by omega) (by omega), mset_app (by rw [List.length_cons, row_len]; omega)]
      have := ih (i + 1) (by omega)
      rw [show 9 + ((i + 1 : Nat) : Int) = 9 + i + 1 by omega] at this
      exact andi (by omega) this
  have loop : ∀ (d k : Nat), (k : Int) + d = n → (Tq 287 7 [vR 22 0, vI f, vI n, vI w, vI (9 + E), vI (72 + k * w), vI k, vJ] [] (movl N 22099 8 8 (w8 w :: row (fun j => w8 (bw (bT a n w (k * w)) (8 * j) 8)) 0 E)) Q ↔ Tq 287 10 [vJ, vJ, vJ, vJ, vI (9 + E), vJ, vJ, vJ] [] (movl N 22099 8 8 (w8 w :: row (fun j => w8 (bw (bT a n w (n * w)) (8 * j) 8)) 0 E)) Q) := by
    intro d
    induction d with
    | zero =>
      intro k hk
      rw [t287_7, if_pos (by omega), show (k : Int) = n by omega]
    | succ d ih =>
      intro k hk
      have e1 : (k : Int) * w + w ≤ n * w := by
        rw [show (k : Int) * w + w = (k + 1) * w by rw [Int.add_mul, Int.one_mul]]
        exact Int.mul_le_mul_of_nonneg_right (by omega) (by omega)
      have bm := bit_M (Q := Q) (f := f) (k := k) (E0 := 9 + E) (E := E) hS hn hw (by omega) hE w.toNat 0 (by omega)
      rw [show ((0 : Nat) : Int) = 0 from rfl, Int.add_zero, Int.sub_zero] at bm
      have := ih (k + 1) (by omega)
      rw [show ((k + 1 : Nat) : Int) * w = k * w + w by rw [show ((k + 1 : Nat) : Int) = k + 1 by omega, Int.add_mul, Int.one_mul]] at this
      rw [t287_7, if_neg (by omega), w32_id (z := w - 1) (by omega) (by omega), bm, t287_9, w32_id (z := (k : Int) + 1) (by omega) (by omega)]
      exact this
  have z0 := zero E 0 (by omega)
  have l0 := loop n.toNat 0 (by omega)
  rw [show ((0 : Nat) : Int) = 0 from rfl, Int.add_zero, show row (fun _ : Int => (0 : Int)) 0 0 = [] from rfl] at z0
  rw [show ((0 : Nat) : Int) = 0 from rfl, Int.zero_mul, Int.add_zero] at l0
  have eb : row (fun j => w8 (bw (bT a n w 0) (8 * j) 8)) 0 E = row (fun _ => 0) 0 E := by
    refine row_cg E (fun q q1 q2 => ?_)
    show w8 _ = 0
    rw [bw_zero 8 (fun y y1 y2 => by unfold bT bP; by_cases c : y < 0; rw [if_pos c, if_neg (by omega)]; rw [if_neg c])]
    rfl
  have ee : row (fun j => w8 (bw (bT a n w (n * w)) (8 * j) 8)) 0 E = pkB a n w E := by
    refine row_cg E (fun q q1 q2 => ?_)
    show w8 _ = w8 _
    rw [bw_cg (β' := bP a n w) 8 (fun y y1 y2 => by unfold bT; by_cases c : y < n * w; rw [if_pos c]; rw [if_neg c]; unfold bP; rw [if_neg (by omega)])]
  rw [eb, ee] at l0
  rw [t287_4, w32_id (z := n * w) (by omega) (by omega), w32_id (z := n * w + 7) (by omega) (by omega), div32_nn (by omega) (by omega) (by omega), ← hE, w32_id (z := 9 + (E : Int)) (by omega) (by omega), w8_w8, bd_e, mset_movl, z0, t287_6, l0, t287_10, List.length_cons, show (pkB a n w E).length = E from row_len _, show 8 + ((E + 1 : Nat) : Int) = 9 + E by omega]
  exact andi (by decide) (andi (by decide) Iff.rfl)
end Enc4
