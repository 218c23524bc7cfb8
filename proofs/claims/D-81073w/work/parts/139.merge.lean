/-! EVENTS: merge, its plain law -/
theorem pig : ∀ (m n : Nat) (f : Nat → Nat), (∀ i, i < n → f i < m) → (∀ i j, i < j → j < n → ¬ f i = f j) → n ≤ m := by
  intro m
  induction m with
  | zero =>
    intro n f h1 _
    rcases n with _ | n
    · exact Nat.le_refl _
    · have := h1 0 (by omega)
      omega
  | succ m ih =>
    intro n f h1 h2
    by_cases c : ∃ i, i < n ∧ f i = m
    · obtain ⟨i, i1, i2⟩ := c
      have := ih (n - 1) (fun j => if j < i then f j else f (j + 1)) (fun j hj => by
        show (if j < i then f j else f (j + 1)) < m
        by_cases e : j < i
        · rw [if_pos e]
          have a := h1 j (by omega)
          have b := h2 j i e i1
          omega
        · rw [if_neg e]
          have a := h1 (j + 1) (by omega)
          have b := h2 i (j + 1) (by omega) (by omega)
          omega) (fun j k hjk hk => by
        show ¬ (if j < i then f j else f (j + 1)) = (if k < i then f k else f (k + 1))
        by_cases e1 : j < i
        · rw [if_pos e1]
          by_cases e2 : k < i
          · rw [if_pos e2]; exact h2 j k hjk (by omega)
          · rw [if_neg e2]; exact h2 j (k + 1) (by omega) (by omega)
        · rw [if_neg e1, if_neg (by omega)]
          exact h2 (j + 1) (k + 1) (by omega) (by omega))
      omega
    · have := ih n f (fun i hi => by
        have a := h1 i hi
        have b : ¬ f i = m := fun q => c ⟨i, hi, q⟩
        omega) h2
      omega
/-- whether one of the first n has a station and a phase -/
def hkG (A : Int → Int) (s p : Int) : Nat → Int
  | 0 => 0
  | k + 1 => if A (5 * k) = s ∧ A (5 * k + 2) = p then 1 else hkG A s p k
theorem hkG_spec {A : Int → Int} {s p : Int} : ∀ n : Nat, (hkG A s p n = 0 ∧ ∀ k : Nat, k < n → ¬ (A (5 * k) = s ∧ A (5 * k + 2) = p)) ∨ (hkG A s p n = 1 ∧ ∃ k : Nat, k < n ∧ A (5 * k) = s ∧ A (5 * k + 2) = p)
  | 0 => Or.inl ⟨rfl, fun k h => by omega⟩
  | n + 1 => by
    unfold hkG
    by_cases c : A (5 * n) = s ∧ A (5 * n + 2) = p
    · rw [if_pos c]
      exact Or.inr ⟨rfl, n, by omega, c.1, c.2⟩
    · rw [if_neg c]
      rcases hkG_spec (A := A) (s := s) (p := p) n with ⟨h1, h2⟩ | ⟨h1, k, k1, k2, k3⟩
      · refine Or.inl ⟨h1, fun k hk => ?_⟩
        by_cases e : k = n
        · rw [e]; exact c
        · exact h2 k (by omega)
      · exact Or.inr ⟨h1, k, by omega, k2, k3⟩
theorem hkG_cg {A A' : Int → Int} {s p : Int} {n n' : Nat} (h : (∃ k : Nat, k < n ∧ A (5 * k) = s ∧ A (5 * k + 2) = p) ↔ (∃ k : Nat, k < n' ∧ A' (5 * k) = s ∧ A' (5 * k + 2) = p)) : hkG A s p n = hkG A' s p n' := by
  rcases hkG_spec (A := A) (s := s) (p := p) n with ⟨h1, h2⟩ | ⟨h1, q⟩
  · rcases hkG_spec (A := A') (s := s) (p := p) n' with ⟨g1, g2⟩ | ⟨g1, q⟩
    · rw [h1, g1]
    · obtain ⟨k, k1, k2⟩ := h.mpr q
      exact absurd k2 (h2 k k1)
  · rcases hkG_spec (A := A') (s := s) (p := p) n' with ⟨g1, g2⟩ | ⟨g1, _⟩
    · obtain ⟨k, k1, k2⟩ := h.mp q
      exact absurd k2 (g2 k k1)
    · rw [h1, g1]
/-- which of B's arrivals go over to A's -/
def sel (A B : Int → Int) (own : Nat) : Nat → List Nat
  | 0 => []
  | k + 1 => sel A B own k ++ (if hkG A (B (5 * k)) (B (5 * k + 2)) own = 0 then [k] else [])
def arr5 (B : Int → Int) (j : Nat) : List Int := [B (5 * j), B (5 * j + 1), B (5 * j + 2), B (5 * j + 3), B (5 * j + 4)]
def mgL (A B : Int → Int) (own k : Nat) : List Int := (sel A B own k).flatMap (arr5 B)
theorem sel_mem {A B : Int → Int} {own : Nat} : ∀ (k j : Nat), j ∈ sel A B own k → j < k ∧ hkG A (B (5 * j)) (B (5 * j + 2)) own = 0
  | 0, j, h => by cases h
  | k + 1, j, h => by
    unfold sel at h
    rcases List.mem_append.mp h with h | h
    · have := sel_mem k j h
      exact ⟨by omega, this.2⟩
    · split at h
      · rename_i q
        rw [List.mem_singleton.mp h]
        exact ⟨by omega, q⟩
      · cases h
theorem sel_inc {A B : Int → Int} {own : Nat} : ∀ (k p q : Nat), p < q → q < (sel A B own k).length → (sel A B own k).getD p 0 < (sel A B own k).getD q 0
  | 0, p, q, _, h => by simp [sel] at h
  | k + 1, p, q, hpq, h => by
    unfold sel at h ⊢
    by_cases c : hkG A (B (5 * k)) (B (5 * k + 2)) own = 0
    · rw [if_pos c] at h ⊢
      rw [List.length_append] at h
      have h' : q < (sel A B own k).length + 1 := by simpa using h
      by_cases e : q < (sel A B own k).length
      · rw [List.getD_eq_getElem?_getD, List.getD_eq_getElem?_getD, List.getElem?_append_left (by omega), List.getElem?_append_left e, ← List.getD_eq_getElem?_getD, ← List.getD_eq_getElem?_getD]
        exact sel_inc k p q hpq e
      · have e2 : q = (sel A B own k).length := by omega
        have m := sel_mem k ((sel A B own k).getD p 0) (by
          rw [List.getD_eq_getElem?_getD, List.getElem?_eq_getElem (by omega)]
          exact List.getElem_mem _)
        rw [List.getD_eq_getElem?_getD, List.getElem?_append_left (by omega), ← List.getD_eq_getElem?_getD, List.getD_eq_getElem?_getD (i := q), List.getElem?_append_right (by omega), e2, Nat.sub_self]
        exact m.1
    · rw [if_neg c, List.append_nil] at h ⊢
      exact sel_inc k p q hpq h
theorem mgL_len {A B : Int → Int} {own k : Nat} : (mgL A B own k).length = 5 * (sel A B own k).length := by
  unfold mgL
  generalize sel A B own k = S
  induction S with
  | nil => rfl
  | cons j S ih =>
    rw [List.flatMap_cons, List.length_append, ih, List.length_cons]
    show 5 + _ = _
    omega
theorem fm5_get {B : Int → Int} : ∀ (S : List Nat) (q r : Nat), q < S.length → r < 5 → (S.flatMap (arr5 B)).getD (5 * q + r) 0 = B (5 * (S.getD q 0) + r)
  | [], q, r, h, _ => by simp at h
  | j :: S, 0, r, h, hr => by
    rw [List.flatMap_cons, List.getD_eq_getElem?_getD, List.getElem?_append_left (by show 5 * 0 + r < 5; omega), Nat.mul_zero, Nat.zero_add, ← List.getD_eq_getElem?_getD, List.getD_cons_zero]
    rcases (show r = 0 ∨ r = 1 ∨ r = 2 ∨ r = 3 ∨ r = 4 by omega) with rfl | rfl | rfl | rfl | rfl
    · show B (5 * j) = B (5 * j + ((0 : Nat) : Int)); rw [show 5 * (j : Int) + ((0 : Nat) : Int) = 5 * j by omega]
    all_goals rfl
  | j :: S, q + 1, r, h, hr => by
    rw [List.flatMap_cons, List.getD_eq_getElem?_getD, List.getElem?_append_right (by show 5 ≤ _; omega), show (arr5 B j).length = 5 from rfl, show 5 * (q + 1) + r - 5 = 5 * q + r by omega, ← List.getD_eq_getElem?_getD, fm5_get S q r (by simpa using h) hr, List.getD_cons_succ]
/-- the arrivals behind a merge -/
def mgA (A B : Int → Int) (own k : Nat) : Int → Int := ovl A (5 * own) (mgL A B own k)
theorem mgA_own {A B : Int → Int} {own k : Nat} {j : Int} (h : j < 5 * own) : mgA A B own k j = A j := ovl_out (Or.inl h)
theorem mgA_new {A B : Int → Int} {own k q r : Nat} (hq : q < (sel A B own k).length) (hr : r < 5) : mgA A B own k (5 * (own + q) + r) = B (5 * ((sel A B own k).getD q 0) + r) := by
  unfold mgA
  rw [ovl_in (by omega) (by rw [mgL_len]; omega), show (5 * ((own : Int) + q) + r - 5 * own).toNat = 5 * q + r by omega]
  exact fm5_get _ q r hq hr
section Mg
variable {A B : Int → Int} {own nb k : Nat} {st : Int}
/-- no two of the same kind -/
def Dst (A : Int → Int) (n : Nat) : Prop := ∀ i k : Nat, i < k → k < n → ¬ (A (5 * i) = A (5 * k) ∧ A (5 * i + 2) = A (5 * k + 2))
def OkN (A : Int → Int) (n : Nat) (st : Int) : Prop := ∀ k : Nat, k < n → OkA (A (5 * k)) (A (5 * k + 1)) (A (5 * k + 2)) (A (5 * k + 3)) (A (5 * k + 4)) st
theorem mg_at (own' : Nat) (ho : own' = own) (q : Nat) (h : q < own + (sel A B own k).length) : (q < own ∧ ∀ r : Int, 0 ≤ r → r < 5 → mgA A B own k (5 * q + r) = A (5 * q + r)) ∨ (own ≤ q ∧ q - own < (sel A B own k).length ∧ ∀ r : Int, 0 ≤ r → r < 5 → mgA A B own k (5 * q + r) = B (5 * ((sel A B own k).getD (q - own) 0) + r)) := by
  by_cases c : q < own
  · exact Or.inl ⟨c, fun r hr hr2 => mgA_own (by omega)⟩
  · refine Or.inr ⟨by omega, by omega, fun r hr hr2 => ?_⟩
    obtain ⟨u, rfl⟩ : ∃ u : Nat, r = u := ⟨r.toNat, by omega⟩
    have := mgA_new (A := A) (B := B) (own := own) (k := k) (q := q - own) (r := u) (by omega) (by omega)
    rw [show ((own : Int) + ((q - own : Nat) : Int)) = q by omega] at this
    exact this
theorem sel_at (q : Nat) (h : q < (sel A B own k).length) : (sel A B own k).getD q 0 < k ∧ hkG A (B (5 * ((sel A B own k).getD q 0))) (B (5 * ((sel A B own k).getD q 0) + 2)) own = 0 := by
  refine sel_mem k _ ?_
  rw [List.getD_eq_getElem?_getD, List.getElem?_eq_getElem h]
  exact List.getElem_mem _
theorem mg_ok (hA : OkN A own st) (hB : OkN B nb st) (hk : k ≤ nb) : OkN (mgA A B own k) (own + (sel A B own k).length) st := by
  intro q hq
  rcases mg_at own rfl q hq with ⟨c, h⟩ | ⟨c, c2, h⟩
  · have h0 := h 0 (by decide) (by decide)
    simp only [Int.add_zero] at h0
    rw [h0, h 1 (by decide) (by decide), h 2 (by decide) (by decide), h 3 (by decide) (by decide), h 4 (by decide) (by decide)]
    exact hA q c
  · have h0 := h 0 (by decide) (by decide)
    simp only [Int.add_zero] at h0
    rw [h0, h 1 (by decide) (by decide), h 2 (by decide) (by decide), h 3 (by decide) (by decide), h 4 (by decide) (by decide)]
    exact hB _ (by have := (sel_at (q - own) c2).1; omega)
theorem mg_dst (hA : Dst A own) (hB : Dst B nb) (hk : k ≤ nb) : Dst (mgA A B own k) (own + (sel A B own k).length) := by
  intro i j hij hj
  have nohk : ∀ s p : Int, hkG A s p own = 0 → ∀ u : Nat, u < own → ¬ (A (5 * u) = s ∧ A (5 * u + 2) = p) := fun s p h => by
    rcases hkG_spec (A := A) (s := s) (p := p) own with ⟨_, q⟩ | ⟨q, _⟩
    · exact q
    · omega
  rcases mg_at (A := A) (B := B) (k := k) own rfl i (by omega) with ⟨c, h⟩ | ⟨c, c2, h⟩
  · have h0 := h 0 (by decide) (by decide)
    have h2 := h 2 (by decide) (by decide)
    simp only [Int.add_zero] at h0
    rcases mg_at (A := A) (B := B) (k := k) own rfl j hj with ⟨d, g⟩ | ⟨d, d2, g⟩
    · have g0 := g 0 (by decide) (by decide)
      have g2 := g 2 (by decide) (by decide)
      simp only [Int.add_zero] at g0
      rw [h0, g0]
      rw [h2, g2]
      exact hA i j hij d
    · have g0 := g 0 (by decide) (by decide)
      have g2 := g 2 (by decide) (by decide)
      simp only [Int.add_zero] at g0
      rw [h0, g0]
      rw [h2, g2]
      exact nohk _ _ (sel_at (j - own) d2).2 i c
  · have h0 := h 0 (by decide) (by decide)
    have h2 := h 2 (by decide) (by decide)
    simp only [Int.add_zero] at h0
    rcases mg_at (A := A) (B := B) (k := k) own rfl j hj with ⟨d, g⟩ | ⟨d, d2, g⟩
    · omega
    · have g0 := g 0 (by decide) (by decide)
      have g2 := g 2 (by decide) (by decide)
      simp only [Int.add_zero] at g0
      rw [h0, g0]
      rw [h2, g2]
      exact hB _ _ (sel_inc k _ _ (by omega) d2) (by have := (sel_at (j - own) d2).1; omega)
theorem kinds_24 {n : Nat} (hst : st ≤ 12) (h1 : OkN A n st) (h2 : Dst A n) : n ≤ 24 := by
  refine pig 24 n (fun k => (2 * A (5 * k) + A (5 * k + 2)).toNat) (fun i hi => ?_) (fun i j hij hj => ?_)
  · have := h1 i hi
    unfold OkA at this
    show (2 * A (5 * i) + A (5 * i + 2)).toNat < 24
    omega
  · have a := h1 i (by omega)
    have b := h1 j hj
    have c := h2 i j hij hj
    unfold OkA at a b
    show ¬ (2 * A (5 * i) + A (5 * i + 2)).toNat = (2 * A (5 * j) + A (5 * j + 2)).toNat
    omega
theorem sel_bd (hst : st ≤ 12) (hA : OkN A own st) (dA : Dst A own) (hB : OkN B nb st) (dB : Dst B nb) (hk : k ≤ nb) : own + (sel A B own k).length ≤ 24 := kinds_24 hst (mg_ok hA hB hk) (mg_dst dA dB hk)
/-- asking the ones so far is asking the own ones -/
theorem has_own (dB : Dst B nb) (hk : k < nb) : hkG (mgA A B own k) (B (5 * k)) (B (5 * k + 2)) (own + (sel A B own k).length) = hkG A (B (5 * k)) (B (5 * k + 2)) own := by
  refine hkG_cg ⟨?_, ?_⟩
  · rintro ⟨q, q1, q2, q3⟩
    rcases mg_at own rfl q q1 with ⟨c, h⟩ | ⟨c, c2, h⟩
    · have h0 := h 0 (by decide) (by decide)
      have h2 := h 2 (by decide) (by decide)
      simp only [Int.add_zero] at h0
      exact ⟨q, c, by rw [← h0]; exact q2, by rw [← q3]; exact h2.symm⟩
    · have h0 := h 0 (by decide) (by decide)
      have h2 := h 2 (by decide) (by decide)
      simp only [Int.add_zero] at h0
      have sm := (sel_at (A := A) (B := B) (q - own) c2).1
      refine absurd ⟨?_, ?_⟩ (dB _ k sm hk)
      · rw [← h0]; exact q2
      · rw [← q3]; exact h2.symm
  · rintro ⟨q, q1, q2, q3⟩
    exact ⟨q, by omega, by rw [mgA_own (by omega)]; exact q2, by rw [mgA_own (by omega)]; exact q3⟩
end Mg
