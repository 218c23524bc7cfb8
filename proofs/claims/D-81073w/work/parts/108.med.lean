/-! THE LOCATOR'S PLAIN LAW: sums of weighted distances to spans -/
/-- the sum over the first n -/
def sm (f : Int → Int) : Nat → Int
  | 0 => 0
  | n + 1 => sm f n + f n
theorem sm_le {f g : Int → Int} : ∀ n : Nat, (∀ k : Int, 0 ≤ k → k < n → f k ≤ g k) → sm f n ≤ sm g n
  | 0, _ => Int.le_refl _
  | n + 1, h => by
    have := sm_le n (fun k h1 h2 => h k h1 (by omega))
    have := h n (by omega) (by omega)
    unfold sm
    omega
theorem sm_cg {f g : Int → Int} (n : Nat) (h : ∀ k : Int, 0 ≤ k → k < n → f k = g k) : sm f n = sm g n := by
  have a := sm_le n (fun k h1 h2 => Int.le_of_eq (h k h1 h2))
  have b := sm_le n (fun k h1 h2 => Int.le_of_eq (h k h1 h2).symm)
  omega
theorem sm_nn {f : Int → Int} (n : Nat) (h : ∀ k : Int, 0 ≤ k → k < n → 0 ≤ f k) : 0 ≤ sm f n := by
  induction n with
  | zero => exact Int.le_refl _
  | succ n ih =>
    have := ih (fun k h1 h2 => h k h1 (by omega))
    have := h n (by omega) (by omega)
    unfold sm
    omega
theorem sm_mul {f : Int → Int} {c : Int} : ∀ n : Nat, sm (fun k => f k * c) n = sm f n * c
  | 0 => by simp [sm]
  | n + 1 => by
    unfold sm
    rw [sm_mul n, Int.add_mul]
theorem sm_add {f g : Int → Int} : ∀ n : Nat, sm (fun k => f k + g k) n = sm f n + sm g n
  | 0 => rfl
  | n + 1 => by
    unfold sm
    rw [sm_add n]
    omega
theorem sm_sub {f g : Int → Int} : ∀ n : Nat, sm (fun k => f k - g k) n = sm f n - sm g n
  | 0 => rfl
  | n + 1 => by
    unfold sm
    rw [sm_sub n]
    omega
theorem sm_bd {f : Int → Int} {c : Int} : ∀ n : Nat, (∀ k : Int, 0 ≤ k → k < n → f k ≤ c) → sm f n ≤ n * c
  | 0, _ => by simp [sm]
  | n + 1, h => by
    have := sm_bd n (fun k h1 h2 => h k h1 (by omega))
    have := h n (by omega) (by omega)
    unfold sm
    rw [show ((n + 1 : Nat) : Int) * c = n * c + c by rw [Int.natCast_add, Int.add_mul]; simp]
    omega
/-- how far a time is off a span -/
def ofs (l h t : Int) : Int := max 0 (max (l - t) (t - h))
def offW (w l h : Int → Int) (n : Nat) (t : Int) : Int := sm (fun k => w k * ofs (l k) (h k) t) n
/-- between two ends that have none between them the distance is even -/
theorem ofs_mid {l h t a b : Int} (h1 : a ≤ t) (h2 : t ≤ b) (hlh : l ≤ h) (hl : l ≤ a ∨ b ≤ l) (hh : h ≤ a ∨ b ≤ h) : ofs l h a * (b - t) + ofs l h b * (t - a) = ofs l h t * (b - a) := by
  unfold ofs
  rcases hl with hl | hl
  · rcases hh with hh | hh
    · rw [show max 0 (max (l - a) (a - h)) = a - h by omega, show max 0 (max (l - b) (b - h)) = b - h by omega, show max 0 (max (l - t) (t - h)) = t - h by omega]
      obtain ⟨x, rfl⟩ : ∃ x, t = a + x := ⟨t - a, by omega⟩
      obtain ⟨y, rfl⟩ : ∃ y, b = a + x + y := ⟨b - (a + x), by omega⟩
      obtain ⟨z, rfl⟩ : ∃ z, h = a - z := ⟨a - h, by omega⟩
      rw [show a - (a - z) = z by omega, show a + x + y - (a + x) = y by omega, show a + x + y - (a - z) = z + x + y by omega, show a + x - a = x by omega, show a + x - (a - z) = z + x by omega, show a + x + y - a = x + y by omega]
      rw [Int.add_mul, Int.add_mul, Int.add_mul, Int.mul_add, Int.mul_add, Int.mul_comm y x]
      omega
    · rw [show max 0 (max (l - a) (a - h)) = 0 by omega, show max 0 (max (l - b) (b - h)) = 0 by omega, show max 0 (max (l - t) (t - h)) = 0 by omega]
      simp
  · rw [show max 0 (max (l - a) (a - h)) = l - a by omega, show max 0 (max (l - b) (b - h)) = l - b by omega, show max 0 (max (l - t) (t - h)) = l - t by omega]
    obtain ⟨x, rfl⟩ : ∃ x, t = a + x := ⟨t - a, by omega⟩
    obtain ⟨y, rfl⟩ : ∃ y, b = a + x + y := ⟨b - (a + x), by omega⟩
    obtain ⟨z, rfl⟩ : ∃ z, l = a + x + y + z := ⟨l - (a + x + y), by omega⟩
    rw [show a + x + y + z - a = x + y + z by omega, show a + x + y - (a + x) = y by omega, show a + x + y + z - (a + x + y) = z by omega, show a + x - a = x by omega, show a + x + y + z - (a + x) = y + z by omega, show a + x + y - a = x + y by omega]
    rw [Int.add_mul, Int.add_mul, Int.add_mul, Int.mul_add, Int.mul_add, Int.mul_comm y x]
    omega
/-- the greatest of the ends up to a time, or none -/
theorem ends_below {n : Nat} {l h : Int → Int} {t : Int} : (∀ k : Int, 0 ≤ k → k < n → t < l k ∧ t < h k) ∨ ∃ a, a ≤ t ∧ (∃ j : Int, 0 ≤ j ∧ j < n ∧ (a = l j ∨ a = h j)) ∧ ∀ k : Int, 0 ≤ k → k < n → (l k ≤ a ∨ t < l k) ∧ (h k ≤ a ∨ t < h k) := by
  induction n with
  | zero => exact Or.inl (fun k h1 h2 => by omega)
  | succ n ih =>
    rcases ih with ih | ⟨a, a1, ⟨j, j1, j2, j3⟩, a2⟩
    · by_cases c1 : l n ≤ t
      · by_cases c2 : h n ≤ t
        · refine Or.inr ⟨max (l n) (h n), by omega, ⟨n, by omega, by omega, by omega⟩, fun k k1 k2 => ?_⟩
          by_cases e : k = n
          · subst e; omega
          · have := ih k k1 (by omega); omega
        · refine Or.inr ⟨l n, by omega, ⟨n, by omega, by omega, by omega⟩, fun k k1 k2 => ?_⟩
          by_cases e : k = n
          · subst e; omega
          · have := ih k k1 (by omega); omega
      · by_cases c2 : h n ≤ t
        · refine Or.inr ⟨h n, by omega, ⟨n, by omega, by omega, by omega⟩, fun k k1 k2 => ?_⟩
          by_cases e : k = n
          · subst e; omega
          · have := ih k k1 (by omega); omega
        · refine Or.inl (fun k k1 k2 => ?_)
          by_cases e : k = n
          · subst e; omega
          · have := ih k k1 (by omega); omega
    · right
      have key : ∀ a', a ≤ a' → a' ≤ t → (l n ≤ a' ∨ t < l n) → (h n ≤ a' ∨ t < h n) → (a' = a ∨ a' = l n ∨ a' = h n) → ∃ a, a ≤ t ∧ (∃ j : Int, 0 ≤ j ∧ j < (n + 1 : Nat) ∧ (a = l j ∨ a = h j)) ∧ ∀ k : Int, 0 ≤ k → k < (n + 1 : Nat) → (l k ≤ a ∨ t < l k) ∧ (h k ≤ a ∨ t < h k) := by
        intro a' b1 b2 b3 b4 b5
        refine ⟨a', b2, ?_, fun k k1 k2 => ?_⟩
        · rcases b5 with e | e | e
          · exact ⟨j, j1, by omega, by rw [e]; exact j3⟩
          · exact ⟨n, by omega, by omega, Or.inl e⟩
          · exact ⟨n, by omega, by omega, Or.inr e⟩
        · by_cases e : k = n
          · subst e; exact ⟨b3, b4⟩
          · have := a2 k k1 (by omega); omega
      by_cases c1 : l n ≤ t
      · by_cases c2 : h n ≤ t
        · exact key (max a (max (l n) (h n))) (by omega) (by omega) (by omega) (by omega) (by omega)
        · exact key (max a (l n)) (by omega) (by omega) (by omega) (by omega) (by omega)
      · by_cases c2 : h n ≤ t
        · exact key (max a (h n)) (by omega) (by omega) (by omega) (by omega) (by omega)
        · exact key a (by omega) (by omega) (by omega) (by omega) (by omega)
theorem ends_above {n : Nat} {l h : Int → Int} {t : Int} : (∀ k : Int, 0 ≤ k → k < n → l k < t ∧ h k < t) ∨ ∃ a, t ≤ a ∧ (∃ j : Int, 0 ≤ j ∧ j < n ∧ (a = l j ∨ a = h j)) ∧ ∀ k : Int, 0 ≤ k → k < n → (a ≤ l k ∨ l k < t) ∧ (a ≤ h k ∨ h k < t) := by
  rcases ends_below (n := n) (l := fun k => - l k) (h := fun k => - h k) (t := -t) with q | ⟨a, a1, ⟨j, j1, j2, j3⟩, a2⟩
  · exact Or.inl (fun k k1 k2 => by have := q k k1 k2; omega)
  · exact Or.inr ⟨-a, by omega, ⟨j, j1, j2, by omega⟩, fun k k1 k2 => by have := a2 k k1 k2; omega⟩
/-- the least sum is had at an end -/
theorem off_end {n : Nat} {w l h : Int → Int} (hn : 0 < n) (hw : ∀ k : Int, 0 ≤ k → k < n → 0 ≤ w k ∧ l k ≤ h k) (t : Int) : ∃ j : Int, 0 ≤ j ∧ j < n ∧ (offW w l h n (l j) ≤ offW w l h n t ∨ offW w l h n (h j) ≤ offW w l h n t) := by
  have mono : ∀ a, (∀ k : Int, 0 ≤ k → k < n → ofs (l k) (h k) a ≤ ofs (l k) (h k) t) → offW w l h n a ≤ offW w l h n t := fun a ha =>
    sm_le n (fun k k1 k2 => Int.mul_le_mul_of_nonneg_left (ha k k1 k2) (hw k k1 k2).1)
  rcases ends_below (n := n) (l := l) (h := h) (t := t) with q | ⟨a, a1, ⟨i, i1, i2, i3⟩, a2⟩
  · rcases ends_above (n := n) (l := l) (h := h) (t := t) with q' | ⟨b, b1, ⟨j, j1, j2, j3⟩, b2⟩
    · have := q 0 (by omega) (by omega)
      have := q' 0 (by omega) (by omega)
      omega
    · refine ⟨j, j1, j2, ?_⟩
      have := mono b (fun k k1 k2 => by have := q k k1 k2; have := b2 k k1 k2; have := hw k k1 k2; unfold ofs; omega)
      rcases j3 with e | e
      · rw [← e]; exact Or.inl this
      · rw [← e]; exact Or.inr this
  · rcases ends_above (n := n) (l := l) (h := h) (t := t) with q' | ⟨b, b1, ⟨j, j1, j2, j3⟩, b2⟩
    · refine ⟨i, i1, i2, ?_⟩
      have := mono a (fun k k1 k2 => by have := q' k k1 k2; have := a2 k k1 k2; have := hw k k1 k2; unfold ofs; omega)
      rcases i3 with e | e
      · rw [← e]; exact Or.inl this
      · rw [← e]; exact Or.inr this
    · have ev : offW w l h n a * (b - t) + offW w l h n b * (t - a) = offW w l h n t * (b - a) := by
        unfold offW
        rw [← sm_mul, ← sm_mul, ← sm_mul, ← sm_add]
        refine sm_cg n (fun k k1 k2 => ?_)
        have := ofs_mid (l := l k) (h := h k) a1 b1 (hw k k1 k2).2 (by have := a2 k k1 k2; have := b2 k k1 k2; omega) (by have := a2 k k1 k2; have := b2 k k1 k2; omega)
        show w k * ofs (l k) (h k) a * (b - t) + w k * ofs (l k) (h k) b * (t - a) = w k * ofs (l k) (h k) t * (b - a)
        rw [Int.mul_assoc, Int.mul_assoc, Int.mul_assoc, ← Int.mul_add, this]
      by_cases c : offW w l h n a ≤ offW w l h n t
      · refine ⟨i, i1, i2, ?_⟩
        rcases i3 with e | e
        · rw [← e]; exact Or.inl c
        · rw [← e]; exact Or.inr c
      · by_cases c' : offW w l h n b ≤ offW w l h n t
        · refine ⟨j, j1, j2, ?_⟩
          rcases j3 with e | e
          · rw [← e]; exact Or.inl c'
          · rw [← e]; exact Or.inr c'
        · exfalso
          by_cases ht : t = a
          · subst ht; omega
          · have m1 : (offW w l h n t + 1) * (b - t) ≤ offW w l h n a * (b - t) := Int.mul_le_mul_of_nonneg_right (by omega) (by omega)
            have m2 : (offW w l h n t + 1) * (t - a) ≤ offW w l h n b * (t - a) := Int.mul_le_mul_of_nonneg_right (by omega) (by omega)
            have m3 : (offW w l h n t + 1) * (b - t) + (offW w l h n t + 1) * (t - a) = (offW w l h n t + 1) * (b - a) := by
              rw [← Int.mul_add, show b - t + (t - a) = b - a by omega]
            rw [Int.add_mul (offW w l h n t) 1 (b - a), Int.one_mul] at m3
            omega
theorem sm_cut {f : Int → Int} {m : Nat} : ∀ n : Nat, m ≤ n → sm (fun k => if k < m then f k else 0) n = sm f m := by
  intro n
  induction n with
  | zero =>
    intro h
    rw [show m = 0 by omega]
    rfl
  | succ n ih =>
    intro h
    by_cases e : m = n + 1
    · subst e
      exact sm_cg _ (fun k k1 k2 => if_pos k2)
    · have := ih (by omega)
      unfold sm
      rw [this, if_neg (by omega), Int.add_zero]
      rcases m with _ | m
      · rfl
      · rfl
theorem med_ge {n m : Nat} {T W : Int → Int} {t : Int} (hs : ∀ i j : Int, 0 ≤ i → i ≤ j → j < n → T i ≤ T j) (hw : ∀ k : Int, 0 ≤ k → k < n → 0 ≤ W k) (hm : m < n) (h2 : sm W n ≤ 2 * sm W (m + 1)) (ht : T m ≤ t) : offW W T T n (T m) ≤ offW W T T n t := by
  have e1 : sm (fun k => W k * ofs (T k) (T k) (T m) + (2 * (if k < (m + 1 : Nat) then W k else 0) - W k) * (t - T m)) n ≤ offW W T T n t := by
    refine sm_le n (fun k k1 k2 => ?_)
    by_cases c : k < (m + 1 : Nat)
    · rw [if_pos c]
      have := hs k m k1 (by omega) (by omega)
      have e : ofs (T k) (T k) t = ofs (T k) (T k) (T m) + (t - T m) := by unfold ofs; omega
      rw [e, Int.mul_add, show 2 * W k - W k = W k by omega]
      exact Int.le_refl _
    · rw [if_neg c]
      have := hs m k (by omega) (by omega) k2
      have e : ofs (T k) (T k) (T m) - (t - T m) ≤ ofs (T k) (T k) t := by unfold ofs; omega
      have := Int.mul_le_mul_of_nonneg_left e (hw k k1 k2)
      rw [Int.mul_sub] at this
      rw [show 2 * 0 - W k = - W k by omega, Int.neg_mul]
      omega
  rw [sm_add, sm_mul, sm_sub] at e1
  have e2 : sm (fun k => 2 * (if k < (m + 1 : Nat) then W k else 0)) n = sm W (m + 1) * 2 := by
    rw [← sm_cut (f := W) (m := m + 1) n (by omega), ← sm_mul]
    exact sm_cg n (fun k _ _ => Int.mul_comm _ _)
  rw [e2] at e1
  have : 0 ≤ (sm W (m + 1) * 2 - sm W n) * (t - T m) := Int.mul_nonneg (by omega) (by omega)
  have e3 : offW W T T n (T m) = sm (fun k => W k * ofs (T k) (T k) (T m)) n := rfl
  omega
theorem med_lt {n m : Nat} {T W : Int → Int} {t : Int} (hs : ∀ i j : Int, 0 ≤ i → i ≤ j → j < n → T i ≤ T j) (hw : ∀ k : Int, 0 ≤ k → k < n → 0 ≤ W k) (hm : m < n) (h2 : 2 * sm W m < sm W n) (ht : t < T m) : offW W T T n (T m) < offW W T T n t := by
  have e1 : sm (fun k => W k * ofs (T k) (T k) (T m) + (W k - 2 * (if k < m then W k else 0)) * (T m - t)) n ≤ offW W T T n t := by
    refine sm_le n (fun k k1 k2 => ?_)
    by_cases c : k < m
    · rw [if_pos c]
      have := hs k m k1 (by omega) (by omega)
      have e : ofs (T k) (T k) (T m) - (T m - t) ≤ ofs (T k) (T k) t := by unfold ofs; omega
      have := Int.mul_le_mul_of_nonneg_left e (hw k k1 k2)
      rw [Int.mul_sub] at this
      rw [show W k - 2 * W k = - W k by omega, Int.neg_mul]
      omega
    · rw [if_neg c]
      have := hs m k (by omega) (by omega) k2
      have e : ofs (T k) (T k) t = ofs (T k) (T k) (T m) + (T m - t) := by unfold ofs; omega
      rw [e, Int.mul_add, show W k - 2 * 0 = W k by omega]
      exact Int.le_refl _
  rw [sm_add, sm_mul, sm_sub] at e1
  have e2 : sm (fun k => 2 * (if k < m then W k else 0)) n = sm W m * 2 := by
    rw [← sm_cut (f := W) (m := m) n (by omega), ← sm_mul]
    exact sm_cg n (fun k _ _ => Int.mul_comm _ _)
  rw [e2] at e1
  have : 0 < (sm W n - sm W m * 2) * (T m - t) := Int.mul_pos (by omega) (by omega)
  have e3 : offW W T T n (T m) = sm (fun k => W k * ofs (T k) (T k) (T m)) n := rfl
  omega
/-- one more, put in at a place -/
def ins (g : Int → Int) (i v : Int) : Int → Int := fun j => if j < i then g j else if j = i then v else g (j - 1)
theorem ins_lt {g : Int → Int} {i v j : Int} (h : j < i) : ins g i v j = g j := if_pos h
theorem ins_eq {g : Int → Int} {i v : Int} : ins g i v i = v := by unfold ins; rw [if_neg (by omega), if_pos rfl]
theorem ins_gt {g : Int → Int} {i v j : Int} (h : i < j) : ins g i v j = g (j - 1) := by unfold ins; rw [if_neg (by omega), if_neg (by omega)]
theorem sm_ins2 {F : Int → Int → Int} {g g' : Int → Int} {v v' : Int} {i : Nat} : ∀ n : Nat, i ≤ n → sm (fun k => F (ins g i v k) (ins g' i v' k)) (n + 1) = sm (fun k => F (g k) (g' k)) n + F v v' := by
  intro n
  induction n with
  | zero =>
    intro h
    rw [show i = 0 by omega]
    show 0 + F (ins g 0 v 0) (ins g' 0 v' 0) = 0 + F v v'
    rw [ins_eq, ins_eq]
  | succ n ih =>
    intro h
    by_cases e : i = n + 1
    · subst e
      show sm _ (n + 1) + F (ins g _ v _) (ins g' _ v' _) = _
      rw [ins_eq, ins_eq, sm_cg (g := fun k => F (g k) (g' k)) (n + 1) (fun k k1 k2 => by show F _ _ = F _ _; rw [ins_lt k2, ins_lt k2])]
    · have := ih (by omega)
      show sm _ (n + 1) + F (ins g i v ((n + 1 : Nat) : Int)) (ins g' i v' ((n + 1 : Nat) : Int)) = sm _ n + F (g n) (g' n) + F v v'
      rw [this, ins_gt (by omega), ins_gt (by omega), show ((n + 1 : Nat) : Int) - 1 = n by omega]
      omega
