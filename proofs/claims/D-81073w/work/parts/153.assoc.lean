/-! ASSOCIATE: the plain law -/
def Cd (ev s kd : Int → Int) (o tol g p : Int) : Prop := ev p = -99999999 ∧ kd p = g ∧ o ≤ s p ∧ s p ≤ o + tol
/-- which pick counts for a kind -/
def cn (ev s kd : Int → Int) (o tol g : Int) : Nat → Int
  | 0 => -99999999
  | p + 1 => if (ev p = -99999999 ∧ kd p = g ∧ o ≤ s p ∧ s p ≤ o + tol) ∧ (cn ev s kd o tol g p = -99999999 ∨ s p < s (cn ev s kd o tol g p)) then p else cn ev s kd o tol g p
theorem cn_spec {ev s kd : Int → Int} {o tol g : Int} : ∀ n : Nat, (cn ev s kd o tol g n = -99999999 ∧ ∀ p : Int, 0 ≤ p → p < n → ¬ Cd ev s kd o tol g p) ∨ ((0 ≤ cn ev s kd o tol g n ∧ cn ev s kd o tol g n < n) ∧ Cd ev s kd o tol g (cn ev s kd o tol g n) ∧ ∀ p : Int, 0 ≤ p → p < n → Cd ev s kd o tol g p → s (cn ev s kd o tol g n) < s p ∨ (s (cn ev s kd o tol g n) = s p ∧ cn ev s kd o tol g n ≤ p))
  | 0 => Or.inl ⟨rfl, fun p h1 h2 => by omega⟩
  | n + 1 => by
    have ih := cn_spec (ev := ev) (s := s) (kd := kd) (o := o) (tol := tol) (g := g) n
    have e : cn ev s kd o tol g (n + 1) = if (ev n = -99999999 ∧ kd n = g ∧ o ≤ s n ∧ s n ≤ o + tol) ∧ (cn ev s kd o tol g n = -99999999 ∨ s n < s (cn ev s kd o tol g n)) then (n : Int) else cn ev s kd o tol g n := rfl
    by_cases c : (ev n = -99999999 ∧ kd n = g ∧ o ≤ s n ∧ s n ≤ o + tol) ∧ (cn ev s kd o tol g n = -99999999 ∨ s n < s (cn ev s kd o tol g n))
    · rw [if_pos c] at e
      rw [e]
      refine Or.inr ⟨⟨by omega, by omega⟩, c.1, fun p h1 h2 hp => ?_⟩
      by_cases q : p = n
      · subst q; exact Or.inr ⟨rfl, Int.le_refl _⟩
      · rcases ih with ⟨i1, i2⟩ | ⟨i1, i2, i3⟩
        · exact absurd hp (i2 p h1 (by omega))
        · have := i3 p h1 (by omega) hp
          rcases c.2 with q2 | q2
          · omega
          · exact Or.inl (by omega)
    · rw [if_neg c] at e
      rw [e]
      rcases ih with ⟨i1, i2⟩ | ⟨i1, i2, i3⟩
      · refine Or.inl ⟨i1, fun p h1 h2 hp => ?_⟩
        by_cases q : p = n
        · subst q; exact c ⟨hp, Or.inl i1⟩
        · exact i2 p h1 (by omega) hp
      · refine Or.inr ⟨⟨i1.1, by omega⟩, i2, fun p h1 h2 hp => ?_⟩
        by_cases q : p = n
        · subst q
          have : ¬ s n < s (cn ev s kd o tol g n) := fun q => c ⟨hp, Or.inr q⟩
          omega
        · exact i3 p h1 (by omega) hp
theorem cn_uniq {ev s kd : Int → Int} {o tol g i : Int} {n : Nat} (h1 : 0 ≤ i) (h2 : i < n) (h3 : Cd ev s kd o tol g i) (h4 : ∀ p : Int, 0 ≤ p → p < n → Cd ev s kd o tol g p → s i < s p ∨ (s i = s p ∧ i ≤ p)) : cn ev s kd o tol g n = i := by
  rcases cn_spec (ev := ev) (s := s) (kd := kd) (o := o) (tol := tol) (g := g) n with ⟨_, q2⟩ | ⟨q1, q2, q3⟩
  · exact absurd h3 (q2 i h1 h2)
  · have a := h4 _ q1.1 q1.2 q2
    have b := q3 i h1 h2 h3
    omega
/-- what the counting ones are worth; how many they are -/
def cw (F ev s kd : Int → Int) (o tol : Int) (n : Nat) : Int := sm (fun g => if cn ev s kd o tol g n = -99999999 then 0 else F (cn ev s kd o tol g n)) 24
/-- sorted by sources, then numbers -/
def SrtI (ev s ord srcs : Int → Int) (m n : Int) : Prop := (0 ≤ m ∧ m ≤ n) ∧ (∀ k, 0 ≤ k → k < m → (0 ≤ ord k ∧ ord k < n) ∧ ev (ord k) = -99999999 ∧ srcs k = s (ord k)) ∧ (∀ i j, 0 ≤ i → i < j → j < m → srcs i < srcs j ∨ (srcs i = srcs j ∧ ord i < ord j)) ∧ (∀ p, 0 ≤ p → p < n → ev p = -99999999 → ∃ k, 0 ≤ k ∧ k < m ∧ ord k = p)
section AssocP
variable {F ev s kd ord srcs : Int → Int} {m tol k e g : Int} {n : Nat}
theorem win_cn (h : SrtI ev s ord srcs m n) (hk : 0 ≤ k ∧ k < e) (he : e ≤ m) (hf : k = 0 ∨ srcs (k - 1) < srcs k) (h1 : ∀ j, k ≤ j → j < e → srcs j - srcs k ≤ tol) (h2 : e = m ∨ tol < srcs e - srcs k) : (fi (fun j => kd (ord j)) g k (e - k).toNat = -1 ∧ cn ev s kd (srcs k) tol g n = -99999999) ∨ (0 ≤ fi (fun j => kd (ord j)) g k (e - k).toNat ∧ cn ev s kd (srcs k) tol g n = ord (fi (fun j => kd (ord j)) g k (e - k).toNat)) := by
  obtain ⟨s1, s2, s3, s4⟩ := h
  -- which place a candidate has
  have plc : ∀ p : Int, 0 ≤ p → p < n → Cd ev s kd (srcs k) tol g p → ∃ j, k ≤ j ∧ j < e ∧ ord j = p ∧ kd (ord j) = g := fun p p1 p2 hp => by
    obtain ⟨j, j1, j2, j3⟩ := s4 p p1 p2 hp.1
    have sj := (s2 j j1 j2).2.2
    rw [j3] at sj
    have c3 := hp.2.2.1
    have c4 := hp.2.2.2
    refine ⟨j, ?_, ?_, j3, by rw [j3]; exact hp.2.1⟩
    · refine Int.not_lt.mp (fun q => ?_)
      rcases hf with q0 | q0
      · omega
      · by_cases qe : j = k - 1
        · rw [qe] at sj; omega
        · have := s3 j (k - 1) j1 (by omega) (by omega)
          omega
    · refine Int.not_le.mp (fun q => ?_)
      rcases h2 with q0 | q0
      · omega
      · by_cases qe : j = e
        · rw [qe] at sj; omega
        · have := s3 e j (by omega) (by omega) j2
          omega
  rcases fi_spec (κ := fun j => kd (ord j)) (g := g) (e - k).toNat k hk.1 with ⟨q1, q2⟩ | ⟨q1, q2, q3, q4⟩
  · refine Or.inl ⟨q1, ?_⟩
    rcases cn_spec (ev := ev) (s := s) (kd := kd) (o := srcs k) (tol := tol) (g := g) n with ⟨r1, _⟩ | ⟨r1, r2, r3⟩
    · exact r1
    · obtain ⟨j, j1, j2, j3, j4⟩ := plc _ r1.1 r1.2 r2
      exact absurd j4 (q2 j j1 (by omega))
  · generalize fi (fun j => kd (ord j)) g k (e - k).toNat = i at q1 q2 q3 q4
    refine Or.inr ⟨by omega, ?_⟩
    obtain ⟨o1, o2, o3⟩ := s2 i (by omega) (by omega)
    refine cn_uniq o1.1 o1.2 ⟨o2, q3, ?_, ?_⟩ (fun p p1 p2 hp => ?_)
    · rw [← o3]
      by_cases qe : i = k
      · rw [qe]; exact Int.le_refl _
      · have := s3 k i hk.1 (by omega) (by omega)
        omega
    · rw [← o3]
      have := h1 i q1 (by omega)
      omega
    · obtain ⟨j, j1, j2, j3, j4⟩ := plc p p1 p2 hp
      have jo := (s2 j (by omega) (by omega)).2.2
      rw [j3] at jo
      by_cases qe : j = i
      · rw [← qe, j3]; exact Or.inr ⟨rfl, Int.le_refl _⟩
      · have ij : i < j := by
          refine Int.not_le.mp (fun q => ?_)
          exact q4 j j1 (by omega) j4
        have := s3 i j (by omega) ij (by omega)
        omega
theorem win_cw (h : SrtI ev s ord srcs m n) (hk : 0 ≤ k ∧ k < e) (he : e ≤ m) (hf : k = 0 ∨ srcs (k - 1) < srcs k) (h1 : ∀ j, k ≤ j → j < e → srcs j - srcs k ≤ tol) (h2 : e = m ∨ tol < srcs e - srcs k) : FW (fun j => F (ord j)) (fun j => kd (ord j)) k (e - k).toNat = cw F ev s kd (srcs k) tol n := by
  unfold FW cw
  refine sm_cg 24 (fun g _ _ => ?_)
  unfold fw
  rcases win_cn (g := g) (kd := kd) h hk he hf h1 h2 with ⟨q1, q2⟩ | ⟨q1, q2⟩
  · rw [if_pos q1, if_pos q2]
  · rw [if_neg (by omega), q2, if_neg]
    rcases cn_spec (ev := ev) (s := s) (kd := kd) (o := srcs k) (tol := tol) (g := g) n with ⟨r1, r2⟩ | ⟨r1, _⟩
    · rcases fi_spec (κ := fun j => kd (ord j)) (g := g) (e - k).toNat k hk.1 with ⟨a1, _⟩ | ⟨a1, a2, _⟩
      · omega
      · have := (h.2.1 _ (by omega) (by omega : fi (fun j => kd (ord j)) g k (e - k).toNat < m)).1
        omega
    · rw [q2] at r1
      omega
end AssocP
/-- what a halt makes of the best so far -/
def HR (W : Int → Int) (O : Int → Prop) (h b0 h0 o0 b hh o : Int) : Prop := (b = b0 ∧ hh = h0 ∧ o = o0 ∧ ∀ s, O s → W s ≤ b0) ∨ (b0 < b ∧ hh = h ∧ O o ∧ W o = b ∧ ∀ s, O s → W s ≤ b ∧ (W s = b → o ≤ s))
theorem HR_uniq {W : Int → Int} {O : Int → Prop} {h b0 h0 o0 b hh o b' hh' o' : Int} (a : HR W O h b0 h0 o0 b hh o) (a' : HR W O h b0 h0 o0 b' hh' o') : b = b' ∧ hh = hh' ∧ o = o' := by
  rcases a with ⟨a1, a2, a3, a4⟩ | ⟨a1, a2, a3, a4, a5⟩ <;> rcases a' with ⟨c1, c2, c3, c4⟩ | ⟨c1, c2, c3, c4, c5⟩
  · omega
  · have := a4 _ c3
    omega
  · have := c4 _ a3
    omega
  · have x1 := a5 _ c3
    have x2 := c5 _ a3
    have e : b = b' := by omega
    exact ⟨e, by omega, by have := x1.2 (by omega); have := x2.2 (by omega); omega⟩
theorem HR_none {W : Int → Int} {O : Int → Prop} {h b0 h0 o0 : Int} (hO : ∀ s, ¬ O s) : HR W O h b0 h0 o0 b0 h0 o0 := Or.inl ⟨rfl, rfl, rfl, fun s q => absurd q (hO s)⟩
/-- a source more; it is better, or as good and earlier -/
theorem HR_up {W : Int → Int} {O O' : Int → Prop} {h b0 h0 o0 b hh o t : Int} (a : HR W O h b0 h0 o0 b hh o) (hh0 : ¬ h0 = h) (hO : ∀ s, O' s ↔ O s ∨ s = t) (hb : b < W t ∨ (W t = b ∧ hh = h ∧ t < o)) : HR W O' h b0 h0 o0 (W t) h t := by
  refine Or.inr ?_
  rcases a with ⟨a1, a2, a3, a4⟩ | ⟨a1, a2, a3, a4, a5⟩
  · refine ⟨by omega, rfl, (hO t).mpr (Or.inr rfl), rfl, fun s hs => ?_⟩
    rcases (hO s).mp hs with q | q
    · have := a4 s q
      omega
    · subst q; omega
  · refine ⟨by omega, rfl, (hO t).mpr (Or.inr rfl), rfl, fun s hs => ?_⟩
    rcases (hO s).mp hs with q | q
    · have := a5 s q
      omega
    · subst q; omega
theorem HR_no {W : Int → Int} {O O' : Int → Prop} {h b0 h0 o0 b hh o t : Int} (a : HR W O h b0 h0 o0 b hh o) (hh0 : ¬ h0 = h) (hO : ∀ s, O' s ↔ O s ∨ s = t) (hb : W t < b ∨ (W t = b ∧ (hh = h → o ≤ t))) : HR W O' h b0 h0 o0 b hh o := by
  rcases a with ⟨a1, a2, a3, a4⟩ | ⟨a1, a2, a3, a4, a5⟩
  · refine Or.inl ⟨a1, a2, a3, fun s hs => ?_⟩
    rcases (hO s).mp hs with q | q
    · exact a4 s q
    · subst q; omega
  · refine Or.inr ⟨a1, a2, (hO o).mpr (Or.inl a3), a4, fun s hs => ?_⟩
    rcases (hO s).mp hs with q | q
    · exact a5 s q
    · subst q
      omega
theorem HR_cg {W W' : Int → Int} {O O' : Int → Prop} {h b0 h0 o0 b hh o : Int} (a : HR W O h b0 h0 o0 b hh o) (hO : ∀ s, O' s ↔ O s) (hW : ∀ s, O s → W' s = W s) : HR W' O' h b0 h0 o0 b hh o := by
  rcases a with ⟨a1, a2, a3, a4⟩ | ⟨a1, a2, a3, a4, a5⟩
  · exact Or.inl ⟨a1, a2, a3, fun s hs => by rw [hW s ((hO s).mp hs)]; exact a4 s ((hO s).mp hs)⟩
  · exact Or.inr ⟨a1, a2, (hO o).mpr a3, by rw [hW o a3]; exact a4, fun s hs => by rw [hW s ((hO s).mp hs)]; exact a5 s ((hO s).mp hs)⟩
/-- the best behind so many halts -/
def RchH (W : Int → Int → Int) (O : Int → Int → Prop) : Nat → Int → Int → Int → Prop
  | 0, b, hh, o => b = 0 ∧ hh = -99999999 ∧ o = 0
  | k + 1, b, hh, o => ∃ b0 h0 o0, RchH W O k b0 h0 o0 ∧ HR (W k) (O k) k b0 h0 o0 b hh o
theorem RchH_uniq {W : Int → Int → Int} {O : Int → Int → Prop} : ∀ (k : Nat) (b hh o b' hh' o' : Int), RchH W O k b hh o → RchH W O k b' hh' o' → b = b' ∧ hh = hh' ∧ o = o'
  | 0, _, _, _, _, _, _, h, h' => by
    obtain ⟨h1, h2, h3⟩ := h
    obtain ⟨g1, g2, g3⟩ := h'
    omega
  | k + 1, _, _, _, _, _, _, h, h' => by
    obtain ⟨b0, h0, o0, r, a⟩ := h
    obtain ⟨b1, h1, o1, r', a'⟩ := h'
    obtain ⟨rfl, rfl, rfl⟩ := RchH_uniq k _ _ _ _ _ _ r r'
    exact HR_uniq a a'
theorem RchH_rng {W : Int → Int → Int} {O : Int → Int → Prop} : ∀ (k : Nat) (b hh o : Int), RchH W O k b hh o → (hh = -99999999 ∧ b = 0 ∧ o = 0) ∨ ((0 ≤ hh ∧ hh < k) ∧ O hh o ∧ W hh o = b ∧ 0 < b)
  | 0, _, _, _, h => Or.inl ⟨h.2.1, h.1, h.2.2⟩
  | k + 1, b, hh, o, h => by
    obtain ⟨b0, h0, o0, r, a⟩ := h
    have ih := RchH_rng k _ _ _ r
    rcases a with ⟨a1, a2, a3, a4⟩ | ⟨a1, a2, a3, a4, a5⟩
    · rw [a1, a2, a3]
      rcases ih with q | ⟨q1, q2, q3, q4⟩
      · exact Or.inl q
      · exact Or.inr ⟨⟨q1.1, by omega⟩, q2, q3, q4⟩
    · rw [a2]
      refine Or.inr ⟨⟨by omega, by omega⟩, a3, a4, ?_⟩
      rcases ih with q | q <;> omega
