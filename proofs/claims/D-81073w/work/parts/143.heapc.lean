/-! HEAPS: Ways -/
theorem dv2 {z : Int} (h0 : 1 ≤ z) (h1 : z ≤ 60000) : div32 (w32 (z - 1)) 2 = (z - 1) / 2 := by
  rw [w32_id (by omega) (by omega)]
  unfold div32
  rw [Int.tdiv_eq_ediv_of_nonneg (by omega), w32_id (by omega) (by omega)]
theorem key_v {c v : Int} (h0 : 0 ≤ c) (h1 : c < 2147483648) (h2 : 0 ≤ v) (h3 : v < 65536) : or64 (shl64 c 16) v = c * 65536 + v := by
  have e : shl64 c 16 = c * 65536 := by
    unfold shl64
    rw [show (2 : Int) ^ ((16 : Int) % 64).toNat = 65536 from rfl]
    exact w64_id (by omega) (by omega)
  rw [e, u64_or]
  have e1 : (c * 65536 % 18446744073709551616).toNat = 2 ^ 16 * c.toNat := by omega
  have e2 : (v % 18446744073709551616).toNat = v.toNat := by omega
  rw [e1, e2, ← Nat.two_pow_add_eq_or_of_lt (by omega)]
  rw [w64_id (by omega) (by omega)]
  omega
theorem key_lo {c v : Int} (h2 : 0 ≤ v) (h3 : v < 65536) : w32 (and64 (c * 65536 + v) 65535) = v := by
  rw [show (65535 : Int) = 2 ^ 16 - 1 by decide, and64_low _ 16 (by decide), show (2 : Int) ^ 16 = 65536 by decide, show (c * 65536 + v) % 65536 = v by omega, w32_id (by omega) (by omega)]
theorem key_hi {c v : Int} (h0 : 0 ≤ c) (h1 : c < 2147483648) (h2 : 0 ≤ v) (h3 : v < 65536) : w32 (shr64 (c * 65536 + v) 16) = c := by
  unfold shr64
  rw [show (2 : Int) ^ ((16 : Int) % 64).toNat = 65536 from rfl, show (c * 65536 + v) / 65536 = c by omega, w32_id (by omega) (by omega)]
theorem mrow_s {M : Mem} {f : Nat} {i : Int} {g : Int → Int} : mrow M f i g f i = g := by rw [mrow_2, if_pos ⟨rfl, rfl⟩]
theorem mrow_n {M : Mem} {f : Nat} {i : Int} {g : Int → Int} {f' : Nat} {i' : Int} (h : ¬ (f' = f ∧ i' = i)) : mrow M f i g f' i' = M f' i' := by rw [mrow_2, if_neg h]
section HeapC
variable {M : Mem} {v top : Int}
theorem m104_1 {n : Int} (hn : n ≤ 26000) : ∀ (m : Nat) (k : Int) (g : Int → Int), k ≤ m → 0 ≤ k → k < n → UpI (fup g k v) n k → ∃ g', Hp g' n ∧ (∀ e, Mb g' n e ↔ Mb (fup g k v) n e) ∧ ∀ Q : AR → Mem → Prop, (Tq 104 1 [vR 2 0, vJ, vJ, vL v, vJ, vI k] [] (mrow M 2000 0 g) Q ↔ Q (.inl none) (mrow M 2000 0 g')) := by
  intro m
  induction m with
  | zero =>
    intro k g h1 h2 h3 hU
    refine ⟨fup g k v, UpI_end hU (Or.inl (by omega)), fun e => Iff.rfl, fun Q => ?_⟩
    rw [t104_1, if_pos (by omega), t104_2, bd_e, mset_mrow]
    exact andi (by omega) Iff.rfl
  | succ m ih =>
    intro k g h1 h2 h3 hU
    by_cases hk : k ≤ 0
    · refine ⟨fup g k v, UpI_end hU (Or.inl (by omega)), fun e => Iff.rfl, fun Q => ?_⟩
      rw [t104_1, if_pos (by omega), t104_2, bd_e, mset_mrow]
      exact andi (by omega) Iff.rfl
    · by_cases c : g ((k - 1) / 2) ≤ v
      · refine ⟨fup g k v, UpI_end hU (Or.inr (by rw [fup_eq, fup_ne (by omega)]; exact c)), fun e => Iff.rfl, fun Q => ?_⟩
        rw [t104_1, if_neg hk, dv2 (by omega) (by omega), mrow_s, if_pos (cmp_le.mpr c), t104_2, bd_e, mset_mrow]
        exact andi (by decide) (andi (by omega) (andi (by omega) Iff.rfl))
      · have hs := swp_fup (a := g) (k := k) (p := (k - 1) / 2) (v := v) (by omega)
        obtain ⟨g', a1, a2, a3⟩ := ih ((k - 1) / 2) (fup g k (g ((k - 1) / 2))) (by omega) (by omega) (by omega) (by
          rw [hs]
          refine UpI_step hU (by omega) h3 ?_
          rw [fup_eq, fup_ne (by omega)]
          omega)
        refine ⟨g', a1, fun e => ?_, fun Q => ?_⟩
        · rw [a2, hs, Mb_swp (by omega) (by omega)]
        · rw [t104_1, if_neg hk, dv2 (by omega) (by omega), mrow_s, if_neg (fun q => c (cmp_le.mp q)), bd_e, mset_mrow, a3 Q]
          exact andi (by decide) (andi (by omega) (andi (by decide) (andi (by omega) (andi (by omega) (andi (by decide) Iff.rfl)))))
theorem Mb_new {g : Int → Int} {n e v : Int} (hn : 0 ≤ n) : Mb (fup g n v) (n + 1) e ↔ Mb g n e ∨ e = v := by
  constructor
  · rintro ⟨k, k1, k2, k3⟩
    by_cases q : k = n
    · subst q
      rw [fup_eq] at k3
      exact Or.inr k3.symm
    · rw [fup_ne q] at k3
      exact Or.inl ⟨k, k1, by omega, k3⟩
  · rintro (⟨k, k1, k2, k3⟩ | rfl)
    · exact ⟨k, k1, by omega, by rw [fup_ne (by omega)]; exact k3⟩
    · exact ⟨n, hn, by omega, fup_eq⟩
theorem m104 {c x : Int} (hn : 0 ≤ M 2 0 1 ∧ M 2 0 1 < 26000) (hp : Hp (M 2000 0) (M 2 0 1)) (hc : 0 ≤ c ∧ c < 2147483648) (hx : 0 ≤ x ∧ x < 65536) : ∃ g', Hp g' (M 2 0 1 + 1) ∧ (∀ e, Mb g' (M 2 0 1 + 1) e ↔ Mb (M 2000 0) (M 2 0 1) e ∨ e = c * 65536 + x) ∧ ∀ Q : AR → Mem → Prop, (Tq 104 0 [vR 2 0, vI c, vI x, vJ, vJ, vJ] [] M Q ↔ Q (.inl none) (mrow (mset M 2 0 1 (M 2 0 1 + 1)) 2000 0 g')) := by
  have hU := UpI_new (v := c * 65536 + x) hp hn.1
  obtain ⟨g', a1, a2, a3⟩ := m104_1 (M := mset M 2 0 1 (M 2 0 1 + 1)) (v := c * 65536 + x) (n := M 2 0 1 + 1) (by omega) (M 2 0 1).toNat (M 2 0 1) (M 2000 0) (by omega) hn.1 (by omega) hU
  refine ⟨g', a1, fun e => ?_, fun Q => ?_⟩
  · rw [a2, Mb_new hn.1]
  · have e0 : mrow (mset M 2 0 1 (M 2 0 1 + 1)) 2000 0 (M 2000 0) = mset M 2 0 1 (M 2 0 1 + 1) := by
      have : mset M 2 0 1 (M 2 0 1 + 1) 2000 0 = M 2000 0 := by rw [mset_o (by simp)]
      rw [← this, mrow_self]
    rw [t104_0, w32_id (z := M 2 0 1 + 1) (by omega) (by omega), bd_e, key_v hc.1 hc.2 hx.1 hx.2]
    have := a3 Q
    rw [e0] at this
    exact this
theorem m105_x {n k : Int} {g : Int → Int} {Q : AR → Mem → Prop} (hk : 0 ≤ k ∧ k < 26000) : Tq 105 7 [vR 2 0, vL top, vJ, vL v, vJ, vI k, vJ, vJ] [] (mrow M 2000 0 g) Q ↔ Q (.inl (some (vL top))) (mrow M 2000 0 (fup g k v)) := by
  rw [t105_7, bd_e, mset_mrow]
  exact andi (by omega) Iff.rfl
theorem m105_1 {n : Int} (hn : 0 ≤ n ∧ n < 26000) (hM : M 2 0 1 = n) : ∀ (m : Nat) (k : Int) (g : Int → Int), n - k ≤ m → 0 ≤ k → (k < n ∨ k = 0) → DnI (fup g k v) n k → ∃ g', Hp g' n ∧ (∀ e, Mb g' n e ↔ Mb (fup g k v) n e) ∧ ∀ Q : AR → Mem → Prop, (Tq 105 1 [vR 2 0, vL top, vJ, vL v, vJ, vI k, vI 1, vJ] [] (mrow M 2000 0 g) Q ↔ Q (.inl (some (vL top))) (mrow M 2000 0 g')) := by
  intro m
  induction m with
  | zero =>
    intro k g h1 h2 h3 hD
    refine ⟨fup g k v, DnI_end hD (fun j j1 j2 j3 => by omega), fun e => Iff.rfl, fun Q => ?_⟩
    rw [t105_1, if_neg (by decide), mrow_n (f' := 2) (by simp), hM, w32_id (z := 2 * k) (by omega) (by omega), w32_id (z := 2 * k + 1) (by omega) (by omega), if_pos (by omega), m105_x (n := n) (by omega)]
  | succ m ih =>
    intro k g h1 h2 h3 hD
    by_cases c1 : n ≤ 2 * k + 1
    · refine ⟨fup g k v, DnI_end hD (fun j j1 j2 j3 => by omega), fun e => Iff.rfl, fun Q => ?_⟩
      rw [t105_1, if_neg (by decide), mrow_n (f' := 2) (by simp), hM, w32_id (z := 2 * k) (by omega) (by omega), w32_id (z := 2 * k + 1) (by omega) (by omega), if_pos (by omega), m105_x (n := n) (by omega)]
    · -- the lesser child
      obtain ⟨c, hc, hcn, hmin, hrun⟩ : ∃ c, (c = 2 * k + 1 ∨ c = 2 * k + 2) ∧ c < n ∧ (∀ j, 1 ≤ j → j < n → (j - 1) / 2 = k → g c ≤ g j) ∧ ∀ Q : AR → Mem → Prop, (Tq 105 1 [vR 2 0, vL top, vJ, vL v, vJ, vI k, vI 1, vJ] [] (mrow M 2000 0 g) Q ↔ if 0 ≤ cmp64 (g c) v then Tq 105 4 [vR 2 0, vL top, vJ, vL v, vJ, vI k, vJ, vI c] [] (mrow M 2000 0 g) Q else Tq 105 5 [vR 2 0, vL top, vJ, vL v, vJ, vI k, vJ, vI c] [vI 1] (mrow M 2000 0 g) Q) := by
        by_cases c2 : n ≤ 2 * k + 2
        · refine ⟨2 * k + 1, Or.inl rfl, by omega, fun j j1 j2 j3 => by rw [show j = 2 * k + 1 by omega]; exact Int.le_refl _, fun Q => ?_⟩
          rw [t105_1, if_neg (by decide), mrow_n (f' := 2) (by simp), hM, w32_id (z := 2 * k) (by omega) (by omega), w32_id (z := 2 * k + 1) (by omega) (by omega), if_neg c1, w32_id (z := 2 * k + 1 + 1) (by omega) (by omega), if_pos (by omega), t105_2, t105_3, mrow_s, Int.add_zero, w32_id (z := 2 * k + 1) (by omega) (by omega)]
          exact andi (by omega) Iff.rfl
        · by_cases c3 : g (2 * k + 1) ≤ g (2 * k + 2)
          · refine ⟨2 * k + 1, Or.inl rfl, by omega, fun j j1 j2 j3 => ?_, fun Q => ?_⟩
            · rcases (show j = 2 * k + 1 ∨ j = 2 * k + 2 by omega) with rfl | rfl
              · exact Int.le_refl _
              · exact c3
            · rw [t105_1, if_neg (by decide), mrow_n (f' := 2) (by simp), hM, w32_id (z := 2 * k) (by omega) (by omega), w32_id (z := 2 * k + 1) (by omega) (by omega), if_neg c1, w32_id (z := 2 * k + 1 + 1) (by omega) (by omega), if_neg (by omega), mrow_s, if_pos (cmp_ge.mpr (by rw [show 2 * k + 1 + 1 = 2 * k + 2 by omega]; exact c3)), t105_2, t105_3, mrow_s, Int.add_zero, w32_id (z := 2 * k + 1) (by omega) (by omega)]
              exact andi (by omega) (andi (by omega) (andi (by omega) Iff.rfl))
          · refine ⟨2 * k + 2, Or.inr rfl, by omega, fun j j1 j2 j3 => ?_, fun Q => ?_⟩
            · rcases (show j = 2 * k + 1 ∨ j = 2 * k + 2 by omega) with rfl | rfl
              · omega
              · exact Int.le_refl _
            · rw [t105_1, if_neg (by decide), mrow_n (f' := 2) (by simp), hM, w32_id (z := 2 * k) (by omega) (by omega), w32_id (z := 2 * k + 1) (by omega) (by omega), if_neg c1, w32_id (z := 2 * k + 1 + 1) (by omega) (by omega), if_neg (by omega), mrow_s, if_neg (fun q => c3 (by have := cmp_ge.mp q; rw [show 2 * k + 1 + 1 = 2 * k + 2 by omega] at this; exact this)), t105_3, mrow_s, w32_id (z := 2 * k + 1 + 1) (by omega) (by omega), show 2 * k + 1 + 1 = 2 * k + 2 by omega]
              exact andi (by omega) (andi (by omega) (andi (by omega) Iff.rfl))
      by_cases c4 : v ≤ g c
      · refine ⟨fup g k v, DnI_end hD (fun j j1 j2 j3 => ?_), fun e => Iff.rfl, fun Q => ?_⟩
        · rw [fup_eq, fup_ne (by omega)]
          exact Int.le_trans c4 (hmin j j1 j2 j3)
        · rw [hrun Q, if_pos (cmp_ge.mpr c4), t105_4, t105_5, if_pos rfl, t105_6, t105_1, if_pos rfl, m105_x (n := n) (by omega)]
      · have hs := swp_fup (a := g) (k := k) (p := c) (v := v) (by omega)
        obtain ⟨g', a1, a2, a3⟩ := ih c (fup g k (g c)) (by omega) (by omega) (Or.inl hcn) (by
          rw [hs]
          refine DnI_step hD h2 hc hcn (fun j j1 j2 j3 => ?_) ?_
          · rw [fup_ne (by omega), fup_ne (by omega)]
            exact hmin j j1 j2 j3
          · rw [fup_eq, fup_ne (by omega)]
            omega)
        refine ⟨g', a1, fun e => ?_, fun Q => ?_⟩
        · rw [a2, hs, Mb_swp (by omega) (by omega)]
        · rw [hrun Q, if_neg (fun q => c4 (cmp_ge.mp q)), t105_5, if_neg (by decide), mrow_s, bd_e, mset_mrow, t105_6, a3 Q]
          exact andi (by omega) (andi (by omega) Iff.rfl)
theorem m105 (hn : 1 ≤ M 2 0 1 ∧ M 2 0 1 ≤ 26000) (hp : Hp (M 2000 0) (M 2 0 1)) : ∃ g', Hp g' (M 2 0 1 - 1) ∧ (∀ e, Mb g' (M 2 0 1 - 1) e → Mb (M 2000 0) (M 2 0 1) e) ∧ (∀ e, Mb (M 2000 0) (M 2 0 1) e → ¬ e = M 2000 0 0 → Mb g' (M 2 0 1 - 1) e) ∧ ∀ Q : AR → Mem → Prop, (Tq 105 0 [vR 2 0, vJ, vJ, vJ, vJ, vJ, vJ, vJ] [] M Q ↔ Q (.inl (some (vL (M 2000 0 0)))) (mrow (mset M 2 0 1 (M 2 0 1 - 1)) 2000 0 g')) := by
  have hD := DnI_new (v := M 2000 0 (M 2 0 1 - 1)) hp
  obtain ⟨g', a1, a2, a3⟩ := m105_1 (M := mset M 2 0 1 (M 2 0 1 - 1)) (v := M 2000 0 (M 2 0 1 - 1)) (top := M 2000 0 0) (n := M 2 0 1 - 1) (by omega) (by rw [mset_3, if_pos ⟨rfl, rfl, rfl⟩]) (M 2 0 1).toNat 0 (M 2000 0) (by omega) (by omega) (Or.inr rfl) hD
  refine ⟨g', a1, fun e he => ?_, fun e he hne => ?_, fun Q => ?_⟩
  · obtain ⟨k, k1, k2, k3⟩ := (a2 e).mp he
    by_cases q : k = 0
    · subst q
      rw [fup_eq] at k3
      exact ⟨M 2 0 1 - 1, by omega, by omega, k3⟩
    · rw [fup_ne q] at k3
      exact ⟨k, k1, by omega, k3⟩
  · obtain ⟨k, k1, k2, k3⟩ := he
    refine (a2 e).mpr ?_
    have hk0 : ¬ k = 0 := fun q => by subst q; exact hne k3.symm
    by_cases q : k = M 2 0 1 - 1
    · exact ⟨0, by omega, by omega, by rw [fup_eq, ← q]; exact k3⟩
    · exact ⟨k, k1, by omega, by rw [fup_ne hk0]; exact k3⟩
  · have e0 : mrow (mset M 2 0 1 (M 2 0 1 - 1)) 2000 0 (M 2000 0) = mset M 2 0 1 (M 2 0 1 - 1) := by
      have : mset M 2 0 1 (M 2 0 1 - 1) 2000 0 = M 2000 0 := by rw [mset_o (by simp)]
      rw [← this, mrow_self]
    have := a3 Q
    rw [e0] at this
    rw [t105_0, w32_id (z := M 2 0 1 - 1) (by omega) (by omega), bd_e, mset_3, if_pos ⟨rfl, rfl, rfl⟩, mset_3, if_neg (by simp), this]
    exact andi (by omega) (andi (by omega) Iff.rfl)
end HeapC
