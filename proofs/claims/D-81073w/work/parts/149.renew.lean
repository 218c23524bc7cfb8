/-! EARTH: times -/
def slF (ps : Int → Int) (ph : Int) : Int → Int := fun z => ps (16 * ph + z)
noncomputable def lee (sl : Int → Int) : Int → Int := Classical.epsilon (fun d => LeE sl d)
noncomputable def trF (ps : Int → Int) (ph x z : Int) : Int := shr32 (w32 (lee (slF ps ph) (90 * z + x) + 512)) 10
noncomputable def trv (P : Mem) (ph x z : Int) : Int := trF (P 22025 0) ph x z
def WEa' (ps : Int → Int) : Prop := ∀ k, 0 ≤ k → k < 32 → 1 ≤ ps k ∧ ps k ≤ 999
def LWEa (f : Nat) (i k : Int) : Prop := (f = 22025 ∧ i = 0)
def WEa (M : Mem) : Prop := WEa' (M 22025 0)
theorem WEa_cg {M M' : Mem} (h : ∀ f i k, LWEa f i k → M' f i k = M f i k) (q : WEa M) : WEa M' := by
  have e0 : M' 22025 0 = M 22025 0 := by funext k; exact h _ _ _ (by simp [LWEa])
  unfold WEa
  rw [e0]
  exact q
theorem WEa_fr {S : Nat → Int → Int → Prop} {M M' : Mem} (q : WEa M) (h : Fr S M M') (hs : ∀ f i k, LWEa f i k → ¬ S f i k) : WEa M' := WEa_cg (fun f i k hl => h f i k (hs f i k hl)) q
theorem WEa_sl {ps : Int → Int} {ph : Int} (h : WEa' ps) (hp : ph = 0 ∨ ph = 1) : SlO (slF ps ph) := fun z h1 h2 => h _ (by omega) (by omega)
theorem LeE_ex {sl : Int → Int} (h : SlO sl) : ∃ d, LeE sl d := by
  obtain ⟨M', d, _, hd, _⟩ := m164 (ph := 0) (M := fun f _ k => if f = 3000 then sl k else 0) (Or.inl rfl) h (fun z _ _ => by
    show (if (3000 : Nat) = 3000 then sl (16 * 0 + z) else 0) = sl z
    rw [if_pos rfl, show 16 * 0 + z = z by omega])
  exact ⟨d, hd⟩
theorem lee_ok {sl : Int → Int} (h : SlO sl) : LeE sl (lee sl) := Classical.epsilon_spec (LeE_ex h)
theorem trF_eq {ps d : Int → Int} {ph x z : Int} (hw : WEa' ps) (hp : ph = 0 ∨ ph = 1) (hd : LeE (slF ps ph) d) (hx : 0 ≤ x ∧ x < 90) (hz : 0 ≤ z ∧ z < 16) : shr32 (w32 (d (90 * z + x) + 512)) 10 = trF ps ph x z := by
  have hs := WEa_sl hw hp
  unfold trF
  rw [LeE_uniq hs hd (lee_ok hs) (by omega) (by omega)]
theorem ln_10 : ln 1 0 = 35 := rfl
theorem ln_01 : ln 0 1 = 35 := rfl
theorem LeE_bd {sl d : Int → Int} (hs : SlO sl) (h : LeE sl d) {x z : Int} (hx : 0 ≤ x ∧ x < 90) (hz : 0 ≤ z ∧ z < 16) : 0 ≤ d (90 * z + x) ∧ d (90 * z + x) ≤ 69930 * (x + z) := by
  have hz0 : ∀ j : Nat, (j : Int) < 16 → d (90 * j) ≤ 69930 * j := by
    intro j
    induction j with
    | zero =>
      intro _
      have := h.1.1
      rw [show 90 * ((0 : Nat) : Int) = 0 from rfl]
      omega
    | succ j ih =>
      intro hj
      have i1 := ih (by omega)
      have s1 := hs j (by omega) (by omega)
      have s2 := hs (j + 1) (by omega) (by omega)
      have e : EdE sl (90 * j) (90 * ((j + 1 : Nat) : Int)) (35 * (sl j + sl (j + 1))) := by
        refine ⟨by omega, by omega, ?_, ?_⟩
        · rw [show 90 * ((j + 1 : Nat) : Int) % 90 - 90 * (j : Int) % 90 = 0 by omega, show 90 * ((j + 1 : Nat) : Int) / 90 - 90 * (j : Int) / 90 = 1 by omega, ln_01]
          decide
        · rw [show 90 * ((j + 1 : Nat) : Int) % 90 - 90 * (j : Int) % 90 = 0 by omega, show 90 * ((j + 1 : Nat) : Int) / 90 - 90 * (j : Int) / 90 = 1 by omega, ln_01, show 90 * (j : Int) / 90 = j by omega, show 90 * ((j + 1 : Nat) : Int) / 90 = j + 1 by omega]
      have := h.1.2.1 _ _ _ e (by omega)
      omega
  have hx0 : ∀ j : Nat, (j : Int) < 90 → d (90 * z + j) ≤ 69930 * (j + z) := by
    intro j
    induction j with
    | zero =>
      intro _
      have := hz0 z.toNat (by omega)
      rw [show ((z.toNat : Nat) : Int) = z by omega] at this
      rw [show 90 * z + ((0 : Nat) : Int) = 90 * z by omega]
      omega
    | succ j ih =>
      intro hj
      have i1 := ih (by omega)
      have s1 := hs z (by omega) (by omega)
      have e : EdE sl (90 * z + j) (90 * z + ((j + 1 : Nat) : Int)) (35 * (sl z + sl z)) := by
        refine ⟨by omega, by omega, ?_, ?_⟩
        · rw [show (90 * z + ((j + 1 : Nat) : Int)) % 90 - (90 * z + (j : Int)) % 90 = 1 by omega, show (90 * z + ((j + 1 : Nat) : Int)) / 90 - (90 * z + (j : Int)) / 90 = 0 by omega, ln_10]
          decide
        · rw [show (90 * z + ((j + 1 : Nat) : Int)) % 90 - (90 * z + (j : Int)) % 90 = 1 by omega, show (90 * z + ((j + 1 : Nat) : Int)) / 90 - (90 * z + (j : Int)) / 90 = 0 by omega, ln_10, show (90 * z + (j : Int)) / 90 = z by omega, show (90 * z + ((j + 1 : Nat) : Int)) / 90 = z by omega]
      have := h.1.2.1 _ _ _ e (by omega)
      omega
  have := hx0 x.toNat (by omega)
  rw [show ((x.toNat : Nat) : Int) = x by omega] at this
  exact ⟨(h.2 _ (by omega) (by omega)).2.1, this⟩
theorem shr10 {a : Int} : shr32 a 10 = a / 1024 := rfl
theorem trF_rng {ps : Int → Int} {ph x z : Int} (hw : WEa' ps) (hp : ph = 0 ∨ ph = 1) (hx : 0 ≤ x ∧ x < 90) (hz : 0 ≤ z ∧ z < 16) : 0 ≤ trF ps ph x z ∧ trF ps ph x z ≤ 7103 := by
  have hs := WEa_sl hw hp
  have := LeE_bd hs (lee_ok hs) hx hz
  unfold trF
  rw [w32_id (by omega) (by omega), shr10]
  omega
def TbF (T A B : Int → Int) : Prop := ∀ (row : Int) (L : Nat) (d : Int), 0 ≤ row → row < 32 → L < 7 → 0 ≤ d → d < 90 → LsP T A row L d ∧ MsP T B row L d
def CEa' (old : Int) (s t l m ps : Int → Int) : Prop := (∀ k, 0 ≤ k → k < 32 → s k = ps k) ∧ (old = 0 ∨ old = 1) ∧ (old = 0 → (∀ ph x z, (ph = 0 ∨ ph = 1) → (0 ≤ x ∧ x < 90) → (0 ≤ z ∧ z < 16) → t ((ph * 16 + z) * 90 + x) = trF ps ph x z) ∧ TbF t l m)
def REa' (rk : Int) (s c ps : Int → Int) : Prop := (∀ k, 0 ≤ k → k < 32 → s k = ps k) ∧ (rk = 0 ∨ rk = 1) ∧ (rk = 1 → ∀ ph x z, (ph = 0 ∨ ph = 1) → (0 ≤ x ∧ x < 90) → (0 ≤ z ∧ z < 16) → shr32 (w32 (c (1440 * ph + 90 * z + x) + 512)) 10 = trF ps ph x z)
def LCEa (f : Nat) (i k : Int) : Prop := (f = 3 ∧ i = 0 ∧ k = 6) ∨ (f = 3000 ∧ i = 0) ∨ (f = 3002 ∧ i = 0) ∨ (f = 3003 ∧ i = 0) ∨ (f = 3004 ∧ i = 0)
def LPCEa (f : Nat) (i k : Int) : Prop := (f = 22025 ∧ i = 0)
def CEa (M P : Mem) : Prop := CEa' (M 3 0 6) (M 3000 0) (M 3002 0) (M 3003 0) (M 3004 0) (P 22025 0)
theorem CEa_cg {M M' P P' : Mem} (h : ∀ f i k, LCEa f i k → M' f i k = M f i k) (h' : ∀ f i k, LPCEa f i k → P' f i k = P f i k) (q : CEa M P) : CEa M' P' := by
  have e0 : M' 3 0 6 = M 3 0 6 := h _ _ _ (by simp [LCEa])
  have e1 : M' 3000 0 = M 3000 0 := by funext k; exact h _ _ _ (by simp [LCEa])
  have e2 : M' 3002 0 = M 3002 0 := by funext k; exact h _ _ _ (by simp [LCEa])
  have e3 : M' 3003 0 = M 3003 0 := by funext k; exact h _ _ _ (by simp [LCEa])
  have e4 : M' 3004 0 = M 3004 0 := by funext k; exact h _ _ _ (by simp [LCEa])
  have e100 : P' 22025 0 = P 22025 0 := by funext k; exact h' _ _ _ (by simp [LPCEa])
  unfold CEa
  rw [e0, e1, e2, e3, e4, e100]
  exact q
theorem CEa_fr {S : Nat → Int → Int → Prop} {M M' P : Mem} (q : CEa M P) (h : Fr S M M') (hs : ∀ f i k, LCEa f i k → ¬ S f i k) : CEa M' P := CEa_cg (fun f i k hl => h f i k (hs f i k hl)) (fun _ _ _ _ => rfl) q
theorem CEa_frP {S : Nat → Int → Int → Prop} {M P P' : Mem} (q : CEa M P) (h : Fr S P P') (hs : ∀ f i k, LPCEa f i k → ¬ S f i k) : CEa M P' := CEa_cg (fun _ _ _ _ => rfl) (fun f i k hl => h f i k (hs f i k hl)) q
def LREa (f : Nat) (i k : Int) : Prop := (f = 22 ∧ i = 0 ∧ k = 27) ∨ (f = 22025 ∧ i = 0) ∨ (f = 22026 ∧ i = 0)
def LPREa (f : Nat) (i k : Int) : Prop := (f = 22025 ∧ i = 0)
def REa (M P : Mem) : Prop := REa' (M 22 0 27) (M 22025 0) (M 22026 0) (P 22025 0)
theorem REa_cg {M M' P P' : Mem} (h : ∀ f i k, LREa f i k → M' f i k = M f i k) (h' : ∀ f i k, LPREa f i k → P' f i k = P f i k) (q : REa M P) : REa M' P' := by
  have e0 : M' 22 0 27 = M 22 0 27 := h _ _ _ (by simp [LREa])
  have e1 : M' 22025 0 = M 22025 0 := by funext k; exact h _ _ _ (by simp [LREa])
  have e2 : M' 22026 0 = M 22026 0 := by funext k; exact h _ _ _ (by simp [LREa])
  have e100 : P' 22025 0 = P 22025 0 := by funext k; exact h' _ _ _ (by simp [LPREa])
  unfold REa
  rw [e0, e1, e2, e100]
  exact q
theorem REa_fr {S : Nat → Int → Int → Prop} {M M' P : Mem} (q : REa M P) (h : Fr S M M') (hs : ∀ f i k, LREa f i k → ¬ S f i k) : REa M' P := REa_cg (fun f i k hl => h f i k (hs f i k hl)) (fun _ _ _ _ => rfl) q
theorem REa_frP {S : Nat → Int → Int → Prop} {M P P' : Mem} (q : REa M P) (h : Fr S P P') (hs : ∀ f i k, LPREa f i k → ¬ S f i k) : REa M P' := REa_cg (fun _ _ _ _ => rfl) (fun f i k hl => h f i k (hs f i k hl)) q
def SEaC (f : Nat) (_ k : Int) : Prop := f = 3001 ∨ f = 3002 ∨ f = 3003 ∨ f = 3004 ∨ f = 2000 ∨ (f = 2 ∧ k = 1) ∨ (f = 3 ∧ k = 6)
section Renew
variable {M P : Mem} {ph x z : Int}
theorem m163 (hw : WEa P) (hc : CEa M P) : ∃ M', Fr SEaC M M' ∧ CEa M' P ∧ M' 3 0 6 = 0 ∧ (M 3 0 6 = 0 → M' = M) ∧ ∀ Q : AR → Mem → Prop, (Tq 163 0 [vR 3 0, vJ, vJ, vJ, vJ, vJ, vJ, vJ] [] M Q ↔ Q (.inl none) M') := by
  by_cases h0 : M 3 0 6 = 0
  · refine ⟨M, Fr.refl, hc, h0, fun _ => rfl, fun Q => ?_⟩
    rw [t163_0, if_neg (by simpa using h0)]
  · obtain ⟨c1, c2, c3⟩ := hc
    have e0 : mset M 3 0 6 0 3000 0 = M 3000 0 := by rw [mset_o (by simp)]
    obtain ⟨M1, d0, a1, a2, a3, a4, a5⟩ := m164 (M := mset M 3 0 6 0) (ph := 0) (sl := slF (P 22025 0) 0) (Or.inl rfl) (WEa_sl hw (Or.inl rfl)) (fun z h1 h2 => by rw [e0]; exact c1 _ (by omega) (by omega))
    have e1 : M1 3000 0 = M 3000 0 := by rw [a1.row 3000 0 (by simp [SWk]), e0]
    obtain ⟨M2, d1, b1, b2, b3, b4, b5⟩ := m164 (M := M1) (ph := 1) (sl := slF (P 22025 0) 1) (Or.inr rfl) (WEa_sl hw (Or.inr rfl)) (fun z h1 h2 => by rw [e1]; exact c1 _ (by omega) (by omega))
    obtain ⟨M3, t1, t2, t3⟩ := m163_2 32 0 M2 (by omega) (by omega) (fun row L d h1 h2 h3 h4 h5 h6 => by omega)
    have e3 : M3 3000 0 = M 3000 0 := by rw [t1.row 3000 0 (by simp [STb]), b1.row 3000 0 (by simp [SWk]), e1]
    have e6 : M3 3 0 6 = 0 := by rw [t1 3 0 6 (by simp [STb]), b1 3 0 6 (by simp [SWk]), a1 3 0 6 (by simp [SWk]), mset_3, if_pos ⟨rfl, rfl, rfl⟩]
    have e2 : M3 3002 0 = M2 3002 0 := t1.row 3002 0 (by simp [STb])
    have f1 : Fr SEaC M M3 := by
      intro f i k q
      unfold SEaC at q
      rw [t1 f i k (by unfold STb; omega), b1 f i k (by unfold SWk; omega), a1 f i k (by unfold SWk; omega), mset_3, if_neg (by omega)]
    refine ⟨M3, f1, ⟨?_, Or.inl e6, fun _ => ⟨fun ph x z q1 q2 q3 => ?_, fun row L d h1 h2 h3 h4 h5 => t2 row L d h1 h2 h3 h4 h5 (by omega)⟩⟩, e6, fun q => absurd q h0, fun Q => ?_⟩
    · rw [e3]
      exact c1
    · rw [e2]
      rcases q1 with rfl | rfl
      · rw [show ((0 : Int) * 16 + z) * 90 + x = 1440 * 0 + (90 * z + x) by omega, b4 _ (by omega), a3 _ (by omega) (by omega)]
        exact trF_eq hw (Or.inl rfl) a2 q2 q3
      · rw [show ((1 : Int) * 16 + z) * 90 + x = 1440 * 1 + (90 * z + x) by omega, b3 _ (by omega) (by omega)]
        exact trF_eq hw (Or.inr rfl) b2 q2 q3
    · rw [t163_0, if_pos h0, t163_1, bd_e, a5, kV_v, b5, kV_v, t3 Q]
      exact andi (by decide) Iff.rfl
theorem m162 (hw : WEa P) (hc : CEa M P) (hp : ph = 0 ∨ ph = 1) (hx : 0 ≤ x ∧ x < 90) (hz : 0 ≤ z ∧ z < 16) : ∃ M', Fr SEaC M M' ∧ CEa M' P ∧ M' 3 0 6 = 0 ∧ (M 3 0 6 = 0 → M' = M) ∧ ∀ Q : AR → Mem → Prop, (Tq 162 0 [vR 3 0, vI ph, vI x, vI z] [] M Q ↔ Q (.inl (some (vI (trv P ph x z)))) M') := by
  obtain ⟨M', a1, a2, a3, a4, a5⟩ := m163 hw hc
  refine ⟨M', a1, a2, a3, a4, fun Q => ?_⟩
  rw [t162_0, a5, kV_v, w32_id (z := ph * 16) (by omega) (by omega), w32_id (z := ph * 16 + z) (by omega) (by omega), w32_id (z := (ph * 16 + z) * 90) (by omega) (by omega), w32_id (z := (ph * 16 + z) * 90 + x) (by omega) (by omega), (a2.2.2 a3).1 ph x z hp hx hz]
  exact andi (by omega) Iff.rfl
/-- the times being there -/
theorem m162n {Q : AR → Mem → Prop} (hc : CEa M P) (h0 : M 3 0 6 = 0) (hp : ph = 0 ∨ ph = 1) (hx : 0 ≤ x ∧ x < 90) (hz : 0 ≤ z ∧ z < 16) : Tq 162 0 [vR 3 0, vI ph, vI x, vI z] [] M Q ↔ Q (.inl (some (vI (trv P ph x z)))) M := by
  rw [t162_0, t163_0, if_neg (by simpa using h0), kV_v, w32_id (z := ph * 16) (by omega) (by omega), w32_id (z := ph * 16 + z) (by omega) (by omega), w32_id (z := (ph * 16 + z) * 90) (by omega) (by omega), w32_id (z := (ph * 16 + z) * 90 + x) (by omega) (by omega), (hc.2.2 h0).1 ph x z hp hx hz]
  exact andi (by omega) Iff.rfl
end Renew
