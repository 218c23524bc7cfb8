/-! LINES: hear, joined -/
theorem dec_all {g : Int → Int} {z n cd : Int} (hn : 1 ≤ n ∧ n ≤ 56) (hz : 0 ≤ z ∧ z ≤ 255) (hc : 0 ≤ cd ∧ cd ≤ 2) : ∃ (ok : Int) (L : List Int), (ok = 0 ∨ ok = 1) ∧ (ok = 1 → (L.length : Int) = n ∧ ∀ v ∈ L, I32 v) ∧ (∀ M j B, BdC g z M j B → ∀ Q, Tq 125 0 [vR 15 0, vR 13 j, vI B, vI z, vI cd, vI n] [] M Q ↔ Q (.inl (some (vI ok))) (movl M 15000 0 0 L)) ∧ (∀ N E, BdM g z N E → (cd = 0 → ∀ Q, Tq 278 0 [vR 22 0, vI E, vI z, vI n, vJ] [] N Q ↔ Q (.inl (some (vI ok))) (movl N 22017 0 0 L)) ∧ (cd = 1 → ∀ Q, Tq 279 0 [vR 22 0, vI E, vI z, vI n, vJ, vJ, vJ, vJ, vJ, vJ, vJ, vJ, vJ] [] N Q ↔ Q (.inl (some (vI ok))) (movl N 22017 0 0 L)) ∧ (cd = 2 → ∀ Q, Tq 280 0 [vR 22 0, vI E, vI z, vI n, vJ, vJ, vJ, vJ, vJ] [] N Q ↔ Q (.inl (some (vI ok))) (movl N 22017 0 0 L))) := by
  rcases (show cd = 0 ∨ cd = 1 ∨ cd = 2 by omega) with rfl | rfl | rfl
  · obtain ⟨ok, L, h1, h2, h3, h4, h5⟩ := plain_dec (g := g) hn hz
    refine ⟨ok, L, h1, h3, fun M j B hB Q => ?_, fun N E hE => ⟨fun _ => h5 N E hE, fun h => by omega, fun h => by omega⟩⟩
    rw [t125_0, if_pos (by decide), t125_1, if_pos (by decide), t125_2, h4 M j B hB, kI_v, t125_3, nb_id h1]
  · obtain ⟨ok, L, h1, h2, h3, h4, h5⟩ := step_dec (g := g) hn hz
    refine ⟨ok, L, h1, h3, fun M j B hB Q => ?_, fun N E hE => ⟨fun h => by omega, fun _ => h5 N E hE, fun h => by omega⟩⟩
    rw [t125_0, if_neg (by decide), h4 M j B hB, kI_v, t125_3, nb_id h1]
  · obtain ⟨ok, L, h1, h2, h3, h4, h5⟩ := pack_dec (g := g) hn hz
    refine ⟨ok, L, h1, h3, fun M j B hB Q => ?_, fun N E hE => ⟨fun h => by omega, fun h => by omega, fun _ => h5 N E hE⟩⟩
    rw [t125_0, if_pos (by decide), t125_1, if_neg (by decide), h4 M j B hB, kI_v, t125_3, nb_id h1]
/-- one more row is counted -/
def bmp (P : Mem) : Mem := mset P 22 0 6 (P 22 0 6 + 1)
/-- what a row R is of -/
def gdR (s t n : Int) (L : List Int) (P : Mem) : Prop := (0 ≤ s ∧ s < P 22 0 9) ∧ 0 ≤ t ∧ (1 ≤ n ∧ n ≤ 56) ∧ t + n ≤ 4096 ∧ (L.length : Int) = n ∧ ∀ v ∈ L, I32 v
/-- rows R come behind -/
def Ext : Nat → List (Int × List Int) → Mem → List (Int × List Int) → Mem → Prop
  | 0, rs, P, rs', P' => rs' = rs ∧ P' = P
  | k + 1, rs, P, rs', P' => ∃ s t n L, gdR s t n L P ∧ Ext k ((82, s :: t :: n :: L) :: rs) (bmp (ptL P (4096 * s + t) L)) rs' P'
def LnM (M : Mem) (x : Int) : Prop := (0 ≤ M 13 (3 + x) 1 ∧ M 13 (3 + x) 1 ≤ 800) ∧ (∀ k, 0 ≤ k → k < M 13 (3 + x) 1 → w8 (M 13000 (3 + x) k) = M 13000 (3 + x) k) ∧ (∀ j, 0 ≤ j → j < 10 → I32 (M 16001 x j)) ∧ (∀ s, 0 ≤ s → s < 12 → M 16002 x s = -99999999 ∨ 0 ≤ M 16002 x s ∧ M 16002 x s ≤ 255)
def LnN (M N : Mem) (x p : Int) : Prop := N 22014 0 (10 * x) = M 13 (3 + x) 1 - p ∧ (∀ k, 0 ≤ k → k < M 13 (3 + x) 1 - p → N 22016 0 (1000 * x + k) = M 13000 (3 + x) (p + k)) ∧ (∀ j, 1 ≤ j → j < 10 → N 22014 0 (10 * x + j) = M 16001 x j) ∧ (∀ s, 0 ≤ s → s < 12 → N 22015 0 (12 * x + s) = M 16002 x s)
def SHr (x : Int) (f : Nat) (i k : Int) : Prop := f = 5003 ∨ f = 5004 ∨ (f = 16001 ∧ i = x) ∨ (f = 16002 ∧ i = x) ∨ f = 15000 ∨ LCLog f i k ∨ (f = 13 ∧ i = 3 + x) ∨ (f = 13000 ∧ i = 3 + x)
def SHm (x : Int) (f : Nat) (i k : Int) : Prop := f = 22012 ∨ f = 22013 ∨ (f = 22014 ∧ 10 * x ≤ k ∧ k ≤ 10 * x + 9) ∨ (f = 22015 ∧ 12 * x ≤ k ∧ k < 12 * x + 12) ∨ f = 22017 ∨ LRLog f i k ∨ (f = 22016 ∧ 1000 * x ≤ k ∧ k < 1000 * x + 1000)
def HQ (M P : Mem) (rs : List (Int × List Int)) (x p bef : Int) : AR → Mem → Prop := kI fun v M1 => ∃ k rs' P', Ext k rs P rs' P' ∧ CLog M1 rs' ∧ CNet M1 P' ∧ WNet P' ∧ Fr (SHr x) M M1 ∧ LnM M1 x ∧ M1 13 (3 + x) 1 ≤ 266 ∧ ∀ N, LnN M N x p → RLog N rs → RNet N P → Tq 275 4 [vR 22 0, vI x, vI (10 * x), vI (1000 * x), vI bef, vI 1, vJ, vJ, vJ] [] N (kI fun v2 N1 => v = v2 ∧ Fr (SHm x) N N1 ∧ LnN M1 N1 x 0 ∧ RLog N1 rs' ∧ RNet N1 P')
section Hear3
variable {M N P : Mem} {Q : AR → Mem → Prop} {x p b bef st d z : Int} {rs : List (Int × List Int)}
theorem LnM_drop (h : LnM M x) (hp : 0 ≤ p ∧ p ≤ M 13 (3 + x) 1) : LnM (bdrop M (3 + x) p) x ∧ bdrop M (3 + x) p 13 (3 + x) 1 = M 13 (3 + x) 1 - p ∧ (∀ k, 0 ≤ k → k < M 13 (3 + x) 1 - p → bdrop M (3 + x) p 13000 (3 + x) k = M 13000 (3 + x) (p + k)) ∧ (∀ f i, ¬ (f = 13 ∧ i = 3 + x) → ¬ (f = 13000 ∧ i = 3 + x) → bdrop M (3 + x) p f i = M f i) := by
  obtain ⟨h1, h2, h3, h4⟩ := h
  have e1 : bdrop M (3 + x) p 13 (3 + x) 1 = M 13 (3 + x) 1 - p := by unfold bdrop; rw [mset_3, if_pos ⟨rfl, rfl, rfl⟩]
  have e2 : ∀ k, 0 ≤ k → k < M 13 (3 + x) 1 - p → bdrop M (3 + x) p 13000 (3 + x) k = M 13000 (3 + x) (p + k) := fun k k1 k2 => by
    unfold bdrop
    rw [mset_3, if_neg (by simp), mrow_2, if_pos ⟨rfl, rfl⟩, if_pos ⟨k1, k2⟩]
  have e3 : ∀ f i, ¬ (f = 13 ∧ i = 3 + x) → ¬ (f = 13000 ∧ i = 3 + x) → bdrop M (3 + x) p f i = M f i := fun f i g1 g2 => by
    unfold bdrop
    rw [mset_o g1, mrow_2, if_neg g2]
  refine ⟨⟨by omega, fun k k1 k2 => ?_, fun j j1 j2 => ?_, fun s s1 s2 => ?_⟩, e1, e2, e3⟩
  · rw [e2 k k1 (by omega)]
    exact h2 _ (by omega) (by omega)
  · rw [e3 _ _ (by simp) (by simp)]
    exact h3 j j1 j2
  · rw [e3 _ _ (by simp) (by simp)]
    exact h4 s s1 s2
/-- the end of both loops -/
theorem hear_end (hx : 0 ≤ x ∧ x < 4) (hl : LnM M x) (hp : 0 ≤ p ∧ p ≤ M 13 (3 + x) 1) (h266 : M 13 (3 + x) 1 - p ≤ 266) (hC : CLog M rs) (hN : CNet M P) (hW : WNet P) (hm : ∀ N, LnN M N x p → RNet N P → ∀ Q, Tq 275 4 [vR 22 0, vI x, vI (10 * x), vI (1000 * x), vI bef, vI 1, vJ, vJ, vJ] [] N Q ↔ Tq 275 16 [vR 22 0, vJ, vI (10 * x), vJ, vI bef, vJ, vJ, vJ, vJ] [] N Q) : Tq 29 20 [vJ, vJ, vR 16 x, vI bef, vI p, vJ, vJ, vJ, vJ, vJ] [] M (HQ M P rs x p bef) := by
  have h8 : bLen (3 + x) = 800 := bLen_ear hx.1 hx.2
  obtain ⟨d1, d2, d3, d4⟩ := LnM_drop hl hp
  have hl1 := hl.1
  rw [t29_20, m118 hp.1 hp.2 (by omega), kV_v]
  refine ⟨by decide, ?_⟩
  unfold HQ
  rw [kI_v]
  have fr : Fr (SHr x) M (bdrop M (3 + x) p) := by
    unfold bdrop
    exact Fr.mset (Fr.mrow Fr.refl (fun _ => by simp [SHr])) (by simp [SHr])
  have fr2 : Fr (fun f i _ => (f = 13 ∧ i = 3 + x) ∨ (f = 13000 ∧ i = 3 + x)) M (bdrop M (3 + x) p) := by
    unfold bdrop
    exact Fr.mset (Fr.mrow Fr.refl (fun _ => by simp)) (by simp)
  refine ⟨0, rs, P, ⟨rfl, rfl⟩, CLog_fr hC fr2 (by simp only [LCLog]; omega), CNet_fr hN fr2 (by simp only [LCNet]; omega), hW, fr, d1, by omega, fun N n1 n2 n3 => ?_⟩
  rw [hm N n1 n3, t275_16, w32_id (z := 10 * x + 2) (by omega) (by omega)]
  refine ⟨by omega, ?_⟩
  rw [kI_v]
  refine ⟨?_, Fr.refl, ?_, n2, n3⟩
  · rw [d4 _ _ (by simp) (by simp), n1.2.2.1 2 (by decide) (by decide)]
  · refine ⟨by rw [d2, Int.sub_zero]; exact n1.1, fun k k1 k2 => ?_, fun j j1 j2 => ?_, fun s s1 s2 => ?_⟩
    · rw [d2] at k2
      rw [Int.zero_add, d3 k k1 (by omega)]
      exact n1.2.1 k k1 (by omega)
    · rw [d4 _ _ (by simp) (by simp)]
      exact n1.2.2.1 j j1 j2
    · rw [d4 _ _ (by simp) (by simp)]
      exact n1.2.2.2 s s1 s2
end Hear3
