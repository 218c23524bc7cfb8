/-! EVENTS -/
def OkA (s t p w g st : Int) : Prop := (0 ≤ s ∧ s < st) ∧ (0 ≤ t ∧ t ≤ 4095) ∧ (0 ≤ p ∧ p ≤ 1) ∧ (1 ≤ w ∧ w ≤ 9) ∧ (-1 ≤ g ∧ g ≤ 1)
def OkV (k x y d o m s c ck : Int) : Prop := (0 ≤ k ∧ k ≤ 2) ∧ (0 ≤ x ∧ x ≤ 63) ∧ (0 ≤ y ∧ y ≤ 63) ∧ (0 ≤ d ∧ d ≤ 15) ∧ (-20000 ≤ o ∧ o ≤ 20000) ∧ I32 m ∧ (s = -99999999 ∨ 0 ≤ s ∧ s ≤ 999) ∧ (0 ≤ c ∧ c ≤ ck)
def WBk' (st rows ck ev made : Int) (ar aa vs vv ma me : Int → Int) : Prop := (0 ≤ ev ∧ ev ≤ 24) ∧ (0 ≤ made ∧ made ≤ rows) ∧ ∀ e, 0 ≤ e → e < ev → (0 ≤ ar e ∧ ar e ≤ 24) ∧ (1 ≤ vs e ∧ vs e ≤ 16) ∧ (1 ≤ ma e ∧ ma e ≤ made) ∧ (me e = -99999999 ∨ 0 ≤ me e ∧ me e < 24) ∧ (∀ k, 0 ≤ k → k < ar e → OkA (aa (120 * e + 5 * k)) (aa (120 * e + 5 * k + 1)) (aa (120 * e + 5 * k + 2)) (aa (120 * e + 5 * k + 3)) (aa (120 * e + 5 * k + 4)) st) ∧ (∀ i k, 0 ≤ i → i < k → k < ar e → ¬ (aa (120 * e + 5 * i) = aa (120 * e + 5 * k) ∧ aa (120 * e + 5 * i + 2) = aa (120 * e + 5 * k + 2))) ∧ (∀ k, 0 ≤ k → k < vs e → OkV (vv (128 * e + 8 * k)) (vv (128 * e + 8 * k + 1)) (vv (128 * e + 8 * k + 2)) (vv (128 * e + 8 * k + 3)) (vv (128 * e + 8 * k + 4)) (vv (128 * e + 8 * k + 5)) (vv (128 * e + 8 * k + 6)) (vv (128 * e + 8 * k + 7)) ck)
def CBk' (ev made : Int) (E V A : Int → Int → Int) (ev' made' : Int) (ar aa vs vv ma me : Int → Int) : Prop := ev = ev' ∧ made = made' ∧ ∀ e, 0 ≤ e → e < ev' → E e 1 = vs e ∧ E e 3 = ar e ∧ E e 4 = me e ∧ E e 5 = ma e ∧ (∀ k, 0 ≤ k → k < 8 * vs e → V e k = vv (128 * e + k)) ∧ (∀ k, 0 ≤ k → k < 5 * ar e → A e k = aa (120 * e + k))
def RBk' (ev made : Int) (ar aa vs vv ma me : Int → Int) (ev' made' : Int) (ar' aa' vs' vv' ma' me' : Int → Int) : Prop := ev = ev' ∧ made = made' ∧ ∀ e, 0 ≤ e → e < ev' → vs e = vs' e ∧ ar e = ar' e ∧ me e = me' e ∧ ma e = ma' e ∧ (∀ k, 0 ≤ k → k < 8 * vs' e → vv (128 * e + k) = vv' (128 * e + k)) ∧ (∀ k, 0 ≤ k → k < 5 * ar' e → aa (120 * e + k) = aa' (120 * e + k))
def LWBk (f : Nat) (i k : Int) : Prop := (f = 22 ∧ i = 0 ∧ k = 9) ∨ (f = 22 ∧ i = 0 ∧ k = 6) ∨ (f = 22 ∧ i = 0 ∧ k = 81) ∨ (f = 22 ∧ i = 0 ∧ k = 28) ∨ (f = 22 ∧ i = 0 ∧ k = 29) ∨ (f = 22030 ∧ i = 0) ∨ (f = 22031 ∧ i = 0) ∨ (f = 22032 ∧ i = 0) ∨ (f = 22033 ∧ i = 0) ∨ (f = 22034 ∧ i = 0) ∨ (f = 22035 ∧ i = 0)
def WBk (M : Mem) : Prop := WBk' (M 22 0 9) (M 22 0 6) (M 22 0 81) (M 22 0 28) (M 22 0 29) (M 22030 0) (M 22031 0) (M 22032 0) (M 22033 0) (M 22034 0) (M 22035 0)
theorem WBk_cg {M M' : Mem} (h : ∀ f i k, LWBk f i k → M' f i k = M f i k) (q : WBk M) : WBk M' := by
  have e0 : M' 22 0 9 = M 22 0 9 := h _ _ _ (by simp [LWBk])
  have e1 : M' 22 0 6 = M 22 0 6 := h _ _ _ (by simp [LWBk])
  have e2 : M' 22 0 81 = M 22 0 81 := h _ _ _ (by simp [LWBk])
  have e3 : M' 22 0 28 = M 22 0 28 := h _ _ _ (by simp [LWBk])
  have e4 : M' 22 0 29 = M 22 0 29 := h _ _ _ (by simp [LWBk])
  have e5 : M' 22030 0 = M 22030 0 := by funext k; exact h _ _ _ (by simp [LWBk])
  have e6 : M' 22031 0 = M 22031 0 := by funext k; exact h _ _ _ (by simp [LWBk])
  have e7 : M' 22032 0 = M 22032 0 := by funext k; exact h _ _ _ (by simp [LWBk])
  have e8 : M' 22033 0 = M 22033 0 := by funext k; exact h _ _ _ (by simp [LWBk])
  have e9 : M' 22034 0 = M 22034 0 := by funext k; exact h _ _ _ (by simp [LWBk])
  have e10 : M' 22035 0 = M 22035 0 := by funext k; exact h _ _ _ (by simp [LWBk])
  unfold WBk
  rw [e0, e1, e2, e3, e4, e5, e6, e7, e8, e9, e10]
  exact q
theorem WBk_fr {S : Nat → Int → Int → Prop} {M M' : Mem} (q : WBk M) (h : Fr S M M') (hs : ∀ f i k, LWBk f i k → ¬ S f i k) : WBk M' := WBk_cg (fun f i k hl => h f i k (hs f i k hl)) q
def LCBk (f : Nat) (i k : Int) : Prop := (f = 6 ∧ i = 0 ∧ k = 1) ∨ (f = 6 ∧ i = 0 ∧ k = 2) ∨ f = 7 ∨ f = 7000 ∨ f = 7002
def LPCBk (f : Nat) (i k : Int) : Prop := (f = 22 ∧ i = 0 ∧ k = 28) ∨ (f = 22 ∧ i = 0 ∧ k = 29) ∨ (f = 22030 ∧ i = 0) ∨ (f = 22031 ∧ i = 0) ∨ (f = 22032 ∧ i = 0) ∨ (f = 22033 ∧ i = 0) ∨ (f = 22034 ∧ i = 0) ∨ (f = 22035 ∧ i = 0)
def CBk (M P : Mem) : Prop := CBk' (M 6 0 1) (M 6 0 2) (M 7) (M 7000) (M 7002) (P 22 0 28) (P 22 0 29) (P 22030 0) (P 22031 0) (P 22032 0) (P 22033 0) (P 22034 0) (P 22035 0)
theorem CBk_cg {M M' P P' : Mem} (h : ∀ f i k, LCBk f i k → M' f i k = M f i k) (h' : ∀ f i k, LPCBk f i k → P' f i k = P f i k) (q : CBk M P) : CBk M' P' := by
  have e0 : M' 6 0 1 = M 6 0 1 := h _ _ _ (by simp [LCBk])
  have e1 : M' 6 0 2 = M 6 0 2 := h _ _ _ (by simp [LCBk])
  have e2 : M' 7 = M 7 := by funext i k; exact h _ _ _ (by simp [LCBk])
  have e3 : M' 7000 = M 7000 := by funext i k; exact h _ _ _ (by simp [LCBk])
  have e4 : M' 7002 = M 7002 := by funext i k; exact h _ _ _ (by simp [LCBk])
  have e100 : P' 22 0 28 = P 22 0 28 := h' _ _ _ (by simp [LPCBk])
  have e101 : P' 22 0 29 = P 22 0 29 := h' _ _ _ (by simp [LPCBk])
  have e102 : P' 22030 0 = P 22030 0 := by funext k; exact h' _ _ _ (by simp [LPCBk])
  have e103 : P' 22031 0 = P 22031 0 := by funext k; exact h' _ _ _ (by simp [LPCBk])
  have e104 : P' 22032 0 = P 22032 0 := by funext k; exact h' _ _ _ (by simp [LPCBk])
  have e105 : P' 22033 0 = P 22033 0 := by funext k; exact h' _ _ _ (by simp [LPCBk])
  have e106 : P' 22034 0 = P 22034 0 := by funext k; exact h' _ _ _ (by simp [LPCBk])
  have e107 : P' 22035 0 = P 22035 0 := by funext k; exact h' _ _ _ (by simp [LPCBk])
  unfold CBk
  rw [e0, e1, e2, e3, e4, e100, e101, e102, e103, e104, e105, e106, e107]
  exact q
theorem CBk_fr {S : Nat → Int → Int → Prop} {M M' P : Mem} (q : CBk M P) (h : Fr S M M') (hs : ∀ f i k, LCBk f i k → ¬ S f i k) : CBk M' P := CBk_cg (fun f i k hl => h f i k (hs f i k hl)) (fun _ _ _ _ => rfl) q
theorem CBk_frP {S : Nat → Int → Int → Prop} {M P P' : Mem} (q : CBk M P) (h : Fr S P P') (hs : ∀ f i k, LPCBk f i k → ¬ S f i k) : CBk M P' := CBk_cg (fun _ _ _ _ => rfl) (fun f i k hl => h f i k (hs f i k hl)) q
def LRBk (f : Nat) (i k : Int) : Prop := (f = 22 ∧ i = 0 ∧ k = 28) ∨ (f = 22 ∧ i = 0 ∧ k = 29) ∨ (f = 22030 ∧ i = 0) ∨ (f = 22031 ∧ i = 0) ∨ (f = 22032 ∧ i = 0) ∨ (f = 22033 ∧ i = 0) ∨ (f = 22034 ∧ i = 0) ∨ (f = 22035 ∧ i = 0)
def LPRBk (f : Nat) (i k : Int) : Prop := (f = 22 ∧ i = 0 ∧ k = 28) ∨ (f = 22 ∧ i = 0 ∧ k = 29) ∨ (f = 22030 ∧ i = 0) ∨ (f = 22031 ∧ i = 0) ∨ (f = 22032 ∧ i = 0) ∨ (f = 22033 ∧ i = 0) ∨ (f = 22034 ∧ i = 0) ∨ (f = 22035 ∧ i = 0)
def RBk (M P : Mem) : Prop := RBk' (M 22 0 28) (M 22 0 29) (M 22030 0) (M 22031 0) (M 22032 0) (M 22033 0) (M 22034 0) (M 22035 0) (P 22 0 28) (P 22 0 29) (P 22030 0) (P 22031 0) (P 22032 0) (P 22033 0) (P 22034 0) (P 22035 0)
theorem RBk_cg {M M' P P' : Mem} (h : ∀ f i k, LRBk f i k → M' f i k = M f i k) (h' : ∀ f i k, LPRBk f i k → P' f i k = P f i k) (q : RBk M P) : RBk M' P' := by
  have e0 : M' 22 0 28 = M 22 0 28 := h _ _ _ (by simp [LRBk])
  have e1 : M' 22 0 29 = M 22 0 29 := h _ _ _ (by simp [LRBk])
  have e2 : M' 22030 0 = M 22030 0 := by funext k; exact h _ _ _ (by simp [LRBk])
  have e3 : M' 22031 0 = M 22031 0 := by funext k; exact h _ _ _ (by simp [LRBk])
  have e4 : M' 22032 0 = M 22032 0 := by funext k; exact h _ _ _ (by simp [LRBk])
  have e5 : M' 22033 0 = M 22033 0 := by funext k; exact h _ _ _ (by simp [LRBk])
  have e6 : M' 22034 0 = M 22034 0 := by funext k; exact h _ _ _ (by simp [LRBk])
  have e7 : M' 22035 0 = M 22035 0 := by funext k; exact h _ _ _ (by simp [LRBk])
  have e100 : P' 22 0 28 = P 22 0 28 := h' _ _ _ (by simp [LPRBk])
  have e101 : P' 22 0 29 = P 22 0 29 := h' _ _ _ (by simp [LPRBk])
  have e102 : P' 22030 0 = P 22030 0 := by funext k; exact h' _ _ _ (by simp [LPRBk])
  have e103 : P' 22031 0 = P 22031 0 := by funext k; exact h' _ _ _ (by simp [LPRBk])
  have e104 : P' 22032 0 = P 22032 0 := by funext k; exact h' _ _ _ (by simp [LPRBk])
  have e105 : P' 22033 0 = P 22033 0 := by funext k; exact h' _ _ _ (by simp [LPRBk])
  have e106 : P' 22034 0 = P 22034 0 := by funext k; exact h' _ _ _ (by simp [LPRBk])
  have e107 : P' 22035 0 = P 22035 0 := by funext k; exact h' _ _ _ (by simp [LPRBk])
  unfold RBk
  rw [e0, e1, e2, e3, e4, e5, e6, e7, e100, e101, e102, e103, e104, e105, e106, e107]
  exact q
theorem RBk_fr {S : Nat → Int → Int → Prop} {M M' P : Mem} (q : RBk M P) (h : Fr S M M') (hs : ∀ f i k, LRBk f i k → ¬ S f i k) : RBk M' P := RBk_cg (fun f i k hl => h f i k (hs f i k hl)) (fun _ _ _ _ => rfl) q
theorem RBk_frP {S : Nat → Int → Int → Prop} {M P P' : Mem} (q : RBk M P) (h : Fr S P P') (hs : ∀ f i k, LPRBk f i k → ¬ S f i k) : RBk M P' := RBk_cg (fun _ _ _ _ => rfl) (fun f i k hl => h f i k (hs f i k hl)) q
def nwF (me ma : Int → Int) : Nat → Int
  | 0 => -99999999
  | k + 1 => if me k = -99999999 ∧ (nwF me ma k = -99999999 ∨ ma (nwF me ma k) < ma k) then k else nwF me ma k
def nwst (P : Mem) : Int := nwF (P 22035 0) (P 22034 0) (P 22 0 28).toNat
theorem nwF_rng {me ma : Int → Int} : ∀ k : Nat, nwF me ma k = -99999999 ∨ 0 ≤ nwF me ma k ∧ nwF me ma k < k ∧ me (nwF me ma k) = -99999999
  | 0 => Or.inl rfl
  | k + 1 => by
    unfold nwF
    split
    · rename_i h
      exact Or.inr ⟨by omega, by omega, h.1⟩
    · rcases nwF_rng (me := me) (ma := ma) k with h | ⟨h1, h2, h3⟩
      · exact Or.inl h
      · exact Or.inr ⟨h1, by omega, h3⟩
/-- how many are young -/
def cnF (me vv : Int → Int) (ck t : Int) : Nat → Int
  | 0 => 0
  | k + 1 => cnF me vv ck t k + (if me k = -99999999 ∧ ck - vv (128 * k + 7) < t then 1 else 0)
def cntd (P : Mem) (t : Int) : Int := cnF (P 22035 0) (P 22033 0) (P 22 0 81) t (P 22 0 28).toNat
theorem cnF_rng {me vv : Int → Int} {ck t : Int} : ∀ k : Nat, 0 ≤ cnF me vv ck t k ∧ cnF me vv ck t k ≤ k
  | 0 => ⟨Int.le_refl _, Int.le_refl _⟩
  | k + 1 => by
    have := cnF_rng (me := me) (vv := vv) (ck := ck) (t := t) k
    unfold cnF
    split <;> omega
section Book
variable {M N P : Mem} {Q : AR → Mem → Prop} {e k w x y t : Int}
theorem m362 (h : 0 ≤ M 6 0 1 ∧ M 6 0 1 ≤ 24) : Tq 362 0 [vR 6 0, vI x] [] M Q ↔ Q (.inl (some (vI (b2i (0 ≤ x ∧ x < M 6 0 1))))) M := by
  simp only [kI_v, kL_v, kV_v, kR_v, kX_n, kX_e, bd_e, b2i_e0, b2i_e1, b2i_nb, nb_0, nb_1, cmp_lt, cmp_le, cmp_gt, cmp_ge, cmp_eq, not_true_eq_false, not_false_eq_true, if_true, if_false, ite_true, ite_false, true_and, and_true, false_and, and_false, Int.reduceLT, Int.reduceLE, Int.reduceEq, Int.reduceSub, Int.reduceAdd, Int.reduceNeg, Int.reduceMul, Classical.not_not, Int.zero_add, Int.add_zero, Int.le_refl, t362_0, m25]
  rw [w32_id (by omega) (by omega), b2i_cg (show (0 ≤ x ∧ x ≤ M 6 0 1 - 1) ↔ (0 ≤ x ∧ x < M 6 0 1) by omega)]
theorem m213 (h : 0 ≤ M 22 0 28 ∧ M 22 0 28 ≤ 24) : Tq 213 0 [vR 22 0, vI x] [] M Q ↔ Q (.inl (some (vI (b2i (0 ≤ x ∧ x < M 22 0 28))))) M := by
  simp only [kI_v, kL_v, kV_v, kR_v, kX_n, kX_e, bd_e, b2i_e0, b2i_e1, b2i_nb, nb_0, nb_1, cmp_lt, cmp_le, cmp_gt, cmp_ge, cmp_eq, not_true_eq_false, not_false_eq_true, if_true, if_false, ite_true, ite_false, true_and, and_true, false_and, and_false, Int.reduceLT, Int.reduceLE, Int.reduceEq, Int.reduceSub, Int.reduceAdd, Int.reduceNeg, Int.reduceMul, Classical.not_not, Int.zero_add, Int.add_zero, Int.le_refl, t213_0, m189]
  rw [w32_id (by omega) (by omega), b2i_cg (show (0 ≤ x ∧ x ≤ M 22 0 28 - 1) ↔ (0 ≤ x ∧ x < M 22 0 28) by omega)]
theorem m370 (h1 : 0 ≤ k ∧ k < 16) (h2 : 0 ≤ w ∧ w < 8) : Tq 370 0 [vR 7 e, vI k, vI w] [] M Q ↔ Q (.inl (some (vI (M 7000 e (8 * k + w))))) M := by
  rw [t370_0, w32_id (z := 8 * k) (by omega) (by omega), w32_id (z := 8 * k + w) (by omega) (by omega)]
  exact andi (by omega) Iff.rfl
theorem m371 (h1 : 0 ≤ k ∧ k < 24) (h2 : 0 ≤ w ∧ w < 5) : Tq 371 0 [vR 7 e, vI k, vI w] [] M Q ↔ Q (.inl (some (vI (M 7002 e (5 * k + w))))) M := by
  rw [t371_0, w32_id (z := 5 * k) (by omega) (by omega), w32_id (z := 5 * k + w) (by omega) (by omega)]
  exact andi (by omega) Iff.rfl
/-- a number of the latest version -/
def ltst (P : Mem) (e w : Int) : Int := P 22033 0 (128 * e + 8 * (P 22032 0 e - 1) + w)
theorem m369 (hw : WBk P) (hc : CBk M P) (he : 0 ≤ e ∧ e < P 22 0 28) (h2 : 0 ≤ w ∧ w < 8) : Tq 369 0 [vR 7 e, vI w] [] M Q ↔ Q (.inl (some (vI (ltst P e w)))) M := by
  obtain ⟨w1, w2, w3⟩ := hw
  obtain ⟨w4, w5, -⟩ := w3 e he.1 he.2
  obtain ⟨c1, c2, c3⟩ := hc
  obtain ⟨d1, d2, d3, d4, d5, d6⟩ := c3 e he.1 he.2
  rw [t369_0, d1, w32_id (by omega) (by omega), m370 (by omega) h2, kI_v, d5 _ (by omega) (by omega)]
  unfold ltst
  rw [Int.add_assoc]
theorem m210 (hw : WBk P) (hr : RBk M P) (he : 0 ≤ e ∧ e < P 22 0 28) (h2 : 0 ≤ w ∧ w < 8) : Tq 210 0 [vR 22 0, vI e, vI w] [] M Q ↔ Q (.inl (some (vI (ltst P e w)))) M := by
  obtain ⟨w1, w2, w3⟩ := hw
  obtain ⟨w4, w5, -⟩ := w3 e he.1 he.2
  obtain ⟨c1, c2, c3⟩ := hr
  obtain ⟨d1, d2, d3, d4, d5, d6⟩ := c3 e he.1 he.2
  have := d5 (8 * (P 22032 0 e - 1) + w) (by omega) (by omega)
  rw [t210_0, d1, w32_id (z := 16 * e) (by omega) (by omega), w32_id (z := 16 * e + P 22032 0 e) (by omega) (by omega), w32_id (z := 16 * e + P 22032 0 e - 1) (by omega) (by omega), w32_id (z := 8 * (16 * e + P 22032 0 e - 1)) (by omega) (by omega), w32_id (z := 8 * (16 * e + P 22032 0 e - 1) + w) (by omega) (by omega), show 8 * (16 * e + P 22032 0 e - 1) + w = 128 * e + (8 * (P 22032 0 e - 1) + w) by omega, this]
  unfold ltst
  rw [Int.add_assoc]
  exact andi (by omega) (andi (by omega) Iff.rfl)
theorem m364 (hw : WBk P) (hc : CBk M P) : Tq 364 0 [vR 6 0, vJ, vJ] [] M Q ↔ Q (.inl (some (vI (nwst P)))) M := by
  obtain ⟨w1, w2, w3⟩ := hw
  obtain ⟨c1, c2, c3⟩ := hc
  have c1 : M 6 0 1 = P 22 0 28 := c1
  have loop : ∀ (d j : Nat), (j : Int) + d = P 22 0 28 → (Tq 364 1 [vR 6 0, vI (nwF (P 22035 0) (P 22034 0) j), vI j] [] M Q ↔ Q (.inl (some (vI (nwst P)))) M) := by
    intro d
    induction d with
    | zero =>
      intro j hj
      rw [t364_1, c1, if_pos (by omega), t364_4]
      unfold nwst
      rw [show (P 22 0 28).toNat = j by omega]
    | succ d ih =>
      intro j hj
      obtain ⟨d1, d2, d3, d4, -⟩ := c3 j (by omega) (by omega)
      have rg := nwF_rng (me := P 22035 0) (ma := P 22034 0) j
      have nx := ih (j + 1) (by omega)
      have e1 : nwF (P 22035 0) (P 22034 0) (j + 1) = if P 22035 0 j = -99999999 ∧ (nwF (P 22035 0) (P 22034 0) j = -99999999 ∨ P 22034 0 (nwF (P 22035 0) (P 22034 0) j) < P 22034 0 j) then (j : Int) else nwF (P 22035 0) (P 22034 0) j := rfl
      rw [t364_1, c1, if_neg (by omega), t364_2, t364_3, t364_3, w32_id (z := (j : Int) + 1) (by omega) (by omega), d3, d4]
      rw [e1, show ((j + 1 : Nat) : Int) = j + 1 by omega] at nx
      refine andi (by omega) ?_
      by_cases a1 : P 22035 0 j = -99999999
      · rw [if_neg (by simpa using a1)]
        by_cases a2 : nwF (P 22035 0) (P 22034 0) j = -99999999
        · rw [if_pos a2]
          rw [if_pos ⟨a1, Or.inl a2⟩] at nx
          exact nx
        · rw [if_neg a2]
          have rg : 0 ≤ nwF (P 22035 0) (P 22034 0) j ∧ nwF (P 22035 0) (P 22034 0) j < j := by omega
          obtain ⟨-, -, -, f4, -⟩ := c3 (nwF (P 22035 0) (P 22034 0) j) (by omega) (by omega)
          rw [f4]
          refine andi (by omega) (andi (by omega) ?_)
          by_cases a3 : P 22034 0 (nwF (P 22035 0) (P 22034 0) j) < P 22034 0 j
          · rw [if_neg (by rw [cmp_le]; omega)]
            rw [if_pos ⟨a1, Or.inr a3⟩] at nx
            exact nx
          · rw [if_pos (by rw [cmp_le]; omega)]
            rw [if_neg (fun q => by rcases q.2 with q | q; exact a2 q; exact a3 q)] at nx
            exact nx
      · rw [if_pos a1]
        rw [if_neg (fun q => a1 q.1)] at nx
        exact nx
  rw [t364_0]
  exact loop (P 22 0 28).toNat 0 (by omega)
theorem m241 (hw : WBk P) (hr : RBk M P) : Tq 241 0 [vR 22 0, vJ, vJ] [] M Q ↔ Q (.inl (some (vI (nwst P)))) M := by
  obtain ⟨w1, w2, w3⟩ := hw
  obtain ⟨c1, c2, c3⟩ := hr
  have c1 : M 22 0 28 = P 22 0 28 := c1
  have loop : ∀ (d j : Nat), (j : Int) + d = P 22 0 28 → (Tq 241 1 [vR 22 0, vI (nwF (P 22035 0) (P 22034 0) j), vI j] [] M Q ↔ Q (.inl (some (vI (nwst P)))) M) := by
    intro d
    induction d with
    | zero =>
      intro j hj
      rw [t241_1, c1, if_pos (by omega), t241_5]
      unfold nwst
      rw [show (P 22 0 28).toNat = j by omega]
    | succ d ih =>
      intro j hj
      obtain ⟨d1, d2, d3, d4, -⟩ := c3 j (by omega) (by omega)
      have rg := nwF_rng (me := P 22035 0) (ma := P 22034 0) j
      have nx := ih (j + 1) (by omega)
      have e1 : nwF (P 22035 0) (P 22034 0) (j + 1) = if P 22035 0 j = -99999999 ∧ (nwF (P 22035 0) (P 22034 0) j = -99999999 ∨ P 22034 0 (nwF (P 22035 0) (P 22034 0) j) < P 22034 0 j) then (j : Int) else nwF (P 22035 0) (P 22034 0) j := rfl
      rw [t241_1, c1, if_neg (by omega), t241_2, t241_3, t241_4, t241_4, w32_id (z := (j : Int) + 1) (by omega) (by omega), d3, d4]
      rw [e1, show ((j + 1 : Nat) : Int) = j + 1 by omega] at nx
      refine andi (by omega) ?_
      by_cases a1 : P 22035 0 j = -99999999
      · rw [if_neg (by simpa using a1)]
        by_cases a2 : nwF (P 22035 0) (P 22034 0) j = -99999999
        · rw [if_pos a2]
          rw [if_pos ⟨a1, Or.inl a2⟩] at nx
          exact nx
        · rw [if_neg a2]
          have rg : 0 ≤ nwF (P 22035 0) (P 22034 0) j ∧ nwF (P 22035 0) (P 22034 0) j < j := by omega
          obtain ⟨-, -, -, f4, -⟩ := c3 (nwF (P 22035 0) (P 22034 0) j) (by omega) (by omega)
          rw [f4]
          refine andi (by omega) (andi (by omega) ?_)
          by_cases a3 : P 22034 0 (nwF (P 22035 0) (P 22034 0) j) < P 22034 0 j
          · rw [if_neg (by omega)]
            rw [if_pos ⟨a1, Or.inr a3⟩] at nx
            exact nx
          · rw [if_pos (by omega)]
            rw [if_neg (fun q => by rcases q.2 with q | q; exact a2 q; exact a3 q)] at nx
            exact nx
      · rw [if_pos a1]
        rw [if_neg (fun q => a1 q.1)] at nx
        exact nx
  rw [t241_0]
  exact loop (P 22 0 28).toNat 0 (by omega)
theorem m365 (hw : WBk P) (hc : CBk M P) (hk : P 22 0 81 ≤ 4095) : Tq 365 0 [vR 6 0, vI t, vI (P 22 0 81), vJ, vJ] [] M Q ↔ Q (.inl (some (vI (cntd P t)))) M := by
  obtain ⟨w1, w2, w3⟩ := hw
  obtain ⟨c1, c2, c3⟩ := hc
  have c1 : M 6 0 1 = P 22 0 28 := c1
  have loop : ∀ (d j : Nat), (j : Int) + d = P 22 0 28 → (Tq 365 1 [vR 6 0, vI t, vI (P 22 0 81), vI (cnF (P 22035 0) (P 22033 0) (P 22 0 81) t j), vI j] [] M Q ↔ Q (.inl (some (vI (cntd P t)))) M) := by
    intro d
    induction d with
    | zero =>
      intro j hj
      rw [t365_1, c1, if_pos (by omega), t365_4]
      unfold cntd
      rw [show (P 22 0 28).toNat = j by omega]
    | succ d ih =>
      intro j hj
      obtain ⟨d1, d2, d3, d4, d5, -⟩ := c3 j (by omega) (by omega)
      obtain ⟨v1, v2, -, -, -, -, v3⟩ := w3 j (by omega) (by omega)
      have v4 := (v3 0 (by omega) (by omega)).2.2.2.2.2.2.2
      rw [show 128 * (j : Int) + 8 * 0 + 7 = 128 * j + 7 by omega] at v4
      have rg := cnF_rng (me := P 22035 0) (vv := P 22033 0) (ck := P 22 0 81) (t := t) j
      have nx := ih (j + 1) (by omega)
      have e1 : cnF (P 22035 0) (P 22033 0) (P 22 0 81) t (j + 1) = cnF (P 22035 0) (P 22033 0) (P 22 0 81) t j + (if P 22035 0 j = -99999999 ∧ P 22 0 81 - P 22033 0 (128 * j + 7) < t then 1 else 0) := rfl
      rw [t365_1, c1, if_neg (by omega), d3, m370 (by omega) (by omega), kI_v, d5 _ (by omega) (by omega), w32_id (z := P 22 0 81 - P 22033 0 (128 * j + (8 * 0 + 7))) (by rw [show 8 * (0 : Int) + 7 = 7 by decide]; omega) (by rw [show 8 * (0 : Int) + 7 = 7 by decide]; omega), show 8 * (0 : Int) + 7 = 7 by decide, t365_2, t365_3, t365_3, w32_id (z := (j : Int) + 1) (by omega) (by omega), w32_id (z := cnF (P 22035 0) (P 22033 0) (P 22 0 81) t j + 0) (by omega) (by omega), w32_id (z := cnF (P 22035 0) (P 22033 0) (P 22 0 81) t j + 1) (by omega) (by omega)]
      rw [e1, show ((j + 1 : Nat) : Int) = j + 1 by omega] at nx
      refine andi (by omega) ?_
      by_cases a1 : P 22035 0 j = -99999999
      · rw [if_neg (by simpa using a1)]
        refine andi (by omega) ?_
        by_cases a2 : P 22 0 81 - P 22033 0 (128 * j + 7) < t
        · rw [if_neg (by omega)]
          rw [if_pos ⟨a1, a2⟩] at nx
          exact nx
        · rw [if_pos (by omega)]
          rw [if_neg (fun q => a2 q.2)] at nx
          exact nx
      · rw [if_pos a1]
        rw [if_neg (fun q => a1 q.1)] at nx
        exact nx
  rw [t365_0]
  exact loop (P 22 0 28).toNat 0 (by omega)
theorem m250 (hw : WBk P) (hr : RBk M P) (hck : M 22 0 81 = P 22 0 81) (hk : P 22 0 81 ≤ 4095) : Tq 250 0 [vR 22 0, vI t, vJ, vJ] [] M Q ↔ Q (.inl (some (vL (cntd P t)))) M := by
  obtain ⟨w1, w2, w3⟩ := hw
  obtain ⟨c1, c2, c3⟩ := hr
  have c1 : M 22 0 28 = P 22 0 28 := c1
  have loop : ∀ (d j : Nat), (j : Int) + d = P 22 0 28 → (Tq 250 1 [vR 22 0, vI t, vI (cnF (P 22035 0) (P 22033 0) (P 22 0 81) t j), vI j] [] M Q ↔ Q (.inl (some (vL (cntd P t)))) M) := by
    intro d
    induction d with
    | zero =>
      intro j hj
      rw [t250_1, c1, if_pos (by omega), t250_4]
      unfold cntd
      rw [show (P 22 0 28).toNat = j by omega]
    | succ d ih =>
      intro j hj
      obtain ⟨d1, d2, d3, d4, d5, -⟩ := c3 j (by omega) (by omega)
      obtain ⟨v1, v2, -, -, -, -, v3⟩ := w3 j (by omega) (by omega)
      have v4 := (v3 0 (by omega) (by omega)).2.2.2.2.2.2.2
      rw [show 128 * (j : Int) + 8 * 0 + 7 = 128 * j + 7 by omega] at v4
      have rg := cnF_rng (me := P 22035 0) (vv := P 22033 0) (ck := P 22 0 81) (t := t) j
      have nx := ih (j + 1) (by omega)
      have e1 : cnF (P 22035 0) (P 22033 0) (P 22 0 81) t (j + 1) = cnF (P 22035 0) (P 22033 0) (P 22 0 81) t j + (if P 22035 0 j = -99999999 ∧ P 22 0 81 - P 22033 0 (128 * j + 7) < t then 1 else 0) := rfl
      rw [t250_1, c1, if_neg (by omega), d3, w32_id (z := 128 * (j : Int)) (by omega) (by omega), w32_id (z := 128 * (j : Int) + 7) (by omega) (by omega), d5 7 (by omega) (by omega), hck, w32_id (z := P 22 0 81 - P 22033 0 (128 * j + 7)) (by omega) (by omega), t250_2, t250_3, t250_3, w32_id (z := (j : Int) + 1) (by omega) (by omega), w32_id (z := cnF (P 22035 0) (P 22033 0) (P 22 0 81) t j + 0) (by omega) (by omega), w32_id (z := cnF (P 22035 0) (P 22033 0) (P 22 0 81) t j + 1) (by omega) (by omega)]
      rw [e1, show ((j + 1 : Nat) : Int) = j + 1 by omega] at nx
      refine andi (by omega) ?_
      by_cases a1 : P 22035 0 j = -99999999
      · rw [if_neg (by simpa using a1)]
        refine andi (by omega) ?_
        by_cases a2 : P 22 0 81 - P 22033 0 (128 * j + 7) < t
        · rw [if_neg (by omega)]
          rw [if_pos ⟨a1, a2⟩] at nx
          exact nx
        · rw [if_pos (by omega)]
          rw [if_neg (fun q => a2 q.2)] at nx
          exact nx
      · rw [if_pos a1]
        rw [if_neg (fun q => a1 q.1)] at nx
        exact nx
  rw [t250_0]
  exact loop (P 22 0 28).toNat 0 (by omega)
end Book
