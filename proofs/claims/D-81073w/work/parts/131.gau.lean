/-! GAUGES -/
/-- the greatest tick up to c that has a level -/
def OkLt (lev : Int → Int) (b c v : Int) : Prop := (v = -99999999 ∧ ∀ t, 0 ≤ t → t ≤ c → lev (b + t) = -99999999) ∨ (0 ≤ v ∧ v ≤ c ∧ ¬ lev (b + v) = -99999999 ∧ ∀ t, v < t → t ≤ c → lev (b + t) = -99999999)
def WGa' (n : Int) (me co cn lv : Int → Int) : Prop := (0 ≤ n ∧ n ≤ 4) ∧ ∀ g, 0 ≤ g → g < n → (-20000 ≤ me g ∧ me g ≤ 20000) ∧ (0 ≤ co g ∧ co g ≤ 6) ∧ ∀ t, 0 ≤ t → t < 4096 → lv (4096 * g + t) = -99999999 ∨ -20000 ≤ lv (4096 * g + t) ∧ lv (4096 * g + t) ≤ 20000
def CGa' (n : Int) (me pa sp am ph le ha la : Int → Int) (n' : Int) (me' co' cn' lv' : Int → Int) (ck : Int) : Prop := n = n' ∧ (∀ g, 0 ≤ g → g < n' → me g = me' g ∧ pa g = co' g ∧ (∀ k, 0 ≤ k → k < co' g → sp (6 * g + k) = cn' (18 * g + 3 * k) ∧ am (6 * g + k) = cn' (18 * g + 3 * k + 1) ∧ ph (6 * g + k) = cn' (18 * g + 3 * k + 2)) ∧ (∀ t, 0 ≤ t → t < 4096 → (lv' (4096 * g + t) = -99999999 ∧ ha (4096 * g + t) = 0) ∨ (¬ lv' (4096 * g + t) = -99999999 ∧ ha (4096 * g + t) = 1 ∧ le (4096 * g + t) = lv' (4096 * g + t))) ∧ OkLt lv' (4096 * g) ck (la g)) ∧ (∀ k, 4096 * n' ≤ k → k < 16384 → ha k = 0)
def RGa' (n : Int) (me co cn lv : Int → Int) (n' : Int) (me' co' cn' lv' : Int → Int) : Prop := n = n' ∧ ∀ g, 0 ≤ g → g < n' → me g = me' g ∧ co g = co' g ∧ (∀ k, 0 ≤ k → k < 3 * co' g → cn (18 * g + k) = cn' (18 * g + k)) ∧ ∀ t, 0 ≤ t → t < 4096 → lv (4096 * g + t) = lv' (4096 * g + t)
def LWGa (f : Nat) (i k : Int) : Prop := (f = 22 ∧ i = 0 ∧ k = 43) ∨ (f = 22046 ∧ i = 0) ∨ (f = 22047 ∧ i = 0) ∨ (f = 22048 ∧ i = 0) ∨ (f = 22049 ∧ i = 0)
def WGa (M : Mem) : Prop := WGa' (M 22 0 43) (M 22046 0) (M 22047 0) (M 22048 0) (M 22049 0)
theorem WGa_cg {M M' : Mem} (h : ∀ f i k, LWGa f i k → M' f i k = M f i k) (q : WGa M) : WGa M' := by
  have e0 : M' 22 0 43 = M 22 0 43 := h _ _ _ (by simp [LWGa])
  have e1 : M' 22046 0 = M 22046 0 := by funext k; exact h _ _ _ (by simp [LWGa])
  have e2 : M' 22047 0 = M 22047 0 := by funext k; exact h _ _ _ (by simp [LWGa])
  have e3 : M' 22048 0 = M 22048 0 := by funext k; exact h _ _ _ (by simp [LWGa])
  have e4 : M' 22049 0 = M 22049 0 := by funext k; exact h _ _ _ (by simp [LWGa])
  unfold WGa
  rw [e0, e1, e2, e3, e4]
  exact q
theorem WGa_fr {S : Nat → Int → Int → Prop} {M M' : Mem} (q : WGa M) (h : Fr S M M') (hs : ∀ f i k, LWGa f i k → ¬ S f i k) : WGa M' := WGa_cg (fun f i k hl => h f i k (hs f i k hl)) q
def LCGa (f : Nat) (i k : Int) : Prop := (f = 8 ∧ i = 0 ∧ k = 0) ∨ (f = 8001 ∧ i = 0) ∨ (f = 8002 ∧ i = 0) ∨ (f = 8003 ∧ i = 0) ∨ (f = 8004 ∧ i = 0) ∨ (f = 8005 ∧ i = 0) ∨ (f = 8006 ∧ i = 0) ∨ (f = 8007 ∧ i = 0) ∨ (f = 8008 ∧ i = 0)
def LPCGa (f : Nat) (i k : Int) : Prop := (f = 22 ∧ i = 0 ∧ k = 43) ∨ (f = 22046 ∧ i = 0) ∨ (f = 22047 ∧ i = 0) ∨ (f = 22048 ∧ i = 0) ∨ (f = 22049 ∧ i = 0) ∨ (f = 22 ∧ i = 0 ∧ k = 81)
def CGa (M P : Mem) : Prop := CGa' (M 8 0 0) (M 8001 0) (M 8002 0) (M 8003 0) (M 8004 0) (M 8005 0) (M 8006 0) (M 8007 0) (M 8008 0) (P 22 0 43) (P 22046 0) (P 22047 0) (P 22048 0) (P 22049 0) (P 22 0 81)
theorem CGa_cg {M M' P P' : Mem} (h : ∀ f i k, LCGa f i k → M' f i k = M f i k) (h' : ∀ f i k, LPCGa f i k → P' f i k = P f i k) (q : CGa M P) : CGa M' P' := by
  have e0 : M' 8 0 0 = M 8 0 0 := h _ _ _ (by simp [LCGa])
  have e1 : M' 8001 0 = M 8001 0 := by funext k; exact h _ _ _ (by simp [LCGa])
  have e2 : M' 8002 0 = M 8002 0 := by funext k; exact h _ _ _ (by simp [LCGa])
  have e3 : M' 8003 0 = M 8003 0 := by funext k; exact h _ _ _ (by simp [LCGa])
  have e4 : M' 8004 0 = M 8004 0 := by funext k; exact h _ _ _ (by simp [LCGa])
  have e5 : M' 8005 0 = M 8005 0 := by funext k; exact h _ _ _ (by simp [LCGa])
  have e6 : M' 8006 0 = M 8006 0 := by funext k; exact h _ _ _ (by simp [LCGa])
  have e7 : M' 8007 0 = M 8007 0 := by funext k; exact h _ _ _ (by simp [LCGa])
  have e8 : M' 8008 0 = M 8008 0 := by funext k; exact h _ _ _ (by simp [LCGa])
  have e100 : P' 22 0 43 = P 22 0 43 := h' _ _ _ (by simp [LPCGa])
  have e101 : P' 22046 0 = P 22046 0 := by funext k; exact h' _ _ _ (by simp [LPCGa])
  have e102 : P' 22047 0 = P 22047 0 := by funext k; exact h' _ _ _ (by simp [LPCGa])
  have e103 : P' 22048 0 = P 22048 0 := by funext k; exact h' _ _ _ (by simp [LPCGa])
  have e104 : P' 22049 0 = P 22049 0 := by funext k; exact h' _ _ _ (by simp [LPCGa])
  have e105 : P' 22 0 81 = P 22 0 81 := h' _ _ _ (by simp [LPCGa])
  unfold CGa
  rw [e0, e1, e2, e3, e4, e5, e6, e7, e8, e100, e101, e102, e103, e104, e105]
  exact q
theorem CGa_fr {S : Nat → Int → Int → Prop} {M M' P : Mem} (q : CGa M P) (h : Fr S M M') (hs : ∀ f i k, LCGa f i k → ¬ S f i k) : CGa M' P := CGa_cg (fun f i k hl => h f i k (hs f i k hl)) (fun _ _ _ _ => rfl) q
theorem CGa_frP {S : Nat → Int → Int → Prop} {M P P' : Mem} (q : CGa M P) (h : Fr S P P') (hs : ∀ f i k, LPCGa f i k → ¬ S f i k) : CGa M P' := CGa_cg (fun _ _ _ _ => rfl) (fun f i k hl => h f i k (hs f i k hl)) q
def LRGa (f : Nat) (i k : Int) : Prop := (f = 22 ∧ i = 0 ∧ k = 43) ∨ (f = 22046 ∧ i = 0) ∨ (f = 22047 ∧ i = 0) ∨ (f = 22048 ∧ i = 0) ∨ (f = 22049 ∧ i = 0)
def LPRGa (f : Nat) (i k : Int) : Prop := (f = 22 ∧ i = 0 ∧ k = 43) ∨ (f = 22046 ∧ i = 0) ∨ (f = 22047 ∧ i = 0) ∨ (f = 22048 ∧ i = 0) ∨ (f = 22049 ∧ i = 0)
def RGa (M P : Mem) : Prop := RGa' (M 22 0 43) (M 22046 0) (M 22047 0) (M 22048 0) (M 22049 0) (P 22 0 43) (P 22046 0) (P 22047 0) (P 22048 0) (P 22049 0)
theorem RGa_cg {M M' P P' : Mem} (h : ∀ f i k, LRGa f i k → M' f i k = M f i k) (h' : ∀ f i k, LPRGa f i k → P' f i k = P f i k) (q : RGa M P) : RGa M' P' := by
  have e0 : M' 22 0 43 = M 22 0 43 := h _ _ _ (by simp [LRGa])
  have e1 : M' 22046 0 = M 22046 0 := by funext k; exact h _ _ _ (by simp [LRGa])
  have e2 : M' 22047 0 = M 22047 0 := by funext k; exact h _ _ _ (by simp [LRGa])
  have e3 : M' 22048 0 = M 22048 0 := by funext k; exact h _ _ _ (by simp [LRGa])
  have e4 : M' 22049 0 = M 22049 0 := by funext k; exact h _ _ _ (by simp [LRGa])
  have e100 : P' 22 0 43 = P 22 0 43 := h' _ _ _ (by simp [LPRGa])
  have e101 : P' 22046 0 = P 22046 0 := by funext k; exact h' _ _ _ (by simp [LPRGa])
  have e102 : P' 22047 0 = P 22047 0 := by funext k; exact h' _ _ _ (by simp [LPRGa])
  have e103 : P' 22048 0 = P 22048 0 := by funext k; exact h' _ _ _ (by simp [LPRGa])
  have e104 : P' 22049 0 = P 22049 0 := by funext k; exact h' _ _ _ (by simp [LPRGa])
  unfold RGa
  rw [e0, e1, e2, e3, e4, e100, e101, e102, e103, e104]
  exact q
theorem RGa_fr {S : Nat → Int → Int → Prop} {M M' P : Mem} (q : RGa M P) (h : Fr S M M') (hs : ∀ f i k, LRGa f i k → ¬ S f i k) : RGa M' P := RGa_cg (fun f i k hl => h f i k (hs f i k hl)) (fun _ _ _ _ => rfl) q
theorem RGa_frP {S : Nat → Int → Int → Prop} {M P P' : Mem} (q : RGa M P) (h : Fr S P P') (hs : ∀ f i k, LPRGa f i k → ¬ S f i k) : RGa M P' := RGa_cg (fun _ _ _ _ => rfl) (fun f i k hl => h f i k (hs f i k hl)) q
/-- the tide's sum -/
def psm (cn : Int → Int) (g t : Int) : Nat → Int
  | 0 => 0
  | k + 1 => w64 (psm cn g t k + w64 (cn (18 * g + 3 * k + 1) * sinv (w32 (w32 (cn (18 * g + 3 * k) * t) + cn (18 * g + 3 * k + 2)))))
def prd (P : Mem) (g t : Int) : Int := w32 (P 22046 0 g + w32 (shr64 (psm (P 22048 0) g t (P 22047 0 g).toNat) 15))
theorem prd_32 {P : Mem} {g t : Int} : I32 (prd P g t) := w32_rng _
section Gau
variable {M N P : Mem} {Q : AR → Mem → Prop} {g t x y v a b c d : Int}
theorem m375 (h : 0 ≤ M 8 0 0 ∧ M 8 0 0 ≤ 4) : Tq 375 0 [vR 8 0, vI x] [] M Q ↔ Q (.inl (some (vI (b2i (0 ≤ x ∧ x < M 8 0 0))))) M := by
  simp only [kI_v, kL_v, kV_v, kR_v, kX_n, kX_e, bd_e, b2i_e0, b2i_e1, b2i_nb, nb_0, nb_1, cmp_lt, cmp_le, cmp_gt, cmp_ge, cmp_eq, not_true_eq_false, not_false_eq_true, if_true, if_false, ite_true, ite_false, true_and, and_true, false_and, and_false, Int.reduceLT, Int.reduceLE, Int.reduceEq, Int.reduceSub, Int.reduceAdd, Int.reduceNeg, Int.reduceMul, Classical.not_not, Int.zero_add, Int.add_zero, Int.le_refl, t375_0, m25]
  rw [w32_id (by omega) (by omega), b2i_cg (show (0 ≤ x ∧ x ≤ M 8 0 0 - 1) ↔ (0 ≤ x ∧ x < M 8 0 0) by omega)]
theorem m216 (h : 0 ≤ M 22 0 43 ∧ M 22 0 43 ≤ 4) : Tq 216 0 [vR 22 0, vI x] [] M Q ↔ Q (.inl (some (vI (b2i (0 ≤ x ∧ x < M 22 0 43))))) M := by
  simp only [kI_v, kL_v, kV_v, kR_v, kX_n, kX_e, bd_e, b2i_e0, b2i_e1, b2i_nb, nb_0, nb_1, cmp_lt, cmp_le, cmp_gt, cmp_ge, cmp_eq, not_true_eq_false, not_false_eq_true, if_true, if_false, ite_true, ite_false, true_and, and_true, false_and, and_false, Int.reduceLT, Int.reduceLE, Int.reduceEq, Int.reduceSub, Int.reduceAdd, Int.reduceNeg, Int.reduceMul, Classical.not_not, Int.zero_add, Int.add_zero, Int.le_refl, t216_0, m189]
  rw [w32_id (by omega) (by omega), b2i_cg (show (0 ≤ x ∧ x ≤ M 22 0 43 - 1) ↔ (0 ≤ x ∧ x < M 22 0 43) by omega)]
theorem m378 (hw : WGa P) (hc : CGa M P) (hg : 0 ≤ g ∧ g < P 22 0 43) : Tq 378 0 [vR 8 0, vI g, vI t, vJ, vJ, vJ] [] M Q ↔ Q (.inl (some (vI (prd P g t)))) M := by
  obtain ⟨w1, w2⟩ := hw
  obtain ⟨w3, w4, -⟩ := w2 g hg.1 hg.2
  obtain ⟨c1, c2, -⟩ := hc
  obtain ⟨c3, c4, c5, -⟩ := c2 g hg.1 hg.2
  have loop : ∀ (d k : Nat), (k : Int) + d = P 22047 0 g → (Tq 378 1 [vR 8 0, vI g, vI t, vL (psm (P 22048 0) g t k), vJ, vI (6 * g + k)] [] M Q ↔ Q (.inl (some (vI (prd P g t)))) M) := by
    intro d
    induction d with
    | zero =>
      intro k hk
      rw [t378_1, c4, w32_id (z := g * 6) (by omega) (by omega), w32_id (z := g * 6 + P 22047 0 g) (by omega) (by omega), if_pos (by omega), t378_2, c3]
      unfold prd
      rw [show (P 22047 0 g).toNat = k by omega]
      exact andi (by omega) (andi (by omega) Iff.rfl)
    | succ d ih =>
      intro k hk
      obtain ⟨s1, s2, s3⟩ := c5 k (by omega) (by omega)
      rw [t378_1, c4, w32_id (z := g * 6) (by omega) (by omega), w32_id (z := g * 6 + P 22047 0 g) (by omega) (by omega), if_neg (by omega), s1, s2, s3, m77, kI_v, w32_id (z := 6 * g + (k : Int) + 1) (by omega) (by omega)]
      have := ih (k + 1) (by omega)
      rw [show 6 * g + ((k + 1 : Nat) : Int) = 6 * g + k + 1 by omega] at this
      exact andi (by omega) (andi (by omega) (andi (by omega) (andi (by omega) this)))
  have := loop (P 22047 0 g).toNat 0 (by omega)
  rw [show ((0 : Nat) : Int) = 0 from rfl, Int.add_zero] at this
  rw [t378_0, w32_id (z := g * 6) (by omega) (by omega), Int.mul_comm g 6]
  exact this
theorem m243 (hw : WGa P) (hr : RGa M P) (hg : 0 ≤ g ∧ g < P 22 0 43) (ht : 0 ≤ t ∧ t ≤ 4095) : Tq 243 0 [vR 22 0, vI g, vI t, vJ, vJ, vJ, vJ] [] M Q ↔ Q (.inl (some (vI (prd P g t)))) M := by
  obtain ⟨w1, w2⟩ := hw
  obtain ⟨w3, w4, -⟩ := w2 g hg.1 hg.2
  obtain ⟨r1, r2⟩ := hr
  have r1 : M 22 0 43 = P 22 0 43 := r1
  obtain ⟨c3, c4, c5, -⟩ := r2 g hg.1 hg.2
  have loop : ∀ (d k : Nat), (k : Int) + d = P 22047 0 g → (Tq 243 3 [vR 22 0, vI g, vI t, vL (psm (P 22048 0) g t k), vJ, vI k, vJ] [] M Q ↔ Q (.inl (some (vI (prd P g t)))) M) := by
    intro d
    induction d with
    | zero =>
      intro k hk
      rw [t243_3, c4, if_pos (by omega), t243_4, c3]
      unfold prd
      rw [show (P 22047 0 g).toNat = k by omega]
      exact andi (by omega) (andi (by omega) Iff.rfl)
    | succ d ih =>
      intro k hk
      have s1 := c5 (3 * k) (by omega) (by omega)
      have s2 := c5 (3 * k + 1) (by omega) (by omega)
      have s3 := c5 (3 * k + 2) (by omega) (by omega)
      rw [← Int.add_assoc] at s2 s3
      rw [t243_3, c4, if_neg (by omega), w32_id (z := 18 * g) (by omega) (by omega), w32_id (z := 3 * (k : Int)) (by omega) (by omega), w32_id (z := 18 * g + 3 * (k : Int)) (by omega) (by omega), w32_id (z := 18 * g + 3 * (k : Int) + 1) (by omega) (by omega), w32_id (z := 18 * g + 3 * (k : Int) + 2) (by omega) (by omega), s1, s2, s3, m244, kI_v, w32_id (z := (k : Int) + 1) (by omega) (by omega)]
      exact andi (by omega) (andi (by omega) (andi (by omega) (andi (by omega) (ih (k + 1) (by omega)))))
  have := loop (P 22047 0 g).toNat 0 (by omega)
  rw [t243_0, m216 (by omega), kI_v, r1, if_neg (by rw [b2i_t hg]; decide), m219, kI_v, if_pos (by rw [b2i_t ht]; decide), t243_2]
  exact this
theorem op_tide {I : Mem → Prop} (hw : WGa P) (hc : CGa M P) (hr : RGa M P) (hI : I M) : Op2 S0 S0 76 [vR 1 0, vI g, vI t] 243 [vR 22 0, vI g, vI t, vJ, vJ, vJ, vJ] M I := by
  have c1 : M 8 0 0 = P 22 0 43 := hc.1
  have r1 : M 22 0 43 = P 22 0 43 := hr.1
  have w1 : 0 ≤ P 22 0 43 ∧ P 22 0 43 ≤ 4 := hw.1
  by_cases hb : (0 ≤ g ∧ g < P 22 0 43) ∧ 0 ≤ t ∧ t ≤ 4095
  · refine Op2_ret (v := prd P g t) (fun Q => ?_) (fun Q => ?_) hI
    · rw [t76_0, m375 (by omega), kI_v, c1, if_neg (by rw [b2i_t hb.1]; decide), m34, kI_v, if_neg (by rw [b2i_t hb.2]; decide), m378 hw hc hb.1, kI_v, t76_2]
    · exact m243 hw hr hb.1 hb.2
  · refine Op2_ret (v := -99999999) (fun Q => ?_) (fun Q => ?_) hI
    · simp only [kI_v, kL_v, kV_v, kR_v, kX_n, kX_e, bd_e, b2i_e0, b2i_e1, b2i_nb, nb_0, nb_1, cmp_lt, cmp_le, cmp_gt, cmp_ge, cmp_eq, not_true_eq_false, not_false_eq_true, if_true, if_false, ite_true, ite_false, true_and, and_true, false_and, and_false, Int.reduceLT, Int.reduceLE, Int.reduceEq, Int.reduceSub, Int.reduceAdd, Int.reduceNeg, Int.reduceMul, Classical.not_not, Int.zero_add, Int.add_zero, Int.le_refl, t76_0, t76_1, t76_2, m375 (M := M) (show 0 ≤ M 8 0 0 ∧ M 8 0 0 ≤ 4 by omega), m34]
      refine ifi (fun _ => Iff.rfl) (fun d1 => ?_)
      rw [if_pos (by omega)]
    · simp only [kI_v, kL_v, kV_v, kR_v, kX_n, kX_e, bd_e, b2i_e0, b2i_e1, b2i_nb, nb_0, nb_1, cmp_lt, cmp_le, cmp_gt, cmp_ge, cmp_eq, not_true_eq_false, not_false_eq_true, if_true, if_false, ite_true, ite_false, true_and, and_true, false_and, and_false, Int.reduceLT, Int.reduceLE, Int.reduceEq, Int.reduceSub, Int.reduceAdd, Int.reduceNeg, Int.reduceMul, Classical.not_not, Int.zero_add, Int.add_zero, Int.le_refl, t243_0, t243_1, m216 (M := M) (show 0 ≤ M 22 0 43 ∧ M 22 0 43 ≤ 4 by omega), m219]
      refine ifi (fun _ => Iff.rfl) (fun d1 => ?_)
      rw [if_neg (by omega)]
/-- the level less the tide -/
def sur (P : Mem) (g t : Int) : Int := if P 22049 0 (4096 * g + t) = -99999999 then -99999999 else w32 (P 22049 0 (4096 * g + t) - prd P g t)
theorem m245 (hw : WGa P) (hr : RGa M P) (hg : 0 ≤ g ∧ g < P 22 0 43) (ht : 0 ≤ t ∧ t ≤ 4095) : Tq 245 0 [vR 22 0, vI g, vI t, vJ] [] M Q ↔ Q (.inl (some (vI (sur P g t)))) M := by
  have r1 : M 22 0 43 = P 22 0 43 := hr.1
  have w1 : 0 ≤ P 22 0 43 ∧ P 22 0 43 ≤ 4 := hw.1
  have r2 := (hr.2 g hg.1 hg.2).2.2.2 t ht.1 (by omega)
  unfold sur
  rw [t245_0, m216 (by omega), kI_v, r1, if_neg (by rw [b2i_t hg]; decide), m219, kI_v, if_neg (by rw [b2i_t ht]; decide), w32_id (z := 4096 * g) (by omega) (by omega), w32_id (z := 4096 * g + t) (by omega) (by omega), r2, t245_2, t245_3, m243 hw hr hg ht, kI_v, t245_4, t245_4]
  refine andi (by omega) ?_
  by_cases c : P 22049 0 (4096 * g + t) = -99999999
  · rw [if_neg (by simpa using c), if_pos c]
  · rw [if_pos c, if_neg c]
theorem op_surge {I : Mem → Prop} (hw : WGa P) (hc : CGa M P) (hr : RGa M P) (hI : I M) : Op2 S0 S0 78 [vR 1 0, vI g, vI t, vJ] 245 [vR 22 0, vI g, vI t, vJ] M I := by
  have c1 : M 8 0 0 = P 22 0 43 := hc.1
  have r1 : M 22 0 43 = P 22 0 43 := hr.1
  have w1 : 0 ≤ P 22 0 43 ∧ P 22 0 43 ≤ 4 := hw.1
  by_cases hb : (0 ≤ g ∧ g < P 22 0 43) ∧ 0 ≤ t ∧ t ≤ 4095
  · have q1 := (hc.2.1 g hb.1.1 hb.1.2).2.2.2.1 t hb.2.1 (by omega)
    refine Op2_ret (v := sur P g t) (fun Q => ?_) (fun Q => m245 hw hr hb.1 hb.2) hI
    unfold sur
    rw [t78_0, m375 (by omega), kI_v, c1, if_neg (by rw [b2i_t hb.1]; decide), m34, kI_v, if_neg (by rw [b2i_t hb.2]; decide), w32_id (z := g * 4096) (by omega) (by omega), w32_id (z := g * 4096 + t) (by omega) (by omega), Int.mul_comm g 4096, t78_1, t78_2, t78_2, t78_3]
    refine andi (by omega) ?_
    rcases q1 with ⟨c, q1⟩ | ⟨c, q1, q2⟩
    · rw [q1, if_pos rfl, if_pos rfl, if_pos c, t78_4]
    · rw [q1, if_neg (by decide), if_neg (by decide), if_neg c, w32_id (z := g * 4096) (by omega) (by omega), w32_id (z := g * 4096 + t) (by omega) (by omega), Int.mul_comm g 4096, m378 hw hc hb.1, kI_v, t78_4, q2]
      exact andi (by omega) Iff.rfl
  · refine Op2_ret (v := -99999999) (fun Q => ?_) (fun Q => ?_) hI
    · simp only [kI_v, kL_v, kV_v, kR_v, kX_n, kX_e, bd_e, b2i_e0, b2i_e1, b2i_nb, nb_0, nb_1, cmp_lt, cmp_le, cmp_gt, cmp_ge, cmp_eq, not_true_eq_false, not_false_eq_true, if_true, if_false, ite_true, ite_false, true_and, and_true, false_and, and_false, Int.reduceLT, Int.reduceLE, Int.reduceEq, Int.reduceSub, Int.reduceAdd, Int.reduceNeg, Int.reduceMul, Classical.not_not, Int.zero_add, Int.add_zero, Int.le_refl, t78_0, t78_1, t78_2, t78_3, t78_4, m375 (M := M) (show 0 ≤ M 8 0 0 ∧ M 8 0 0 ≤ 4 by omega), m34]
      refine ifi (fun _ => Iff.rfl) (fun d1 => ?_)
      rw [if_pos (by omega)]
    · simp only [kI_v, kL_v, kV_v, kR_v, kX_n, kX_e, bd_e, b2i_e0, b2i_e1, b2i_nb, nb_0, nb_1, cmp_lt, cmp_le, cmp_gt, cmp_ge, cmp_eq, not_true_eq_false, not_false_eq_true, if_true, if_false, ite_true, ite_false, true_and, and_true, false_and, and_false, Int.reduceLT, Int.reduceLE, Int.reduceEq, Int.reduceSub, Int.reduceAdd, Int.reduceNeg, Int.reduceMul, Classical.not_not, Int.zero_add, Int.add_zero, Int.le_refl, t245_0, t245_1, t245_2, t245_3, t245_4, m216 (M := M) (show 0 ≤ M 22 0 43 ∧ M 22 0 43 ≤ 4 by omega), m219]
      refine ifi (fun _ => Iff.rfl) (fun d1 => ?_)
      rw [if_pos (by omega)]
end Gau
