/-! ONE INSTRUCTION: fields and arrays -/
def fdC (g k : Nat) : Bool := match fd g k with
  | (0, _, _, _) => decide (cY g k = .int)
  | (1, _, _, _) => decide (cY g k = .boolean)
  | (2, _, _, _) => decide (cY g k = .long)
  | (20, p, a, _) => decide (0 ≤ a) && decide (a + cnt g ≤ cnt p) && decide (¬ p = 0) && decide (¬ p = 33)
  | (21, p, _, _) => decide (¬ p = 0) && decide (¬ p = 33) && (match cY g k with | .object _ => true | .array _ => true | _ => false)
  | (90, _, _, _) => true
  | (99, _, _, _) => true
  | _ => decide (cnt (1000 * g + k) = cnt g)
set_option maxRecDepth 100000 in
theorem fdC_ok : ∀ g, g < 23 → ∀ k, k < cF g → fdC g k = true := by decide +kernel
def laC (f : Nat) : Bool := match aif f with
  | (22, p, a, n) => decide (a = 0) && decide (0 ≤ n) && decide (n ≤ cnt p) && decide (n ≤ 100000) && decide (¬ p = 0) && decide (¬ p = 33)
  | (23, p, a, n) => decide (0 ≤ a) && decide (0 ≤ n) && decide (a + n ≤ cnt p) && decide (n ≤ 100000) && decide (¬ p = 0) && decide (¬ p = 33)
  | (99, _, _, _) => true
  | (_, _, _, n) => (decide (0 ≤ n) && decide (n ≤ 100000)) || Nat.beq f 13000 || Nat.beq f 31000 || Nat.beq f 32000
set_option maxRecDepth 100000 in
theorem laC_0 : ∀ a, a < 33 → ∀ b, b < 100 → laC (1000 * a + b) = true := by decide +kernel
set_option maxRecDepth 100000 in
theorem ai_len : ∀ a, a < 33 → (aiT.getD a []).length ≤ 100 := by decide +kernel
theorem laC_ok (f : Nat) : laC f = true := by
  by_cases h1 : f / 1000 < 33
  · by_cases h2 : f % 1000 < 100
    · have := laC_0 _ h1 _ h2
      rwa [show 1000 * (f / 1000) + f % 1000 = f by omega] at this
    · have h3 := ai_len _ h1
      have h4 : aif f = (99, 0, 0, 0) := by
        unfold aif
        rw [List.getD_eq_getElem?_getD (l := aiT.getD (f / 1000) []), List.getElem?_eq_none (by omega)]
        rfl
      unfold laC
      rw [h4]
      rfl
  · have h4 : aif f = (99, 0, 0, 0) := by
      unfold aif
      rw [List.getD_eq_getElem?_getD (l := aiT), List.getElem?_eq_none (by show 33 ≤ f / 1000; omega)]
      rfl
    unfold laC
    rw [h4]
    rfl
theorem bLen_ok : ∀ i : Nat, i < 16 → 0 ≤ bLen i ∧ bLen i ≤ 60000 := by decide +kernel
theorem aif_of {f k : Nat} (h : aek f = k) : ∃ p a n, aif f = (k, p, a, n) := by
  match hq : aif f with
  | (k', p, a, n) =>
    have : k' = k := by unfold aek at h; rw [hq] at h; exact h
    subst this
    exact ⟨p, a, n, rfl⟩
/-- an array's length -/
theorem alen_ok {M : Mem} {f : Nat} {i : Int} (h : f < 30000) (ha : ¬ aek f = 99) (hi : lyo f i) : alen M f i = aN f i ∧ aN f i ≤ 100000 := by
  have h0 := laC_ok f
  unfold alen aN
  split
  · simp only [Nat.beq_refl, cond_true]
    have hc : cnt 13000 = 16 := by decide +kernel
    obtain ⟨i1, i2⟩ := hi
    rw [hc] at i2
    obtain ⟨n, rfl⟩ : ∃ n : Nat, i = n := ⟨i.toNat, by omega⟩
    have := bLen_ok n (by omega)
    omega
  · omega
  · omega
  · rename_i n1 n2 n3
    have e : Nat.beq f 13000 = false := by
      cases hq : Nat.beq f 13000 with
      | false => rfl
      | true => exact absurd (Nat.eq_of_beq_eq_true hq) n1
    rw [e, cond_false]
    have e2 : Nat.beq f 31000 = false := by
      cases hq : Nat.beq f 31000 with
      | false => rfl
      | true => exact absurd (Nat.eq_of_beq_eq_true hq) n2
    have e3 : Nat.beq f 32000 = false := by
      cases hq : Nat.beq f 32000 with
      | false => rfl
      | true => exact absurd (Nat.eq_of_beq_eq_true hq) n3
    unfold laC at h0
    split at h0
    · rename_i hq
      rw [hq]
      simp only [Bool.and_eq_true, decide_eq_true_eq] at h0
      dsimp only
      omega
    · rename_i hq
      rw [hq]
      simp only [Bool.and_eq_true, decide_eq_true_eq] at h0
      dsimp only
      omega
    · rename_i hq
      exact absurd (by unfold aek; rw [hq]) ha
    · rename_i hq
      rw [hq]
      simp only [e, e2, e3, Bool.or_false, Bool.and_eq_true, decide_eq_true_eq] at h0
      dsimp only
      omega
section Step2
variable {p : Program} {l : Launch} {e : Env} {R : Room} {s : State} {m : MethodId} {args : Array Value} {below : List Frame} {meth : Method} {c : Code} {H : Heap} {locs : List Loc} {cells slots : Nat} {Q : State → Prop} {G : Gh} {y pc : Nat} {la : Array Slot} {sa : List Value}
theorem beq_t {a b : Nat} (h : Nat.beq a b = true) : a = b := Nat.eq_of_beq_eq_true h
set_option maxHeartbeats 4000000 in
theorem st_get {cc : Int} {q : List Nat} {n : Nat} {ls st ls' st' : List AV} {M M' : Mem} {a : Act} (C : CX G y p s m args c) (hd : decode (bts y) pc = .ok (.getfield n, 3)) (hk : okI lkT y pc (.getfield n, cc, q) = true) (hL : LR G (mxl y) ls la) (hS : SR G st sa) (hR : Rp G M H) (hl : LocOK G locs) (he : xGet q ls st M = some a) (hN : Nx a (ls', st', M'))
    (kk : ∀ H' locs' la' sa', LR G (mxl y) ls' la' → SR G st' sa' → Rp G M' H' → LocOK G locs' → W p l e R s m args below meth c H' locs' cells slots Q (F0 m (pc + 3) la' sa')) : W p l e R s m args below meth c H locs cells slots Q (F0 m pc la sa) := by
  have C0 := C
  obtain ⟨hx, hb, hml, hown, hts, hK, hG⟩ := C
  simp only [okI] at hk
  split at hk
  · -- a String's value
    obtain ⟨w, hw, h1⟩ := List.any_eq_true.mp hk
    simp only [Bool.and_eq_true, Nat.beq_eq] at h1
    have hF := fsT_ok _ w hw
    unfold FSF at hF
    rw [h1.2, h1.1] at hF
    obtain ⟨f, i, st1, rfl, h9⟩ := pR_inv (show pR st (fun f i st => bif Nat.beq f 31 then aC ls (vR 31000 i :: st) M else none) = some a from he)
    cases hf : Nat.beq f 31 with
    | false => rw [hf] at h9; cases h9
    | true =>
      rw [hf] at h9
      cases h9
      obtain ⟨rfl, rfl, rfl⟩ := Nx_c hN
      obtain rfl := beq_t hf
      obtain ⟨sb, rfl, hi, hS1⟩ := hS.a (by decide)
      have hi2 : i < 67 := hi.2
      obtain ⟨k1, k2, k3, k4⟩ := hK.2.2.2.1 i hi.1 hi2
      exact sf_row C0 hR.2.1 hF k3 hd (kk _ _ _ _ hL ⟨⟨by decide, Or.inr ⟨by decide, rfl, hi.1, hi2⟩⟩, hS1⟩ hR hl)
  · -- its coder
    obtain ⟨w, hw, h1⟩ := List.any_eq_true.mp hk
    simp only [Bool.and_eq_true, Nat.beq_eq] at h1
    have hF := fsT_ok _ w hw
    unfold FSF at hF
    rw [h1.2, h1.1] at hF
    obtain ⟨f, i, st1, rfl, h9⟩ := pR_inv (show pR st (fun f _ st => bif Nat.beq f 31 then aC ls (vI 0 :: st) M else none) = some a from he)
    cases hf : Nat.beq f 31 with
    | false => rw [hf] at h9; cases h9
    | true =>
      rw [hf] at h9
      cases h9
      obtain ⟨rfl, rfl, rfl⟩ := Nx_c hN
      obtain rfl := beq_t hf
      obtain ⟨sb, rfl, hi, hS1⟩ := hS.a (by decide)
      have hi2 : i < 67 := hi.2
      obtain ⟨k1, k2, k3, k4⟩ := hK.2.2.2.1 i hi.1 hi2
      exact sf_row C0 hR.2.1 hF k2 hd (kk _ _ _ _ hL ⟨⟨0, rfl, rfl⟩, hS1⟩ hR hl)
  · obtain ⟨w, hw, h1⟩ := List.any_eq_true.mp hk
    simp only [Bool.and_eq_true, Nat.beq_eq, decide_eq_true_eq] at h1
    obtain ⟨rfl, hq⟩ := h1
    have hF := fiT_ok _ w hw
    obtain ⟨idx, g, k, nest⟩ := w
    dsimp only at hq hd
    obtain ⟨⟨g1, g2, hkk⟩, -⟩ := id hF
    dsimp only at g1 g2 hkk
    have hfd := fdC_ok g g2 k hkk
    have main : ∀ (i : Int) (st1 : List AV) (r : AV), st = vR g i :: st1 → ls' = ls → st' = r :: st1 → M' = M → (∀ V : Value, lyo g i → fv G g i M k V → VR G r V) → W p l e R s m args below meth c H locs cells slots Q (F0 m pc la sa) := by
      rintro i st1 r rfl rfl rfl rfl hv
      obtain ⟨sb, rfl, hi, hS1⟩ := hS.a (by omega)
      obtain ⟨V, hO, hV⟩ := hR.2.2.1 g i g1 g2 hi
      exact gf_row (t := (idx, g, k, nest)) C0 hF hO hd (kk _ _ _ _ hL ⟨hv _ hi (hV k hkk), hS1⟩ hR hl)
    unfold fq at hq
    unfold fdC at hfd
    split at hq
    all_goals rename_i hfk
    all_goals (try rw [hfk] at hfd)
    · subst hq
      obtain ⟨f, i, st1, rfl, h9⟩ := pR_inv (show pR st (fun f i st => bif Nat.beq f g then aC ls (vI (M g i k) :: st) M else none) = some a from he)
      cases hf : Nat.beq f g with
      | false => rw [hf] at h9; cases h9
      | true =>
        rw [hf] at h9
        cases h9
        obtain ⟨e1, e2, e3⟩ := Nx_c hN
        obtain rfl := beq_t hf
        refine main i st1 _ rfl e1 e2 e3 (fun V _ hv => ?_)
        unfold fv at hv
        rw [hfk] at hv
        exact hv
    · subst hq
      obtain ⟨f, i, st1, rfl, h9⟩ := pR_inv (show pR st (fun f i st => bif Nat.beq f g then aC ls (vI (M g i k) :: st) M else none) = some a from he)
      cases hf : Nat.beq f g with
      | false => rw [hf] at h9; cases h9
      | true =>
        rw [hf] at h9
        cases h9
        obtain ⟨e1, e2, e3⟩ := Nx_c hN
        obtain rfl := beq_t hf
        refine main i st1 _ rfl e1 e2 e3 (fun V _ hv => ?_)
        unfold fv at hv
        rw [hfk] at hv
        obtain ⟨x, h1, h2, -⟩ := hv
        exact ⟨x, h1, h2⟩
    · subst hq
      obtain ⟨f, i, st1, rfl, h9⟩ := pR_inv (show pR st (fun f i st => bif Nat.beq f g then aC ls (vL (M g i k) :: st) M else none) = some a from he)
      cases hf : Nat.beq f g with
      | false => rw [hf] at h9; cases h9
      | true =>
        rw [hf] at h9
        cases h9
        obtain ⟨e1, e2, e3⟩ := Nx_c hN
        obtain rfl := beq_t hf
        refine main i st1 _ rfl e1 e2 e3 (fun V _ hv => ?_)
        unfold fv at hv
        rw [hfk] at hv
        exact hv
    · rename_i pp aa nn
      simp only [Bool.and_eq_true, decide_eq_true_eq] at hfd
      obtain ⟨⟨⟨a0, a1⟩, p0⟩, p3⟩ := hfd
      have ha : ((aa.toNat : Nat) : Int) = aa := by omega
      split at hq
      · rename_i hc
        subst hq
        obtain ⟨f, i, st1, rfl, h9⟩ := pR_inv (show pR st (fun f i st => bif Nat.beq f g then aC ls (vR pp (aa.toNat : Nat) :: st) M else none) = some a from he)
        cases hf : Nat.beq f g with
        | false => rw [hf] at h9; cases h9
        | true =>
          rw [hf] at h9
          cases h9
          obtain ⟨e1, e2, e3⟩ := Nx_c hN
          obtain rfl := beq_t hf
          refine main i st1 _ rfl e1 e2 e3 (fun V hi hv => ?_)
          unfold fv at hv
          rw [hfk] at hv
          obtain ⟨i0, i1⟩ := hi
          have hi0 : i = 0 := by omega
          subst hi0
          rw [ha]
          refine ⟨p0, Or.inr ⟨p3, by rw [hv, Int.add_zero], ⟨a0, by omega⟩⟩⟩
      · subst hq
        obtain ⟨f, i, st1, rfl, h9⟩ := pR_inv (show pR st (fun f i st => bif Nat.beq f g then aC ls (vR pp ((aa.toNat : Nat) + i) :: st) M else none) = some a from he)
        cases hf : Nat.beq f g with
        | false => rw [hf] at h9; cases h9
        | true =>
          rw [hf] at h9
          cases h9
          obtain ⟨e1, e2, e3⟩ := Nx_c hN
          obtain rfl := beq_t hf
          refine main i st1 _ rfl e1 e2 e3 (fun V hi hv => ?_)
          unfold fv at hv
          rw [hfk] at hv
          obtain ⟨i0, i1⟩ := hi
          rw [ha]
          exact ⟨p0, Or.inr ⟨p3, hv, ⟨by omega, by omega⟩⟩⟩
    · rename_i pp aa nn
      simp only [Bool.and_eq_true, decide_eq_true_eq] at hfd
      obtain ⟨⟨p0, p3⟩, -⟩ := hfd
      subst hq
      obtain ⟨f, i, st1, rfl, h9⟩ := pR_inv (show pR st (fun f i st => bif Nat.beq f g then aG (0 ≤ M g i k) inferInstance ls (vR pp (M g i k) :: st) M else none) = some a from he)
      cases hf : Nat.beq f g with
      | false => rw [hf] at h9; cases h9
      | true =>
        rw [hf] at h9
        cases h9
        obtain ⟨hge, e1, e2, e3⟩ := Nx_g hN
        have hge : 0 ≤ M g i k := hge
        obtain rfl := beq_t hf
        refine main i st1 _ rfl e1 e2 e3 (fun V _ hv => ?_)
        unfold fv at hv
        rw [hfk] at hv
        rcases hv with ⟨h1, -⟩ | ⟨h1, h2⟩
        · omega
        · exact ⟨p0, Or.inr ⟨p3, h2, h1⟩⟩
    · subst hq
      cases he
    · subst hq
      cases he
    · subst hq
      rename_i n1 n2 n3 n4 n5 n6 n7
      have hfd : decide (cnt (1000 * g + k) = cnt g) = true := by
        split at hfd <;> first | exact hfd | (exfalso; simp_all)
      have hfd := of_decide_eq_true hfd
      obtain ⟨f, i, st1, rfl, h9⟩ := pR_inv (show pR st (fun f i st => bif Nat.beq f g then aC ls (vR (1000 * g + k) i :: st) M else none) = some a from he)
      cases hf : Nat.beq f g with
      | false => rw [hf] at h9; cases h9
      | true =>
        rw [hf] at h9
        cases h9
        obtain ⟨e1, e2, e3⟩ := Nx_c hN
        obtain rfl := beq_t hf
        refine main i st1 _ rfl e1 e2 e3 (fun V hi hv => ?_)
        have hv : V = .ref (gA G (1000 * f + k) i) := by
          unfold fv at hv
          split at hv <;> first | exact hv | (exfalso; simp_all)
        exact ⟨by omega, Or.inr ⟨by omega, hv, ⟨hi.1, by rw [hfd]; exact hi.2⟩⟩⟩
end Step2
