/-! ONE INSTRUCTION: arrays -/
theorem aTy_i {f : Nat} (h : aek f = 10) : aTy f = .int := by
  obtain ⟨p, a, n, hq⟩ := aif_of h
  unfold aTy; rw [hq]; rfl
theorem aTy_z {f : Nat} (h : aek f = 11) : aTy f = .boolean := by
  obtain ⟨p, a, n, hq⟩ := aif_of h
  unfold aTy; rw [hq]; rfl
theorem aTy_l {f : Nat} (h : aek f = 12) : aTy f = .long := by
  obtain ⟨p, a, n, hq⟩ := aif_of h
  unfold aTy; rw [hq]; rfl
theorem aTy_b {f : Nat} (h : aek f = 13) : aTy f = .byte := by
  obtain ⟨p, a, n, hq⟩ := aif_of h
  unfold aTy; rw [hq]; rfl
theorem ev_i {G : Gh} {f j : Nat} {i : Int} {M : Mem} {V : Value} (h : aek f = 10) : ev G f i M j V ↔ ∃ x : Int32, V = .int x ∧ x.toInt = M f i j := by
  obtain ⟨p, a, n, hq⟩ := aif_of h
  unfold ev; rw [hq]; exact Iff.rfl
theorem ev_z {G : Gh} {f j : Nat} {i : Int} {M : Mem} {V : Value} (h : aek f = 11) : ev G f i M j V ↔ ∃ x : Int32, V = .int x ∧ x.toInt = M f i j ∧ (M f i j = 0 ∨ M f i j = 1) := by
  obtain ⟨p, a, n, hq⟩ := aif_of h
  unfold ev; rw [hq]; exact Iff.rfl
theorem ev_l {G : Gh} {f j : Nat} {i : Int} {M : Mem} {V : Value} (h : aek f = 12) : ev G f i M j V ↔ ∃ x : Int64, V = .long x ∧ x.toInt = M f i j := by
  obtain ⟨p, a, n, hq⟩ := aif_of h
  unfold ev; rw [hq]; exact Iff.rfl
theorem ev_b {G : Gh} {f j : Nat} {i : Int} {M : Mem} {V : Value} (h : aek f = 13) : ev G f i M j V ↔ ∃ x : Int32, V = .int x ∧ x.toInt = M f i j ∧ -128 ≤ M f i j ∧ M f i j < 128 := by
  obtain ⟨p, a, n, hq⟩ := aif_of h
  unfold ev; rw [hq]; exact Iff.rfl
theorem sAt_ok : ∀ i : Nat, i < 67 → ∀ j, j < sLn (i : Int) → (Int32.ofInt (sAt i j)).toInt = sAt i j := by decide +kernel
theorem stA_ok : ∀ f, f < 3 → ∀ j, j < (stT.getD f []).length → (Int32.ofInt (stA (30000 + f) j)).toInt = stA (30000 + f) j := by decide +kernel
theorem aif_31 : aif 31000 = (13, 0, 0, -1) := rfl
theorem toNatI {z : Int} (h : 0 ≤ z) : ((z.toNat : Nat) : Int) = z := by omega
section Step4
variable {p : Program} {l : Launch} {e : Env} {R : Room} {s : State} {m : MethodId} {args : Array Value} {below : List Frame} {meth : Method} {c : Code} {H : Heap} {locs : List Loc} {cells slots : Nat} {Q : State → Prop} {G : Gh} {y pc : Nat} {la : Array Slot} {sa : List Value}
/-- a word of a read-only array -/
theorem old_at {ty : FieldType} {t N : Nat} {f : Nat → Value} (hR2 : ∀ q, q < gB G → H[q]? = (gH G)[q]?) (h : va_T ty t N f (gO G) s (gH G)) : ∃ cell : Cell, H[t]? = some cell ∧ s.isArrayOf cell ty ∧ cell.vm ≠ .unknown ∧ N ≤ cell.slots.size ∧ cell.slots.size.toInt32 = Int32.ofNat N ∧ (∀ j : Nat, j < N → cell.slots[j]? = some (f j)) := by
  obtain ⟨cell, h1, h2, h3, h4, h5, h6, h7⟩ := h
  exact ⟨cell, by rw [hR2 t (Nat.not_le.mp h7)]; exact h1, h2, h3, h4, h5, h6⟩
set_option maxHeartbeats 4000000 in
theorem st_iald {ls st ls' st' : List AV} {M M' : Mem} {a : Act} (C : CX G y p s m args c) (hd : decode (bts y) pc = .ok (.iaload, 1)) (hL : LR G (mxl y) ls la) (hS : SR G st sa) (hR : Rp G M H) (hl : LocOK G locs)
    (he : (pIR st fun f i z st => bif Nat.beq (aek f) 10 then (bif Nat.beq (f / 1000) 30 then aG (0 ≤ z ∧ z < alen M f i) inferInstance ls (vI (stA f z) :: st) M else aG (0 ≤ z ∧ z < alen M f i) inferInstance ls (vI (M f i z) :: st) M) else none) = some a) (hN : Nx a (ls', st', M'))
    (kk : ∀ H' locs' la' sa', LR G (mxl y) ls' la' → SR G st' sa' → Rp G M' H' → LocOK G locs' → W p l e R s m args below meth c H' locs' cells slots Q (F0 m (pc + 1) la' sa')) : W p l e R s m args below meth c H locs cells slots Q (F0 m pc la sa) := by
  obtain ⟨hx, hb, hml, hown, hts, hK, hG⟩ := C
  obtain ⟨f, i, z, st1, rfl, h9⟩ := pIR_inv he
  cases hf : Nat.beq (aek f) 10 with
  | false => rw [hf] at h9; cases h9
  | true =>
    rw [hf] at h9
    have hf := beq_t hf
    have hne : ¬ aek f = 99 := by omega
    obtain ⟨x, sb, rfl, rfl, hS1⟩ := hS.i
    obtain ⟨sc, rfl, hi, hS2⟩ := hS1.a (fun q => by rw [q] at hf; exact absurd hf (by decide))
    cases hf30 : Nat.beq (f / 1000) 30 with
    | true =>
      rw [hf30] at h9
      cases h9
      obtain ⟨⟨z0, z1⟩, rfl, rfl, rfl⟩ := Nx_g hN
      have h30 := beq_t hf30
      have hf3 : f - 30000 < 3 ∧ 30000 ≤ f := by rcases aek_cases hne with h | h | h | h | h | h <;> omega
      have hi0 : i = 0 := by
        obtain ⟨i0, i1⟩ := hi
        rcases aek_cases hne with h | rfl | rfl | rfl | h | h
        · omega
        · have : cnt 30000 = 1 := by decide +kernel
          omega
        · have : cnt 30001 = 1 := by decide +kernel
          omega
        · have : cnt 30002 = 1 := by decide +kernel
          omega
        · omega
        · omega
      subst hi0
      have hT := hK.2.2.2.2.2.2.1 f hf3.2 (by omega)
      obtain ⟨cell, c1, c2, c3, c4, c5, c6⟩ := old_at hR.2.1 hT
      have hlen : x.toInt.toNat < (stT.getD (f % 1000) []).length := by
        have : alen M' f 0 = ((stT.getD (f % 1000) []).length : Int) := by
          rcases aek_cases hne with h | rfl | rfl | rfl | h | h
          · omega
          · rfl
          · rfl
          · rfl
          · omega
          · omega
        omega
      have hmod : f % 1000 = f - 30000 := by omega
      refine W.iald hx hb c1 c2 c3 (i32_in z0 (by omega)) (c6 _ hlen) rfl rfl hd (kk _ _ _ _ hL ⟨⟨_, rfl, ?_⟩, hS2⟩ hR hl)
      have h5 := stA_ok (f - 30000) hf3.1 x.toInt.toNat (by rw [← hmod]; exact hlen)
      rw [show 30000 + (f - 30000) = f by omega, toNatI z0] at h5
      exact (congrArg (fun q : Int => (Int32.ofInt (stA f q)).toInt) (toNatI z0)).trans h5
    | false =>
      rw [hf30] at h9
      cases h9
      obtain ⟨⟨z0, z1⟩, rfl, rfl, rfl⟩ := Nx_g hN
      by_cases h3 : f < 30000
      · have h1 := aek_ge hne
        obtain ⟨F, q1, q2⟩ := hR.2.2.2.1 f i h1 h3 hi
        have hj := alen_w h3 z0 z1
        have har := hK.2.1 f h1 h3 hne (aN f i) F
        rw [aTy_i hf] at har
        obtain ⟨v, hv1, hv2⟩ := (ev_i hf).mp (q2 _ hj)
        refine W.iald hx hb q1 har (fun h => by cases h) (i32_in z0 (by rw [arrV_size]; exact hj)) (arrV_read _ _ hj) rfl rfl hd (kk _ _ _ _ hL ⟨⟨v, hv1, ?_⟩, hS2⟩ hR hl)
        rw [hv2, toNatI z0]
      · have h30 : ¬ f / 1000 = 30 := fun q => by rw [q] at hf30; cases hf30
        have h32 : f = 32000 := by
          rcases aek_cases hne with h | h | h | h | h | h
          · omega
          · omega
          · omega
          · omega
          · subst h
            exact absurd hf (by decide +kernel)
          · exact h
        subst h32
        have hi0 : i = 0 := by
          obtain ⟨i0, i1⟩ := hi
          have : cnt 32000 = 1 := by decide +kernel
          omega
        subst hi0
        obtain ⟨-, -, -, -, -, -, -, ⟨scr, c1, c2, c3, c4, c5⟩, hbl⟩ := hK
        have hlen : x.toInt.toNat < gL G := by
          have h5 := hR.2.2.2.2.1
          have z1 : x.toInt < M' 32 0 0 := z1
          omega
        refine W.iald hx hb (by rw [hR.2.1 _ hbl]; exact c1) c2 c3 (i32_in z0 (by rw [c4]; exact hlen)) (c5 _ hlen) rfl rfl hd (kk _ _ _ _ hL ⟨⟨_, rfl, ?_⟩, hS2⟩ hR hl)
        have h6 := hR.2.2.2.2.2 _ hlen
        rw [toNatI z0] at h6
        exact h6.symm
set_option maxHeartbeats 4000000 in
theorem st_bald {ls st ls' st' : List AV} {M M' : Mem} {a : Act} (C : CX G y p s m args c) (hd : decode (bts y) pc = .ok (.baload, 1)) (hL : LR G (mxl y) ls la) (hS : SR G st sa) (hR : Rp G M H) (hl : LocOK G locs)
    (he : (pIR st fun f i z st => bif Nat.beq (aek f) 13 || Nat.beq (aek f) 11 then (bif Nat.beq f 31000 then aG (0 ≤ z ∧ z < alen M f i) inferInstance ls (vI (sAt i z) :: st) M else aG (0 ≤ z ∧ z < alen M f i) inferInstance ls (vI (M f i z) :: st) M) else none) = some a) (hN : Nx a (ls', st', M'))
    (kk : ∀ H' locs' la' sa', LR G (mxl y) ls' la' → SR G st' sa' → Rp G M' H' → LocOK G locs' → W p l e R s m args below meth c H' locs' cells slots Q (F0 m (pc + 1) la' sa')) : W p l e R s m args below meth c H locs cells slots Q (F0 m pc la sa) := by
  obtain ⟨hx, hb, hml, hown, hts, hK, hG⟩ := C
  obtain ⟨f, i, z, st1, rfl, h9⟩ := pIR_inv he
  cases hf : (Nat.beq (aek f) 13 || Nat.beq (aek f) 11) with
  | false => rw [hf] at h9; cases h9
  | true =>
    rw [hf] at h9
    rw [Bool.or_eq_true, Nat.beq_eq, Nat.beq_eq] at hf
    have hne : ¬ aek f = 99 := by omega
    obtain ⟨x, sb, rfl, rfl, hS1⟩ := hS.i
    obtain ⟨sc, rfl, hi, hS2⟩ := hS1.a (fun q => by rw [q] at hf; exact absurd hf (by decide))
    cases hf30 : Nat.beq f 31000 with
    | true =>
      rw [hf30] at h9
      cases h9
      obtain ⟨⟨z0, z1⟩, rfl, rfl, rfl⟩ := Nx_g hN
      obtain rfl := beq_t hf30
      obtain ⟨i0, i1⟩ := hi
      have hc : cnt 31000 = 67 := by decide +kernel
      rw [hc] at i1
      obtain ⟨-, -, -, hT⟩ := hK.2.2.2.1 i i0 i1
      obtain ⟨cell, c1, c2, c3, c4, c5, c6⟩ := old_at hR.2.1 hT
      have z1 : x.toInt < sLen i := z1
      have hlen : x.toInt.toNat < sLn i := by
        have : sLen i = (sLn i : Int) := rfl
        omega
      refine W.bald hx hb c1 c2 c3 (i32_in z0 (by omega)) (c6 _ hlen) rfl rfl hd (kk _ _ _ _ hL ⟨⟨_, rfl, ?_⟩, hS2⟩ hR hl)
      have h5 := sAt_ok i.toNat (by omega) x.toInt.toNat (by rw [toNatI i0]; exact hlen)
      rw [toNatI i0, toNatI z0] at h5
      exact (congrArg (fun q : Int => (Int32.ofInt (sAt i q)).toInt) (toNatI z0)).trans h5
    | false =>
      rw [hf30] at h9
      cases h9
      obtain ⟨⟨z0, z1⟩, rfl, rfl, rfl⟩ := Nx_g hN
      have h31 : ¬ f = 31000 := fun q => by rw [q] at hf30; cases hf30
      have h3 : f < 30000 := by
        rcases aek_cases hne with h | h | h | h | h | h
        · exact h
        · subst h; exact absurd hf (by decide +kernel)
        · subst h; exact absurd hf (by decide +kernel)
        · subst h; exact absurd hf (by decide +kernel)
        · exact absurd h h31
        · subst h; exact absurd hf (by decide +kernel)
      have h1 := aek_ge hne
      obtain ⟨F, q1, q2⟩ := hR.2.2.2.1 f i h1 h3 hi
      have hj := alen_w h3 z0 z1
      have har := hK.2.1 f h1 h3 hne (aN f i) F
      rcases hf with hf | hf
      · rw [aTy_b hf] at har
        obtain ⟨v, hv1, hv2, -⟩ := (ev_b hf).mp (q2 _ hj)
        refine W.bald hx hb q1 har (fun h => by cases h) (i32_in z0 (by rw [arrV_size]; exact hj)) (arrV_read _ _ hj) rfl rfl hd (kk _ _ _ _ hL ⟨⟨v, hv1, ?_⟩, hS2⟩ hR hl)
        rw [hv2, toNatI z0]
      · rw [aTy_z hf] at har
        obtain ⟨v, hv1, hv2, -⟩ := (ev_z hf).mp (q2 _ hj)
        refine W.zald hx hb q1 har (fun h => by cases h) (i32_in z0 (by rw [arrV_size]; exact hj)) (arrV_read _ _ hj) rfl rfl hd (kk _ _ _ _ hL ⟨⟨v, hv1, ?_⟩, hS2⟩ hR hl)
        rw [hv2, toNatI z0]
theorem st_lald {ls st ls' st' : List AV} {M M' : Mem} {a : Act} (C : CX G y p s m args c) (hd : decode (bts y) pc = .ok (.laload, 1)) (hL : LR G (mxl y) ls la) (hS : SR G st sa) (hR : Rp G M H) (hl : LocOK G locs)
    (he : (pIR st fun f i z st => bif Nat.beq (aek f) 12 then aG (0 ≤ z ∧ z < alen M f i) inferInstance ls (vL (M f i z) :: st) M else none) = some a) (hN : Nx a (ls', st', M'))
    (kk : ∀ H' locs' la' sa', LR G (mxl y) ls' la' → SR G st' sa' → Rp G M' H' → LocOK G locs' → W p l e R s m args below meth c H' locs' cells slots Q (F0 m (pc + 1) la' sa')) : W p l e R s m args below meth c H locs cells slots Q (F0 m pc la sa) := by
  obtain ⟨hx, hb, hml, hown, hts, hK, hG⟩ := C
  obtain ⟨f, i, z, st1, rfl, h9⟩ := pIR_inv he
  cases hf : Nat.beq (aek f) 12 with
  | false => rw [hf] at h9; cases h9
  | true =>
    rw [hf] at h9
    have hf := beq_t hf
    have hne : ¬ aek f = 99 := by omega
    obtain ⟨x, sb, rfl, rfl, hS1⟩ := hS.i
    obtain ⟨sc, rfl, hi, hS2⟩ := hS1.a (fun q => by rw [q] at hf; exact absurd hf (by decide))
    cases h9
    obtain ⟨⟨z0, z1⟩, rfl, rfl, rfl⟩ := Nx_g hN
    have h3 : f < 30000 := by
      rcases aek_cases hne with h | h | h | h | h | h
      · exact h
      all_goals (subst h; exact absurd hf (by decide +kernel))
    have h1 := aek_ge hne
    obtain ⟨F, q1, q2⟩ := hR.2.2.2.1 f i h1 h3 hi
    have hj := alen_w h3 z0 z1
    have har := hK.2.1 f h1 h3 hne (aN f i) F
    rw [aTy_l hf] at har
    obtain ⟨v, hv1, hv2⟩ := (ev_l hf).mp (q2 _ hj)
    refine W.lald hx hb q1 har (fun h => by cases h) (i32_in z0 (by rw [arrV_size]; exact hj)) (arrV_read _ _ hj) rfl rfl hd (kk _ _ _ _ hL ⟨⟨v, hv1, ?_⟩, hS2⟩ hR hl)
    rw [hv2, toNatI z0]
set_option maxHeartbeats 4000000 in
theorem st_aald {ls st ls' st' : List AV} {M M' : Mem} {a : Act} (C : CX G y p s m args c) (hd : decode (bts y) pc = .ok (.aaload, 1)) (hL : LR G (mxl y) ls la) (hS : SR G st sa) (hR : Rp G M H) (hl : LocOK G locs)
    (he : xAald ls st M = some a) (hN : Nx a (ls', st', M'))
    (kk : ∀ H' locs' la' sa', LR G (mxl y) ls' la' → SR G st' sa' → Rp G M' H' → LocOK G locs' → W p l e R s m args below meth c H' locs' cells slots Q (F0 m (pc + 1) la' sa')) : W p l e R s m args below meth c H locs cells slots Q (F0 m pc la sa) := by
  obtain ⟨hx, hb, hml, hown, hts, hK, hG⟩ := C
  unfold xAald at he
  obtain ⟨f, i, z, st1, rfl, h9⟩ := pIR_inv he
  have hla := laC_ok f
  unfold laC at hla
  have main : ∀ (pp : Nat) (aa nn : Int), (aif f = (22, pp, aa, nn) ∨ aif f = (23, pp, aa, nn)) → 0 ≤ aa → aa + nn ≤ cnt pp → ¬ pp = 0 → ¬ pp = 33 → ∀ r : Int, r = aa + z → 0 ≤ z → z < nn → ls' = ls → st' = vR pp r :: st1 → M' = M → W p l e R s m args below meth c H locs cells slots Q (F0 m pc la sa) := by
    rintro pp aa nn hai a0 a1 p0 p3 r rfl z0 z1 rfl rfl rfl
    have hek : aek f = 22 ∨ aek f = 23 := by
      unfold aek
      rcases hai with h | h <;> rw [h]
      · exact Or.inl rfl
      · exact Or.inr rfl
    have hne : ¬ aek f = 99 := by omega
    obtain ⟨x, sb, rfl, rfl, hS1⟩ := hS.i
    obtain ⟨sc, rfl, hi, hS2⟩ := hS1.a (fun q => by rw [q] at hek; exact absurd hek (by decide))
    have h3 : f < 30000 := by
      rcases aek_cases hne with h | h | h | h | h | h
      · exact h
      all_goals (subst h; exact absurd hek (by decide +kernel))
    have h1 := aek_ge hne
    obtain ⟨F, q1, q2⟩ := hR.2.2.2.1 f i h1 h3 hi
    have hN9 : aN f i = nn.toNat := by
      unfold aN
      have e : Nat.beq f 13000 = false := by
        cases hq : Nat.beq f 13000 with
        | false => rfl
        | true =>
          rw [beq_t hq] at hek
          exact absurd hek (by decide +kernel)
      rw [e, cond_false]
      rcases hai with h | h <;> rw [h]
    have hj : x.toInt.toNat < aN f i := by omega
    have har := hK.2.1 f h1 h3 hne (aN f i) F
    have hv : F x.toInt.toNat = .ref (gA G pp (aa + x.toInt)) := by
      have := q2 _ hj
      unfold ev at this
      rcases hai with h | h
      · rw [h] at this
        rw [toNatI z0] at this
        exact this
      · rw [h] at this
        rw [toNatI z0] at this
        exact this
    have hty : (aTy f).isReference = true := by
      unfold aTy
      rcases hai with h | h
      · rw [h]
        split <;> first | rfl | (exfalso; simp_all)
      · rw [h]
        rfl
    exact W.aald hx hb q1 har hty (fun h => by cases h) (i32_in z0 (by rw [arrV_size]; exact hj)) (arrV_read _ _ hj) rfl rfl hd (kk _ _ _ _ hL ⟨⟨p0, Or.inr ⟨p3, hv, by omega, by omega⟩⟩, hS2⟩ hR hl)
  split at h9
  · rename_i pp aa nn hai
    rw [hai] at hla
    simp only [Bool.and_eq_true, decide_eq_true_eq] at hla
    cases h9
    obtain ⟨⟨z0, z1⟩, e1, e2, e3⟩ := Nx_g hN
    exact main pp aa nn (Or.inl hai) (by omega) (by omega) (by omega) (by omega) z (by omega) z0 z1 e1 e2 e3
  · rename_i pp aa nn hai
    rw [hai] at hla
    simp only [Bool.and_eq_true, decide_eq_true_eq] at hla
    cases h9
    obtain ⟨⟨z0, z1⟩, e1, e2, e3⟩ := Nx_g hN
    exact main pp aa nn (Or.inr hai) (by omega) (by omega) (by omega) (by omega) _ rfl z0 z1 e1 e2 e3
  · cases h9
end Step4
