/-! ONE INSTRUCTION: array stores, lengths, copies -/
theorem w8_id {z : Int} (h1 : -128 ≤ z) (h2 : z < 128) : w8 z = z := by
  unfold w8
  rw [Int.bmod_eq_of_le (by omega) (by omega)]
theorem nb_01 (z : Int) : nb z = 0 ∨ nb z = 1 := by unfold nb; omega
theorem n_nb (x : Int32) : (x &&& 1).toInt = nb x.toInt := by
  have h1 : (x &&& 1).toBitVec.toNat = x.toBitVec.toNat % 2 := by
    show (x.toBitVec &&& 1#32).toNat = _
    rw [BitVec.toNat_and]
    exact Nat.and_two_pow_sub_one_eq_mod x.toBitVec.toNat 1
  have h2 := i32_nat x
  rw [i32_bv (x &&& 1) (x.toBitVec.toNat % 2) (by rw [h1]; omega)]
  unfold nb
  rw [w32_id (by omega) (by omega)]
  omega
theorem mcpy_in {M : Mem} {f g : Nat} {i sp j dp n k : Int} (h1 : dp ≤ k) (h2 : k < dp + n) : mcpy M f i sp g j dp n g j k = M f i (sp + (k - dp)) := by simp [mcpy, h1, h2]
theorem mcpy_out {M : Mem} {f g : Nat} {i sp j dp n k : Int} (h : ¬ (dp ≤ k ∧ k < dp + n)) : mcpy M f i sp g j dp n g j k = M g j k := by
  unfold mcpy
  simp only [if_true]
  rw [if_neg h]
theorem mcpy_ne {M : Mem} {f g f' : Nat} {i sp j dp n i' k : Int} (h : ¬ (f' = g ∧ i' = j)) : mcpy M f i sp g j dp n f' i' k = M f' i' k := by
  unfold mcpy
  by_cases h1 : f' = g
  · subst h1
    by_cases h2 : i' = j
    · exact absurd ⟨rfl, h2⟩ h
    · simp [h2]
  · simp [h1]
section Step5
variable {p : Program} {l : Launch} {e : Env} {R : Room} {s : State} {m : MethodId} {args : Array Value} {below : List Frame} {meth : Method} {c : Code} {H : Heap} {locs : List Loc} {cells slots : Nat} {Q : State → Prop} {G : Gh} {y pc : Nat} {la : Array Slot} {sa : List Value}
/-- what an array holds behind a store -/
theorem Rp.st {M : Mem} {H' : Heap} {f : Nat} {i : Int} {x : Int32} {F : Nat → Value} {v : Value} {z : Int} (hG : GA G) (hR : Rp G M H) (f1 : 1000 ≤ f) (f2 : f < 30000) (hi : lyo f i) (x0 : 0 ≤ x.toInt) (hF : ∀ j, j < aN f i → ev G f i M j (F j)) (hv : ev G f i (mset M f i x.toInt z) x.toInt.toNat v)
    (hO : H'[gA G f i]? = some ((arrV (gX G f) (aN f i) F).setSlot x.toNatClampNeg v)) (hz : H'.size = H.size) (ho : ∀ q, q ≠ gA G f i → H'[q]? = H[q]?) : Rp G (mset M f i x.toInt z) H' := by
  rw [arrV_store] at hO
  refine hR.aput hG f1 f2 hi (fun f' i' k' h => mset_ne (fun q => h ⟨q.1, q.2.1⟩)) (fun j hj => ?_) hO hz ho
  unfold updV
  by_cases e : j = x.toNatClampNeg
  · subst e
    simp only [if_true]
    exact hv
  · rw [if_neg e]
    refine ev_cong (mset_ne (fun q => e ?_)) (hF j hj)
    have e1 : x.toNatClampNeg = x.toInt.toNat := rfl
    have := q.2.2
    omega
set_option maxHeartbeats 4000000 in
theorem st_iast {ls st ls' st' : List AV} {M M' : Mem} {a : Act} (C : CX G y p s m args c) (hd : decode (bts y) pc = .ok (.iastore, 1)) (hL : LR G (mxl y) ls la) (hS : SR G st sa) (hR : Rp G M H) (hl : LocOK G locs)
    (he : (pIIR st fun f i z v st => bif Nat.beq (aek f) 10 && Nat.blt f 30000 then aG (0 ≤ z ∧ z < alen M f i) inferInstance ls st (mset M f i z v) else none) = some a) (hN : Nx a (ls', st', M'))
    (kk : ∀ H' locs' la' sa', LR G (mxl y) ls' la' → SR G st' sa' → Rp G M' H' → LocOK G locs' → W p l e R s m args below meth c H' locs' cells slots Q (F0 m (pc + 1) la' sa')) : W p l e R s m args below meth c H locs cells slots Q (F0 m pc la sa) := by
  obtain ⟨hx, hb, hml, hown, hts, hK, hG⟩ := C
  obtain ⟨f, i, z, v, st1, rfl, h9⟩ := pIIR_inv he
  cases hf : (Nat.beq (aek f) 10 && Nat.blt f 30000) with
  | false => rw [hf] at h9; cases h9
  | true =>
    rw [hf] at h9
    rw [Bool.and_eq_true, Nat.beq_eq, Nat.blt_eq] at hf
    obtain ⟨hf, h3⟩ := hf
    have hne : ¬ aek f = 99 := by omega
    have h1 := aek_ge hne
    cases h9
    obtain ⟨⟨z0, z1⟩, rfl, rfl, rfl⟩ := Nx_g hN
    obtain ⟨w, sb, rfl, rfl, hS1⟩ := hS.i
    obtain ⟨x, sb2, rfl, rfl, hS2⟩ := hS1.i
    obtain ⟨sc, rfl, hi, hS3⟩ := hS2.a (by omega)
    obtain ⟨F, q1, q2⟩ := hR.2.2.2.1 f i h1 h3 hi
    have hj := alen_w h3 z0 z1
    have har := hK.2.1 f h1 h3 hne (aN f i) F
    rw [aTy_i hf] at har
    refine W.iast hx hb q1 har (fun h => by cases h) (i32_in z0 (by rw [arrV_size]; exact hj)) rfl rfl hd (fun H' e1 e2 e3 => ?_)
    exact kk _ _ _ _ hL hS3 (hR.st hG h1 h3 hi z0 q2 ((ev_i hf).mpr ⟨w, rfl, by rw [toNatI z0, mset_at]⟩) e1 e2 e3) (hl.add (hG.2.1 f i (wrtA h1 h3) hi))
set_option maxHeartbeats 4000000 in
theorem st_last {ls st ls' st' : List AV} {M M' : Mem} {a : Act} (C : CX G y p s m args c) (hd : decode (bts y) pc = .ok (.lastore, 1)) (hL : LR G (mxl y) ls la) (hS : SR G st sa) (hR : Rp G M H) (hl : LocOK G locs)
    (he : (pLIR st fun f i z v st => bif Nat.beq (aek f) 12 && Nat.blt f 30000 then aG (0 ≤ z ∧ z < alen M f i) inferInstance ls st (mset M f i z v) else none) = some a) (hN : Nx a (ls', st', M'))
    (kk : ∀ H' locs' la' sa', LR G (mxl y) ls' la' → SR G st' sa' → Rp G M' H' → LocOK G locs' → W p l e R s m args below meth c H' locs' cells slots Q (F0 m (pc + 1) la' sa')) : W p l e R s m args below meth c H locs cells slots Q (F0 m pc la sa) := by
  obtain ⟨hx, hb, hml, hown, hts, hK, hG⟩ := C
  obtain ⟨f, i, z, v, st1, rfl, h9⟩ := pLIR_inv he
  cases hf : (Nat.beq (aek f) 12 && Nat.blt f 30000) with
  | false => rw [hf] at h9; cases h9
  | true =>
    rw [hf] at h9
    rw [Bool.and_eq_true, Nat.beq_eq, Nat.blt_eq] at hf
    obtain ⟨hf, h3⟩ := hf
    have hne : ¬ aek f = 99 := by omega
    have h1 := aek_ge hne
    cases h9
    obtain ⟨⟨z0, z1⟩, rfl, rfl, rfl⟩ := Nx_g hN
    obtain ⟨w, sb, rfl, rfl, hS1⟩ := hS.l
    obtain ⟨x, sb2, rfl, rfl, hS2⟩ := hS1.i
    obtain ⟨sc, rfl, hi, hS3⟩ := hS2.a (by omega)
    obtain ⟨F, q1, q2⟩ := hR.2.2.2.1 f i h1 h3 hi
    have hj := alen_w h3 z0 z1
    have har := hK.2.1 f h1 h3 hne (aN f i) F
    rw [aTy_l hf] at har
    refine W.last hx hb q1 har (fun h => by cases h) (i32_in z0 (by rw [arrV_size]; exact hj)) rfl rfl hd (fun H' e1 e2 e3 => ?_)
    exact kk _ _ _ _ hL hS3 (hR.st hG h1 h3 hi z0 q2 ((ev_l hf).mpr ⟨w, rfl, by rw [toNatI z0, mset_at]⟩) e1 e2 e3) (hl.add (hG.2.1 f i (wrtA h1 h3) hi))
set_option maxHeartbeats 4000000 in
theorem st_bast {ls st ls' st' : List AV} {M M' : Mem} {a : Act} (C : CX G y p s m args c) (hd : decode (bts y) pc = .ok (.bastore, 1)) (hL : LR G (mxl y) ls la) (hS : SR G st sa) (hR : Rp G M H) (hl : LocOK G locs)
    (he : xBast ls st M = some a) (hN : Nx a (ls', st', M'))
    (kk : ∀ H' locs' la' sa', LR G (mxl y) ls' la' → SR G st' sa' → Rp G M' H' → LocOK G locs' → W p l e R s m args below meth c H' locs' cells slots Q (F0 m (pc + 1) la' sa')) : W p l e R s m args below meth c H locs cells slots Q (F0 m pc la sa) := by
  obtain ⟨hx, hb, hml, hown, hts, hK, hG⟩ := C
  unfold xBast at he
  obtain ⟨f, i, z, v, st1, rfl, h9⟩ := pIIR_inv he
  cases hf0 : Nat.blt f 30000 with
  | false => rw [hf0] at h9; cases h9
  | true =>
    rw [hf0] at h9
    rw [Nat.blt_eq] at hf0
    cases hf : Nat.beq (aek f) 13 with
    | true =>
      rw [hf] at h9
      have hf := beq_t hf
      have hne : ¬ aek f = 99 := by omega
      have h1 := aek_ge hne
      cases h9
      obtain ⟨⟨z0, z1⟩, rfl, rfl, rfl⟩ := Nx_g hN
      obtain ⟨w, sb, rfl, rfl, hS1⟩ := hS.i
      obtain ⟨x, sb2, rfl, rfl, hS2⟩ := hS1.i
      obtain ⟨sc, rfl, hi, hS3⟩ := hS2.a (by omega)
      obtain ⟨F, q1, q2⟩ := hR.2.2.2.1 f i h1 hf0 hi
      have hj := alen_w hf0 z0 z1
      have har := hK.2.1 f h1 hf0 hne (aN f i) F
      rw [aTy_b hf] at har
      refine W.bast hx hb q1 har (fun h => by cases h) (i32_in z0 (by rw [arrV_size]; exact hj)) rfl rfl hd (fun H' e1 e2 e3 => ?_)
      have hw := w8_rng w.toInt
      exact kk _ _ _ _ hL hS3 (hR.st hG h1 hf0 hi z0 q2 ((ev_b hf).mpr ⟨w.toInt8.toInt32, rfl, by rw [toNatI z0, mset_at, n_i2b], by rw [toNatI z0, mset_at]; exact hw⟩) e1 e2 e3) (hl.add (hG.2.1 f i (wrtA h1 hf0) hi))
    | false =>
      rw [hf] at h9
      cases hf2 : Nat.beq (aek f) 11 with
      | false => rw [hf2] at h9; cases h9
      | true =>
        rw [hf2] at h9
        have hf := beq_t hf2
        have hne : ¬ aek f = 99 := by omega
        have h1 := aek_ge hne
        cases h9
        obtain ⟨⟨z0, z1⟩, rfl, rfl, rfl⟩ := Nx_g hN
        obtain ⟨w, sb, rfl, rfl, hS1⟩ := hS.i
        obtain ⟨x, sb2, rfl, rfl, hS2⟩ := hS1.i
        obtain ⟨sc, rfl, hi, hS3⟩ := hS2.a (by omega)
        obtain ⟨F, q1, q2⟩ := hR.2.2.2.1 f i h1 hf0 hi
        have hj := alen_w hf0 z0 z1
        have har := hK.2.1 f h1 hf0 hne (aN f i) F
        rw [aTy_z hf] at har
        refine W.zast hx hb q1 har (fun h => by cases h) (i32_in z0 (by rw [arrV_size]; exact hj)) rfl rfl hd (fun H' e1 e2 e3 => ?_)
        exact kk _ _ _ _ hL hS3 (hR.st hG h1 hf0 hi z0 q2 ((ev_z hf).mpr ⟨w &&& 1, rfl, by rw [toNatI z0, mset_at, n_nb], by rw [toNatI z0, mset_at]; exact nb_01 _⟩) e1 e2 e3) (hl.add (hG.2.1 f i (wrtA h1 hf0) hi))
theorem szI {n : Nat} (h : n ≤ 100000) : (n.toInt32).toInt = n := by
  show (Int32.ofNat n).toInt = n
  exact nI_toInt (by omega)
set_option maxHeartbeats 4000000 in
theorem st_alen {ls st ls' st' : List AV} {M M' : Mem} {a : Act} (C : CX G y p s m args c) (hd : decode (bts y) pc = .ok (.arraylength, 1)) (hL : LR G (mxl y) ls la) (hS : SR G st sa) (hR : Rp G M H) (hl : LocOK G locs)
    (he : (pR st fun f i st => bif Nat.beq (aek f) 99 then none else aC ls (vI (alen M f i) :: st) M) = some a) (hN : Nx a (ls', st', M'))
    (kk : ∀ H' locs' la' sa', LR G (mxl y) ls' la' → SR G st' sa' → Rp G M' H' → LocOK G locs' → W p l e R s m args below meth c H' locs' cells slots Q (F0 m (pc + 1) la' sa')) : W p l e R s m args below meth c H locs cells slots Q (F0 m pc la sa) := by
  obtain ⟨hx, hb, hml, hown, hts, hK, hG⟩ := C
  obtain ⟨f, i, st1, rfl, h9⟩ := pR_inv he
  cases hf : Nat.beq (aek f) 99 with
  | true => rw [hf] at h9; cases h9
  | false =>
    rw [hf] at h9
    have hne : ¬ aek f = 99 := fun q => by rw [q] at hf; cases hf
    cases h9
    obtain ⟨rfl, rfl, rfl⟩ := Nx_c hN
    have h1 := aek_ge hne
    obtain ⟨sc, rfl, hi, hS2⟩ := hS.a (by omega)
    by_cases h3 : f < 30000
    · obtain ⟨F, q1, q2⟩ := hR.2.2.2.1 f i h1 h3 hi
      have har := hK.2.1 f h1 h3 hne (aN f i) F
      obtain ⟨ha1, ha2⟩ := alen_ok (M := M') h3 hne hi
      refine W.alen (n := (aN f i).toInt32) hx hb q1 har (by rw [arrV_size]) rfl rfl hd (kk _ _ _ _ hL ⟨⟨_, rfl, ?_⟩, hS2⟩ hR hl)
      rw [ha1, szI ha2]
    · have h30 : f = 31000 ∨ f = 32000 ∨ (30000 ≤ f ∧ f < 30003) := by rcases aek_cases hne with h | h | h | h | h | h <;> omega
      rcases h30 with rfl | rfl | ⟨h4, h5⟩
      · obtain ⟨i0, i1⟩ := hi
        have hc : cnt 31000 = 67 := by decide +kernel
        rw [hc] at i1
        obtain ⟨-, -, -, hT⟩ := hK.2.2.2.1 i i0 i1
        obtain ⟨cell, c1, c2, c3, c4, c5, c6⟩ := old_at hR.2.1 hT
        have hs : sLn i ≤ 1000 := by
          have : ∀ j : Nat, j < 67 → sLn (j : Int) ≤ 1000 := by decide +kernel
          have := this i.toNat (by omega)
          rwa [toNatI i0] at this
        refine W.alen (n := Int32.ofNat (sLn i)) hx hb c1 c2 c5 rfl rfl hd (kk _ _ _ _ hL ⟨⟨_, rfl, ?_⟩, hS2⟩ hR hl)
        show (nI (sLn i)).toInt = sLen i
        rw [nI_toInt (by omega)]
        rfl
      · obtain ⟨i0, i1⟩ := hi
        have hc : cnt 32000 = 1 := by decide +kernel
        have hi0 : i = 0 := by omega
        subst hi0
        obtain ⟨-, -, -, -, -, -, -, ⟨scr, c1, c2, c3, c4, c5⟩, hbl⟩ := hK
        refine W.alen (n := (gL G).toInt32) hx hb (by rw [hR.2.1 _ hbl]; exact c1) c2 (by rw [c4]) rfl rfl hd (kk _ _ _ _ hL ⟨⟨_, rfl, ?_⟩, hS2⟩ hR hl)
        rw [szI (by have := hG.2.2; omega)]
        exact hR.2.2.2.2.1.symm
      · obtain ⟨i0, i1⟩ := hi
        have hc : cnt f = 1 := by
          have : f = 30000 ∨ f = 30001 ∨ f = 30002 := by omega
          rcases this with rfl | rfl | rfl <;> decide +kernel
        have hi0 : i = 0 := by omega
        subst hi0
        obtain ⟨cell, c1, c2, c3, c4, c5, c6⟩ := old_at hR.2.1 (hK.2.2.2.2.2.2.1 f h4 h5)
        refine W.alen (n := Int32.ofNat _) hx hb c1 c2 c5 rfl rfl hd (kk _ _ _ _ hL ⟨⟨_, rfl, ?_⟩, hS2⟩ hR hl)
        have : f = 30000 ∨ f = 30001 ∨ f = 30002 := by omega
        rcases this with rfl | rfl | rfl <;> rfl
set_option maxHeartbeats 4000000 in
theorem st_copy {idx : Nat} {cc : Int} {ls st ls' st' : List AV} {M M' : Mem} {a : Act} (C : CX G y p s m args c) (hRm : 1 ≤ R.frames ∧ 80 ≤ R.locals) (hd : decode (bts y) pc = .ok (.invokestatic idx, 3)) (hk : okI lkT y pc (.invokestatic idx, cc, []) = true) (hL : LR G (mxl y) ls la) (hS : SR G st sa) (hR : Rp G M H) (hl : LocOK G locs)
    (he : xCopy ls st M = some a) (hN : Nx a (ls', st', M'))
    (kk : ∀ H' locs' la' sa', LR G (mxl y) ls' la' → SR G st' sa' → Rp G M' H' → LocOK G locs' → W p l e R s m args below meth c H' locs' cells slots Q (F0 m (pc + 3) la' sa')) : W p l e R s m args below meth c H locs cells slots Q (F0 m pc la sa) := by
  obtain ⟨hx, hb, hml, hown, hts, hK, hG⟩ := C
  simp only [okI] at hk
  obtain ⟨w0, hw, h1⟩ := List.any_eq_true.mp hk
  obtain rfl := beq_t h1
  have hlink := hts _ (acT_ok _ _ hw)
  unfold xCopy at he
  split at he
  · rename_i n dp g j sp f i st1
    cases hf : (Nat.beq (aek f) (aek g) && (Nat.blt g 30000 && (Nat.blt f 30000 && (Nat.beq (aek f) 10 || Nat.beq (aek f) 13))) && Nat.ble (wds st1) 8) with
    | false => rw [hf] at he; cases he
    | true =>
      rw [hf] at he
      simp only [Bool.and_eq_true, Bool.or_eq_true, Nat.beq_eq, Nat.blt_eq, Nat.ble_eq] at hf
      obtain ⟨⟨hfg, hg3, hf3, hek⟩, hwd⟩ := hf
      cases he
      obtain ⟨⟨s0, d0, n0, h4, h5⟩, rfl, rfl, rfl⟩ := Nx_g hN
      have hnf : ¬ aek f = 99 := by omega
      have hng : ¬ aek g = 99 := by omega
      have hf1 := aek_ge hnf
      have hg1 := aek_ge hng
      obtain ⟨xn, sb, rfl, rfl, hS1⟩ := hS.i
      obtain ⟨xd, sb2, rfl, rfl, hS2⟩ := hS1.i
      obtain ⟨sb3, rfl, hj, hS3⟩ := hS2.a (by omega)
      obtain ⟨xs, sb4, rfl, rfl, hS4⟩ := hS3.i
      obtain ⟨sb5, rfl, hi, hS5⟩ := hS4.a (by omega)
      obtain ⟨Fs, q1, q2⟩ := hR.2.2.2.1 f i hf1 hf3 hi
      obtain ⟨Fd, q3, q4⟩ := hR.2.2.2.1 g j hg1 hg3 hj
      obtain ⟨hlf, -⟩ := alen_ok (M := M) hf3 hnf hi
      obtain ⟨hlg, -⟩ := alen_ok (M := M) hg3 hng hj
      have hty : aTy f = aTy g ∧ refKind (aTy f) = false := by
        rcases hek with h | h
        · rw [aTy_i h, aTy_i (by omega)]; exact ⟨rfl, rfl⟩
        · rw [aTy_b h, aTy_b (by omega)]; exact ⟨rfl, rfl⟩
      have nz : ∀ z : Int32, 0 ≤ z.toInt → ¬ z < 0 := by
        intro z hz h
        rw [Int32.lt_iff_toInt_lt] at h
        have : (0 : Int32).toInt = 0 := rfl
        omega
      have es : xs.toNatClampNeg = xs.toInt.toNat := rfl
      have ed : xd.toNatClampNeg = xd.toInt.toNat := rfl
      have en : xn.toNatClampNeg = xn.toInt.toNat := rfl
      intro T hT X
      obtain ⟨-, k0, hk0, cm0, hkk0⟩ := hK.2.1 f hf1 hf3 hnf (aN f i) Fs
      obtain ⟨-, k1, hk1, cm1, hkk1⟩ := hK.2.1 g hg1 hg3 hng (aN g j) Fd
      obtain ⟨vm', X', step⟩ := X.arraycopy hx hown hlink (hts _ (lw_g (lw_at lw_m5 1 rfl) rfl)) (hts _ (lw_g (lw_at lw_m5 0 rfl) rfl)) (hts _ (lw_g (lw_at lw_m1 27 rfl) rfl)) (src := gA G f i) (dst := gA G g j) (cs := arrV (gX G f) (aN f i) Fs) (cd := arrV (gX G g) (aN g j) Fd) (srcPos := xs) (destPos := xd) (n := xn) (by rw [hT]; exact q1) (by rw [hT]; exact q3)
        (fun _ h => by cases h) (fun _ h => by cases h) (fun h => by cases h) (fun h => by cases h) hk0 hk1 hkk0 hkk1 (by rw [hty.1]; rw [hty.1] at hty; simp [hty.2]) (nz _ s0) (nz _ d0) (nz _ n0)
        (by rw [arrV_size]; omega) (by rw [arrV_size]; omega)
        (fun vm₁ _ q hq => by
          have hlt : xs.toNatClampNeg + q < aN f i := by omega
          have e9 : (arrV (gX G f) (aN f i) Fs).slots.getD (xs.toNatClampNeg + q) .null = Fs (xs.toNatClampNeg + q) := by
            rw [Array.getD_eq_getD_getElem?, arrV_read _ _ hlt]
            rfl
          rw [e9]
          have h7 := q2 _ hlt
          rcases hek with h | h
          · obtain ⟨v, hv, -⟩ := (ev_i h).mp h7
            rw [hv, aTy_i (by omega)]
            exact ⟨rfl, trivial⟩
          · obtain ⟨v, hv, hv2, hv3, hv4⟩ := (ev_b h).mp h7
            rw [hv, aTy_b (by omega)]
            refine ⟨?_, trivial⟩
            show (-128 ≤ v && v ≤ 127) = true
            have e1 : (-128 : Int32).toInt = -128 := rfl
            have e2 : (127 : Int32).toInt = 127 := rfl
            simp only [Bool.and_eq_true, decide_eq_true_eq, Int32.le_iff_toInt_le]
            omega)
        (g := F0 m pc la (.int xn :: .int xd :: .ref (gA G g j) :: .int xs :: .ref (gA G f i) :: sb5)) rfl (by rw [hml]; exact hL.2.1) (rest := sb5) rfl (by rw [hb]; exact hd) hRm.1 (by
          have h8 := hS5.wds
          have h9 : nativeFrameWords "java/lang/System" "arraycopy" 5 + 11 ≤ 70 := by decide +kernel
          show 2 * 0 + _ + _ ≤ _
          omega)
      have e1 : copied (arrV (gX G f) (aN f i) Fs) (arrV (gX G g) (aN g j) Fd) xs xd xn = arrV (gX G g) (aN g j) (va_cpy Fs Fd xs.toNatClampNeg xd.toNatClampNeg xn.toNatClampNeg) := va_copied (fun v => v) (gX G f) (gX G g) Fs Fd (by omega)
      rw [e1] at X' step
      have hll : gA G g j < H.size := (Array.getElem?_eq_some_iff.mp q3).1
      have oq : ∀ q : Nat, q ≠ gA G g j → (H.setIfInBounds (gA G g j) (arrV (gX G g) (aN g j) (va_cpy Fs Fd xs.toNatClampNeg xd.toNatClampNeg xn.toNatClampNeg)))[q]? = H[q]? := fun q hq => by simp [Array.getElem?_setIfInBounds, Ne.symm hq]
      have hR' : Rp G (mcpy M f i xs.toInt g j xd.toInt xn.toInt) (H.setIfInBounds (gA G g j) (arrV (gX G g) (aN g j) (va_cpy Fs Fd xs.toNatClampNeg xd.toNatClampNeg xn.toNatClampNeg))) := by
        refine hR.aput (F := va_cpy Fs Fd xs.toNatClampNeg xd.toNatClampNeg xn.toNatClampNeg) hG hg1 hg3 hj (fun f' i' k' h => mcpy_ne h) (fun k hk => ?_) (by simp [Array.getElem?_setIfInBounds, hll]) (by simp) oq
        by_cases hin : xd.toNatClampNeg ≤ k ∧ k < xd.toNatClampNeg + xn.toNatClampNeg
        · rw [pk_cpy_in hin.1 hin.2]
          have h7 := q2 (xs.toNatClampNeg + (k - xd.toNatClampNeg)) (by omega)
          have hm : mcpy M f i xs.toInt g j xd.toInt xn.toInt g j k = M f i ((xs.toNatClampNeg + (k - xd.toNatClampNeg) : Nat) : Int) := by
            rw [mcpy_in (by omega) (by omega)]
            congr 1
            omega
          rcases hek with h | h
          · obtain ⟨v, hv, hv2⟩ := (ev_i h).mp h7
            exact (ev_i (by omega)).mpr ⟨v, hv, hv2.trans hm.symm⟩
          · obtain ⟨v, hv, hv2, hv3⟩ := (ev_b h).mp h7
            exact (ev_b (by omega)).mpr ⟨v, hv, hv2.trans hm.symm, by rw [hm]; exact hv3⟩
        · rw [pk_cpy_out (by omega)]
          exact ev_cong (mcpy_out (by omega)) (q4 k hk)
      obtain ⟨t, a1, b1⟩ := kk _ _ _ _ hL hS5 hR' (fun q hq => by
        rcases List.mem_append.mp hq with h | h
        · exact hl q h
        · obtain ⟨z, -, hz⟩ := List.mem_map.mp h
          rw [← hz]
          exact hG.2.1 g j (wrtA hg1 hg3) hj) _ (by rw [← hT]; rfl) X'
      exact ⟨t, step t a1, b1⟩
  · cases he
end Step5
