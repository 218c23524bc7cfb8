/-! SOUNDNESS: branches, switches, ends; THE THEOREM -/
theorem swO_spec {y pc : Nat} : ∀ (bs : List Nat) (os : List Int), swO y pc bs os = true → bs.length = os.length ∧ ∀ (j : Nat) (b : Nat), bs[j]? = some b → ∃ o, os[j]? = some o ∧ (pcO y b : Int) = pc + o
  | [], [], _ => ⟨rfl, fun j b h => by simp at h⟩
  | b :: bs, o :: os, h => by
    unfold swO at h
    rw [Bool.and_eq_true, decide_eq_true_eq] at h
    obtain ⟨h1, h2⟩ := swO_spec bs os h.2
    refine ⟨by simp [h1], fun j b' hj => ?_⟩
    cases j with
    | zero =>
      have hj : b = b' := by simpa using hj
      subst hj
      exact ⟨o, rfl, h.1⟩
    | succ j => exact h2 j b' (by simpa using hj)
  | [], _ :: _, h => by cases h
  | _ :: _, [], h => by cases h
theorem swt_out {z : Int} {d : Nat} : ∀ (bs : List Nat) (v : Int), (z < v ∨ v + bs.length ≤ z) → swt z d v bs = d
  | [], v, _ => rfl
  | t :: ts, v, h => by
    have hlen : ((t :: ts).length : Int) = ts.length + 1 := by simp
    unfold swt
    have := swt_out (z := z) (d := d) ts (v + 1) (by omega)
    cases hb : Nat.beq t d with
    | true => rw [cond_true]; exact this
    | false =>
      rw [cond_false, if_neg (by omega)]
      exact this
theorem swt_in {z : Int} {d : Nat} : ∀ (bs : List Nat) (v : Int), v ≤ z → z < v + bs.length → swt z d v bs = bs.getD (z - v).toNat d
  | [], v, h1, h2 => by
    exfalso
    have : (([] : List Nat).length : Int) = 0 := rfl
    omega
  | t :: ts, v, h1, h2 => by
    have hlen : ((t :: ts).length : Int) = ts.length + 1 := by simp
    unfold swt
    by_cases hz : z = v
    · subst hz
      have e0 : (z - z).toNat = 0 := by omega
      rw [e0]
      cases hb : Nat.beq t d with
      | true =>
        rw [cond_true, swt_out ts (z + 1) (by omega)]
        exact (beq_t hb).symm
      | false =>
        rw [cond_false, if_pos rfl]
        rfl
    · have e1 : (z - v).toNat = (z - (v + 1)).toNat + 1 := by omega
      rw [e1]
      have := swt_in (z := z) (d := d) ts (v + 1) (by omega) (by omega)
      cases hb : Nat.beq t d with
      | true => rw [cond_true, this]; rfl
      | false => rw [cond_false, if_neg hz, this]; rfl
theorem n_chr (x : Int32) : (x.toUInt32.toUInt16.toUInt32.toInt32).toInt = x.toInt % 65536 := by
  have h1 : (x.toUInt32.toUInt16.toUInt32.toInt32).toBitVec.toNat = x.toBitVec.toNat % 65536 := by
    show (x.toUInt32.toUInt16.toUInt32).toNat = _
    rw [UInt16.toNat_toUInt32, UInt32.toNat_toUInt16]
    rfl
  have h2 := i32_nat x
  have h3 := x.toBitVec.isLt
  rw [i32_bv _ (x.toBitVec.toNat % 65536) (by rw [h1]; omega), w32_id (by omega) (by omega)]
  omega
section Snd
variable {p : Program} {l : Launch} {e : Env} {R : Room} {s : State} {m : MethodId} {args : Array Value} {below : List Frame} {meth : Method} {c : Code} {H : Heap} {locs : List Loc} {cells slots : Nat} {Q : State → Prop} {G : Gh} {y pc : Nat} {la : Array Slot} {sa : List Value}
abbrev aBr (P : PD) (b : Nat) (ls st : List AV) (M : Mem) : Act := .inr (.inr (.inl (P, b, ls, st, M)))
set_option maxHeartbeats 4000000 in
theorem st_br {i : Ins} {ls st ls1 st1 : List AV} {M M1 : Mem} {P : PD} {b : Nat} (C : CX G y p s m args c) (hd : decode (bts y) pc = .ok (i.1, ilen i.1)) (hk : okI lkT y pc i = true) (hS : SR G st sa) (he : ex1 i ls st M = some (aBr P b ls1 st1 M1))
    (kt : ∀ sa', P.1 → ls1 = ls → M1 = M → SR G st1 sa' → W p l e R s m args below meth c H locs cells slots Q (F0 m (pcO y b) la sa'))
    (kf : ∀ sa', ¬ P.1 → ls1 = ls → M1 = M → SR G st1 sa' → W p l e R s m args below meth c H locs cells slots Q (F0 m (pc + ilen i.1) la sa')) : W p l e R s m args below meth c H locs cells slots Q (F0 m pc la sa) := by
  obtain ⟨hx, hb, hml, hown, hts, hK, hG⟩ := C
  have hsh : 1 = ikd i := (ex1_shape he).1
  have z0 : (0 : Int32).toInt = 0 := rfl
  obtain ⟨op, cc, q⟩ := i
  cases op
  case ifCond c9 o9 =>
    have hk : decide ((pcO y (o1 (Instr.ifCond c9 o9, cc, q)) : Int) = pc + o9) = true := hk
    have hk := (of_decide_eq_true hk).symm
    obtain ⟨x, s9, rfl, h⟩ := pI_inv (show pI st (fun a st => xIf c9 (o1 (Instr.ifCond c9 o9, cc, q)) ls M a st) = _ from he)
    obtain ⟨w, sb, rfl, rfl, hS1⟩ := hS.i
    unfold xIf at h
    cases c9
    · cases h
      exact lv_if_eq hx hb hd hk (fun g => kt _ (show w.toInt = 0 by rw [g]; rfl) rfl rfl hS1) (fun g => kf _ (fun q : w.toInt = 0 => g (Int32.toInt_inj.mp q)) rfl rfl hS1)
    · cases h
      exact lv_if_ne hx hb hd hk (fun g => kt _ (fun q : w.toInt = 0 => g (Int32.toInt_inj.mp q)) rfl rfl hS1) (fun g => kf _ (fun q : ¬ w.toInt = 0 => q (by rw [g]; rfl)) rfl rfl hS1)
    · cases h
      exact lv_if_lt hx hb hd hk (fun g => kt _ (show w.toInt < 0 from Int32.lt_iff_toInt_lt.mp g) rfl rfl hS1) (fun g => kf _ (fun q : w.toInt < 0 => g (Int32.lt_iff_toInt_lt.mpr q)) rfl rfl hS1)
    · cases h
      exact lv_if_ge hx hb hd hk (fun g => kt _ (show 0 ≤ w.toInt from Int32.le_iff_toInt_le.mp g) rfl rfl hS1) (fun g => kf _ (fun q : 0 ≤ w.toInt => g (Int32.le_iff_toInt_le.mpr q)) rfl rfl hS1)
    · cases h
      exact lv_if_gt hx hb hd hk (fun g => kt _ (show 0 < w.toInt from Int32.lt_iff_toInt_lt.mp g) rfl rfl hS1) (fun g => kf _ (fun q : 0 < w.toInt => g (Int32.lt_iff_toInt_lt.mpr q)) rfl rfl hS1)
    · cases h
      exact lv_if_le hx hb hd hk (fun g => kt _ (show w.toInt ≤ 0 from Int32.le_iff_toInt_le.mp g) rfl rfl hS1) (fun g => kf _ (fun q : w.toInt ≤ 0 => g (Int32.le_iff_toInt_le.mpr q)) rfl rfl hS1)
  case if_icmp c9 o9 =>
    have hk : decide ((pcO y (o1 (Instr.if_icmp c9 o9, cc, q)) : Int) = pc + o9) = true := hk
    have hk := (of_decide_eq_true hk).symm
    obtain ⟨x, y9, s9, rfl, h⟩ := pII_inv (show pII st (fun a d st => xIfc c9 (o1 (Instr.if_icmp c9 o9, cc, q)) ls M a d st) = _ from he)
    obtain ⟨w, sb, rfl, rfl, hS1⟩ := hS.i
    obtain ⟨u, sb, rfl, rfl, hS2⟩ := hS1.i
    unfold xIfc at h
    cases c9
    · cases h
      exact lv_icmp_eq hx hb hd hk (fun g => kt _ (show u.toInt = w.toInt by rw [g]) rfl rfl hS2) (fun g => kf _ (fun q : u.toInt = w.toInt => g (Int32.toInt_inj.mp q)) rfl rfl hS2)
    · cases h
      exact lv_icmp_ne hx hb hd hk (fun g => kt _ (fun q : u.toInt = w.toInt => g (Int32.toInt_inj.mp q)) rfl rfl hS2) (fun g => kf _ (fun q : ¬ u.toInt = w.toInt => q (by rw [g])) rfl rfl hS2)
    · cases h
      exact lv_icmp_lt hx hb hd hk (fun g => kt _ (show u.toInt < w.toInt from Int32.lt_iff_toInt_lt.mp g) rfl rfl hS2) (fun g => kf _ (fun q : u.toInt < w.toInt => g (Int32.lt_iff_toInt_lt.mpr q)) rfl rfl hS2)
    · cases h
      exact lv_icmp_ge hx hb hd hk (fun g => kt _ (show w.toInt ≤ u.toInt from Int32.le_iff_toInt_le.mp g) rfl rfl hS2) (fun g => kf _ (fun q : w.toInt ≤ u.toInt => g (Int32.le_iff_toInt_le.mpr q)) rfl rfl hS2)
    · cases h
      exact lv_icmp_gt hx hb hd hk (fun g => kt _ (show w.toInt < u.toInt from Int32.lt_iff_toInt_lt.mp g) rfl rfl hS2) (fun g => kf _ (fun q : w.toInt < u.toInt => g (Int32.lt_iff_toInt_lt.mpr q)) rfl rfl hS2)
    · cases h
      exact lv_icmp_le hx hb hd hk (fun g => kt _ (show u.toInt ≤ w.toInt from Int32.le_iff_toInt_le.mp g) rfl rfl hS2) (fun g => kf _ (fun q : u.toInt ≤ w.toInt => g (Int32.le_iff_toInt_le.mpr q)) rfl rfl hS2)
  all_goals first | (cases hsh; done) | (rcases q with _ | ⟨_, _⟩ <;> cases hsh)
abbrev aSw (z lo : Int) (ts : List Nat) (d : Nat) (ls st : List AV) (M : Mem) : Act := .inr (.inr (.inr (.inr (.inr (.inr (z, lo, ts, d, ls, st, M))))))
theorem st_sw {i : Ins} {ls st ls1 st1 : List AV} {M M1 : Mem} {z lo : Int} {ts : List Nat} {d n : Nat} (C : CX G y p s m args c) (hd : decode (bts y) pc = .ok (i.1, n)) (hk : okI lkT y pc i = true) (hS : SR G st sa) (he : ex1 i ls st M = some (aSw z lo ts d ls1 st1 M1))
    (kk : ∀ sa', ls1 = ls → M1 = M → SR G st1 sa' → W p l e R s m args below meth c H locs cells slots Q (F0 m (pcO y (swt z d lo ts)) la sa')) : W p l e R s m args below meth c H locs cells slots Q (F0 m pc la sa) := by
  obtain ⟨hx, hb, hml, hown, hts, hK, hG⟩ := C
  have hsh : 5 = ikd i := (ex1_shape he).1
  obtain ⟨op, cc, q⟩ := i
  cases op
  case tableswitch d9 lo9 hi9 os =>
    have he : xSw (_, cc, q) ls st M = _ := he
    unfold xSw at he
    simp only [okI, Bool.and_eq_true, decide_eq_true_eq] at hk
    obtain ⟨⟨rfl, hhi⟩, hk⟩ := hk
    split at he
    · rename_i d2 ts2 hq
      dsimp only at hq
      subst hq
      obtain ⟨x, s9, rfl, h⟩ := pI_inv he
      cases h
      obtain ⟨w, sb, rfl, rfl, hS1⟩ := hS.i
      dsimp only at hk
      rw [Bool.and_eq_true, decide_eq_true_eq] at hk
      obtain ⟨hlen, hsp⟩ := swO_spec _ _ hk.2
      have K := kk sb rfl rfl hS1
      by_cases hin : cc ≤ w.toInt ∧ w.toInt < cc + ts.length
      · rw [swt_in ts cc hin.1 hin.2] at K
        have hj : (w.toInt - cc).toNat < ts.length := by omega
        obtain ⟨o, ho1, ho2⟩ := hsp (w.toInt - cc).toNat ts[(w.toInt - cc).toNat] (List.getElem?_eq_getElem hj)
        rw [List.getD_eq_getElem?_getD, List.getElem?_eq_getElem hj] at K
        exact lv_tableIn hx hb hd (by omega) (by omega) (by rw [← Array.getElem?_toList]; exact ho1) ho2.symm K
      · rw [swt_out ts cc (by omega)] at K
        exact lv_tableOut hx hb hd (by omega) hk.1.symm K
    · cases he
  all_goals first | (cases hsh; done) | (rcases q with _ | ⟨_, _⟩ <;> cases hsh)
abbrev aDn (r : AR) (M : Mem) : Act := .inr (.inr (.inr (.inr (.inr (.inl (r, M))))))
set_option maxHeartbeats 4000000 in
theorem st_done {i : Ins} {ls st : List AV} {M M' : Mem} {r : AR} (C : CX G y p s m args c) (hd : decode (bts y) pc = .ok (i.1, ilen i.1)) (hk : okI lkT y pc i = true) (hS : SR G st sa) (hR : Rp G M H) (hl : LocOK G locs) (he : ex1 i ls st M = some (aDn r M'))
    (hKT : KT l G y r M' p e R s m args below meth c cells slots Q) : W p l e R s m args below meth c H locs cells slots Q (F0 m pc la sa) := by
  have C0 := C
  obtain ⟨hx, hb, hml, hown, hts, hK, hG⟩ := C
  have hsh : 4 = ikd i := (ex1_shape he).1
  obtain ⟨op, cc, q⟩ := i
  cases op
  case ireturn =>
    have he : xIret (o1 (Instr.ireturn, cc, q)) st M = _ := he
    have hk : retO y (o1 (Instr.ireturn, cc, q)) = true := hk
    generalize o1 (Instr.ireturn, cc, q) = k9 at he hk
    unfold xIret at he
    split at he
    · obtain ⟨w, sb, rfl, rfl, hS1⟩ := hS.i
      cases sb with
      | cons _ _ => cases hS1
      | nil =>
        unfold retO at hk
        split at hk
        · rename_i ht
          obtain rfl := beq_t hk
          cases he
          exact hKT H locs pc la _ hR hl ⟨hd, w, w, _, ht, rfl, rfl, rfl⟩
        · rename_i ht
          obtain rfl := beq_t hk
          cases he
          exact hKT H locs pc la _ hR hl ⟨hd, w, _, _, ht, rfl, rfl, n_nb w⟩
        · rename_i ht
          obtain rfl := beq_t hk
          cases he
          exact hKT H locs pc la _ hR hl ⟨hd, w, _, _, ht, rfl, rfl, n_chr w⟩
        · rename_i ht
          obtain rfl := beq_t hk
          cases he
          exact hKT H locs pc la _ hR hl ⟨hd, w, _, _, ht, rfl, rfl, n_i2b w⟩
        · cases hk
    · cases he
  case lreturn =>
    have he : xLret st M = _ := he
    have hk : decide (rty y = some .long) = true := hk
    unfold xLret at he
    split at he
    · obtain ⟨w, sb, rfl, rfl, hS1⟩ := hS.l
      cases sb with
      | cons _ _ => cases hS1
      | nil =>
        cases he
        exact hKT H locs pc la _ hR hl ⟨hd, of_decide_eq_true hk, w, rfl, rfl⟩
    · cases he
  case areturn =>
    have he : xAret (o1 (Instr.areturn, cc, q)) st M = _ := he
    simp only [okI, Bool.and_eq_true, decide_eq_true_eq] at hk
    generalize o1 (Instr.areturn, cc, q) = k9 at he hk
    unfold xAret at he
    split at he
    · obtain ⟨hb9, h⟩ := bif_both he
      obtain rfl := beq_t hb9
      cases h
      obtain ⟨sb, rfl, hi, hS1⟩ := hS.a (by omega)
      cases sb with
      | cons _ _ => cases hS1
      | nil => exact hKT H locs pc la _ hR hl ⟨hd, hk.2, rfl, hi, by omega, by omega⟩
    · cases he
  case return_ =>
    have he : xRet st M = _ := he
    have hk : decide (rty y = none) = true := hk
    unfold xRet at he
    split at he
    · cases sa with
      | cons _ _ => cases hS
      | nil =>
        cases he
        exact hKT H locs pc la _ hR hl ⟨hd, of_decide_eq_true hk, rfl⟩
    · cases he
  case athrow =>
    have hk : (!(Nat.beq y FAULT)) = true := hk
    have hy : ¬ y = FAULT := fun q => by rw [q] at hk; simp at hk
    obtain ⟨f, i9, s9, rfl, h⟩ := pR_inv (show pR st (fun f i _ => bif Nat.beq f 11 then aD (.inr i) M else none) = _ from he)
    obtain ⟨hb9, h⟩ := bif_both h
    obtain rfl := beq_t hb9
    cases h
    obtain ⟨sb, rfl, hi, hS1⟩ := hS.a (by decide)
    intro T hT X
    obtain ⟨V, ⟨cell, k1, k2, k3, k4⟩, -⟩ := hR.2.2.1 11 i9 (by decide) (by decide) hi
    obtain ⟨t, b1, b2⟩ := hKT T locs (F0 m pc la sb) (by rw [hT]; exact hR) hl hi hy X rfl rfl rfl
    exact ⟨t, throw_step X hx (g := F0 m pc la (.ref (gA G 11 i9) :: sb)) rfl (by rw [hT]; exact k1) (by rw [k3]; rfl) rfl (by rw [hb]; exact hd) t b1, b2⟩
  all_goals first | (cases hsh; done) | (rcases q with _ | ⟨_, _⟩ <;> cases hsh)
theorem chB_inv {i : Ins} {is : List Ins} (h : chB lkT y pc (i :: is) = true) : (i.1 = .nop ∧ pcO y (o1 i) = pc) ∨ (∃ n, decode (bts y) pc = .ok (i.1, n) ∧ (n = ilen i.1 ∨ ikd i = 5) ∧ okI lkT y pc i = true ∧ chB lkT y (pc + ilen i.1) is = true ∧ ¬ i.1 = .nop) := by
  unfold chB at h
  split at h
  · rename_i h1
    exact Or.inl ⟨h1, beq_t h⟩
  · rename_i hne
    split at h
    · rename_i r n hdec
      simp only [Bool.and_eq_true, decide_eq_true_eq, Bool.or_eq_true, Nat.beq_eq] at h
      obtain ⟨⟨⟨rfl, h2⟩, h3⟩, h4⟩ := h
      refine Or.inr ⟨n, hdec, ?_, h3, h4, hne⟩
      rcases h2 with h2 | h2
      · exact Or.inl h2
      · right
        split at h2
        · rename_i hi
          unfold ikd
          rw [hi]
        · cases h2
    · cases h
set_option maxHeartbeats 4000000 in
/-- THE ABSTRACT MACHINE IS SOUND -/
theorem snd_all (hck : ∀ y, y < NMETH → chP y) (l : Launch) (G : Gh) : ∀ n, SN l G n := by
  intro n
  induction n with
  | zero => intro y b ls st M r M' h; cases h
  | succ n IH =>
    intro y b ls st M r M' h0 hy p e R s m args below meth c H locs cells slots Q la sa C hXT hRC hcl hsl hL hS hR hl hKT
    have h : exB (run n) y (deadT y) (blk y b) ls st M = some (r, M') := h0
    clear h0
    have hblk : chB lkT y (pcO y b) (blk y b) = true := by
      by_cases hb : b < (codeT y).length
      · exact (hck y hy).1 b hb
      · have : blk y b = [] := by
          unfold blk
          rw [List.getD_eq_getElem?_getD, List.getElem?_eq_none (by omega)]
          rfl
        rw [this]
        rfl
    generalize blk y b = is at h hblk
    generalize pcO y b = pc at hblk ⊢
    induction is generalizing pc ls st M H locs la sa with
    | nil => cases h
    | cons i is ih =>
      rcases chB_inv hblk with ⟨hnop, hpc⟩ | ⟨nn, hd, hnn, hk, hblk', hnop⟩
      · -- the next block, no instruction
        obtain ⟨op, cc, q⟩ := i
        dsimp only at hnop
        subst hnop
        unfold exB at h
        have h : run n y (o1 (Instr.nop, cc, q)) (kill ((deadT y).getD (o1 (Instr.nop, cc, q)) []) ls) st M = some (r, M') := h
        rw [← hpc]
        exact IH y _ _ _ _ _ _ h hy p e R s m args below meth c H locs cells slots Q la sa C hXT (hRC.kill _) hcl hsl (hL.kill _) hS hR hl hKT
      · unfold exB at h
        cases hex : ex1 i ls st M with
        | none => rw [hex] at h; cases h
        | some a =>
          rw [hex] at h
          have hshape := ex1_shape hex
          have hRm : 1 ≤ R.frames ∧ 80 ≤ R.locals := by
            obtain ⟨ρ, r1, r2, r3, r4⟩ := hRC
            omega
          have hd' : akd a ≠ 5 → decode (bts y) pc = .ok (i.1, ilen i.1) := by
            intro h5
            rcases hnn with rfl | h
            · exact hd
            · exact absurd (hshape.1.trans h) h5
          rcases a with x | x | x | x | ⟨og, z, en, k, tm, ls1, st1, M1⟩ | x | x
          · obtain ⟨ls1, st1, M1⟩ := x
            exact st_next C hRm (hd' (show (0:Nat) ≠ 5 by decide)) hk hL hS hR hl hex (show Nx _ (ls1, st1, M1) from rfl) (fun H' locs' la' sa' hL' hS' hR' hl' => ih ls1 st1 M1 H' locs' la' sa' (hRC.step hk (hshape.2 _ _ _ (show Nx _ (ls1, st1, M1) from rfl))) hL' hS' hR' hl' h _ hblk')
          · obtain ⟨P, ls1, st1, M1⟩ := x
            dsimp only at h
            by_cases hP : P.1
            · rw [if_pos hP] at h
              exact st_next C hRm (hd' (show (0:Nat) ≠ 5 by decide)) hk hL hS hR hl hex (show Nx _ (ls1, st1, M1) from ⟨hP, rfl⟩) (fun H' locs' la' sa' hL' hS' hR' hl' => ih ls1 st1 M1 H' locs' la' sa' (hRC.step hk (hshape.2 _ _ _ (show Nx _ (ls1, st1, M1) from ⟨hP, rfl⟩))) hL' hS' hR' hl' h _ hblk')
            · rw [if_neg hP] at h
              cases h
          · obtain ⟨P, b1, ls1, st1, M1⟩ := x
            dsimp only at h
            refine st_br C (hd' (show (1:Nat) ≠ 5 by decide)) hk hS hex ?_ ?_
            · rintro sa' hP rfl rfl hS'
              rw [if_pos hP] at h
              exact IH y _ _ _ _ _ _ h hy p e R s m args below meth c H locs cells slots Q la sa' C hXT (hRC.kill _) hcl hsl (hL.kill _) hS' hR hl hKT
            · rintro sa' hP rfl rfl hS'
              rw [if_neg hP] at h
              exact ih _ _ _ _ _ _ _ hRC hL hS' hR hl h _ hblk'
          · obtain ⟨b1, ls1, st1, M1⟩ := x
            dsimp only at h
            have hsh2 : 2 = ikd i := hshape.1
            obtain ⟨op, cc, q⟩ := i
            cases op
            case goto o9 =>
              cases hex
              have hk : decide ((pcO y (o1 (Instr.goto o9, cc, q)) : Int) = pc + o9) = true := hk
              exact lv_goto C.1 C.2.1 (hd' (show (2:Nat) ≠ 5 by decide)) (of_decide_eq_true hk).symm (IH y _ _ _ _ _ _ h hy p e R s m args below meth c H locs cells slots Q la sa C hXT (hRC.kill _) hcl hsl (hL.kill _) hS hR hl hKT)
            case nop =>
              cases hex
              exact absurd rfl hnop
            all_goals first | (cases hsh2; done) | (rcases q with _ | ⟨_, _⟩ <;> cases hsh2)
          · dsimp only at h
            have hog : ∀ P, og = some P → P.1 := by
              rintro P rfl
              dsimp only at h
              by_cases hP : P.1
              · exact hP
              · rw [if_neg hP] at h
                cases h
            have h2 : (run n z 0 en [] M1).bind (aft n y is k tm ls1 st1) = some (r, M') := by
              cases og with
              | none => exact h
              | some P =>
                dsimp only at h
                rw [if_pos (hog P rfl)] at h
                exact h
            have hl3 : ilen i.1 = 3 := by
              have hsh2 : 3 = ikd i := hshape.1
              obtain ⟨op, cc, q⟩ := i
              cases op <;> first | rfl | (cases hsh2; done) | (rcases q with _ | ⟨_, _⟩ <;> first | rfl | cases hsh2)
            rw [hl3] at hblk'
            refine st_call IH hck C hXT hRC hcl hsl (hd' (show (3:Nat) ≠ 5 by decide)) hk hL hS hR hl hex hog h2 (fun H' locs' sa' st' M2 h9 hS' hR' hl' => ih _ _ _ _ _ _ _ hRC hL hS' hR' hl' h9 _ hblk') (fun H' locs' e9 M2 hh h9 hi hR' hl' => ?_) hKT
            exact IH y _ _ _ _ _ _ h9 hy p e R s m args below meth c H' locs' cells slots Q la _ C hXT (hRC.kill _) hcl hsl (hL.kill _) ⟨⟨by decide, Or.inr ⟨by decide, rfl, hi⟩⟩, trivial⟩ hR' hl' hKT
          · obtain ⟨r1, M1⟩ := x
            cases h
            exact st_done C (hd' (show (4:Nat) ≠ 5 by decide)) hk hS hR hl hex hKT
          · obtain ⟨z, lo, ts, d, ls1, st1, M1⟩ := x
            dsimp only at h
            refine st_sw C hd hk hS hex ?_
            rintro sa' rfl rfl hS'
            exact IH y _ _ _ _ _ _ h hy p e R s m args below meth c H locs cells slots Q la sa' C hXT (hRC.kill _) hcl hsl (hL.kill _) hS' hR hl hKT
end Snd
