/-! WHAT KIND OF THING AN INSTRUCTION DOES; the step that goes on, for every instruction -/
def akd : Act → Nat
  | .inl _ => 0
  | .inr (.inl _) => 0
  | .inr (.inr (.inl _)) => 1
  | .inr (.inr (.inr (.inl _))) => 2
  | .inr (.inr (.inr (.inr (.inl _)))) => 3
  | .inr (.inr (.inr (.inr (.inr (.inl _))))) => 4
  | .inr (.inr (.inr (.inr (.inr (.inr _))))) => 5
def ikd (i : Ins) : Nat := match i.1 with
  | .ifCond _ _ => 1
  | .if_icmp _ _ => 1
  | .goto _ => 2
  | .nop => 2
  | .invokevirtual _ => 3
  | .invokestatic _ => (match i.2.2 with
    | [] => 0
    | _ => 3)
  | .ireturn => 4
  | .lreturn => 4
  | .areturn => 4
  | .return_ => 4
  | .athrow => 4
  | .tableswitch _ _ _ _ => 5
  | _ => 0
/-- a store: 1 of one place, 2 of two -/
def sto : Instr → Nat
  | .istore _ => 1
  | .istore_n _ => 1
  | .astore _ => 1
  | .astore_n _ => 1
  | .iinc _ _ => 1
  | .lstore _ => 2
  | .lstore_n _ => 2
  | _ => 0
/-- how a step that goes on leaves the locals -/
def lsR (i : Ins) (ls ls' : List AV) : Prop := ls' = ls ∨ (sto i.1 = 1 ∧ ∃ v, (∀ z, ¬ v = vL z) ∧ ls' = lset ls (o1 i) v) ∨ (sto i.1 = 2 ∧ ∃ z, ls' = lset ls (o1 i) (vL z))
def shp (i : Ins) (ls : List AV) (a : Act) : Prop := akd a = ikd i ∧ ∀ ls' st' M', Nx a (ls', st', M') → lsR i ls ls'
theorem shp_c {i : Ins} {ls st : List AV} {M : Mem} (h : ikd i = 0) : shp i ls (.inl (ls, st, M)) := ⟨h.symm, fun ls' st' M' hN => Or.inl (Nx_c hN).1⟩
theorem shp_g {i : Ins} {P : PD} {ls st : List AV} {M : Mem} (h : ikd i = 0) : shp i ls (.inr (.inl (P, ls, st, M))) := ⟨h.symm, fun ls' st' M' hN => Or.inl (Nx_g hN).2.1⟩
theorem shp_o {i : Ins} {ls : List AV} {x} (h : akd (.inr (.inr x)) = ikd i) : shp i ls (.inr (.inr x)) := ⟨h, fun ls' st' M' hN => False.elim hN⟩
theorem bif_some {b : Bool} {x a : Act} (h : (bif b then some x else none) = some a) : x = a := by
  cases b with
  | true => exact Option.some.inj h
  | false => cases h
set_option maxHeartbeats 8000000 in
theorem ex1_shape {i : Ins} {ls st : List AV} {M : Mem} {a : Act} (he : ex1 i ls st M = some a) : shp i ls a := by
  obtain ⟨op, cc, q⟩ := i
  have two : ∀ {k : Int → Int → List AV → Option Act}, pII st k = some a ∨ pLL st k = some a ∨ pLI st k = some a → ∃ x y s9, k x y s9 = some a := by
    rintro k (h | h | h)
    · obtain ⟨x, y, s9, -, h⟩ := pII_inv h; exact ⟨_, _, _, h⟩
    · obtain ⟨x, y, s9, -, h⟩ := pLL_inv h; exact ⟨_, _, _, h⟩
    · obtain ⟨x, y, s9, -, h⟩ := pLI_inv h; exact ⟨_, _, _, h⟩
  have one : ∀ {k : Int → List AV → Option Act}, pI st k = some a ∨ pL st k = some a → ∃ x s9, k x s9 = some a := by
    rintro k (h | h)
    · obtain ⟨x, s9, -, h⟩ := pI_inv h; exact ⟨_, _, h⟩
    · obtain ⟨x, s9, -, h⟩ := pL_inv h; exact ⟨_, _, h⟩
  cases op
  case iconst => cases he; exact shp_c rfl
  case bipush => cases he; exact shp_c rfl
  case sipush => cases he; exact shp_c rfl
  case lconst => cases he; exact shp_c rfl
  case ldc2_w => cases he; exact shp_c rfl
  case ldc =>
    have he : xLdc (_, cc, q) ls st M = some a := he
    unfold xLdc at he
    split at he <;> (cases he; exact shp_c rfl)
  case ldc_w =>
    have he : xLdc (_, cc, q) ls st M = some a := he
    unfold xLdc at he
    split at he <;> (cases he; exact shp_c rfl)
  case iload =>
    have he : xIl _ ls st M = some a := he
    unfold xIl at he
    split at he <;> (cases he <;> exact shp_c rfl)
  case iload_n =>
    have he : xIl _ ls st M = some a := he
    unfold xIl at he
    split at he <;> (cases he <;> exact shp_c rfl)
  case lload =>
    have he : xLl _ ls st M = some a := he
    unfold xLl at he
    split at he <;> (cases he <;> exact shp_c rfl)
  case lload_n =>
    have he : xLl _ ls st M = some a := he
    unfold xLl at he
    split at he <;> (cases he <;> exact shp_c rfl)
  case aload =>
    have he : xAl _ ls st M = some a := he
    unfold xAl at he
    split at he
    · rename_i f9 i9 _
      cases hb : Nat.beq f9 0 with
      | true => rw [hb] at he; cases he
      | false => rw [hb] at he; cases he; exact shp_c rfl
    · cases he
  case aload_n =>
    have he : xAl _ ls st M = some a := he
    unfold xAl at he
    split at he
    · rename_i f9 i9 _
      cases hb : Nat.beq f9 0 with
      | true => rw [hb] at he; cases he
      | false => rw [hb] at he; cases he; exact shp_c rfl
    · cases he
  case istore =>
    obtain ⟨z, s9, h⟩ := one (Or.inl he)
    rw [← bif_some h]
    exact ⟨rfl, fun ls' st' M' hN => Or.inr (Or.inl ⟨rfl, _, (fun z q => by cases q), (Nx_c hN).1⟩)⟩
  case istore_n =>
    obtain ⟨z, s9, h⟩ := one (Or.inl he)
    rw [← bif_some h]
    exact ⟨rfl, fun ls' st' M' hN => Or.inr (Or.inl ⟨rfl, _, (fun z q => by cases q), (Nx_c hN).1⟩)⟩
  case lstore =>
    obtain ⟨z, s9, h⟩ := one (Or.inr he)
    rw [← bif_some h]
    exact ⟨rfl, fun ls' st' M' hN => Or.inr (Or.inr ⟨rfl, _, (Nx_c hN).1⟩)⟩
  case lstore_n =>
    obtain ⟨z, s9, h⟩ := one (Or.inr he)
    rw [← bif_some h]
    exact ⟨rfl, fun ls' st' M' hN => Or.inr (Or.inr ⟨rfl, _, (Nx_c hN).1⟩)⟩
  case astore =>
    obtain ⟨f, i, s9, -, h⟩ := pR_inv he
    rw [← bif_some h]
    exact ⟨rfl, fun ls' st' M' hN => Or.inr (Or.inl ⟨rfl, _, (fun z q => by cases q), (Nx_c hN).1⟩)⟩
  case astore_n =>
    obtain ⟨f, i, s9, -, h⟩ := pR_inv he
    rw [← bif_some h]
    exact ⟨rfl, fun ls' st' M' hN => Or.inr (Or.inl ⟨rfl, _, (fun z q => by cases q), (Nx_c hN).1⟩)⟩
  case iinc =>
    have he : xInc _ _ ls st M = some a := he
    unfold xInc at he
    split at he
    · rw [← bif_some he]
      exact ⟨rfl, fun ls' st' M' hN => Or.inr (Or.inl ⟨rfl, _, (fun z q => by cases q), (Nx_c hN).1⟩)⟩
    · cases he
  case iadd => obtain ⟨x, y, s9, h⟩ := two (Or.inl he); cases h; exact shp_c rfl
  case isub => obtain ⟨x, y, s9, h⟩ := two (Or.inl he); cases h; exact shp_c rfl
  case imul => obtain ⟨x, y, s9, h⟩ := two (Or.inl he); cases h; exact shp_c rfl
  case idiv => obtain ⟨x, y, s9, h⟩ := two (Or.inl he); cases h; exact shp_g rfl
  case irem => obtain ⟨x, y, s9, h⟩ := two (Or.inl he); cases h; exact shp_g rfl
  case iand => obtain ⟨x, y, s9, h⟩ := two (Or.inl he); cases h; exact shp_c rfl
  case ior => obtain ⟨x, y, s9, h⟩ := two (Or.inl he); cases h; exact shp_c rfl
  case ixor => obtain ⟨x, y, s9, h⟩ := two (Or.inl he); cases h; exact shp_c rfl
  case ishl => obtain ⟨x, y, s9, h⟩ := two (Or.inl he); cases h; exact shp_c rfl
  case ishr => obtain ⟨x, y, s9, h⟩ := two (Or.inl he); cases h; exact shp_c rfl
  case iushr => obtain ⟨x, y, s9, h⟩ := two (Or.inl he); cases h; exact shp_c rfl
  case ladd => obtain ⟨x, y, s9, h⟩ := two (Or.inr (Or.inl he)); cases h; exact shp_c rfl
  case lsub => obtain ⟨x, y, s9, h⟩ := two (Or.inr (Or.inl he)); cases h; exact shp_c rfl
  case lmul => obtain ⟨x, y, s9, h⟩ := two (Or.inr (Or.inl he)); cases h; exact shp_c rfl
  case ldiv => obtain ⟨x, y, s9, h⟩ := two (Or.inr (Or.inl he)); cases h; exact shp_g rfl
  case lrem => obtain ⟨x, y, s9, h⟩ := two (Or.inr (Or.inl he)); cases h; exact shp_g rfl
  case land => obtain ⟨x, y, s9, h⟩ := two (Or.inr (Or.inl he)); cases h; exact shp_c rfl
  case lor => obtain ⟨x, y, s9, h⟩ := two (Or.inr (Or.inl he)); cases h; exact shp_c rfl
  case lxor => obtain ⟨x, y, s9, h⟩ := two (Or.inr (Or.inl he)); cases h; exact shp_c rfl
  case lcmp => obtain ⟨x, y, s9, h⟩ := two (Or.inr (Or.inl he)); cases h; exact shp_c rfl
  case lshl => obtain ⟨x, y, s9, h⟩ := two (Or.inr (Or.inr he)); cases h; exact shp_c rfl
  case lshr => obtain ⟨x, y, s9, h⟩ := two (Or.inr (Or.inr he)); cases h; exact shp_c rfl
  case lushr => obtain ⟨x, y, s9, h⟩ := two (Or.inr (Or.inr he)); cases h; exact shp_c rfl
  case ineg => obtain ⟨x, s9, h⟩ := one (Or.inl he); cases h; exact shp_c rfl
  case i2l => obtain ⟨x, s9, h⟩ := one (Or.inl he); cases h; exact shp_c rfl
  case i2b => obtain ⟨x, s9, h⟩ := one (Or.inl he); cases h; exact shp_c rfl
  case i2s => obtain ⟨x, s9, h⟩ := one (Or.inl he); cases h; exact shp_c rfl
  case i2c => obtain ⟨x, s9, h⟩ := one (Or.inl he); cases h; exact shp_c rfl
  case lneg => obtain ⟨x, s9, h⟩ := one (Or.inr he); cases h; exact shp_c rfl
  case l2i => obtain ⟨x, s9, h⟩ := one (Or.inr he); cases h; exact shp_c rfl
  case dup =>
    have he : xDup ls st M = some a := he
    unfold xDup at he
    split at he <;> (cases he <;> exact shp_c rfl)
  case dup2 =>
    have he : xDup2 ls st M = some a := he
    unfold xDup2 at he
    split at he <;> (cases he <;> exact shp_c rfl)
  case pop =>
    have he : xPop ls st M = some a := he
    unfold xPop at he
    split at he <;> (cases he <;> exact shp_c rfl)
  case getfield =>
    have he : xGet q ls st M = some a := he
    unfold xGet at he
    split at he
    all_goals first | (cases he; done) | (obtain ⟨f, i, s9, -, h⟩ := pR_inv he; rw [← bif_some h]; first | exact shp_c rfl | exact shp_g rfl)
  case putfield =>
    have he : xPut q ls st M = some a := he
    unfold xPut at he
    split at he
    · obtain ⟨f, i, z, s9, -, h⟩ := pIR_inv he
      rw [← bif_some h]; exact shp_c rfl
    · obtain ⟨f, i, z, s9, -, h⟩ := pIR_inv he
      rw [← bif_some h]; exact shp_g rfl
    · obtain ⟨z, s9, -, h⟩ := pL_inv he
      obtain ⟨f, i, s8, -, h⟩ := pR_inv h
      rw [← bif_some h]; exact shp_c rfl
    · obtain ⟨h9, j, s9, -, h⟩ := pR_inv he
      obtain ⟨f, i, s8, -, h⟩ := pR_inv h
      rw [← bif_some h]; exact shp_c rfl
    · cases he
  case getstatic =>
    have he : xGs (_, cc, q) ls st M = some a := he
    unfold xGs at he
    split at he <;> (cases he; exact shp_c rfl)
  case iaload =>
    obtain ⟨f, i, z, s9, -, h⟩ := pIR_inv he
    cases hb : Nat.beq (aek f) 10 with
    | false => rw [hb] at h; cases h
    | true =>
      rw [hb] at h
      cases hb2 : Nat.beq (f / 1000) 30 with
      | false => rw [hb2] at h; cases h; exact shp_g rfl
      | true => rw [hb2] at h; cases h; exact shp_g rfl
  case baload =>
    obtain ⟨f, i, z, s9, -, h⟩ := pIR_inv he
    cases hb : (Nat.beq (aek f) 13 || Nat.beq (aek f) 11) with
    | false => rw [hb] at h; cases h
    | true =>
      rw [hb] at h
      cases hb2 : Nat.beq f 31000 with
      | false => rw [hb2] at h; cases h; exact shp_g rfl
      | true => rw [hb2] at h; cases h; exact shp_g rfl
  case laload =>
    obtain ⟨f, i, z, s9, -, h⟩ := pIR_inv he
    rw [← bif_some h]; exact shp_g rfl
  case aaload =>
    have he : xAald ls st M = some a := he
    unfold xAald at he
    obtain ⟨f, i, z, s9, -, h⟩ := pIR_inv he
    split at h <;> (cases h <;> exact shp_g rfl)
  case iastore =>
    obtain ⟨f, i, z, v, s9, -, h⟩ := pIIR_inv he
    rw [← bif_some h]; exact shp_g rfl
  case lastore =>
    obtain ⟨f, i, z, v, s9, -, h⟩ := pLIR_inv he
    rw [← bif_some h]; exact shp_g rfl
  case bastore =>
    have he : xBast ls st M = some a := he
    unfold xBast at he
    obtain ⟨f, i, z, v, s9, -, h⟩ := pIIR_inv he
    cases hb : Nat.blt f 30000 with
    | false => rw [hb] at h; cases h
    | true =>
      rw [hb] at h
      cases hb2 : Nat.beq (aek f) 13 with
      | true => rw [hb2] at h; cases h; exact shp_g rfl
      | false => rw [hb2] at h; rw [← bif_some h]; exact shp_g rfl
  case arraylength =>
    obtain ⟨f, i, s9, -, h⟩ := pR_inv he
    cases hb : Nat.beq (aek f) 99 with
    | true => rw [hb] at h; cases h
    | false => rw [hb] at h; cases h; exact shp_c rfl
  case ifCond c9 o9 =>
    obtain ⟨x, s9, h⟩ := one (Or.inl he)
    unfold xIf at h
    cases c9 <;> (cases h; exact shp_o rfl)
  case if_icmp c9 o9 =>
    obtain ⟨x, y, s9, h⟩ := two (Or.inl he)
    unfold xIfc at h
    cases c9 <;> (cases h; exact shp_o rfl)
  case goto => cases he; exact shp_o rfl
  case nop => cases he; exact shp_o rfl
  case tableswitch =>
    have he : xSw (_, cc, q) ls st M = some a := he
    unfold xSw at he
    split at he
    · obtain ⟨x, s9, h⟩ := one (Or.inl he)
      cases h; exact shp_o rfl
    · cases he
  case ireturn =>
    have he : xIret _ st M = some a := he
    unfold xIret at he
    split at he
    · split at he <;> (cases he <;> exact shp_o rfl)
    · cases he
  case lreturn =>
    have he : xLret st M = some a := he
    unfold xLret at he
    split at he <;> (cases he <;> exact shp_o rfl)
  case areturn =>
    have he : xAret _ st M = some a := he
    unfold xAret at he
    split at he
    · rw [← bif_some he]; exact shp_o rfl
    · cases he
  case return_ =>
    have he : xRet st M = some a := he
    unfold xRet at he
    split at he <;> (cases he <;> exact shp_o rfl)
  case athrow =>
    obtain ⟨f, i, s9, -, h⟩ := pR_inv he
    rw [← bif_some h]; exact shp_o rfl
  case invokevirtual =>
    have he : xCall q ls st M = some a := he
    unfold xCall at he
    split at he
    · rw [← bif_some he]; exact shp_o rfl
    · rw [← bif_some he]; exact shp_o rfl
    · cases he
  case invokestatic =>
    cases q with
    | nil =>
      have he : xCopy ls st M = some a := he
      unfold xCopy at he
      split at he
      · rw [← bif_some he]; exact shp_g rfl
      · cases he
    | cons z q =>
      have he : xCall (z :: q) ls st M = some a := he
      unfold xCall at he
      split at he
      · rw [← bif_some he]; exact shp_o rfl
      · rw [← bif_some he]; exact shp_o rfl
      · cases he
  all_goals exact absurd (show (none : Option Act) = some a from he) (by simp)
section Next
variable {p : Program} {l : Launch} {e : Env} {R : Room} {s : State} {m : MethodId} {args : Array Value} {below : List Frame} {meth : Method} {c : Code} {H : Heap} {locs : List Loc} {cells slots : Nat} {Q : State → Prop} {G : Gh} {y pc : Nat} {la : Array Slot} {sa : List Value}
set_option maxHeartbeats 4000000 in
theorem st_next {i : Ins} {ls st ls' st' : List AV} {M M' : Mem} {a : Act} (C : CX G y p s m args c) (hRm : 1 ≤ R.frames ∧ 80 ≤ R.locals) (hd : decode (bts y) pc = .ok (i.1, ilen i.1)) (hk : okI lkT y pc i = true) (hL : LR G (mxl y) ls la) (hS : SR G st sa) (hR : Rp G M H) (hl : LocOK G locs) (he : ex1 i ls st M = some a) (hN : Nx a (ls', st', M'))
    (kk : ∀ H' locs' la' sa', LR G (mxl y) ls' la' → SR G st' sa' → Rp G M' H' → LocOK G locs' → W p l e R s m args below meth c H' locs' cells slots Q (F0 m (pc + ilen i.1) la' sa')) : W p l e R s m args below meth c H locs cells slots Q (F0 m pc la sa) := by
  have hsh := (ex1_shape he).1
  have h0 : akd a = 0 := by
    rcases a with a | a | a
    · rfl
    · rfl
    · exact False.elim hN
  rw [h0] at hsh
  obtain ⟨op, cc, q⟩ := i
  by_cases hp : isPlain op = true
  · exact st_plain (i := (op, cc, q)) hp C hd hk hL hS hR hl he hN kk
  · cases op
    case getfield n => exact st_get C hd hk hL hS hR hl he hN kk
    case putfield n => exact st_put C hd hk hL hS hR hl he hN kk
    case getstatic n => exact st_gs C hd hk hL hS hR hl he hN kk
    case iaload => exact st_iald C hd hL hS hR hl he hN kk
    case baload => exact st_bald C hd hL hS hR hl he hN kk
    case laload => exact st_lald C hd hL hS hR hl he hN kk
    case aaload => exact st_aald C hd hL hS hR hl he hN kk
    case iastore => exact st_iast C hd hL hS hR hl he hN kk
    case lastore => exact st_last C hd hL hS hR hl he hN kk
    case bastore => exact st_bast C hd hL hS hR hl he hN kk
    case arraylength => exact st_alen C hd hL hS hR hl he hN kk
    case invokestatic n =>
      cases q with
      | nil => exact st_copy C hRm hd hk hL hS hR hl he hN kk
      | cons z q => cases hsh
    all_goals first | exact absurd rfl hp | (cases hsh; done) | exact absurd (show (none : Option Act) = some a from he) (by simp)
end Next
