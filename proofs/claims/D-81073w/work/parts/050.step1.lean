/-! ONE INSTRUCTION: numbers, locals, the stack -/
section Step
variable {p : Program} {l : Launch} {e : Env} {R : Room} {s : State} {m : MethodId} {args : Array Value} {below : List Frame} {meth : Method} {c : Code} {H : Heap} {locs : List Loc} {cells slots : Nat} {Q : State → Prop} {G : Gh} {y pc : Nat} {la : Array Slot} {sa : List Value}
theorem va_ldcwS {cc : ByteArray} {rest : List Value} (hexec : p.tables.exec = Jvm.exec) (hb : c.code = cc) {own tx : String} {index q : Nat} (hown : s.vm.findClass own = some m.cls) (hZ : vk_R own index tx q s) (hdg : decode cc pc = .ok (.ldc_w index, 3))
    (k : W p l e R s m args below meth c H locs cells slots Q (F0 m (pc + 3) la (.ref q :: rest))) : W p l e R s m args below meth c H locs cells slots Q (F0 m pc la rest) := by
  intro T hT X
  obtain ⟨t, a1, b1⟩ := k T hT X
  refine ⟨t, ?_, b1⟩
  obtain ⟨k, cf, i, a', hk, hcf, hcp, -, hr, hev'⟩ := Cond.stringRef_spec hown hZ.1
  cases hZ.2.symm.trans hev'
  obtain ⟨k', hk', he⟩ := X.warmed.alike.2.2 _ _ hk
  have hr' : k'.resolved[index]? = some (some (.string q)) := by
    rcases X.warmed.entry hk hk' index with h | ⟨h, -⟩
    · rw [h]; exact hr
    · rw [hr] at h; cases h
  jvm_step X.here [hexec, hb, hdg, ldc_w.wp_string (e := e) (s := T) (f := F0 m pc la rest) X.here.top hk' (by rw [he]; exact hcf) hcp hr']
  exact a1
/-- the instructions that don't touch the heap -/
def isPlain : Instr → Bool
  | .iadd => true
  | .isub => true
  | .imul => true
  | .iand => true
  | .ior => true
  | .ixor => true
  | .ishl => true
  | .ishr => true
  | .iushr => true
  | .idiv => true
  | .irem => true
  | .ladd => true
  | .lsub => true
  | .lmul => true
  | .land => true
  | .lor => true
  | .lxor => true
  | .ldiv => true
  | .lrem => true
  | .lshl => true
  | .lshr => true
  | .lushr => true
  | .lcmp => true
  | .ineg => true
  | .lneg => true
  | .i2l => true
  | .l2i => true
  | .i2b => true
  | .i2s => true
  | .i2c => true
  | .iconst _ => true
  | .bipush _ => true
  | .sipush _ => true
  | .lconst _ => true
  | .ldc2_w _ => true
  | .ldc _ => true
  | .ldc_w _ => true
  | .iload _ => true
  | .iload_n _ => true
  | .lload _ => true
  | .lload_n _ => true
  | .aload _ => true
  | .aload_n _ => true
  | .istore _ => true
  | .istore_n _ => true
  | .lstore _ => true
  | .lstore_n _ => true
  | .astore _ => true
  | .astore_n _ => true
  | .iinc _ _ => true
  | .dup => true
  | .dup2 => true
  | .pop => true
  | _ => false
set_option maxHeartbeats 4000000 in
theorem st_plain {i : Ins} {ls st ls' st' : List AV} {M M' : Mem} {a : Act} (hp : isPlain i.1 = true) (C : CX G y p s m args c) (hd : decode (bts y) pc = .ok (i.1, ilen i.1)) (hk : okI lkT y pc i = true) (hL : LR G (mxl y) ls la) (hS : SR G st sa) (hR : Rp G M H) (hl : LocOK G locs) (he : ex1 i ls st M = some a) (hN : Nx a (ls', st', M'))
    (kk : ∀ H' locs' la' sa', LR G (mxl y) ls' la' → SR G st' sa' → Rp G M' H' → LocOK G locs' → W p l e R s m args below meth c H' locs' cells slots Q (F0 m (pc + ilen i.1) la' sa')) : W p l e R s m args below meth c H locs cells slots Q (F0 m pc la sa) := by
  obtain ⟨op, cc, q⟩ := i
  obtain ⟨hx, hb, hml, hown, hts, hK, hG⟩ := C
  cases op
  case iadd =>
    obtain ⟨x, y9, st1, rfl, h9⟩ := pII_inv he
    cases h9
    obtain ⟨rfl, rfl, rfl⟩ := Nx_c hN
    obtain ⟨b, sb, rfl, rfl, hS1⟩ := hS.i
    obtain ⟨a, sb, rfl, rfl, hS2⟩ := hS1.i
    exact lv_iadd hx hb hd (kk _ _ _ _ hL ⟨⟨_, rfl, n_add a b⟩, hS2⟩ hR hl)
  case isub =>
    obtain ⟨x, y9, st1, rfl, h9⟩ := pII_inv he
    cases h9
    obtain ⟨rfl, rfl, rfl⟩ := Nx_c hN
    obtain ⟨b, sb, rfl, rfl, hS1⟩ := hS.i
    obtain ⟨a, sb, rfl, rfl, hS2⟩ := hS1.i
    exact lv_isub hx hb hd (kk _ _ _ _ hL ⟨⟨_, rfl, n_sub a b⟩, hS2⟩ hR hl)
  case imul =>
    obtain ⟨x, y9, st1, rfl, h9⟩ := pII_inv he
    cases h9
    obtain ⟨rfl, rfl, rfl⟩ := Nx_c hN
    obtain ⟨b, sb, rfl, rfl, hS1⟩ := hS.i
    obtain ⟨a, sb, rfl, rfl, hS2⟩ := hS1.i
    exact lv_imul hx hb hd (kk _ _ _ _ hL ⟨⟨_, rfl, n_mul a b⟩, hS2⟩ hR hl)
  case iand =>
    obtain ⟨x, y9, st1, rfl, h9⟩ := pII_inv he
    cases h9
    obtain ⟨rfl, rfl, rfl⟩ := Nx_c hN
    obtain ⟨b, sb, rfl, rfl, hS1⟩ := hS.i
    obtain ⟨a, sb, rfl, rfl, hS2⟩ := hS1.i
    exact lv_iand hx hb hd (kk _ _ _ _ hL ⟨⟨_, rfl, n_and a b⟩, hS2⟩ hR hl)
  case ior =>
    obtain ⟨x, y9, st1, rfl, h9⟩ := pII_inv he
    cases h9
    obtain ⟨rfl, rfl, rfl⟩ := Nx_c hN
    obtain ⟨b, sb, rfl, rfl, hS1⟩ := hS.i
    obtain ⟨a, sb, rfl, rfl, hS2⟩ := hS1.i
    exact lv_ior hx hb hd (kk _ _ _ _ hL ⟨⟨_, rfl, n_or a b⟩, hS2⟩ hR hl)
  case ixor =>
    obtain ⟨x, y9, st1, rfl, h9⟩ := pII_inv he
    cases h9
    obtain ⟨rfl, rfl, rfl⟩ := Nx_c hN
    obtain ⟨b, sb, rfl, rfl, hS1⟩ := hS.i
    obtain ⟨a, sb, rfl, rfl, hS2⟩ := hS1.i
    exact lv_ixor hx hb hd (kk _ _ _ _ hL ⟨⟨_, rfl, n_xor a b⟩, hS2⟩ hR hl)
  case ishl =>
    obtain ⟨x, y9, st1, rfl, h9⟩ := pII_inv he
    cases h9
    obtain ⟨rfl, rfl, rfl⟩ := Nx_c hN
    obtain ⟨b, sb, rfl, rfl, hS1⟩ := hS.i
    obtain ⟨a, sb, rfl, rfl, hS2⟩ := hS1.i
    exact lv_ishl hx hb hd (kk _ _ _ _ hL ⟨⟨_, rfl, n_shl a b⟩, hS2⟩ hR hl)
  case ishr =>
    obtain ⟨x, y9, st1, rfl, h9⟩ := pII_inv he
    cases h9
    obtain ⟨rfl, rfl, rfl⟩ := Nx_c hN
    obtain ⟨b, sb, rfl, rfl, hS1⟩ := hS.i
    obtain ⟨a, sb, rfl, rfl, hS2⟩ := hS1.i
    exact lv_ishr hx hb hd (kk _ _ _ _ hL ⟨⟨_, rfl, n_shr a b⟩, hS2⟩ hR hl)
  case iushr =>
    obtain ⟨x, y9, st1, rfl, h9⟩ := pII_inv he
    cases h9
    obtain ⟨rfl, rfl, rfl⟩ := Nx_c hN
    obtain ⟨b, sb, rfl, rfl, hS1⟩ := hS.i
    obtain ⟨a, sb, rfl, rfl, hS2⟩ := hS1.i
    exact lv_iushr hx hb hd rfl (kk _ _ _ _ hL ⟨⟨_, rfl, n_ushr a b⟩, hS2⟩ hR hl)
  case idiv =>
    obtain ⟨x, y9, st1, rfl, h9⟩ := pII_inv he
    cases h9
    obtain ⟨hg, rfl, rfl, rfl⟩ := Nx_g hN
    obtain ⟨b, sb, rfl, rfl, hS1⟩ := hS.i
    obtain ⟨a, sb, rfl, rfl, hS2⟩ := hS1.i
    exact lv_idiv hx hb hd (fun q => hg (by rw [q]; rfl)) (kk _ _ _ _ hL ⟨⟨_, rfl, n_div a b⟩, hS2⟩ hR hl)
  case irem =>
    obtain ⟨x, y9, st1, rfl, h9⟩ := pII_inv he
    cases h9
    obtain ⟨hg, rfl, rfl, rfl⟩ := Nx_g hN
    obtain ⟨b, sb, rfl, rfl, hS1⟩ := hS.i
    obtain ⟨a, sb, rfl, rfl, hS2⟩ := hS1.i
    exact lv_irem hx hb hd (fun q => hg (by rw [q]; rfl)) (kk _ _ _ _ hL ⟨⟨_, rfl, n_rem a b hg⟩, hS2⟩ hR hl)
  case ladd =>
    obtain ⟨x, y9, st1, rfl, h9⟩ := pLL_inv he
    cases h9
    obtain ⟨rfl, rfl, rfl⟩ := Nx_c hN
    obtain ⟨b, sb, rfl, rfl, hS1⟩ := hS.l
    obtain ⟨a, sb, rfl, rfl, hS2⟩ := hS1.l
    exact lv_ladd hx hb hd (kk _ _ _ _ hL ⟨⟨_, rfl, m_add a b⟩, hS2⟩ hR hl)
  case lsub =>
    obtain ⟨x, y9, st1, rfl, h9⟩ := pLL_inv he
    cases h9
    obtain ⟨rfl, rfl, rfl⟩ := Nx_c hN
    obtain ⟨b, sb, rfl, rfl, hS1⟩ := hS.l
    obtain ⟨a, sb, rfl, rfl, hS2⟩ := hS1.l
    exact lv_lsub hx hb hd (kk _ _ _ _ hL ⟨⟨_, rfl, m_sub a b⟩, hS2⟩ hR hl)
  case lmul =>
    obtain ⟨x, y9, st1, rfl, h9⟩ := pLL_inv he
    cases h9
    obtain ⟨rfl, rfl, rfl⟩ := Nx_c hN
    obtain ⟨b, sb, rfl, rfl, hS1⟩ := hS.l
    obtain ⟨a, sb, rfl, rfl, hS2⟩ := hS1.l
    exact lv_lmul hx hb hd (kk _ _ _ _ hL ⟨⟨_, rfl, m_mul a b⟩, hS2⟩ hR hl)
  case land =>
    obtain ⟨x, y9, st1, rfl, h9⟩ := pLL_inv he
    cases h9
    obtain ⟨rfl, rfl, rfl⟩ := Nx_c hN
    obtain ⟨b, sb, rfl, rfl, hS1⟩ := hS.l
    obtain ⟨a, sb, rfl, rfl, hS2⟩ := hS1.l
    exact lv_land hx hb hd (kk _ _ _ _ hL ⟨⟨_, rfl, m_and a b⟩, hS2⟩ hR hl)
  case lor =>
    obtain ⟨x, y9, st1, rfl, h9⟩ := pLL_inv he
    cases h9
    obtain ⟨rfl, rfl, rfl⟩ := Nx_c hN
    obtain ⟨b, sb, rfl, rfl, hS1⟩ := hS.l
    obtain ⟨a, sb, rfl, rfl, hS2⟩ := hS1.l
    exact lv_lor hx hb hd (kk _ _ _ _ hL ⟨⟨_, rfl, m_or a b⟩, hS2⟩ hR hl)
  case lxor =>
    obtain ⟨x, y9, st1, rfl, h9⟩ := pLL_inv he
    cases h9
    obtain ⟨rfl, rfl, rfl⟩ := Nx_c hN
    obtain ⟨b, sb, rfl, rfl, hS1⟩ := hS.l
    obtain ⟨a, sb, rfl, rfl, hS2⟩ := hS1.l
    exact lv_lxor hx hb hd (kk _ _ _ _ hL ⟨⟨_, rfl, m_xor a b⟩, hS2⟩ hR hl)
  case ldiv =>
    obtain ⟨x, y9, st1, rfl, h9⟩ := pLL_inv he
    cases h9
    obtain ⟨hg, rfl, rfl, rfl⟩ := Nx_g hN
    obtain ⟨b, sb, rfl, rfl, hS1⟩ := hS.l
    obtain ⟨a, sb, rfl, rfl, hS2⟩ := hS1.l
    exact lv_ldiv hx hb hd (fun q => hg (by rw [q]; rfl)) (kk _ _ _ _ hL ⟨⟨_, rfl, m_div a b⟩, hS2⟩ hR hl)
  case lrem =>
    obtain ⟨x, y9, st1, rfl, h9⟩ := pLL_inv he
    cases h9
    obtain ⟨hg, rfl, rfl, rfl⟩ := Nx_g hN
    obtain ⟨b, sb, rfl, rfl, hS1⟩ := hS.l
    obtain ⟨a, sb, rfl, rfl, hS2⟩ := hS1.l
    exact lv_lrem hx hb hd (fun q => hg (by rw [q]; rfl)) (kk _ _ _ _ hL ⟨⟨_, rfl, m_rem a b hg⟩, hS2⟩ hR hl)
  case lshl =>
    obtain ⟨x, y9, st1, rfl, h9⟩ := pLI_inv he
    cases h9
    obtain ⟨rfl, rfl, rfl⟩ := Nx_c hN
    obtain ⟨b, sb, rfl, rfl, hS1⟩ := hS.i
    obtain ⟨a, sb, rfl, rfl, hS2⟩ := hS1.l
    exact lv_lshl hx hb hd rfl (kk _ _ _ _ hL ⟨⟨_, rfl, m_shl a b⟩, hS2⟩ hR hl)
  case lshr =>
    obtain ⟨x, y9, st1, rfl, h9⟩ := pLI_inv he
    cases h9
    obtain ⟨rfl, rfl, rfl⟩ := Nx_c hN
    obtain ⟨b, sb, rfl, rfl, hS1⟩ := hS.i
    obtain ⟨a, sb, rfl, rfl, hS2⟩ := hS1.l
    exact lv_lshr hx hb hd rfl (kk _ _ _ _ hL ⟨⟨_, rfl, m_shr a b⟩, hS2⟩ hR hl)
  case lushr =>
    obtain ⟨x, y9, st1, rfl, h9⟩ := pLI_inv he
    cases h9
    obtain ⟨rfl, rfl, rfl⟩ := Nx_c hN
    obtain ⟨b, sb, rfl, rfl, hS1⟩ := hS.i
    obtain ⟨a, sb, rfl, rfl, hS2⟩ := hS1.l
    exact lv_lushr hx hb hd rfl (kk _ _ _ _ hL ⟨⟨_, rfl, m_ushr a b⟩, hS2⟩ hR hl)
  case lcmp =>
    obtain ⟨x, y9, st1, rfl, h9⟩ := pLL_inv he
    cases h9
    obtain ⟨rfl, rfl, rfl⟩ := Nx_c hN
    obtain ⟨b, sb, rfl, rfl, hS1⟩ := hS.l
    obtain ⟨a, sb, rfl, rfl, hS2⟩ := hS1.l
    exact W.lcmp hx hb hd (kk _ _ _ _ hL ⟨⟨_, rfl, n_cmp a b⟩, hS2⟩ hR hl)
  case ineg =>
    obtain ⟨x, st1, rfl, h9⟩ := pI_inv he
    cases h9
    obtain ⟨rfl, rfl, rfl⟩ := Nx_c hN
    obtain ⟨a, sb, rfl, rfl, hS1⟩ := hS.i
    exact lv_ineg hx hb hd (kk _ _ _ _ hL ⟨⟨_, rfl, n_neg a⟩, hS1⟩ hR hl)
  case lneg =>
    obtain ⟨x, st1, rfl, h9⟩ := pL_inv he
    cases h9
    obtain ⟨rfl, rfl, rfl⟩ := Nx_c hN
    obtain ⟨a, sb, rfl, rfl, hS1⟩ := hS.l
    exact lv_lneg hx hb hd (kk _ _ _ _ hL ⟨⟨_, rfl, m_neg a⟩, hS1⟩ hR hl)
  case i2l =>
    obtain ⟨x, st1, rfl, h9⟩ := pI_inv he
    cases h9
    obtain ⟨rfl, rfl, rfl⟩ := Nx_c hN
    obtain ⟨a, sb, rfl, rfl, hS1⟩ := hS.i
    exact lv_i2l hx hb hd rfl (kk _ _ _ _ hL ⟨⟨_, rfl, n_i2l a⟩, hS1⟩ hR hl)
  case l2i =>
    obtain ⟨x, st1, rfl, h9⟩ := pL_inv he
    cases h9
    obtain ⟨rfl, rfl, rfl⟩ := Nx_c hN
    obtain ⟨a, sb, rfl, rfl, hS1⟩ := hS.l
    exact lv_l2i hx hb hd rfl (kk _ _ _ _ hL ⟨⟨_, rfl, n_l2i a⟩, hS1⟩ hR hl)
  case i2b =>
    obtain ⟨x, st1, rfl, h9⟩ := pI_inv he
    cases h9
    obtain ⟨rfl, rfl, rfl⟩ := Nx_c hN
    obtain ⟨a, sb, rfl, rfl, hS1⟩ := hS.i
    exact lv_i2b hx hb hd rfl (kk _ _ _ _ hL ⟨⟨_, rfl, n_i2b a⟩, hS1⟩ hR hl)
  case i2s =>
    obtain ⟨x, st1, rfl, h9⟩ := pI_inv he
    cases h9
    obtain ⟨rfl, rfl, rfl⟩ := Nx_c hN
    obtain ⟨a, sb, rfl, rfl, hS1⟩ := hS.i
    exact lv_i2s hx hb hd rfl (kk _ _ _ _ hL ⟨⟨_, rfl, n_i2s a⟩, hS1⟩ hR hl)
  case i2c =>
    obtain ⟨x, st1, rfl, h9⟩ := pI_inv he
    cases h9
    obtain ⟨rfl, rfl, rfl⟩ := Nx_c hN
    obtain ⟨a, sb, rfl, rfl, hS1⟩ := hS.i
    exact lv_i2c hx hb hd rfl (kk _ _ _ _ hL ⟨⟨_, rfl, n_i2c a⟩, hS1⟩ hR hl)
  case iconst n =>
    simp only [okI, Bool.and_eq_true, decide_eq_true_eq] at hk
    cases he
    obtain ⟨rfl, rfl, rfl⟩ := Nx_c hN
    obtain ⟨⟨rfl, h1⟩, h2⟩ := hk
    exact lv_iconst hx hb hd rfl (kk _ _ _ _ hL ⟨⟨_, rfl, by rw [i32_of]; exact w32_id (by omega) (by omega)⟩, hS⟩ hR hl)
  case bipush n =>
    simp only [okI, Bool.and_eq_true, decide_eq_true_eq] at hk
    cases he
    obtain ⟨rfl, rfl, rfl⟩ := Nx_c hN
    obtain ⟨⟨rfl, h1⟩, h2⟩ := hk
    exact lv_bipush hx hb hd rfl (kk _ _ _ _ hL ⟨⟨_, rfl, n8 h1 h2⟩, hS⟩ hR hl)
  case sipush n =>
    simp only [okI, Bool.and_eq_true, decide_eq_true_eq] at hk
    cases he
    obtain ⟨rfl, rfl, rfl⟩ := Nx_c hN
    obtain ⟨⟨rfl, h1⟩, h2⟩ := hk
    exact lv_sipush hx hb hd rfl (kk _ _ _ _ hL ⟨⟨_, rfl, n16 h1 h2⟩, hS⟩ hR hl)
  case lconst n =>
    simp only [okI, Bool.and_eq_true, decide_eq_true_eq] at hk
    cases he
    obtain ⟨rfl, rfl, rfl⟩ := Nx_c hN
    subst hk
    exact lv_lconst hx hb hd rfl (kk _ _ _ _ hL ⟨⟨_, rfl, by rcases n with ⟨_ | _ | n, hn⟩ <;> first | rfl | omega⟩, hS⟩ hR hl)
  case ldc2_w n =>
    cases he
    obtain ⟨rfl, rfl, rfl⟩ := Nx_c hN
    simp only [okI] at hk
    obtain ⟨w, hw, h1⟩ := List.any_eq_true.mp hk
    simp only [Bool.and_eq_true, Nat.beq_eq, decide_eq_true_eq] at h1
    obtain ⟨x, hx1, hx2⟩ := lcT_ok _ w hw
    rw [h1.1] at hx2
    exact lv_ldc2 hx hb hown (hts _ hx2) hd (kk _ _ _ _ hL ⟨⟨x, rfl, hx1.trans h1.2⟩, hS⟩ hR hl)
  case ldc n =>
    have he : xLdc (_, cc, q) ls st M = some a := he
    unfold xLdc at he
    simp only [okI] at hk
    split at he
    · rename_i hq
      dsimp only at hq
      subst hq
      cases he
      obtain ⟨rfl, rfl, rfl⟩ := Nx_c hN
      dsimp only at hk
      obtain ⟨w, hw, h1⟩ := List.any_eq_true.mp hk
      simp only [Bool.and_eq_true, Nat.beq_eq, decide_eq_true_eq] at h1
      obtain ⟨x, hx1, hx2⟩ := ctT_ok _ w hw
      rw [h1.1] at hx2
      exact lv_ldc hx hb hown (hts _ hx2) hd (kk _ _ _ _ hL ⟨⟨x, rfl, hx1.trans h1.2⟩, hS⟩ hR hl)
    · rename_i k9 q9 hq
      dsimp only at hq
      subst hq
      cases he
      obtain ⟨rfl, rfl, rfl⟩ := Nx_c hN
      cases q9 with
      | cons _ _ => cases hk
      | nil =>
        simp only [Bool.and_eq_true] at hk
        obtain ⟨hk, hk2⟩ := hk
        obtain ⟨w, hw, h1⟩ := List.any_eq_true.mp hk
        simp only [Bool.and_eq_true, Nat.beq_eq] at h1
        obtain ⟨tx, hx2⟩ := hK.2.2.2.2.1 w hw
        rw [h1.1.1, h1.1.2, h1.2] at hx2
        have hlt : k9 < 67 := by rw [Nat.blt_eq] at hk2; exact hk2
        exact va_ldcS hx hb hown hx2 hd (kk _ _ _ _ hL ⟨⟨by decide, Or.inr ⟨by decide, rfl, ⟨by omega, by show (k9 : Int) < 67; omega⟩⟩⟩, hS⟩ hR hl)
  case ldc_w n =>
    have he : xLdc (_, cc, q) ls st M = some a := he
    unfold xLdc at he
    simp only [okI] at hk
    split at he
    · rename_i hq
      dsimp only at hq
      subst hq
      cases he
      obtain ⟨rfl, rfl, rfl⟩ := Nx_c hN
      dsimp only at hk
      obtain ⟨w, hw, h1⟩ := List.any_eq_true.mp hk
      simp only [Bool.and_eq_true, Nat.beq_eq, decide_eq_true_eq] at h1
      obtain ⟨x, hx1, hx2⟩ := ctT_ok _ w hw
      rw [h1.1] at hx2
      exact lv_ldcw hx hb hown (hts _ hx2) hd (kk _ _ _ _ hL ⟨⟨x, rfl, hx1.trans h1.2⟩, hS⟩ hR hl)
    · rename_i k9 q9 hq
      dsimp only at hq
      subst hq
      cases he
      obtain ⟨rfl, rfl, rfl⟩ := Nx_c hN
      cases q9 with
      | cons _ _ => cases hk
      | nil =>
        simp only [Bool.and_eq_true] at hk
        obtain ⟨hk, hk2⟩ := hk
        obtain ⟨w, hw, h1⟩ := List.any_eq_true.mp hk
        simp only [Bool.and_eq_true, Nat.beq_eq] at h1
        obtain ⟨tx, hx2⟩ := hK.2.2.2.2.1 w hw
        rw [h1.1.1, h1.1.2, h1.2] at hx2
        have hlt : k9 < 67 := by rw [Nat.blt_eq] at hk2; exact hk2
        exact va_ldcwS hx hb hown hx2 hd (kk _ _ _ _ hL ⟨⟨by decide, Or.inr ⟨by decide, rfl, ⟨by omega, by show (k9 : Int) < 67; omega⟩⟩⟩, hS⟩ hR hl)
  case iload n =>
    have he : xIl (o1 (_, cc, q)) ls st M = some a := he
    have hk : Nat.beq (o1 (_, cc, q)) n = true := hk
    rw [Nat.eq_of_beq_eq_true hk] at he
    unfold xIl at he
    split at he
    · rename_i hv
      cases he
      obtain ⟨rfl, rfl, rfl⟩ := Nx_c hN
      obtain ⟨b, h1, x, rfl, h2⟩ := hL.get hv (fun i q => by cases q)
      exact lv_iload hx hb hd h1 (kk _ _ _ _ hL ⟨⟨x, rfl, h2⟩, hS⟩ hR hl)
    · cases he
  case iload_n n =>
    have he : xIl (o1 (_, cc, q)) ls st M = some a := he
    have hk : Nat.beq (o1 (_, cc, q)) n.val = true := hk
    rw [Nat.eq_of_beq_eq_true hk] at he
    unfold xIl at he
    split at he
    · rename_i hv
      cases he
      obtain ⟨rfl, rfl, rfl⟩ := Nx_c hN
      obtain ⟨b, h1, x, rfl, h2⟩ := hL.get hv (fun i q => by cases q)
      exact lv_iload_n hx hb hd rfl h1 (kk _ _ _ _ hL ⟨⟨x, rfl, h2⟩, hS⟩ hR hl)
    · cases he
  case lload n =>
    have he : xLl (o1 (_, cc, q)) ls st M = some a := he
    have hk : Nat.beq (o1 (_, cc, q)) n = true := hk
    rw [Nat.eq_of_beq_eq_true hk] at he
    unfold xLl at he
    split at he
    · rename_i hv
      cases he
      obtain ⟨rfl, rfl, rfl⟩ := Nx_c hN
      obtain ⟨b, h1, x, rfl, h2⟩ := hL.get hv (fun i q => by cases q)
      exact lv_lload hx hb hd h1 (kk _ _ _ _ hL ⟨⟨x, rfl, h2⟩, hS⟩ hR hl)
    · cases he
  case lload_n n =>
    have he : xLl (o1 (_, cc, q)) ls st M = some a := he
    have hk : Nat.beq (o1 (_, cc, q)) n.val = true := hk
    rw [Nat.eq_of_beq_eq_true hk] at he
    unfold xLl at he
    split at he
    · rename_i hv
      cases he
      obtain ⟨rfl, rfl, rfl⟩ := Nx_c hN
      obtain ⟨b, h1, x, rfl, h2⟩ := hL.get hv (fun i q => by cases q)
      exact lv_lload_n hx hb hd rfl h1 (kk _ _ _ _ hL ⟨⟨x, rfl, h2⟩, hS⟩ hR hl)
    · cases he
  case aload n =>
    have he : xAl (o1 (_, cc, q)) ls st M = some a := he
    have hk : Nat.beq (o1 (_, cc, q)) n = true := hk
    rw [Nat.eq_of_beq_eq_true hk] at he
    unfold xAl at he
    split at he
    · rename_i hv
      rename_i f9 i9
      cases hf : Nat.beq f9 0 with
      | true => rw [hf] at he; cases he
      | false =>
        rw [hf] at he
        cases he
        obtain ⟨rfl, rfl, rfl⟩ := Nx_c hN
        have hne : ¬ f9 = 0 := fun q => by rw [q] at hf; cases hf
        obtain ⟨b, h1, h2⟩ := hL.get hv (fun i q => by cases q; exact hne rfl)
        obtain ⟨h3, ⟨h4, rfl | ⟨z, rfl⟩⟩ | ⟨h4, rfl, h5⟩⟩ := id h2
        · exact lv_aloadN hx hb hd h1 (kk _ _ _ _ hL ⟨h2, hS⟩ hR hl)
        · exact lv_aload hx hb hd h1 (kk _ _ _ _ hL ⟨h2, hS⟩ hR hl)
        · exact lv_aload hx hb hd h1 (kk _ _ _ _ hL ⟨h2, hS⟩ hR hl)
    · cases he
  case aload_n n =>
    have he : xAl (o1 (_, cc, q)) ls st M = some a := he
    have hk : Nat.beq (o1 (_, cc, q)) n.val = true := hk
    rw [Nat.eq_of_beq_eq_true hk] at he
    unfold xAl at he
    split at he
    · rename_i hv
      rename_i f9 i9
      cases hf : Nat.beq f9 0 with
      | true => rw [hf] at he; cases he
      | false =>
        rw [hf] at he
        cases he
        obtain ⟨rfl, rfl, rfl⟩ := Nx_c hN
        have hne : ¬ f9 = 0 := fun q => by rw [q] at hf; cases hf
        obtain ⟨b, h1, h2⟩ := hL.get hv (fun i q => by cases q; exact hne rfl)
        obtain ⟨h3, ⟨h4, rfl | ⟨z, rfl⟩⟩ | ⟨h4, rfl, h5⟩⟩ := id h2
        · exact lv_aload_nN hx hb hd rfl h1 (kk _ _ _ _ hL ⟨h2, hS⟩ hR hl)
        · exact lv_aload_n hx hb hd rfl h1 (kk _ _ _ _ hL ⟨h2, hS⟩ hR hl)
        · exact lv_aload_n hx hb hd rfl h1 (kk _ _ _ _ hL ⟨h2, hS⟩ hR hl)
    · cases he
  case istore n =>
    have he : xIs (o1 (_, cc, q)) ls st M = some a := he
    simp only [okI, Bool.and_eq_true, Nat.beq_eq, Nat.blt_eq] at hk
    have hk0 : o1 (_, cc, q) = n := hk.1.1
    have hk1 : n < mxl y := hk.1.2
    rw [hk0] at he
    unfold xIs at he
    obtain ⟨x9, st1, rfl, h9⟩ := pI_inv he
    cases hlo : lok ls n with
    | false => rw [hlo] at h9; cases h9
    | true =>
      rw [hlo] at h9
      cases h9
      obtain ⟨rfl, rfl, rfl⟩ := Nx_c hN
      obtain ⟨x, sb, rfl, rfl, hS1⟩ := hS.i
      exact lv_istore hx hb hd hL.has hk1 rfl (fun la' h' => kk _ _ _ _ (hL.set1 hlo ⟨x, rfl, rfl⟩ (fun z q => by cases q) h') hS1 hR hl)
  case istore_n n =>
    have he : xIs (o1 (_, cc, q)) ls st M = some a := he
    simp only [okI, Bool.and_eq_true, Nat.beq_eq, Nat.blt_eq] at hk
    have hk0 : o1 (_, cc, q) = n.val := hk.1.1
    have hk1 : n.val < mxl y := hk.1.2
    rw [hk0] at he
    unfold xIs at he
    obtain ⟨x9, st1, rfl, h9⟩ := pI_inv he
    cases hlo : lok ls n.val with
    | false => rw [hlo] at h9; cases h9
    | true =>
      rw [hlo] at h9
      cases h9
      obtain ⟨rfl, rfl, rfl⟩ := Nx_c hN
      obtain ⟨x, sb, rfl, rfl, hS1⟩ := hS.i
      exact lv_istore_n hx hb hd rfl hL.has hk1 rfl (fun la' h' => kk _ _ _ _ (hL.set1 hlo ⟨x, rfl, rfl⟩ (fun z q => by cases q) h') hS1 hR hl)
  case lstore n =>
    have he : xLs (o1 (_, cc, q)) ls st M = some a := he
    simp only [okI, Bool.and_eq_true, Nat.beq_eq, Nat.blt_eq] at hk
    have hk0 : o1 (_, cc, q) = n := hk.1.1.1
    have hk1 : n + 1 < mxl y := hk.1.1.2
    rw [hk0] at he
    unfold xLs at he
    obtain ⟨x9, st1, rfl, h9⟩ := pL_inv he
    cases hlo : lok ls n with
    | false => rw [hlo] at h9; cases h9
    | true =>
      rw [hlo] at h9
      cases h9
      obtain ⟨rfl, rfl, rfl⟩ := Nx_c hN
      obtain ⟨x, sb, rfl, rfl, hS1⟩ := hS.l
      exact lv_lstore hx hb hd hL.has hk1 rfl (fun la' h' => kk _ _ _ _ (hL.set2 hlo ⟨x, rfl, rfl⟩ h') hS1 hR hl)
  case lstore_n n =>
    have he : xLs (o1 (_, cc, q)) ls st M = some a := he
    simp only [okI, Bool.and_eq_true, Nat.beq_eq, Nat.blt_eq] at hk
    have hk0 : o1 (_, cc, q) = n.val := hk.1.1.1
    have hk1 : n.val + 1 < mxl y := hk.1.1.2
    rw [hk0] at he
    unfold xLs at he
    obtain ⟨x9, st1, rfl, h9⟩ := pL_inv he
    cases hlo : lok ls n.val with
    | false => rw [hlo] at h9; cases h9
    | true =>
      rw [hlo] at h9
      cases h9
      obtain ⟨rfl, rfl, rfl⟩ := Nx_c hN
      obtain ⟨x, sb, rfl, rfl, hS1⟩ := hS.l
      exact lv_lstore_n hx hb hd rfl hL.has hk1 rfl (fun la' h' => kk _ _ _ _ (hL.set2 hlo ⟨x, rfl, rfl⟩ h') hS1 hR hl)
  case astore n =>
    have he : xAs (o1 (_, cc, q)) ls st M = some a := he
    simp only [okI, Bool.and_eq_true, Nat.beq_eq, Nat.blt_eq] at hk
    have hk0 : o1 (_, cc, q) = n := hk.1.1
    have hk1 : n < mxl y := hk.1.2
    rw [hk0] at he
    unfold xAs at he
    obtain ⟨f9, i9, st1, rfl, h9⟩ := pR_inv he
    cases hlo : lok ls n with
    | false => rw [hlo] at h9; cases h9
    | true =>
      rw [hlo] at h9
      cases h9
      obtain ⟨rfl, rfl, rfl⟩ := Nx_c hN
      obtain ⟨b, sb, rfl, hv, hS1⟩ := hS.r
      obtain ⟨h3, ⟨h4, rfl | ⟨z, rfl⟩⟩ | ⟨h4, rfl, h5⟩⟩ := id hv
      · exact lv_astoreN hx hb hd hL.has hk1 rfl (fun la' h' => kk _ _ _ _ (hL.set1 hlo hv (fun z q => by cases q) h') hS1 hR hl)
      · exact lv_astore hx hb hd hL.has hk1 rfl (fun la' h' => kk _ _ _ _ (hL.set1 hlo hv (fun z q => by cases q) h') hS1 hR hl)
      · exact lv_astore hx hb hd hL.has hk1 rfl (fun la' h' => kk _ _ _ _ (hL.set1 hlo hv (fun z q => by cases q) h') hS1 hR hl)
  case astore_n n =>
    have he : xAs (o1 (_, cc, q)) ls st M = some a := he
    simp only [okI, Bool.and_eq_true, Nat.beq_eq, Nat.blt_eq] at hk
    have hk0 : o1 (_, cc, q) = n.val := hk.1.1
    have hk1 : n.val < mxl y := hk.1.2
    rw [hk0] at he
    unfold xAs at he
    obtain ⟨f9, i9, st1, rfl, h9⟩ := pR_inv he
    cases hlo : lok ls n.val with
    | false => rw [hlo] at h9; cases h9
    | true =>
      rw [hlo] at h9
      cases h9
      obtain ⟨rfl, rfl, rfl⟩ := Nx_c hN
      obtain ⟨b, sb, rfl, hv, hS1⟩ := hS.r
      obtain ⟨h3, ⟨h4, rfl | ⟨z, rfl⟩⟩ | ⟨h4, rfl, h5⟩⟩ := id hv
      · exact lv_astore_nN hx hb hd rfl hL.has hk1 rfl (fun la' h' => kk _ _ _ _ (hL.set1 hlo hv (fun z q => by cases q) h') hS1 hR hl)
      · exact lv_astore_n hx hb hd rfl hL.has hk1 rfl (fun la' h' => kk _ _ _ _ (hL.set1 hlo hv (fun z q => by cases q) h') hS1 hR hl)
      · exact lv_astore_n hx hb hd rfl hL.has hk1 rfl (fun la' h' => kk _ _ _ _ (hL.set1 hlo hv (fun z q => by cases q) h') hS1 hR hl)
  case iinc n d =>
    have he : xInc (o1 (_, cc, q)) cc ls st M = some a := he
    simp only [okI, Bool.and_eq_true, Nat.beq_eq, Nat.blt_eq, decide_eq_true_eq] at hk
    obtain ⟨⟨⟨⟨⟨hk0, rfl⟩, hd1⟩, hd2⟩, hk1⟩, -⟩ := hk
    rw [hk0] at he
    unfold xInc at he
    split at he
    · rename_i z9 hv
      cases hlo : lok ls n with
      | false => rw [hlo] at he; cases he
      | true =>
        rw [hlo] at he
        cases he
        obtain ⟨rfl, rfl, rfl⟩ := Nx_c hN
        obtain ⟨b, h1, x, rfl, rfl⟩ := hL.get hv (fun i q => by cases q)
        obtain ⟨k9, hk9⟩ := List.getElem?_of_mem (lvA_mem.mpr h1)
        exact lv_iinc hx hb hd hL.has hk9 rfl hk1 rfl (fun la' h' => kk _ _ _ _ (hL.set1 hlo ⟨_, rfl, by rw [n_add, i32_of, w32_id (z := cc) (by omega) (by omega)]⟩ (fun z q => by cases q) h') hS hR hl)
    · cases he
  case dup =>
    have he : xDup ls st M = some a := he
    unfold xDup at he
    split at he
    · cases he
      obtain ⟨rfl, rfl, rfl⟩ := Nx_c hN
      obtain ⟨x, sb, rfl, rfl, hS1⟩ := hS.i
      exact lv_dup hx hb hd rfl (kk _ _ _ _ hL ⟨⟨x, rfl, rfl⟩, ⟨x, rfl, rfl⟩, hS1⟩ hR hl)
    · cases he
      obtain ⟨rfl, rfl, rfl⟩ := Nx_c hN
      obtain ⟨b, sb, rfl, hv, hS1⟩ := hS.r
      exact lv_dup hx hb hd hv.cat (kk _ _ _ _ hL ⟨hv, hv, hS1⟩ hR hl)
    · cases he
  case dup2 =>
    have he : xDup2 ls st M = some a := he
    unfold xDup2 at he
    split at he
    · cases he
      obtain ⟨rfl, rfl, rfl⟩ := Nx_c hN
      obtain ⟨x, sb, rfl, rfl, hS1⟩ := hS.i
      obtain ⟨b, sb, rfl, hv, hS2⟩ := hS1.r
      exact lv_dup2_11 hx hb hd rfl hv.cat (kk _ _ _ _ hL ⟨⟨x, rfl, rfl⟩, hv, ⟨x, rfl, rfl⟩, hv, hS2⟩ hR hl)
    · cases he
      obtain ⟨rfl, rfl, rfl⟩ := Nx_c hN
      obtain ⟨x, sb, rfl, rfl, hS1⟩ := hS.l
      exact lv_dup2_2 hx hb hd rfl (kk _ _ _ _ hL ⟨⟨x, rfl, rfl⟩, ⟨x, rfl, rfl⟩, hS1⟩ hR hl)
    · cases he
  case pop =>
    have he : xPop ls st M = some a := he
    unfold xPop at he
    split at he
    · cases he
      obtain ⟨rfl, rfl, rfl⟩ := Nx_c hN
      obtain ⟨x, sb, rfl, rfl, hS1⟩ := hS.i
      exact lv_pop hx hb hd rfl (kk _ _ _ _ hL hS1 hR hl)
    · cases he
      obtain ⟨rfl, rfl, rfl⟩ := Nx_c hN
      obtain ⟨b, sb, rfl, hv, hS1⟩ := hS.r
      exact lv_pop hx hb hd hv.cat (kk _ _ _ _ hL hS1 hR hl)
    · cases he
  all_goals exact absurd (show false = true from hp) Bool.false_ne_true
end Step
