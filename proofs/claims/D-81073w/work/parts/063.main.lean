/-! SOUNDNESS: the call, the other ways of an instruction, the induction -/
theorem bif_both {b : Bool} {x a : Act} (h : (bif b then some x else none) = some a) : b = true ∧ x = a := by
  cases b with
  | true => exact ⟨rfl, Option.some.inj h⟩
  | false => cases h
abbrev aCl (og : Option PD) (z : Nat) (en : List AV) (k tm : Nat) (ls st : List AV) (M : Mem) : Act := .inr (.inr (.inr (.inr (.inl (og, z, en, k, tm, ls, st, M)))))
theorem xc_inv {y pc idx : Nat} {sta : Bool} {q : List Nat} {ls st ls1 st1 en : List AV} {M M1 : Mem} {og : Option PD} {z k tm : Nat} (hc : calO lkT y pc idx sta q = true) (he : xCall q ls st M = some (aCl og z en k tm ls1 st1 M1)) (hog : ∀ P, og = some P → P.1) :
    ∃ nn kd : Nat, ls1 = ls ∧ M1 = M ∧ st1 = (popn nn st []).2 ∧ en = ent (mxl z) (popn nn st []).1 ∧ nn ≤ st.length ∧ wds st1 ≤ 8 ∧ wds (popn nn st []).1 ≤ mxl z ∧ 1 ≤ z ∧ z < NMETH ∧ nn = agc z ∧ mxl z ≤ 50 ∧ (idx, z, kd) ∈ clT (cno y) ∧
      ((sta = true ∧ mst z = true ∧ (kd = 1 ∨ kd = 3)) ∨ (sta = false ∧ mst z = false ∧ (kd = 0 ∨ kd = 2) ∧ 1 ≤ nn ∧ (cno z = 31 ∨ (1 ≤ cno z ∧ cno z < 23)) ∧ hdf (cno z) (popn nn st []).1 = true)) ∧
      (tm = 0 ∨ (tm = 1 ∧ ¬ y = FAULT) ∨ (2 ≤ tm ∧ y = FAULT ∧ pcO y (tm - 2) = 12 ∧ 5 ≤ pc ∧ pc < 9)) ∧
      (∀ ρ : Int, (rkb y : Int) ≤ ρ → rkf (rkb y) (rkm y) (rks y) ls ≤ ρ → ∃ ρz : Int, (rkb z : Int) ≤ ρz ∧ rkf (rkb z) (rkm z) (rks z) en ≤ ρz ∧ ρz < ρ) := by
  unfold xCall at he
  have fin : ∀ (z' n mx r tm' cz : Nat) (q2 : List Nat), q = z' :: n :: mx :: r :: tm' :: cz :: q2 → z' = z → tm' = tm → (Nat.ble n st.length && Nat.ble (wds (popn n st []).2) 8 && Nat.ble (wds (popn n st []).1) mx && hdf cz (popn n st []).1) = true → ls1 = ls → M1 = M → st1 = (popn n st []).2 → en = ent mx (popn n st []).1 →
      (∀ ρ : Int, (match q2 with
        | [] => Nat.beq (rkm z) 0 && Nat.blt (rkb z) (rkb y)
        | [bz, mz, sz, b0, m0, s0] => Nat.beq bz (rkb z) && Nat.beq mz (rkm z) && Nat.beq sz (rks z) && Nat.beq b0 (rkb y) && Nat.beq m0 (rkm y) && Nat.beq s0 (rks y)
        | _ => false) = true → (rkb y : Int) ≤ ρ → rkf (rkb y) (rkm y) (rks y) ls ≤ ρ → ∃ ρz : Int, (rkb z : Int) ≤ ρz ∧ rkf (rkb z) (rkm z) (rks z) en ≤ ρz ∧ ρz < ρ) →
      ∃ nn kd : Nat, ls1 = ls ∧ M1 = M ∧ st1 = (popn nn st []).2 ∧ en = ent (mxl z) (popn nn st []).1 ∧ nn ≤ st.length ∧ wds st1 ≤ 8 ∧ wds (popn nn st []).1 ≤ mxl z ∧ 1 ≤ z ∧ z < NMETH ∧ nn = agc z ∧ mxl z ≤ 50 ∧ (idx, z, kd) ∈ clT (cno y) ∧
        ((sta = true ∧ mst z = true ∧ (kd = 1 ∨ kd = 3)) ∨ (sta = false ∧ mst z = false ∧ (kd = 0 ∨ kd = 2) ∧ 1 ≤ nn ∧ (cno z = 31 ∨ (1 ≤ cno z ∧ cno z < 23)) ∧ hdf (cno z) (popn nn st []).1 = true)) ∧
        (tm = 0 ∨ (tm = 1 ∧ ¬ y = FAULT) ∨ (2 ≤ tm ∧ y = FAULT ∧ pcO y (tm - 2) = 12 ∧ 5 ≤ pc ∧ pc < 9)) ∧
        (∀ ρ : Int, (rkb y : Int) ≤ ρ → rkf (rkb y) (rkm y) (rks y) ls ≤ ρ → ∃ ρz : Int, (rkb z : Int) ≤ ρz ∧ rkf (rkb z) (rkm z) (rks z) en ≤ ρz ∧ ρz < ρ) := by
    rintro z' n mx r tm' cz q2 rfl rfl rfl hb e1 e2 e3 e4 hrk
    unfold calO at hc
    dsimp only at hc
    rw [Bool.and_eq_true, Bool.and_eq_true, Bool.and_eq_true, Bool.and_eq_true, Bool.and_eq_true, Bool.and_eq_true, Bool.and_eq_true, Bool.and_eq_true, Bool.and_eq_true] at hc
    obtain ⟨⟨⟨⟨⟨⟨⟨⟨⟨c1, c2⟩, c3⟩, c4⟩, c5⟩, c6⟩, c7⟩, c8⟩, c9⟩, c10⟩ := hc
    simp only [Bool.and_eq_true, Nat.ble_eq] at hb
    obtain ⟨⟨⟨b1, b2⟩, b3⟩, b4⟩ := hb
    rw [Nat.ble_eq] at c2 c7
    rw [Nat.blt_eq] at c3
    have c4 := beq_t c4
    have c5 := beq_t c5
    subst c5
    obtain ⟨⟨i0, z0, kd⟩, hw, hw1⟩ := List.any_eq_true.mp c1
    simp only [Bool.and_eq_true, Nat.beq_eq] at hw1
    obtain ⟨⟨rfl, rfl⟩, hw2⟩ := hw1
    refine ⟨n, kd, e1, e2, e3, e4, b1, by rw [e3]; exact b2, b3, c2, c3, c4, c7, hw, ?_, ?_, fun ρ h1 h2 => hrk ρ c10 h1 h2⟩
    · cases sta with
      | true =>
        simp only [cond_true, Bool.or_eq_true, Nat.beq_eq, Bool.and_eq_true] at hw2 c8
        exact Or.inl ⟨rfl, c8.1, hw2⟩
      | false =>
        simp only [cond_false, Bool.or_eq_true, Nat.beq_eq, Bool.and_eq_true, Bool.not_eq_true', Nat.ble_eq, Nat.blt_eq] at hw2 c8
        obtain ⟨⟨⟨d1, d2⟩, d3⟩, d4⟩ := c8
        subst d2
        exact Or.inr ⟨rfl, d1, hw2, d4, d3, b4⟩
    · simp only [Bool.or_eq_true, Bool.and_eq_true, Nat.beq_eq, Bool.not_eq_true', Nat.ble_eq, Nat.blt_eq] at c9
      rcases c9 with (h | ⟨h, h2⟩) | ⟨⟨⟨⟨h1, h2⟩, h3⟩, h4⟩, h5⟩
      · exact Or.inl h
      · exact Or.inr (Or.inl ⟨h, fun q => by rw [q] at h2; simp at h2⟩)
      · exact Or.inr (Or.inr ⟨h1, h2, h3, h4, h5⟩)
  split at he
  · rename_i z' n mx r tm' cz
    obtain ⟨hb, h⟩ := bif_both he
    cases h
    refine fin _ n mx _ _ cz [] rfl rfl rfl hb rfl rfl rfl rfl (fun ρ hq h1 h2 => ?_)
    simp only [Bool.and_eq_true, Nat.beq_eq, Nat.blt_eq] at hq
    refine ⟨rkb z, Int.le_refl _, ?_, by omega⟩
    rw [hq.1]
    exact Int.le_refl _
  · rename_i z' n mx r tm' cz bz mz sz b0 m0 s0
    obtain ⟨hb, h⟩ := bif_both he
    cases h
    have hg := hog _ rfl
    refine fin _ n mx _ _ cz [bz, mz, sz, b0, m0, s0] rfl rfl rfl hb rfl rfl rfl rfl (fun ρ hq h1 h2 => ?_)
    simp only [Bool.and_eq_true, Nat.beq_eq] at hq
    obtain ⟨⟨⟨⟨⟨rfl, rfl⟩, rfl⟩, rfl⟩, rfl⟩, rfl⟩ := hq
    exact ⟨_, rkf_ge hg.1, Int.le_refl _, Int.lt_of_lt_of_le hg.2 h2⟩
  · cases he
def pshR (v : Option AV) (st : List AV) : List AV := match v with
  | none => st
  | some w => w :: st
/-- what is done behind a callee -/
def aft (n y : Nat) (is : List Ins) (k tm : Nat) (ls st : List AV) (q : AR × Mem) : ERes := match q.1 with
  | .inl v => (rst k v st).bind fun st => exB (run n) y (deadT y) is ls st q.2
  | .inr e => (match tm with
    | 0 => none
    | 1 => some (.inr e, q.2)
    | h + 2 => run n y h (kill ((deadT y).getD h []) ls) [vR 11 e] q.2)
theorem rst_st {k : Nat} {v : Option AV} {st st' : List AV} (h : rst k v st = some st') : st' = pshR v st := by
  unfold pshR
  rcases k with _ | _ | _ | f <;> rcases v with _ | z | z | ⟨g, z⟩ <;> simp [rst] at h <;> first | exact h.symm | (obtain ⟨rfl, h⟩ := h; exact h.symm)
section Main9
variable {p : Program} {l : Launch} {e : Env} {R : Room} {s : State} {m : MethodId} {args : Array Value} {below : List Frame} {meth : Method} {c : Code} {H : Heap} {locs : List Loc} {cells slots : Nat} {Q : State → Prop} {G : Gh} {y pc : Nat} {la : Array Slot} {sa : List Value}
/-- a receiver's cell -/
theorem recv_at {f : Nat} {i : Int} {M : Mem} (C : CX G y p s m args c) (hR : Rp G M H) (hf : f = 31 ∨ (1 ≤ f ∧ f < 23)) (hi : lyo f i) : ∃ cell : Cell, H[gA G f i]? = some cell ∧ cell.vm.isStatics = false ∧ s.vm.findClass (clN f) = some cell.cls := by
  obtain ⟨hx, hb, hml, hown, hts, hK, hG⟩ := C
  rcases hf with rfl | ⟨f1, f2⟩
  · have hi2 : i < 67 := hi.2
    obtain ⟨⟨cell, h1, h2, h3, h4⟩, -⟩ := hK.2.2.2.1 i hi.1 hi2
    exact ⟨cell, by rw [hR.2.1 _ (Nat.not_le.mp h4)]; exact h1, h2, h3⟩
  · obtain ⟨V, ⟨cell, q1, q2, q3, q4⟩, -⟩ := hR.2.2.1 f i f1 f2 hi
    obtain ⟨-, hfc, -⟩ := hK.1 f f1 f2
    have hcl : clN f = cN f := by
      unfold clN
      split <;> first | rfl | omega
    exact ⟨cell, q1, by rw [q3]; rfl, by rw [hcl, q2]; exact hfc⟩
set_option maxHeartbeats 4000000 in
/-- A CALL -/
theorem st_call {n : Nat} (IH : SN l G n) (hck : ∀ y, y < NMETH → chP y) {i : Ins} {is : List Ins} {ls st ls1 st1 en : List AV} {M M1 M' : Mem} {r : AR} {og : Option PD} {z k tm : Nat} (C : CX G y p s m args c) (hXT : XT y c) (hRC : RC y ls R) (hcl : cells ≤ R.cells) (hsl : slots ≤ R.slots) (hd : decode (bts y) pc = .ok (i.1, ilen i.1)) (hk : okI lkT y pc i = true) (hL : LR G (mxl y) ls la) (hS : SR G st sa) (hR : Rp G M H) (hl : LocOK G locs)
    (he : ex1 i ls st M = some (aCl og z en k tm ls1 st1 M1)) (hog : ∀ P, og = some P → P.1)
    (hrun : (run n z 0 en [] M1).bind (aft n y is k tm ls1 st1) = some (r, M'))
    (hnext : ∀ (H' : Heap) (locs' : List Loc) (sa' : List Value) (st' : List AV) (M2 : Mem), exB (run n) y (deadT y) is ls st' M2 = some (r, M') → SR G st' sa' → Rp G M2 H' → LocOK G locs' → W p l e R s m args below meth c H' locs' cells slots Q (F0 m (pc + 3) la sa'))
    (hhand : ∀ (H' : Heap) (locs' : List Loc) (e9 : Int) (M2 : Mem) (h : Nat), run n y h (kill ((deadT y).getD h []) ls) [vR 11 e9] M2 = some (r, M') → lyo 11 e9 → Rp G M2 H' → LocOK G locs' → W p l e R s m args below meth c H' locs' cells slots Q (F0 m (pcO y h) la [.ref (gA G 11 e9)]))
    (hKT : KT l G y r M' p e R s m args below meth c cells slots Q) : W p l e R s m args below meth c H locs cells slots Q (F0 m pc la sa) := by
  have C0 := C
  obtain ⟨hx, hb, hml, hown, hts, hK, hG⟩ := C
  -- what the instruction is
  have hinv : ∃ (idx nn kd : Nat), ls1 = ls ∧ M1 = M ∧ st1 = (popn nn st []).2 ∧ en = ent (mxl z) (popn nn st []).1 ∧ nn ≤ st.length ∧ wds st1 ≤ 8 ∧ wds (popn nn st []).1 ≤ mxl z ∧ 1 ≤ z ∧ z < NMETH ∧ nn = agc z ∧ mxl z ≤ 50 ∧ (idx, z, kd) ∈ clT (cno y) ∧
      ((mst z = true ∧ (kd = 1 ∨ kd = 3) ∧ decode (bts y) pc = .ok (.invokestatic idx, 3)) ∨ (mst z = false ∧ (kd = 0 ∨ kd = 2) ∧ decode (bts y) pc = .ok (.invokevirtual idx, 3) ∧ 1 ≤ nn ∧ (cno z = 31 ∨ (1 ≤ cno z ∧ cno z < 23)) ∧ hdf (cno z) (popn nn st []).1 = true)) ∧
      (tm = 0 ∨ (tm = 1 ∧ ¬ y = FAULT) ∨ (2 ≤ tm ∧ y = FAULT ∧ pcO y (tm - 2) = 12 ∧ 5 ≤ pc ∧ pc < 9)) ∧
      (∀ ρ : Int, (rkb y : Int) ≤ ρ → rkf (rkb y) (rkm y) (rks y) ls ≤ ρ → ∃ ρz : Int, (rkb z : Int) ≤ ρz ∧ rkf (rkb z) (rkm z) (rks z) en ≤ ρz ∧ ρz < ρ) := by
    have hsh : 3 = ikd i := (ex1_shape he).1
    obtain ⟨op, cc, q⟩ := i
    cases op
    case invokevirtual idx =>
      obtain ⟨nn, kd, a1, a2, a3, a4, a5, a6, a7, a8, a9, a10, a11, a12, a13, a14, a15⟩ := xc_inv (idx := idx) (sta := false) (q := q) hk he hog
      refine ⟨idx, nn, kd, a1, a2, a3, a4, a5, a6, a7, a8, a9, a10, a11, a12, ?_, a14, a15⟩
      rcases a13 with ⟨h, -⟩ | ⟨-, h1, h2, h3, h4, h5⟩
      · cases h
      · exact Or.inr ⟨h1, h2, hd, h3, h4, h5⟩
    case invokestatic idx =>
      cases q with
      | nil => cases hsh
      | cons z9 q9 =>
        obtain ⟨nn, kd, a1, a2, a3, a4, a5, a6, a7, a8, a9, a10, a11, a12, a13, a14, a15⟩ := xc_inv (idx := idx) (sta := true) (q := z9 :: q9) hk he hog
        refine ⟨idx, nn, kd, a1, a2, a3, a4, a5, a6, a7, a8, a9, a10, a11, a12, ?_, a14, a15⟩
        rcases a13 with ⟨-, h1, h2⟩ | ⟨h, -⟩
        · exact Or.inl ⟨h1, h2, hd⟩
        · cases h
    all_goals (cases hsh; done)
  obtain ⟨idx, nn, kd, rfl, rfl, rfl, rfl, a5, a6, a7, a8, a9, a10, a11, a12, a13, a14, a15⟩ := hinv
  have hmf := mf_all z a8 a9
  obtain ⟨vl, vr, s1, s2, rfl, s4⟩ := SR.pop nn (acc := []) (ac := []) hS trivial a5
  rw [List.append_nil] at s1
  obtain ⟨ρ, r1, r2, r3, r4⟩ := hRC
  obtain ⟨ρz, z1, z2, z3⟩ := a15 ρ r1 r2
  -- the callee's run
  cases hrz : run n z 0 (ent (mxl z) (popn nn st []).1) [] M1 with
  | none => rw [hrz] at hrun; cases hrun
  | some qq =>
    obtain ⟨rz, Mz⟩ := qq
    rw [hrz] at hrun
    have hMet := met_of IH hck a8 a9 s1 a7 hrz hG z1 z2
    intro T hT X
    have hrecv : (mst z = true ∧ (kd = 1 ∨ kd = 3) ∧ decode (bts y) pc = .ok (.invokestatic idx, 3)) ∨ (mst z = false ∧ (kd = 0 ∨ kd = 2) ∧ decode (bts y) pc = .ok (.invokevirtual idx, 3) ∧ ∃ (b : Addr) (As : List Value) (cellB : Cell), vl = As.reverse ++ [.ref b] ∧ T.heap[b]? = some cellB ∧ cellB.vm.isStatics = false ∧ s.vm.findClass (mN z).cls = some cellB.cls) := by
      rcases a13 with h | ⟨h1, h2, h3, h4, h5, h6⟩
      · exact Or.inl h
      · refine Or.inr ⟨h1, h2, h3, ?_⟩
        unfold hdf at h6
        split at h6
        · rename_i h0
          omega
        · split at h6
          · rename_i f9 i9 as9 hpop
            obtain rfl := beq_t h6
            rw [hpop] at s1
            obtain ⟨As, e1, hi, -⟩ := s1.a (by omega)
            obtain ⟨cell, c1, c2, c3⟩ := recv_at C0 hR h5 hi
            refine ⟨_, As, cell, ?_, by rw [hT]; exact c1, c2, by rw [hmf.2.2.2.1]; exact c3⟩
            rw [← List.reverse_reverse vl, e1]
            simp
          · cases h6
    obtain ⟨vm₁, mk, X₁, hnm, hstep⟩ := inv_step (la := la) (sr := vr) (pc := pc) C0 hmf (clT_ok _ _ a12) X (by rw [s4, a10]) hrecv
    have hW1 : s.WarmedH (T.setVm vm₁).vm := X₁.warmed
    have hws : ∀ w ∈ wz z :: lw_all, w.before vl.reverse.toArray (T.setVm vm₁) = true := by
      intro w hw
      have hin : w ∈ lw_all := by
        rcases List.mem_cons.mp hw with rfl | h
        · exact wz_in hmf
        · exact h
      exact word_at hW1 (lw_self w hin).2 (hts w hin)
    have hdd : ∃ ig, decode c.code (F0 m pc la vr).pc = .ok (ig, 3) := by
      rw [hb]
      rcases hrecv with ⟨-, -, h⟩ | ⟨-, -, h, -⟩
      · exact ⟨_, h⟩
      · exact ⟨_, h⟩
    obtain ⟨ig, hdd⟩ := hdd
    obtain ⟨mk2, mz, cz, q1, q2, q3, q4, q5, q6, q7, -, -⟩ := z_facts (hws _ List.mem_cons_self)
    have hnm1 : (T.setVm vm₁).methodNamed? (mN z) = some mk := X₁.named hnm
    cases hnm1.symm.trans q1
    obtain ⟨o, t, B, L, ⟨ho, hRz⟩, hBh, hBv, hLf, XB, hret, hthr⟩ := callee_back (maxL := mxl z) hMet (by show (ρz + 1).toNat + 1 ≤ R.frames; omega) (by show 8 + (mxl z + 11) + (80 * (ρz + 1)).toNat ≤ R.locals; omega) X₁ (g := F0 m pc la vr) rfl (by rw [hml]; exact hL.2.1) hdd (by
        show 2 * 0 + _ ≤ 8
        rw [s2.wds]
        omega) hnm1 (a := vl.reverse.toArray) (atoms_intro hws) ⟨mz, cz, q2, q3, q5⟩ (hws _ (List.mem_cons_of_mem _ hmf.2.2.1)) (by show cells + 0 ≤ R.cells; exact hcl) (by show slots + 0 ≤ R.slots; exact hsl)
        ⟨rfl, hK.warm hW1, by show Rp G M1 T.heap; rw [hT]; exact hR⟩
    have hlB : LocOK G (locs ++ L) := fun q hq => by
      rcases List.mem_append.mp hq with h | h
      · exact hl q h
      · exact hLf q h
    have hRB : Rp G Mz B.heap := by rw [hBh]; exact hRz
    cases rz with
    | inl v =>
      obtain ⟨w, rfl, hov⟩ := ho
      have hrun : (rst k v (popn nn st []).2).bind (fun st => exB (run n) y (deadT y) is ls1 st Mz) = some (r, M') := hrun
      cases hrs : rst k v (popn nn st []).2 with
      | none => rw [hrs] at hrun; cases hrun
      | some st' =>
        rw [hrs] at hrun
        have hst' := rst_st hrs
        have hSR : SR G st' (w.toList ++ vr) := by
          subst hst'
          cases v with
          | none =>
            have : w = none := hov
            subst this
            exact s2
          | some u =>
            obtain ⟨a9, rfl, hv⟩ := hov
            exact ⟨hv, s2⟩
        obtain ⟨t2, b1, b2⟩ := hnext B.heap (locs ++ L) (w.toList ++ vr) st' Mz hrun hSR hRB hlB B rfl XB
        exact ⟨t2, hstep _ ((hret w rfl).trans b1), b2⟩
    | inr e9 =>
      obtain ⟨rfl, hi9⟩ := ho
      have hrun : aft n y is k tm ls1 (popn nn st []).2 (.inr e9, Mz) = some (r, M') := hrun
      have ht9 := hthr _ rfl
      rcases tm with _ | _ | h9
      · cases hrun
      · cases (show some ((Sum.inr e9 : AR), Mz) = some (r, M') from hrun)
        rcases a14 with h | ⟨-, hy⟩ | ⟨h, -⟩
        · omega
        · obtain ⟨t2, b1, b2⟩ := hKT B (locs ++ L) (F0 m pc la vr) hRB hlB hi9 hy XB rfl rfl rfl
          exact ⟨t2, hstep _ (ht9.trans b1), b2⟩
        · omega
      · rcases a14 with h | ⟨h, -⟩ | ⟨-, hy, hp12, hp5, hp9⟩
        · omega
        · omega
        · have hxt : c.exceptionTable.toList.map (fun h => (h.startPc, h.endPc, h.handlerPc, h.catchType)) = [(5, 9, 12, 9)] := by
            unfold XT at hXT
            rw [if_pos hy] at hXT
            exact hXT
          obtain ⟨et, htab, het⟩ : ∃ et, c.exceptionTable.toList = [et] ∧ (et.startPc, et.endPc, et.handlerPc, et.catchType) = (5, 9, 12, 9) := by
            cases hc : c.exceptionTable.toList with
            | nil => rw [hc] at hxt; cases hxt
            | cons e1 es =>
              rw [hc] at hxt
              cases es with
              | cons _ _ => simp at hxt
              | nil => exact ⟨e1, rfl, by simpa using hxt⟩
          simp only [Prod.mk.injEq] at het
          obtain ⟨t5, t9, t12, tc⟩ := het
          obtain ⟨V, ⟨cell, k1, k2, k3, k4⟩, -⟩ := hRB.2.2.1 11 e9 (by decide) (by decide) hi9
          obtain ⟨-, hfc, -⟩ := hK.1 11 (by decide) (by decide)
          have hlink : (Cond.classLink (clN (cno y)) et.catchType (cN 11)).before args s = true := by
            rw [tc, hy]
            exact hts _ (lw_g (lw_at lw_m2 68 rfl) rfl)
          obtain ⟨vm2, X2, hst2⟩ := catch_step XB (gA G 11 e9) (g := F0 m pc la vr) rfl hown htab (by
              show (decide (et.startPc ≤ pc) && decide (pc < et.endPc)) = true
              rw [t5, t9]
              simp only [Bool.and_eq_true, decide_eq_true_eq]
              exact ⟨hp5, hp9⟩) (by rw [tc]; decide) hlink hfc k1 (by rw [k3]; rfl) (by rw [k2]; exact va_asg _ _)
          have hh9 := hhand B.heap (locs ++ L) e9 Mz h9 hrun hi9 hRB hlB (B.setVm vm2) rfl X2
          obtain ⟨t2, b1, b2⟩ := hh9
          have hpc : pcO y h9 = et.handlerPc := by rw [t12]; exact hp12
          rw [hpc] at b1
          exact ⟨t2, hstep _ (ht9.trans (hst2 _ b1)), b2⟩
end Main9
