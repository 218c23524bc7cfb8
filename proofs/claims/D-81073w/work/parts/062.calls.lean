/-! SOUNDNESS: a method's promise out of its run; a call -/
section Calls9
variable {p : Program} {l : Launch} {e : Env} {R : Room} {s : State} {m : MethodId} {args : Array Value} {below : List Frame} {meth : Method} {c : Code} {H : Heap} {locs : List Loc} {cells slots : Nat} {Q : State → Prop} {G : Gh} {y pc : Nat} {la : Array Slot} {sa : List Value}
theorem LR.entry {as : List AV} {asv : List Value} {n : Nat} (h : SR G as asv) (hw : wds as ≤ n) : LR G n (ent n as) ((lg_sl asv ++ List.replicate (n - (lg_sl asv).length) Slot.unset).toArray) := by
  have hl := sl_len as asv h
  obtain ⟨e1, e2, e3⟩ := lv_entry asv (n := n) (by omega)
  refine ⟨by simp only [ent, List.length_append, List.length_replicate, lay_len]; omega, e1, e2, fun k v hk => ?_⟩
  unfold ent at hk
  by_cases hlt : k < (lay as).length
  · rw [List.getElem?_append_left hlt] at hk
    rcases lay_args as asv 0 h k v hk with h9 | ⟨a, ha, hv⟩
    · exact Or.inl h9
    · exact Or.inr ⟨a, e3 (k, a) (by rw [show 0 + k = k by omega] at ha; exact ha), hv⟩
  · rw [List.getElem?_append_right (by omega), List.getElem?_replicate] at hk
    split at hk
    · cases hk
      exact Or.inl ⟨0, rfl⟩
    · cases hk
/-- A METHOD's PROMISE out of a run of it -/
theorem met_of {n : Nat} (IH : SN l G n) (hck : ∀ y, y < NMETH → chP y) {z : Nat} (hz1 : 1 ≤ z) (hz2 : z < NMETH) {as : List AV} {asv : List Value} (hA : SR G as asv) (hw : wds as ≤ mxl z) {M M1 : Mem} {r : AR} (hrun : run n z 0 (ent (mxl z) as) [] M = some (r, M1)) (hG : GA G) {ρ : Int} (h0 : (rkb z : Int) ≤ ρ) (h2 : rkf (rkb z) (rkm z) (rks z) (ent (mxl z) as) ≤ ρ) :
    MetT l (mN z) (headSpec (wz z :: lw_all) (rmo ρ)) (fun a U => a = asv.toArray ∧ KS G U ∧ Rp G M U.heap) (fun _ _ o t => orp G r o ∧ Rp G M1 t.heap) (gO G) := by
  have hmf := mf_all z hz1 hz2
  refine MetFree.of_bodySF (code := bts z) (maxLocals := mxl z) (ret := rty z) hmf.1 ?_ ?_
  · intro a U mk h hn
    have hts := atoms_spec (ws := wz z :: lw_all) h
    obtain ⟨mk', mz, cz, q1, q2, q3, q4, q5, q6, q7, -, -⟩ := z_facts (hts _ List.mem_cons_self)
    cases hn.symm.trans q1
    exact ⟨mz, cz, q2, q3, q4, q5, q6, q7⟩
  · intro p e s m args below meth c s₁ B hml hP _
    obtain ⟨rfl, hK, hR⟩ := hP
    have hts := atoms_spec (ws := wz z :: lw_all) B.pre
    have hts' : ∀ w ∈ lw_all, w.before asv.toArray s = true := fun w h => hts w (List.mem_cons_of_mem _ h)
    have X₀ := Stand.of_body B
    obtain ⟨mk', mz, cz, q1, q2, q3, q4, q5, q6, q7, -, q9⟩ := z_facts (hts _ List.mem_cons_self)
    cases B.named.symm.trans q1
    cases B.method.symm.trans q2
    cases X₀.code.symm.trans q3
    have hown : s.vm.findClass (clN (cno z)) = some m.cls := by
      rw [← hmf.2.2.2.1]
      exact findClass_of_methodNamed B.named
    have hC : CX G z p s m asv.toArray c := ⟨B.exec, B.bytes, hml, hown, hts', hK, hG⟩
    have hh0 : s₁.heap = s.heap := by rw [B.state]; rfl
    have hp0 : pcO z 0 = 0 := (hck z hz2).2
    have K := IH z 0 (ent (mxl z) as) [] M r M1 hrun hz2 p e (rmo ρ) s m asv.toArray below meth c s.heap [] 0 0
      (fun t => ∃ o, t.status = .running ∧ Ended t below o ∧ (orp G r o ∧ Rp G M1 t.heap) ∧ s.WarmedH t.vm ∧ ∃ L, s.sameButNew ({ t with vm := s.vm } : State) L 0 0 ∧ ∀ q ∈ L, gO G q.base)
      _ [] hC q9 ⟨ρ, h0, h2, by show ρ + 1 ≤ ((ρ + 1).toNat : Int); omega, by show 80 * (ρ + 1) ≤ ((80 * (ρ + 1)).toNat : Int); omega⟩ (Nat.le_refl _) (Nat.le_refl _) (LR.entry hA hw) trivial hR (fun q hq => by cases hq) (by
        cases r with
        | inl v =>
          intro H' locs' pc la' sa' hR' hl' hRA
          refine ret_row hC B.returns B.notSynchronized hRA (fun T fs o hT ho h1 h2 h3 h4 => ⟨_, h1, h2, ⟨⟨o, rfl, ho⟩, ?_⟩, h3, locs', h4, hl'⟩)
          show Rp G M1 T.heap
          rw [hT]
          exact hR'
        | inr i =>
          intro T locs' g hR' hl' hi hy X hg hlk hen
          have hxt : c.exceptionTable.toList = [] := by
            unfold XT at q9
            rw [if_neg hy] at q9
            exact q9
          obtain ⟨hst, h1, h2, h3, h4⟩ := X.leaveThrown (gA G 11 i) hg hlk hen (by rw [hxt]; exact fun x hx => by cases hx) B.notSynchronized
          exact ⟨_, hst, _, h1, h2, ⟨⟨rfl, hi⟩, hR'⟩, h3, locs', h4, hl'⟩)
    rw [hp0] at K
    obtain ⟨t, a1, o, b1, b2, b3, b4, b5⟩ := K s₁ hh0 X₀
    refine ⟨t, o, ?_, b1, b2, b3, b4, b5⟩
    rw [lg_entry_eq]
    exact a1
/-- the invoking instruction's own step -/
theorem inv_step {z kd idx : Nat} {sl sr : List Value} {T : State} (C : CX G y p s m args c) (hmf : MFF z) (hCL : CLF (cno y) (idx, z, kd)) (X : Stand p l e R s m args below meth c T locs cells slots) (hlen : sl.length = agc z)
    (hkd : (mst z = true ∧ (kd = 1 ∨ kd = 3) ∧ decode (bts y) pc = .ok (.invokestatic idx, 3)) ∨ (mst z = false ∧ (kd = 0 ∨ kd = 2) ∧ decode (bts y) pc = .ok (.invokevirtual idx, 3) ∧ ∃ (b : Addr) (As : List Value) (cellB : Cell), sl = As.reverse ++ [.ref b] ∧ T.heap[b]? = some cellB ∧ cellB.vm.isStatics = false ∧ s.vm.findClass (mN z).cls = some cellB.cls)) :
    ∃ (vm₁ : Vm) (mk : MethodId), Stand p l e R s m args below meth c (T.setVm vm₁) locs cells slots ∧ s.methodNamed? (mN z) = some mk ∧
      ∀ target, Steps p.tables e below (doInvoke e ((T.setVm vm₁).setTop (F0 m pc la sr)) [] mk sl.reverse.toArray).1 target → Steps p.tables e below (T.setTop (F0 m pc la (sl ++ sr))) target := by
  obtain ⟨hx, hb, hml, hown, hts, hK, hG⟩ := C
  obtain ⟨mk, mz, cz, q1, q2, q3, q4, q5, q6, q7, q8, q9⟩ := z_facts (hts _ (wz_in hmf))
  have hpar : mz.sig.parameters.length = agc z - (bif mst z then 0 else 1) := by
    have := hmf.2.2.2.2.1
    rw [q8] at this
    exact Option.some.inj this
  obtain ⟨kP, hkP, -⟩ := className_of_methodNamed q1
  rcases hkd with ⟨hst, hkd, hdg⟩ | ⟨hst, hkd, hdg, b, As, cellB, hsl, hcB, hoB, hclB⟩
  · rw [hst] at hpar
    have hinit := hts _ hmf.2.2.1
    have hinitP : kP.init = .initialized := Cond.initialized_spec (findClass_of_methodNamed q1) hkP hinit
    have hstk : (F0 m pc la (sl ++ sr)).stack = sl.reverse.reverse ++ sr := by rw [List.reverse_reverse]
    rcases hkd with rfl | rfl
    · have hstatic : mz.isStatic = true := Cond.static_spec q1 q2 (hts _ hCL.2)
      obtain ⟨vm₁, X₁, hstep⟩ := X.invokestatic hx hown (hts _ hCL.1) q1 q2 hstatic hkP hinitP hmf.2.1 (g := F0 m pc la (sl ++ sr)) rfl (argsL := sl.reverse) (rest := sr) (by rw [List.length_reverse, hlen, hpar]; rfl) hstk (by rw [hb]; exact hdg)
      exact ⟨vm₁, mk, X₁, q1, fun target h => hstep _ fun acts => by rw [doInvoke_state]; exact h⟩
    · obtain ⟨⟨host, hl⟩, hs⟩ := hCL
      have hstatic : mz.isStatic = true := Cond.static_spec q1 q2 (hts _ hs)
      obtain ⟨vm₁, X₁, hstep⟩ := X.invokestaticNest hx hown (va_Nw.use rfl (hK.2.2.1 _ hl rfl)) q1 q2 hstatic hkP hinitP hmf.2.1 (g := F0 m pc la (sl ++ sr)) rfl (argsL := sl.reverse) (rest := sr) (by rw [List.length_reverse, hlen, hpar]; rfl) hstk (by rw [hb]; exact hdg)
      exact ⟨vm₁, mk, X₁, q1, fun target h => hstep _ fun acts => by rw [doInvoke_state]; exact h⟩
  · rw [hst] at hpar
    subst hsl
    have hlA : As.length = mz.sig.parameters.length := by
      rw [List.length_append, List.length_reverse] at hlen
      rw [hpar]
      show As.length = agc z - 1
      have : ([.ref b] : List Value).length = 1 := rfl
      omega
    have hrev : (As.reverse ++ [Value.ref b]).reverse = Value.ref b :: As := by simp
    rw [hrev]
    have hstk : (F0 m pc la ((As.reverse ++ [.ref b]) ++ sr)).stack = As.reverse ++ .ref b :: sr := by simp
    have sel : ∀ (hin : (Cond.instanceMethod (mN z)).before args s = true) (hse : (Cond.selects (mN z).cls (mN z) (mN z)).before args s = true), mz.isStatic = false ∧ mz.isAbstract = false ∧ kP.isInterface = false ∧ selectMethod e.platform s.vm cellB.cls mk = .method mk := by
      intro hin hse
      obtain ⟨mk2, mz2, r1, r2, r3, r4⟩ := Cond.instanceMethod_spec hin
      cases q1.symm.trans r1
      cases q2.symm.trans r2
      obtain ⟨c2, r0, m2, t1, t2, t3, t4, kQ, hkQ, hkQi⟩ := Cond.selects_spec hse
      cases hclB.symm.trans t1
      cases (State.methodFound?_of_named q1 hmf.2.1).symm.trans t2
      cases q1.symm.trans t3
      cases hkP.symm.trans hkQ
      exact ⟨r3, r4, hkQi, by rw [Launch.admits_selectMethod X.admits]; exact t4⟩
    rcases hkd with rfl | rfl
    · obtain ⟨e1, e2, e3, e4⟩ := sel (hts _ hCL.2.1) (hts _ hCL.2.2)
      obtain ⟨vm₁, X₁, hstep⟩ := X.invokevirtual hx hown (hts _ hCL.1) q1 q2 e1 hkP e3 hmf.2.1 (a := b) (cell := cellB) hcB (fun z h => by rw [h] at hoB; cases hoB) e4 q2 e2 hkP e3 (g := F0 m pc la ((As.reverse ++ [.ref b]) ++ sr)) rfl (argsL := As) (rest := sr) hlA hstk (by rw [hb]; exact hdg)
      exact ⟨vm₁, mk, X₁, q1, fun target h => hstep _ fun acts => by rw [doInvoke_state]; exact h⟩
    · obtain ⟨⟨host, hl⟩, hi, hs⟩ := hCL
      obtain ⟨e1, e2, e3, e4⟩ := sel (hts _ hi) (hts _ hs)
      obtain ⟨vm₁, X₁, hstep⟩ := X.invokevirtualNest hx hown (va_Nw.use rfl (hK.2.2.1 _ hl rfl)) q1 q2 e1 hkP e3 hmf.2.1 (a := b) (cell := cellB) hcB (fun z h => by rw [h] at hoB; cases hoB) e4 q2 e2 hkP e3 (g := F0 m pc la ((As.reverse ++ [.ref b]) ++ sr)) rfl (argsL := As) (rest := sr) hlA hstk (by rw [hb]; exact hdg)
      exact ⟨vm₁, mk, X₁, q1, fun target h => hstep _ fun acts => by rw [doInvoke_state]; exact h⟩
end Calls9
