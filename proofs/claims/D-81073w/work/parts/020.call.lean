/-! CALLS THAT RETURN OR THROW: what the kit's call rows say of a return, said of both ends -/
section CallBoth
variable {p : Program} {l : Launch} {e : Env} {R : Room} {s : State} {m : MethodId} {args : Array Value} {below : List Frame} {meth : Method} {c : Code} {T : State} {locs : List Loc} {cells slots : Nat}
/-- a method's promise: it ends, by a return or a throw, with Qc; it makes nothing; what it writes is 'free' -/
def MetT (l : Launch) (y : MethodName) (S : Spec) (Pc : Array Value → State → Prop) (Qc : Array Value → State → Outcome → State → Prop) (free : Addr → Prop) : Prop :=
  MetFree l y S Pc (fun _ _ _ _ _ => True) (fun a st o t => Qc a st o t ∧ st.WarmedH t.vm ∧ ∃ L, st.sameButNew ({ t with vm := st.vm } : State) L 0 0 ∧ ∀ q ∈ L, free q.base)
theorem callee_back {y : MethodName} {S : Spec} {Pc : Array Value → State → Prop} {Qc : Array Value → State → Outcome → State → Prop} {free : Addr → Prop} (hM : MetT l y S Pc Qc free) {maxL : Nat}
    (hfr : S.room.frames + 1 ≤ R.frames) (hlo : 8 + (maxL + 11) + S.room.locals ≤ R.locals) (X : Stand p l e R s m args below meth c T locs cells slots) {g : JFrame} (hg : g.method = m) (hsize : g.locals.size = c.maxLocals)
    {ig : Instr} {len : Nat} (hdg : decode c.code g.pc = .ok (ig, len)) (hW : 2 * g.monitorRoom + (g.stack.map fun v => v.category).sum ≤ 8) {mk : MethodId} (hn : T.methodNamed? y = some mk) {a : Array Value} (h1 : S.pre.before a T = true)
    (hY : ∃ (methY : Method) (cY : Code), T.vm.method? mk = some methY ∧ methY.code = some cY ∧ cY.maxLocals = maxL) (h3 : (Cond.initialized y.cls).before a T = true) (h4 : cells + S.room.cells ≤ R.cells) (h5 : slots + S.room.slots ≤ R.slots) (hP : Pc a (T.calling g mk a)) :
    ∃ (o : Outcome) (t B : State) (L : List Loc), Qc a (T.calling g mk a) o t ∧ B.heap = t.heap ∧ B.vm = t.vm ∧ (∀ q ∈ L, free q.base) ∧ Stand p l e R s m args below meth c B (locs ++ L) cells slots ∧
      (∀ v, o = .returned v → Steps p.tables e below (doInvoke e (T.setTop g) [] mk a).1 (B.setTop { g with pc := g.pc + len, stack := v.toList ++ g.stack })) ∧
      (∀ x, o = .threw x → Steps p.tables e below (doInvoke e (T.setTop g) [] mk a).1 ((B.setTop g).pushFrame (.throwing x))) := by
  obtain ⟨methY, cY, hmY, hcY, hlY⟩ := hY
  obtain ⟨kY, hkY, -⟩ := className_of_methodNamed hn
  have hinitY : kY.init = .initialized := Cond.initialized_spec (findClass_of_methodNamed hn) hkY h3
  have h : At T g.method c below := by rw [hg]; exact X.here
  have happ : S.appliesLoose y e.platform (T.calling g mk a) = true :=
    Spec.appliesLoose_calling (g := g) h hdg hn hkY hinitY (X.room_calling (g := g) (R' := S.room) hsize hmY hcY hfr (by rw [hlY]; omega) h4 h5) h1
  obtain ⟨mid, hmid⟩ := h.above
  have hfs : (T.setTop g).frames = (.java g :: mid) ++ below := by rw [State.frames_setTop' g h.top, hmid]; rfl
  obtain ⟨o, s₂, hsteps, -, hend, hq, hW₂, L, ⟨e2, q2, q3, q4, q5, q6⟩, hL⟩ := Steps.callFree hM p X.admits X.cas X.clock (acts := []) hfs happ hP trivial
  have hW' : T.WarmedH s₂.vm := hW₂
  obtain ⟨g₀, hg0⟩ := Option.isSome_iff_exists.mp h.top
  obtain ⟨r, hr⟩ := State.topJava?_eq_some.mp hg0
  obtain ⟨tt, ht, -⟩ := State.frames_cons hr
  have hsame : T.sameButNew ({ T with heap := s₂.heap, slotsUsed := s₂.slotsUsed } : State) L 0 0 := by
    refine ⟨?_, q2, q3, q4, q5, q6⟩
    show ({ T with heap := s₂.heap, slotsUsed := s₂.slotsUsed } : State) = { T.setFrames T.frames with heap := s₂.heap, slotsUsed := s₂.slotsUsed }
    rw [State.setFrames_self ht]
  have e2 : ({ s₂ with vm := (T.calling g mk a).vm } : State) = ({ (T.calling g mk a).setFrames s₂.frames with heap := s₂.heap, slotsUsed := s₂.slotsUsed } : State) := e2
  have e3 : s₂ = ({ (T.calling g mk a).setFrames s₂.frames with heap := s₂.heap, slotsUsed := s₂.slotsUsed } : State).setVm s₂.vm := by
    have : s₂ = ({ s₂ with vm := (T.calling g mk a).vm } : State).setVm s₂.vm := rfl
    rw [e2] at this
    exact this
  have hr' : (({ T with heap := s₂.heap, slotsUsed := s₂.slotsUsed } : State).setVm s₂.vm).frames = .java g₀ :: r := hr
  rw [State.frames_setTop' g h.top, hr] at hend
  subst hg
  refine ⟨o, s₂, (({ T with heap := s₂.heap, slotsUsed := s₂.slotsUsed } : State).setVm s₂.vm), L, hq, rfl, rfl, hL,
    ⟨X.admits, X.cas, X.clock, X.frames, X.room, X.hears, X.method, X.code, (X.here.setHeapUsed s₂.heap s₂.slotsUsed).setVm hW'.alike, X.tail, State.WarmedH.trans X.warmed hW', X.limits, X.bytes, X.same.trans (hsame.setVm s.vm)⟩, ?_, ?_⟩
  · rintro v rfl
    obtain ⟨c₂, i₂, len₂, hc₂, hd₂, hf₂⟩ := hend
    have hcc : c₂ = c := by
      have h1 : s₂.code? g.method = T.code? g.method := by
        rw [State.code?_eq, State.code?_eq, hW'.alike.method?]
      exact Option.some.inj (hc₂.symm.trans (h1.trans h.code))
    subst hcc
    have hlen : len₂ = len := by rw [hdg] at hd₂; cases hd₂; rfl
    subst hlen
    have hs₂ : s₂ = (({ T with heap := s₂.heap, slotsUsed := s₂.slotsUsed } : State).setVm s₂.vm).setTop { g with pc := g.pc + len₂, stack := v.toList ++ g.stack } := by
      refine e3.trans ?_
      rw [hf₂, State.calling_eq h.top, State.setFrames_setFrames, State.setTop_of_frames _ hr']
      rfl
    rw [← hs₂]
    exact hsteps
  · rintro x rfl
    have hf₂ : s₂.frames = .throwing x :: .java g :: r := hend
    have hs₂ : s₂ = ((({ T with heap := s₂.heap, slotsUsed := s₂.slotsUsed } : State).setVm s₂.vm).setTop g).pushFrame (.throwing x) := by
      refine e3.trans ?_
      rw [hf₂, State.calling_eq h.top, State.setFrames_setFrames, State.pushFrame, State.frames_setTop _ hr', State.setTop_of_frames _ hr', State.setFrames_setFrames]
      rfl
    rw [← hs₂]
    exact hsteps
/-- 'athrow' lays the note -/
theorem throw_step (X : Stand p l e R s m args below meth c T locs cells slots) (hexec : p.tables.exec = Jvm.exec) {g : JFrame} (hg : g.method = m) {x : Addr} {cell : Cell} {rest : List Value} (hcell : T.heap[x]? = some cell) (hobj : cell.vm.isStatics = false) (hstack : g.stack = .ref x :: rest)
    (hdg : decode c.code g.pc = .ok (.athrow, 1)) : ∀ target, Steps p.tables e below ((T.setTop { g with stack := rest }).pushFrame (.throwing x)) target → Steps p.tables e below (T.setTop g) target := by
  intro target h
  subst hg
  jvm_step X.here [hexec, hdg, athrow.wp_sem, hstack]
  exact h
/-- a thrown object comes to the one handler of the method's own table, whose class entry may be resolved only now -/
theorem catch_step (X : Stand p l e R s m args below meth c T locs cells slots) (x : Addr) {g : JFrame} (hg : g.method = m) {own name : String} (hown : s.vm.findClass own = some m.cls) {et : ExceptionTableEntry} (htab : c.exceptionTable.toList = [et]) (hcov : covers et g.pc = true) (h0 : et.catchType ≠ 0)
    (hlink : (Cond.classLink own et.catchType name).before args s = true) {cT : ClassId} {cell : Cell} (hcT : s.vm.findClass name = some cT) (hcell : T.heap[x]? = some cell) (hobj : cell.vm.isStatics = false) (hfit : s.vm.assignable cell.cls cT = true) :
    ∃ vm', Stand p l e R s m args below meth c (T.setVm vm') locs cells slots ∧
      ∀ target, Steps p.tables e below ((T.setVm vm').setTop { g with pc := et.handlerPc, stack := [.ref x] }) target → Steps p.tables e below ((T.setTop g).pushFrame (.throwing x)) target := by
  subst hg
  obtain ⟨c', hc', hcl⟩ := Cond.classLink_spec hown hlink e.platform (by rw [X.admits.platform])
  cases hcT.symm.trans hc'
  obtain ⟨dk, _, _, kt, hd, _, _, _, _, hkt, _, hopen⟩ := hcl.here
  have hal := X.warmed.alike
  obtain ⟨kt', hkt', -⟩ := hal.2.2 _ _ hkt
  have hfit' : T.vm.assignable cell.cls cT = true := by rw [hal.assignable]; exact hfit
  obtain ⟨ka, hka⟩ := Vm.classAt_of_assignable hfit' ⟨kt', hkt'⟩
  have hN : T.vm.Alike (T.vm.noted g.method.cls et.catchType (.cls cT)) := (Vm.Alike.refl T.vm).noted _ _ _
  obtain ⟨ka', hka', -⟩ := hN.2.2 _ _ hka
  obtain ⟨kt2, hkt2, -⟩ := hN.2.2 _ _ hkt'
  have hfit2 : (T.vm.noted g.method.cls et.catchType (.cls cT)).assignable cell.cls cT = true := by rw [hN.assignable]; exact hfit'
  obtain ⟨ho, hT0⟩ := (resolveClass_links e.toSetting (X.warmed.classLinks hcl)).op (op := VmOp.resolveClass g.method.cls et.catchType) rfl
  refine ⟨T.vm.noted g.method.cls et.catchType (.cls cT), X.noted (X.warmed.noted hd hopen (State.rightAt_cls hcl)), fun target hrest => ?_⟩
  obtain ⟨hgo, hw⟩ := X.here.throwing (g := g) x
  refine Steps.head hgo hw ?_
  obtain ⟨g₀, hg0⟩ := Option.isSome_iff_exists.mp X.here.top
  obtain ⟨r, hr⟩ := State.topJava?_eq_some.mp hg0
  have hr' : (T.setVm (T.vm.noted g.method.cls et.catchType (.cls cT))).frames = .java g₀ :: r := hr
  have hpf : (T.setTop g).pushFrame (.throwing x) = T.setFrames (.throwing x :: .java g :: r) := by
    rw [State.pushFrame, State.frames_setTop _ hr, State.setTop_of_frames _ hr, State.setFrames_setFrames]
  have hfind : ∀ (Q : Handler → Pre) (E : CtlPost) (d : Bool) (acts : List Action), wp (findHandler g x) Q E e d acts ((T.setTop g).pushFrame (.throwing x)) ↔ Q (.found et.handlerPc) d acts (((T.setTop g).pushFrame (.throwing x)).setVm (T.vm.noted g.method.cls et.catchType (.cls cT))) := by
    intro Q E d acts
    rw [hpf, W.findHandler_eq (s := T.setFrames (.throwing x :: .java g :: r)) (meth := meth) (code := c) X.method' X.code, htab]
    simp only [covers] at hcov
    have ho' := ho
    simp [findHandler.go, hcov, h0, ho, hT0, hcell, VmData.ne_statics_of hobj, hka', hkt2, hfit2, VmOp.dirties, VmOp.acts]
  have hstep : (stepThrowing e ((T.setTop g).pushFrame (.throwing x)) x (.java g :: r)).Is ((((T.setTop g).pushFrame (.throwing x)).setVm (T.vm.noted g.method.cls et.catchType (.cls cT))).setFrames (.java { g with pc := et.handlerPc, stack := [.ref x] } :: r)) [] := by
    simp only [stepThrowing, searchFrame, vmDo]
    generalize hr9 : Sem.go _ e false [] ((T.setTop g).pushFrame (.throwing x)) = res
    obtain ⟨as, rfl, ha⟩ := Sem.eq_ok_of hr9 (a := Handler.found et.handlerPc) (s' := ((T.setTop g).pushFrame (.throwing x)).setVm (T.vm.noted g.method.cls et.catchType (.cls cT))) (acts' := []) (by simp [hfind _ _ _ _])
    exact ⟨rfl, ha⟩
  rw [stepThread_throwing (frames_entered X.here.top _), hr, List.tail_cons, hstep.1, hpf]
  rw [State.setTop_of_frames _ hr'] at hrest
  have hq : ((T.setFrames (.throwing x :: .java g :: r)).setVm (T.vm.noted g.method.cls et.catchType (.cls cT))) = (T.setVm (T.vm.noted g.method.cls et.catchType (.cls cT))).setFrames (.throwing x :: .java g :: r) := rfl
  rw [hq, State.setFrames_setFrames]
  exact hrest
end CallBoth
