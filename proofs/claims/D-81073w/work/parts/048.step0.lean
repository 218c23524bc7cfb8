/-! ONE INSTRUCTION: the abstract step is the real one (those that go on) -/
section Step
variable {p : Program} {l : Launch} {e : Env} {R : Room} {s : State} {m : MethodId} {args : Array Value} {below : List Frame} {meth : Method} {c : Code} {H : Heap} {locs : List Loc} {cells slots : Nat} {Q : State → Prop} {G : Gh} {y pc : Nat} {la : Array Slot} {sa : List Value}
/-- the method's walk stands on this -/
def CX (G : Gh) (y : Nat) (p : Program) (s : State) (m : MethodId) (args : Array Value) (c : Code) : Prop := p.tables.exec = Jvm.exec ∧ c.code = bts y ∧ c.maxLocals = mxl y ∧ s.vm.findClass (clN (cno y)) = some m.cls ∧ (∀ w ∈ lw_all, w.before args s = true) ∧ KS G s ∧ GA G
def LocOK (G : Gh) (locs : List Loc) : Prop := ∀ q ∈ locs, gB G ≤ q.base
theorem LocOK.add {i : Nat} {a : Addr} (h : LocOK G locs) (ha : gB G ≤ a) : LocOK G (locs ++ [⟨a, i⟩]) := fun q hq => by
  rcases List.mem_append.mp hq with h1 | h1
  · exact h q h1
  · rcases List.mem_singleton.mp h1 with rfl
    exact ha
def Nx (a : Act) (x : List AV × List AV × Mem) : Prop := match a with
  | .inl q => x = q
  | .inr (.inl (p, q)) => p.1 ∧ x = q
  | _ => False
theorem Nx_c {ls st ls' st' : List AV} {M M' : Mem} (h : Nx (.inl (ls, st, M)) (ls', st', M')) : ls' = ls ∧ st' = st ∧ M' = M := by
  have h : (ls', st', M') = (ls, st, M) := h
  simpa using h
theorem Nx_g {P : PD} {ls st ls' st' : List AV} {M M' : Mem} (h : Nx (.inr (.inl (P, ls, st, M))) (ls', st', M')) : P.1 ∧ ls' = ls ∧ st' = st ∧ M' = M := by
  have h : P.1 ∧ (ls', st', M') = (ls, st, M) := h
  simpa using h
theorem pII_inv {st : List AV} {k : Int → Int → List AV → Option Act} {a : Act} (h : pII st k = some a) : ∃ x y st', st = vI y :: vI x :: st' ∧ k x y st' = some a := by
  unfold pII at h
  split at h
  · exact ⟨_, _, _, rfl, h⟩
  · cases h
theorem pLL_inv {st : List AV} {k : Int → Int → List AV → Option Act} {a : Act} (h : pLL st k = some a) : ∃ x y st', st = vL y :: vL x :: st' ∧ k x y st' = some a := by
  unfold pLL at h
  split at h
  · exact ⟨_, _, _, rfl, h⟩
  · cases h
theorem pLI_inv {st : List AV} {k : Int → Int → List AV → Option Act} {a : Act} (h : pLI st k = some a) : ∃ x y st', st = vI y :: vL x :: st' ∧ k x y st' = some a := by
  unfold pLI at h
  split at h
  · exact ⟨_, _, _, rfl, h⟩
  · cases h
theorem pI_inv {st : List AV} {k : Int → List AV → Option Act} {a : Act} (h : pI st k = some a) : ∃ x st', st = vI x :: st' ∧ k x st' = some a := by
  unfold pI at h
  split at h
  · exact ⟨_, _, rfl, h⟩
  · cases h
theorem pL_inv {st : List AV} {k : Int → List AV → Option Act} {a : Act} (h : pL st k = some a) : ∃ x st', st = vL x :: st' ∧ k x st' = some a := by
  unfold pL at h
  split at h
  · exact ⟨_, _, rfl, h⟩
  · cases h
theorem pR_inv {st : List AV} {k : Nat → Int → List AV → Option Act} {a : Act} (h : pR st k = some a) : ∃ f i st', st = vR f i :: st' ∧ k f i st' = some a := by
  unfold pR at h
  split at h
  · exact ⟨_, _, _, rfl, h⟩
  · cases h
theorem pIR_inv {st : List AV} {k : Nat → Int → Int → List AV → Option Act} {a : Act} (h : pIR st k = some a) : ∃ f i z st', st = vI z :: vR f i :: st' ∧ k f i z st' = some a := by
  unfold pIR at h
  split at h
  · exact ⟨_, _, _, _, rfl, h⟩
  · cases h
theorem pIIR_inv {st : List AV} {k : Nat → Int → Int → Int → List AV → Option Act} {a : Act} (h : pIIR st k = some a) : ∃ f i z v st', st = vI v :: vI z :: vR f i :: st' ∧ k f i z v st' = some a := by
  unfold pIIR at h
  split at h
  · exact ⟨_, _, _, _, _, rfl, h⟩
  · cases h
theorem pLIR_inv {st : List AV} {k : Nat → Int → Int → Int → List AV → Option Act} {a : Act} (h : pLIR st k = some a) : ∃ f i z v st', st = vL v :: vI z :: vR f i :: st' ∧ k f i z v st' = some a := by
  unfold pLIR at h
  split at h
  · exact ⟨_, _, _, _, _, rfl, h⟩
  · cases h
/-- all the locals as the kit lists them -/
def lvA (la : Array Slot) : List (Nat × Value) := (List.range la.size).filterMap fun (k : Nat) => match (la[k]? : Option Slot) with
  | some (.val a) => some (k, a)
  | _ => none
theorem lvA_mem {la : Array Slot} {k : Nat} {a : Value} : (k, a) ∈ lvA la ↔ la[k]? = some (.val a) := by
  unfold lvA
  rw [List.mem_filterMap]
  constructor
  · rintro ⟨j, -, h⟩
    cases hj : la[j]? with
    | none => rw [hj] at h; cases h
    | some x =>
      rw [hj] at h
      cases x with
      | val b => cases h; exact hj
      | _ => cases h
  · intro h
    refine ⟨k, List.mem_range.mpr (Array.getElem?_eq_some_iff.mp h).1, ?_⟩
    rw [h]
theorem LR.has {nL : Nat} {ls : List AV} (h : LR G nL ls la) : lv_has la nL (lvA la) := ⟨h.2.1, h.2.2.1, fun q hq => lvA_mem.mp hq⟩
theorem LR.get {nL k : Nat} {ls : List AV} {v : AV} (h : LR G nL ls la) (hv : ls.getD k vJ = v) (hj : ∀ i, ¬ v = vR 0 i) : ∃ a, la[k]? = some (.val a) ∧ VR G v a := by
  cases hk : ls[k]? with
  | none =>
    rw [List.getD_eq_getElem?_getD, hk] at hv
    exact absurd hv.symm (hj 0)
  | some w =>
    rw [List.getD_eq_getElem?_getD, hk] at hv
    have hv : w = v := hv
    subst hv
    rcases h.2.2.2 k w hk with ⟨i, hi⟩ | h1
    · exact absurd hi (hj i)
    · exact h1
/-- a one-slot local is set -/
theorem LR.set1 {nL k : Nat} {ls : List AV} {v : AV} {a : Value} {la' : Array Slot} (h : LR G nL ls la) (hk : lok ls k = true) (hv : VR G v a) (hc : ∀ z, ¬ v = vL z) (h' : lv_has la' nL ((k, a) :: (lvA la).filter (fun q => !(q.1 == k) && !(q.1 + 1 == k && q.2.category == 2)))) : LR G nL (lset ls k v) la' := by
  have hs : lset ls k v = ls.set k v := by
    rcases v with z | z | z
    · rfl
    · exact absurd rfl (hc z)
    · rfl
  rw [hs]
  refine ⟨by simp [h.1], h'.1, h'.2.1, fun j w hj => ?_⟩
  by_cases e : j = k
  · subst e
    rw [List.getElem?_set_self'] at hj
    cases hls : ls[j]? with
    | none => rw [hls] at hj; cases hj
    | some u =>
      rw [hls] at hj
      cases hj
      exact Or.inr ⟨a, h'.2.2 (j, a) List.mem_cons_self, hv⟩
  · rw [List.getElem?_set_ne (fun q => e q.symm)] at hj
    rcases h.2.2.2 j w hj with h1 | ⟨b, h1, h2⟩
    · exact Or.inl h1
    · refine Or.inr ⟨b, h'.2.2 (j, b) (List.mem_cons_of_mem _ (List.mem_filter.mpr ⟨lvA_mem.mpr h1, ?_⟩)), h2⟩
      have e1 : (j == k) = false := by simpa using e
      simp only [e1, Bool.not_false, Bool.true_and, Bool.not_eq_true', Bool.and_eq_false_iff]
      by_cases e2 : j + 1 = k
      · right
        subst e2
        have hk : (match ls.getD j vJ with | .inr (.inl _) => false | _ => true) = true := hk
        rw [List.getD_eq_getElem?_getD, hj] at hk
        have hcat := h2.cat
        rcases w with z | z | z
        · simp [hcat]
        · cases hk
        · simp [hcat]
      · left
        simpa using e2
/-- a long local is set -/
theorem LR.set2 {nL k : Nat} {ls : List AV} {z : Int} {a : Value} {la' : Array Slot} (h : LR G nL ls la) (hk : lok ls k = true) (hv : VR G (vL z) a) (h' : lv_has la' nL ((k, a) :: (lvA la).filter (fun q => !(q.1 == k) && (!(q.1 == k + 1) && !(q.1 + 1 == k && q.2.category == 2))))) : LR G nL (lset ls k (vL z)) la' := by
  have hs : lset ls k (vL z) = (ls.set k (vL z)).set (k + 1) vJ := rfl
  rw [hs]
  refine ⟨by simp [h.1], h'.1, h'.2.1, fun j w hj => ?_⟩
  by_cases e0 : j = k + 1
  · subst e0
    rw [List.getElem?_set_self'] at hj
    cases hls : (ls.set k (vL z))[k + 1]? with
    | none => rw [hls] at hj; cases hj
    | some u => rw [hls] at hj; cases hj; exact Or.inl ⟨0, rfl⟩
  rw [List.getElem?_set_ne (fun q => e0 q.symm)] at hj
  by_cases e : j = k
  · subst e
    rw [List.getElem?_set_self'] at hj
    cases hls : ls[j]? with
    | none => rw [hls] at hj; cases hj
    | some u =>
      rw [hls] at hj
      cases hj
      exact Or.inr ⟨a, h'.2.2 (j, a) List.mem_cons_self, hv⟩
  · rw [List.getElem?_set_ne (fun q => e q.symm)] at hj
    rcases h.2.2.2 j w hj with h1 | ⟨b, h1, h2⟩
    · exact Or.inl h1
    · refine Or.inr ⟨b, h'.2.2 (j, b) (List.mem_cons_of_mem _ (List.mem_filter.mpr ⟨lvA_mem.mpr h1, ?_⟩)), h2⟩
      have e1 : (j == k) = false := by simpa using e
      have e3 : (j == k + 1) = false := by simpa using e0
      simp only [e1, e3, Bool.not_false, Bool.true_and, Bool.not_eq_true', Bool.and_eq_false_iff]
      by_cases e2 : j + 1 = k
      · right
        subst e2
        have hk : (match ls.getD j vJ with | .inr (.inl _) => false | _ => true) = true := hk
        rw [List.getD_eq_getElem?_getD, hj] at hk
        have hcat := h2.cat
        rcases w with z | z | z
        · simp [hcat]
        · cases hk
        · simp [hcat]
      · left
        simpa using e2
theorem n8 {z : Int} (h1 : -128 ≤ z) (h2 : z < 128) : (Int8.ofInt z).toInt32.toInt = z := by
  rw [Int8.toInt_toInt32, Int8.toInt_ofInt]
  exact Int.bmod_eq_of_le (by show -((256 : Nat) : Int) / 2 ≤ z; omega) (by show z < (((256 : Nat) : Int) + 1) / 2; omega)
theorem n16 {z : Int} (h1 : -32768 ≤ z) (h2 : z < 32768) : (Int16.ofInt z).toInt32.toInt = z := by
  rw [Int16.toInt_toInt32, Int16.toInt_ofInt]
  exact Int.bmod_eq_of_le (by show -((65536 : Nat) : Int) / 2 ≤ z; omega) (by show z < (((65536 : Nat) : Int) + 1) / 2; omega)
end Step
