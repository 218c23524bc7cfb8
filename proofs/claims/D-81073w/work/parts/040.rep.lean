/-! THE REAL MACHINE BEHIND THE ABSTRACT ONE: values, locals, the heap, what the tables say -/
def fd (g k : Nat) : Nat × Nat × Int × Int := (fdT.getD g []).getD k (99, 0, 0, 0)
def cnt (f : Nat) : Int := bif Nat.blt f 1000 then cntT.getD f 0 else bif Nat.beq f 22099 then 9 else bif Nat.beq (aek f) 99 then 0 else cntT.getD (f / 1000) 0
/-- there is an i-th object of family f -/
def lyo (f : Nat) (i : Int) : Prop := 0 ≤ i ∧ i < cnt f
/-- addresses; classes; slots of fields; classes of arrays; the first own address; the first heap; the heap's size; the script -/
abbrev Gh : Type := (Nat → Int → Nat) × (Nat → ClassId) × (Nat → Nat → Nat) × (Nat → ClassId) × Nat × Heap × Nat × Nat × (Nat → Int32)
abbrev gA (G : Gh) : Nat → Int → Nat := G.1
abbrev gC (G : Gh) : Nat → ClassId := G.2.1
abbrev gI (G : Gh) : Nat → Nat → Nat := G.2.2.1
abbrev gX (G : Gh) : Nat → ClassId := G.2.2.2.1
abbrev gB (G : Gh) : Nat := G.2.2.2.2.1
abbrev gH (G : Gh) : Heap := G.2.2.2.2.2.1
abbrev gS (G : Gh) : Nat := G.2.2.2.2.2.2.1
abbrev gL (G : Gh) : Nat := G.2.2.2.2.2.2.2.1
abbrev gx (G : Gh) : Nat → Int32 := G.2.2.2.2.2.2.2.2
abbrev gO (G : Gh) : Nat → Prop := fun q => gB G ≤ q
def VR (G : Gh) (v : AV) (a : Value) : Prop := match v with
  | .inl z => ∃ x : Int32, a = .int x ∧ x.toInt = z
  | .inr (.inl z) => ∃ x : Int64, a = .long x ∧ x.toInt = z
  | .inr (.inr (f, i)) => ¬ f = 0 ∧ ((f = 33 ∧ (a = .null ∨ ∃ q, a = .ref q)) ∨ (¬ f = 33 ∧ a = .ref (gA G f i) ∧ lyo f i))
def SR (G : Gh) : List AV → List Value → Prop
  | [], [] => True
  | v :: st, a :: sa => VR G v a ∧ SR G st sa
  | _, _ => False
def LR (G : Gh) (nL : Nat) (ls : List AV) (la : Array Slot) : Prop := ls.length = nL ∧ la.size = nL ∧ lv_wf la ∧ ∀ (k : Nat) (v : AV), ls[k]? = some v → (∃ i, v = vR 0 i) ∨ ∃ a, la[k]? = some (.val a) ∧ VR G v a
/-- what field k of the i-th object of family g holds -/
def fv (G : Gh) (g : Nat) (i : Int) (M : Mem) (k : Nat) (V : Value) : Prop := match fd g k with
  | (0, _, _, _) => ∃ x : Int32, V = .int x ∧ x.toInt = M g i k
  | (1, _, _, _) => ∃ x : Int32, V = .int x ∧ x.toInt = M g i k ∧ (M g i k = 0 ∨ M g i k = 1)
  | (2, _, _, _) => ∃ x : Int64, V = .long x ∧ x.toInt = M g i k
  | (20, p, a, _) => V = .ref (gA G p (a + i))
  | (21, p, _, _) => (M g i k < 0 ∧ V = .null) ∨ (lyo p (M g i k) ∧ V = .ref (gA G p (M g i k)))
  | (90, _, _, _) => True
  | (99, _, _, _) => True
  | _ => V = .ref (gA G (1000 * g + k) i)
/-- what element j of an array holds -/
def ev (G : Gh) (f : Nat) (i : Int) (M : Mem) (j : Nat) (V : Value) : Prop := match aif f with
  | (10, _, _, _) => ∃ x : Int32, V = .int x ∧ x.toInt = M f i j
  | (11, _, _, _) => ∃ x : Int32, V = .int x ∧ x.toInt = M f i j ∧ (M f i j = 0 ∨ M f i j = 1)
  | (12, _, _, _) => ∃ x : Int64, V = .long x ∧ x.toInt = M f i j
  | (13, _, _, _) => ∃ x : Int32, V = .int x ∧ x.toInt = M f i j ∧ -128 ≤ M f i j ∧ M f i j < 128
  | (22, p, a, _) => V = .ref (gA G p (a + j))
  | (23, p, a, _) => V = .ref (gA G p (a + j))
  | _ => True
def aN (f : Nat) (i : Int) : Nat := bif Nat.beq f 13000 then (bLen i).toNat else ((aif f).2.2.2).toNat
def RpO (G : Gh) (g : Nat) (i : Int) (M : Mem) (H : Heap) : Prop := ∃ V : Nat → Value, t_OB (gA G g i) (gC G g) (cF g) (gI G g) H V ∧ ∀ k, k < cF g → fv G g i M k (V k)
def RpA (G : Gh) (f : Nat) (i : Int) (M : Mem) (H : Heap) : Prop := ∃ F : Nat → Value, H[gA G f i]? = some (arrV (gX G f) (aN f i) F) ∧ ∀ j, j < aN f i → ev G f i M j (F j)
/-- the heap holds the memory -/
def Rp (G : Gh) (M : Mem) (H : Heap) : Prop := H.size = gS G ∧ (∀ q, q < gB G → H[q]? = (gH G)[q]?) ∧ (∀ g i, 1 ≤ g → g < 23 → lyo g i → RpO G g i M H) ∧ (∀ f i, 1000 ≤ f → f < 30000 → lyo f i → RpA G f i M H) ∧ M 32 0 0 = gL G ∧ (∀ j : Nat, j < gL G → M 32000 0 j = ((gx G) j).toInt)
/-- families that may be written -/
def wrt (f : Nat) : Prop := (1 ≤ f ∧ f < 23) ∨ (1000 ≤ f ∧ f < 30000)
/-- own cells are apart and behind the first heap; constants of the layout -/
def GA (G : Gh) : Prop := (∀ f i f' i', wrt f → wrt f' → lyo f i → lyo f' i' → gA G f i = gA G f' i' → f = f' ∧ i = i') ∧ (∀ f i, wrt f → lyo f i → gB G ≤ gA G f i) ∧ gL G ≤ 512
def aTy (f : Nat) : FieldType := match aif f with
  | (10, _, _, _) => .int
  | (11, _, _, _) => .boolean
  | (12, _, _, _) => .long
  | (13, _, _, _) => .byte
  | (22, 22099, _, _) => .array .byte
  | (22, 31, _, _) => .object "java/lang/String"
  | (23, _, _, _) => .object "java/lang/String"
  | (_, p, _, _) => .object (cN p)
def isNest (w : Cond) : Bool := match w with
  | .fieldLinkNest _ _ _ _ _ _ => true
  | .methodLinkNest _ _ _ _ => true
  | _ => false
def clN (n : Nat) : String := match n with
  | 31 => "java/lang/String"
  | 40 => "EarthOfficeLaw"
  | 41 => "java/lang/Integer"
  | 42 => "java/lang/Long"
  | 43 => "java/lang/Math"
  | 44 => "java/lang/StringLatin1"
  | 45 => "java/util/Arrays"
  | 46 => "jdk/internal/util/Preconditions"
  | g => cN g
def sLn (i : Int) : Nat := (strT.getD i.toNat []).length
/-- what the tables and the first heap say, at a state -/
def KS (G : Gh) (s : State) : Prop :=
  (∀ g, 1 ≤ g → g < 23 → u_Kn s (cN g) (cT g) (cF g) (gC G g) (gI G g)) ∧
  (∀ f, 1000 ≤ f → f < 30000 → ¬ aek f = 99 → ArrOfT s (gX G f) (aTy f)) ∧
  (∀ w ∈ lw_tbl, isNest w = true → va_Nw w s) ∧
  (∀ i : Int, 0 ≤ i → i < 67 → va_O "java/lang/String" (gA G 31 i) (gO G) s (gH G) ∧ va_OF "java/lang/String" "coder" "B" (.int 0) (gA G 31 i) (gO G) s (gH G) ∧ va_OF "java/lang/String" "value" "[B" (.ref (gA G 31000 i)) (gA G 31 i) (gO G) s (gH G) ∧ va_T .byte (gA G 31000 i) (sLn i) (fun j => .int (Int32.ofInt (sAt i j))) (gO G) s (gH G)) ∧
  (∀ t ∈ strL, ∃ tx, vk_R (clN t.1) t.2.1 tx (gA G 31 t.2.2) s) ∧
  (va_Z "EarthOffice$Ways" "ACROSS" "[I" (.ref (gA G 30000 0)) (gO G) s (gH G) ∧ va_Z "EarthOffice$Ways" "DOWN" "[I" (.ref (gA G 30001 0)) (gO G) s (gH G) ∧ va_Z "EarthOffice$Alerts" "WAITS" "[I" (.ref (gA G 30002 0)) (gO G) s (gH G) ∧ va_Z "java/lang/String" "COMPACT_STRINGS" "Z" (.int 1) (gO G) s (gH G) ∧ ∃ v, (v = .null ∨ ∃ q, v = .ref q) ∧ va_Z "jdk/internal/util/Preconditions" "SIOOBE_FORMATTER" "Ljava/util/function/BiFunction;" v (gO G) s (gH G)) ∧
  (∀ f, 30000 ≤ f → f < 30003 → va_T .int (gA G f 0) ((stT.getD (f % 1000) []).length) (fun j => .int (Int32.ofInt (stA f j))) (gO G) s (gH G)) ∧
  va_X (gA G 32000 0) (gL G) (gx G) s (gH G) ∧ gA G 32000 0 < gB G
theorem nest_warm {w : Cond} (hw : isNest w = true) {s U : State} (hW : s.WarmedH U.vm) (h : va_Nw w s) : va_Nw w U := by
  unfold isNest at hw
  split at hw
  · exact va_Nw.warmF hW h
  · exact va_Nw.warmM hW h
  · cases hw
theorem KS.warm {G : Gh} {s U : State} (hW : s.WarmedH U.vm) (h : KS G s) : KS G U := by
  obtain ⟨h1, h2, h3, h4, h5, ⟨z1, z2, z3, z4, v, hv, z5⟩, h7, h8, h9⟩ := h
  have ha := hW.alike
  refine ⟨fun g g1 g2 => u_Kn_moved ha (h1 g g1 g2), fun f f1 f2 f3 => arrOfT_moved ha (h2 f f1 f2 f3), fun w hw hn => nest_warm hn hW (h3 w hw hn), fun i i1 i2 => ?_, fun t ht => ?_, ⟨z1.moved ha, z2.moved ha, z3.moved ha, z4.moved ha, v, hv, z5.moved ha⟩, fun f f1 f2 => (h7 f f1 f2).moved ha, h8.moved ha, h9⟩
  · obtain ⟨q1, q2, q3, q4⟩ := h4 i i1 i2
    exact ⟨q1.moved ha, q2.moved ha, q3.moved ha, q4.moved ha⟩
  · obtain ⟨tx, hx⟩ := h5 t ht
    exact ⟨tx, hx.warm hW⟩
/-! stacks taken apart -/
theorem SR.i {G : Gh} {z : Int} {st : List AV} {sa : List Value} (h : SR G (vI z :: st) sa) : ∃ (x : Int32) (sb : List Value), sa = .int x :: sb ∧ z = x.toInt ∧ SR G st sb := by
  cases sa with
  | nil => cases h
  | cons a sb =>
    obtain ⟨⟨x, rfl, rfl⟩, h2⟩ := h
    exact ⟨x, sb, rfl, rfl, h2⟩
theorem SR.l {G : Gh} {z : Int} {st : List AV} {sa : List Value} (h : SR G (vL z :: st) sa) : ∃ (x : Int64) (sb : List Value), sa = .long x :: sb ∧ z = x.toInt ∧ SR G st sb := by
  cases sa with
  | nil => cases h
  | cons a sb =>
    obtain ⟨⟨x, rfl, rfl⟩, h2⟩ := h
    exact ⟨x, sb, rfl, rfl, h2⟩
theorem SR.r {G : Gh} {f : Nat} {i : Int} {st : List AV} {sa : List Value} (h : SR G (vR f i :: st) sa) : ∃ (a : Value) (sb : List Value), sa = a :: sb ∧ VR G (vR f i) a ∧ SR G st sb := by
  cases sa with
  | nil => cases h
  | cons a sb => exact ⟨a, sb, rfl, h.1, h.2⟩
theorem SR.a {G : Gh} {f : Nat} {i : Int} {st : List AV} {sa : List Value} (hf : ¬ f = 33) (h : SR G (vR f i :: st) sa) : ∃ sb : List Value, sa = .ref (gA G f i) :: sb ∧ lyo f i ∧ SR G st sb := by
  obtain ⟨a, sb, rfl, ⟨-, h1⟩, h2⟩ := h.r
  rcases h1 with ⟨h1, -⟩ | ⟨-, rfl, h3⟩
  · exact absurd h1 hf
  · exact ⟨sb, rfl, h3, h2⟩
theorem VR.cat {G : Gh} {v : AV} {a : Value} (h : VR G v a) : a.category = (match v with | .inr (.inl _) => 2 | _ => 1) := by
  rcases v with z | z | ⟨f, i⟩
  · obtain ⟨x, rfl, -⟩ := h; rfl
  · obtain ⟨x, rfl, -⟩ := h; rfl
  · obtain ⟨-, ⟨-, rfl | ⟨q, rfl⟩⟩ | ⟨-, rfl, -⟩⟩ := h <;> rfl
theorem SR.wds {G : Gh} : ∀ {st : List AV} {sa : List Value}, SR G st sa → (sa.map fun v => v.category).sum = wds st
  | [], [], _ => rfl
  | v :: st, a :: sa, h => by
    have h1 := h.1.cat
    have h2 := SR.wds h.2
    simp only [List.map_cons, List.sum_cons, h2, h1]
    rcases v with z | z | z <;> rfl
  | [], _ :: _, h => by cases h
  | _ :: _, [], h => by cases h
theorem SR.len {G : Gh} : ∀ {st : List AV} {sa : List Value}, SR G st sa → sa.length = st.length
  | [], [], _ => rfl
  | v :: st, a :: sa, h => by simp [SR.len h.2]
  | [], _ :: _, h => by cases h
  | _ :: _, [], h => by cases h
theorem SR.app {G : Gh} : ∀ {st st2 : List AV} {sa sa2 : List Value}, SR G st sa → SR G st2 sa2 → SR G (st ++ st2) (sa ++ sa2)
  | [], _, [], _, _, h2 => h2
  | v :: st, _, a :: sa, _, h, h2 => ⟨h.1, SR.app h.2 h2⟩
  | [], _, _ :: _, _, h, _ => by cases h
  | _ :: _, _, [], _, h, _ => by cases h
theorem SR.pop {G : Gh} : ∀ (n : Nat) {st acc : List AV} {sa ac : List Value}, SR G st sa → SR G acc ac → n ≤ st.length → ∃ sl sr : List Value, SR G (popn n st acc).1 (sl.reverse ++ ac) ∧ SR G (popn n st acc).2 sr ∧ sa = sl ++ sr ∧ sl.length = n
  | 0, st, acc, sa, ac, h, h2, _ => ⟨[], sa, h2, h, rfl, rfl⟩
  | n + 1, v :: st, acc, a :: sa, ac, h, h2, hn => by
    obtain ⟨sl, sr, q1, q2, q3, q4⟩ := SR.pop n (acc := v :: acc) (ac := a :: ac) h.2 ⟨h.1, h2⟩ (by simpa using hn)
    refine ⟨a :: sl, sr, ?_, q2, by rw [q3]; rfl, by simp [q4]⟩
    simpa [popn] using q1
  | _ + 1, [], _, _, _, _, _, hn => by simp at hn
  | _ + 1, _ :: _, _, [], _, h, _, _ => by cases h
