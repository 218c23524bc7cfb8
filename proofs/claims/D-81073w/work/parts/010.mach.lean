/-! THE ABSTRACT MACHINE: values, memory, numbers, one instruction, a block, a run, its meaning Tq. vI an int, vL a long, vR f i the i-th object of family f; vJ: not to be looked at. -/
abbrev AV : Type := Int ⊕ (Int ⊕ (Nat × Int))
abbrev Mem : Type := Nat → Int → Int → Int
/-- how a method ends: by a value or none, or by throwing the i-th Wrong -/
abbrev AR : Type := Option AV ⊕ Int
abbrev ERes : Type := Option (AR × Mem)
abbrev vI (z : Int) : AV := Sum.inl z
abbrev vL (z : Int) : AV := Sum.inr (Sum.inl z)
abbrev vR (f : Nat) (i : Int) : AV := Sum.inr (Sum.inr (f, i))
abbrev vJ : AV := Sum.inr (Sum.inr (0, 0))
def w32 (z : Int) : Int := Int.bmod z 4294967296
def w64 (z : Int) : Int := Int.bmod z 18446744073709551616
def w8 (z : Int) : Int := Int.bmod z 256
def w16 (z : Int) : Int := Int.bmod z 65536
/-- a number as a boolean keeps it -/
def nb (z : Int) : Int := z % 2
def and32 (a b : Int) : Int := (Int32.ofInt a &&& Int32.ofInt b).toInt
def or32 (a b : Int) : Int := (Int32.ofInt a ||| Int32.ofInt b).toInt
def xor32 (a b : Int) : Int := (Int32.ofInt a ^^^ Int32.ofInt b).toInt
def and64 (a b : Int) : Int := (Int64.ofInt a &&& Int64.ofInt b).toInt
def or64 (a b : Int) : Int := (Int64.ofInt a ||| Int64.ofInt b).toInt
def xor64 (a b : Int) : Int := (Int64.ofInt a ^^^ Int64.ofInt b).toInt
def shl32 (a b : Int) : Int := w32 (a * 2 ^ (b % 32).toNat)
def shr32 (a b : Int) : Int := a / 2 ^ (b % 32).toNat
def ush32 (a b : Int) : Int := w32 (a % 4294967296 / 2 ^ (b % 32).toNat)
def shl64 (a b : Int) : Int := w64 (a * 2 ^ (b % 64).toNat)
def shr64 (a b : Int) : Int := a / 2 ^ (b % 64).toNat
def ush64 (a b : Int) : Int := w64 (a % 18446744073709551616 / 2 ^ (b % 64).toNat)
def div32 (a b : Int) : Int := w32 (a.tdiv b)
def rem32 (a b : Int) : Int := a.tmod b
def div64 (a b : Int) : Int := w64 (a.tdiv b)
def rem64 (a b : Int) : Int := a.tmod b
def cmp64 (a b : Int) : Int := if a < b then -1 else if a = b then 0 else 1
def mset (M : Mem) (f : Nat) (i k v : Int) : Mem := fun f' => if f' = f then (fun i' => if i' = i then (fun k' => if k' = k then v else M f i k') else M f i') else M f'
/-- n elements from place sp of (f, i) on come to (g, j) from place dp on -/
def mcpy (M : Mem) (f : Nat) (i sp : Int) (g : Nat) (j dp n : Int) : Mem := fun f' => if f' = g then (fun i' => if i' = j then (fun k' => if dp ≤ k' ∧ k' < dp + n then M f i (sp + (k' - dp)) else M g j k') else M g i') else M f'
abbrev PD : Type := PSigma Decidable
/-- a call: the rank's guard, method, its entry's locals, answer's kind, what of a throw -/
abbrev ACall : Type := Option PD × Nat × List AV × Nat × Nat × List AV × List AV × Mem
/-- go on; go on if so; branch; jump; call; end; switch -/
abbrev Act : Type := (List AV × List AV × Mem) ⊕ ((PD × List AV × List AV × Mem) ⊕ ((PD × Nat × List AV × List AV × Mem) ⊕ ((Nat × List AV × List AV × Mem) ⊕ (ACall ⊕ ((AR × Mem) ⊕ (Int × Int × List Nat × Nat × List AV × List AV × Mem))))))
abbrev aC (ls st : List AV) (M : Mem) : Option Act := some (.inl (ls, st, M))
abbrev aG (p : Prop) (h : Decidable p) (ls st : List AV) (M : Mem) : Option Act := some (.inr (.inl (⟨p, h⟩, ls, st, M)))
abbrev aB (p : Prop) (h : Decidable p) (b : Nat) (ls st : List AV) (M : Mem) : Option Act := some (.inr (.inr (.inl (⟨p, h⟩, b, ls, st, M))))
abbrev aJ (b : Nat) (ls st : List AV) (M : Mem) : Option Act := some (.inr (.inr (.inr (.inl (b, ls, st, M)))))
abbrev aK (k : ACall) : Option Act := some (.inr (.inr (.inr (.inr (.inl k)))))
abbrev aD (r : AR) (M : Mem) : Option Act := some (.inr (.inr (.inr (.inr (.inr (.inl (r, M)))))))
abbrev aS (z lo : Int) (ts : List Nat) (d : Nat) (ls st : List AV) (M : Mem) : Option Act := some (.inr (.inr (.inr (.inr (.inr (.inr (z, lo, ts, d, ls, st, M)))))))
/-- array families: what the elements are (10 ints, 11 booleans, 12 longs, 13 bytes, 22 references p from a on), how many -/
def aif (f : Nat) : Nat × Nat × Int × Int := ((aiT.getD (f / 1000) []).getD (f % 1000) (99, 0, 0, 0))
def aek (f : Nat) : Nat := (aif f).1
def bLen (i : Int) : Int := bLenT.getD i.toNat 0
def sLen (i : Int) : Int := ((strT.getD i.toNat []).length : Int)
/-- a char of a String; an element of a static array -/
def sAt (i z : Int) : Int := (strT.getD i.toNat []).getD z.toNat 0
def stA (f : Nat) (z : Int) : Int := (stT.getD (f % 1000) []).getD z.toNat 0
def alen (M : Mem) (f : Nat) (i : Int) : Int := match f with
  | 13000 => bLen i
  | 31000 => sLen i
  | 32000 => M 32 0 0
  | f => (aif f).2.2.2
/-- no long lies ahead of this place -/
def lok (ls : List AV) : Nat → Bool
  | 0 => true
  | k + 1 => match ls.getD k vJ with
    | .inr (.inl _) => false
    | _ => true
/-- a local is set: a long takes two -/
def lset (ls : List AV) (k : Nat) (v : AV) : List AV := match v with
  | .inr (.inl z) => (ls.set k (vL z)).set (k + 1) vJ
  | v => ls.set k v
def kill : List Nat → List AV → List AV
  | [], ls => ls
  | k :: r, ls => kill r (ls.set k vJ)
def lay : List AV → List AV
  | [] => []
  | .inr (.inl z) :: r => vL z :: vJ :: lay r
  | v :: r => v :: lay r
def ent (mx : Nat) (as : List AV) : List AV := lay as ++ List.replicate (mx - (lay as).length) vJ
def popn : Nat → List AV → List AV → List AV × List AV
  | 0, st, acc => (acc, st)
  | n + 1, v :: st, acc => popn n st (v :: acc)
  | _ + 1, [], acc => (acc, [])
/-- how much room a stack takes -/
def wds : List AV → Nat
  | [] => 0
  | .inr (.inl _) :: r => 2 + wds r
  | _ :: r => 1 + wds r
/-- a switch's way -/
def swt (z : Int) (d : Nat) : Int → List Nat → Nat
  | _, [] => d
  | v, t :: ts => bif Nat.beq t d then swt z d (v + 1) ts else if z = v then t else swt z d (v + 1) ts
/-- how deep a method's calls go: fixed, or by one of its locals -/
def rkf (b m s : Nat) (ls : List AV) : Int := match m with
  | 0 => b
  | 1 => (match ls.getD s vJ with
    | .inl d => if d ≤ 14 then b + 10 * (14 - d) else -1
    | _ => -1)
  | _ => (match ls.getD s vJ with
    | .inl d => if 0 ≤ d then b + d else -1
    | _ => -1)
abbrev o1 (i : Ins) : Nat := i.2.2.getD 0 0
/-- two ints, two longs, an int over a long, an int, a long off the stack -/
def pII (st : List AV) (k : Int → Int → List AV → Option Act) : Option Act := match st with
  | .inl b :: .inl a :: st => k a b st
  | _ => none
def pLL (st : List AV) (k : Int → Int → List AV → Option Act) : Option Act := match st with
  | .inr (.inl b) :: .inr (.inl a) :: st => k a b st
  | _ => none
def pLI (st : List AV) (k : Int → Int → List AV → Option Act) : Option Act := match st with
  | .inl b :: .inr (.inl a) :: st => k a b st
  | _ => none
def pI (st : List AV) (k : Int → List AV → Option Act) : Option Act := match st with
  | .inl a :: st => k a st
  | _ => none
def pL (st : List AV) (k : Int → List AV → Option Act) : Option Act := match st with
  | .inr (.inl a) :: st => k a st
  | _ => none
/-- a reference off the stack; an index over a reference -/
def pR (st : List AV) (k : Nat → Int → List AV → Option Act) : Option Act := match st with
  | .inr (.inr (f, i)) :: st => k f i st
  | _ => none
def pIR (st : List AV) (k : Nat → Int → Int → List AV → Option Act) : Option Act := match st with
  | .inl z :: .inr (.inr (f, i)) :: st => k f i z st
  | _ => none
def pIIR (st : List AV) (k : Nat → Int → Int → Int → List AV → Option Act) : Option Act := match st with
  | .inl v :: .inl z :: .inr (.inr (f, i)) :: st => k f i z v st
  | _ => none
def pLIR (st : List AV) (k : Nat → Int → Int → Int → List AV → Option Act) : Option Act := match st with
  | .inr (.inl v) :: .inl z :: .inr (.inr (f, i)) :: st => k f i z v st
  | _ => none
def xLdc (i : Ins) (ls st : List AV) (M : Mem) : Option Act := match i.2.2 with
  | [] => aC ls (vI i.2.1 :: st) M
  | k :: _ => aC ls (vR 31 k :: st) M
def xIl (k : Nat) (ls st : List AV) (M : Mem) : Option Act := match ls.getD k vJ with
  | .inl z => aC ls (vI z :: st) M
  | _ => none
def xLl (k : Nat) (ls st : List AV) (M : Mem) : Option Act := match ls.getD k vJ with
  | .inr (.inl z) => aC ls (vL z :: st) M
  | _ => none
def xAl (k : Nat) (ls st : List AV) (M : Mem) : Option Act := match ls.getD k vJ with
  | .inr (.inr (f, i)) => bif Nat.beq f 0 then none else aC ls (vR f i :: st) M
  | _ => none
def xIs (k : Nat) (ls st : List AV) (M : Mem) : Option Act := pI st fun z st => bif lok ls k then aC (lset ls k (vI z)) st M else none
def xLs (k : Nat) (ls st : List AV) (M : Mem) : Option Act := pL st fun z st => bif lok ls k then aC (lset ls k (vL z)) st M else none
def xAs (k : Nat) (ls st : List AV) (M : Mem) : Option Act := pR st fun f i st => bif lok ls k then aC (lset ls k (vR f i)) st M else none
def xInc (k : Nat) (n : Int) (ls st : List AV) (M : Mem) : Option Act := match ls.getD k vJ with
  | .inl z => bif lok ls k then aC (lset ls k (vI (w32 (z + n)))) st M else none
  | _ => none
def xDup (ls st : List AV) (M : Mem) : Option Act := match st with
  | .inl a :: st => aC ls (vI a :: vI a :: st) M
  | .inr (.inr (f, i)) :: st => aC ls (vR f i :: vR f i :: st) M
  | _ => none
def xDup2 (ls st : List AV) (M : Mem) : Option Act := match st with
  | .inl b :: .inr (.inr (f, i)) :: st => aC ls (vI b :: vR f i :: vI b :: vR f i :: st) M
  | .inr (.inl a) :: st => aC ls (vL a :: vL a :: st) M
  | _ => none
def xPop (ls st : List AV) (M : Mem) : Option Act := match st with
  | .inl _ :: st => aC ls st M
  | .inr (.inr _) :: st => aC ls st M
  | _ => none
def xGet (q : List Nat) (ls st : List AV) (M : Mem) : Option Act := match q with
  | [0, g, k] => pR st fun f i st => bif Nat.beq f g then aC ls (vI (M g i k) :: st) M else none
  | [2, g, k] => pR st fun f i st => bif Nat.beq f g then aC ls (vL (M g i k) :: st) M else none
  | [10, g, h] => pR st fun f i st => bif Nat.beq f g then aC ls (vR h i :: st) M else none
  | [19, g, p, a] => pR st fun f i st => bif Nat.beq f g then aC ls (vR p a :: st) M else none
  | [20, g, p, a] => pR st fun f i st => bif Nat.beq f g then aC ls (vR p (a + i) :: st) M else none
  | [30, g] => pR st fun f _ st => bif Nat.beq f g then aC ls (vI 0 :: st) M else none
  | [21, g, k, p] => pR st fun f i st => bif Nat.beq f g then aG (0 ≤ M g i k) inferInstance ls (vR p (M g i k) :: st) M else none
  | _ => none
def xPut (q : List Nat) (ls st : List AV) (M : Mem) : Option Act := match q with
  | [0, g, k] => pIR st fun f i z st => bif Nat.beq f g then aC ls st (mset M g i k z) else none
  | [1, g, k] => pIR st fun f i z st => bif Nat.beq f g then aG (z = 0 ∨ z = 1) inferInstance ls st (mset M g i k z) else none
  | [2, g, k] => pL st fun z st => pR st fun f i st => bif Nat.beq f g then aC ls st (mset M g i k z) else none
  | [21, g, k, p] => pR st fun h j st => pR st fun f i st => bif Nat.beq f g && Nat.beq h p then aC ls st (mset M g i k j) else none
  | _ => none
def xGs (i : Ins) (ls st : List AV) (M : Mem) : Option Act := match i.2.2 with
  | [] => aC ls (vI i.2.1 :: st) M
  | g :: _ => aC ls (vR g 0 :: st) M
def xAald (ls st : List AV) (M : Mem) : Option Act := pIR st fun f _ z st => match aif f with
  | (22, p, _, n) => aG (0 ≤ z ∧ z < n) inferInstance ls (vR p z :: st) M
  | (23, p, a, n) => aG (0 ≤ z ∧ z < n) inferInstance ls (vR p (a + z) :: st) M
  | _ => none
def xBast (ls st : List AV) (M : Mem) : Option Act := pIIR st fun f i z v st => bif Nat.blt f 30000 then
  (bif Nat.beq (aek f) 13 then aG (0 ≤ z ∧ z < alen M f i) inferInstance ls st (mset M f i z (w8 v))
   else bif Nat.beq (aek f) 11 then aG (0 ≤ z ∧ z < alen M f i) inferInstance ls st (mset M f i z (nb v)) else none) else none
def xIf (c : Jvm.ClassFile.Cond) (b : Nat) (ls : List AV) (M : Mem) (a : Int) (st : List AV) : Option Act := match c with
  | .eq => aB (a = 0) inferInstance b ls st M
  | .ne => aB (¬ a = 0) inferInstance b ls st M
  | .lt => aB (a < 0) inferInstance b ls st M
  | .ge => aB (0 ≤ a) inferInstance b ls st M
  | .gt => aB (0 < a) inferInstance b ls st M
  | .le => aB (a ≤ 0) inferInstance b ls st M
def xIfc (c : Jvm.ClassFile.Cond) (b : Nat) (ls : List AV) (M : Mem) (a d : Int) (st : List AV) : Option Act := match c with
  | .eq => aB (a = d) inferInstance b ls st M
  | .ne => aB (¬ a = d) inferInstance b ls st M
  | .lt => aB (a < d) inferInstance b ls st M
  | .ge => aB (d ≤ a) inferInstance b ls st M
  | .gt => aB (d < a) inferInstance b ls st M
  | .le => aB (a ≤ d) inferInstance b ls st M
def xSw (i : Ins) (ls st : List AV) (M : Mem) : Option Act := match i.2.2 with
  | d :: ts => pI st fun z st => aS z i.2.1 ts d ls st M
  | _ => none
def xIret (k : Nat) (st : List AV) (M : Mem) : Option Act := match st with
  | [.inl a] => (match k with
    | 1 => aD (.inl (some (vI a))) M
    | 5 => aD (.inl (some (vI (nb a)))) M
    | 6 => aD (.inl (some (vI (a % 65536)))) M
    | 7 => aD (.inl (some (vI (w8 a)))) M
    | _ => none)
  | _ => none
def xLret (st : List AV) (M : Mem) : Option Act := match st with
  | [.inr (.inl a)] => aD (.inl (some (vL a))) M
  | _ => none
def xAret (g : Nat) (st : List AV) (M : Mem) : Option Act := match st with
  | [.inr (.inr (f, i))] => bif Nat.beq f g then aD (.inl (some (vR g i))) M else none
  | _ => none
def xRet (st : List AV) (M : Mem) : Option Act := match st with
  | [] => aD (.inl none) M
  | _ => none
def xThrow (st : List AV) (M : Mem) : Option Act := pR st fun f i _ => bif Nat.beq f 11 then aD (.inr i) M else none
/-- the receiver is of the callee's class -/
def hdf (cz : Nat) (as : List AV) : Bool := match cz with
  | 0 => true
  | cz => (match as with
    | .inr (.inr (f, _)) :: _ => Nat.beq f cz
    | _ => false)
def xCall (q : List Nat) (ls st : List AV) (M : Mem) : Option Act := match q with
  | [z, n, mx, r, tm, cz] => bif Nat.ble n st.length && Nat.ble (wds (popn n st []).2) 8 && Nat.ble (wds (popn n st []).1) mx && hdf cz (popn n st []).1 then aK (none, z, ent mx (popn n st []).1, r, tm, ls, (popn n st []).2, M) else none
  | [z, n, mx, r, tm, cz, bz, mz, sz, b0, m0, s0] => bif Nat.ble n st.length && Nat.ble (wds (popn n st []).2) 8 && Nat.ble (wds (popn n st []).1) mx && hdf cz (popn n st []).1 then aK (some ⟨0 ≤ rkf bz mz sz (ent mx (popn n st []).1) ∧ rkf bz mz sz (ent mx (popn n st []).1) < rkf b0 m0 s0 ls, inferInstance⟩, z, ent mx (popn n st []).1, r, tm, ls, (popn n st []).2, M) else none
  | _ => none
def xCopy (ls st : List AV) (M : Mem) : Option Act := match st with
  | .inl n :: .inl dp :: .inr (.inr (g, j)) :: .inl sp :: .inr (.inr (f, i)) :: st => bif Nat.beq (aek f) (aek g) && (Nat.blt g 30000 && (Nat.blt f 30000 && (Nat.beq (aek f) 10 || Nat.beq (aek f) 13))) && Nat.ble (wds st) 8 then
      aG (0 ≤ sp ∧ 0 ≤ dp ∧ 0 ≤ n ∧ sp + n ≤ alen M f i ∧ dp + n ≤ alen M g j) inferInstance ls st (mcpy M f i sp g j dp n) else none
  | _ => none
def ex1 (i : Ins) (ls st : List AV) (M : Mem) : Option Act :=
  match i.1 with
  | .iconst _ => aC ls (vI i.2.1 :: st) M
  | .bipush _ => aC ls (vI i.2.1 :: st) M
  | .sipush _ => aC ls (vI i.2.1 :: st) M
  | .lconst _ => aC ls (vL i.2.1 :: st) M
  | .ldc2_w _ => aC ls (vL i.2.1 :: st) M
  | .ldc _ => xLdc i ls st M
  | .ldc_w _ => xLdc i ls st M
  | .iload _ => xIl (o1 i) ls st M
  | .iload_n _ => xIl (o1 i) ls st M
  | .lload _ => xLl (o1 i) ls st M
  | .lload_n _ => xLl (o1 i) ls st M
  | .aload _ => xAl (o1 i) ls st M
  | .aload_n _ => xAl (o1 i) ls st M
  | .istore _ => xIs (o1 i) ls st M
  | .istore_n _ => xIs (o1 i) ls st M
  | .lstore _ => xLs (o1 i) ls st M
  | .lstore_n _ => xLs (o1 i) ls st M
  | .astore _ => xAs (o1 i) ls st M
  | .astore_n _ => xAs (o1 i) ls st M
  | .iinc _ _ => xInc (o1 i) i.2.1 ls st M
  | .iadd => pII st fun a b st => aC ls (vI (w32 (a + b)) :: st) M
  | .isub => pII st fun a b st => aC ls (vI (w32 (a - b)) :: st) M
  | .imul => pII st fun a b st => aC ls (vI (w32 (a * b)) :: st) M
  | .idiv => pII st fun a b st => aG (¬ b = 0) inferInstance ls (vI (div32 a b) :: st) M
  | .irem => pII st fun a b st => aG (¬ b = 0) inferInstance ls (vI (rem32 a b) :: st) M
  | .ineg => pI st fun a st => aC ls (vI (w32 (-a)) :: st) M
  | .iand => pII st fun a b st => aC ls (vI (and32 a b) :: st) M
  | .ior => pII st fun a b st => aC ls (vI (or32 a b) :: st) M
  | .ixor => pII st fun a b st => aC ls (vI (xor32 a b) :: st) M
  | .ishl => pII st fun a b st => aC ls (vI (shl32 a b) :: st) M
  | .ishr => pII st fun a b st => aC ls (vI (shr32 a b) :: st) M
  | .iushr => pII st fun a b st => aC ls (vI (ush32 a b) :: st) M
  | .ladd => pLL st fun a b st => aC ls (vL (w64 (a + b)) :: st) M
  | .lsub => pLL st fun a b st => aC ls (vL (w64 (a - b)) :: st) M
  | .lmul => pLL st fun a b st => aC ls (vL (w64 (a * b)) :: st) M
  | .ldiv => pLL st fun a b st => aG (¬ b = 0) inferInstance ls (vL (div64 a b) :: st) M
  | .lrem => pLL st fun a b st => aG (¬ b = 0) inferInstance ls (vL (rem64 a b) :: st) M
  | .lneg => pL st fun a st => aC ls (vL (w64 (-a)) :: st) M
  | .land => pLL st fun a b st => aC ls (vL (and64 a b) :: st) M
  | .lor => pLL st fun a b st => aC ls (vL (or64 a b) :: st) M
  | .lxor => pLL st fun a b st => aC ls (vL (xor64 a b) :: st) M
  | .lshl => pLI st fun a b st => aC ls (vL (shl64 a b) :: st) M
  | .lshr => pLI st fun a b st => aC ls (vL (shr64 a b) :: st) M
  | .lushr => pLI st fun a b st => aC ls (vL (ush64 a b) :: st) M
  | .lcmp => pLL st fun a b st => aC ls (vI (cmp64 a b) :: st) M
  | .i2l => pI st fun a st => aC ls (vL a :: st) M
  | .l2i => pL st fun a st => aC ls (vI (w32 a) :: st) M
  | .i2b => pI st fun a st => aC ls (vI (w8 a) :: st) M
  | .i2s => pI st fun a st => aC ls (vI (w16 a) :: st) M
  | .i2c => pI st fun a st => aC ls (vI (a % 65536) :: st) M
  | .dup => xDup ls st M
  | .dup2 => xDup2 ls st M
  | .pop => xPop ls st M
  | .getfield _ => xGet i.2.2 ls st M
  | .putfield _ => xPut i.2.2 ls st M
  | .getstatic _ => xGs i ls st M
  | .iaload => pIR st fun f i z st => bif Nat.beq (aek f) 10 then (bif Nat.beq (f / 1000) 30 then aG (0 ≤ z ∧ z < alen M f i) inferInstance ls (vI (stA f z) :: st) M else aG (0 ≤ z ∧ z < alen M f i) inferInstance ls (vI (M f i z) :: st) M) else none
  | .baload => pIR st fun f i z st => bif Nat.beq (aek f) 13 || Nat.beq (aek f) 11 then (bif Nat.beq f 31000 then aG (0 ≤ z ∧ z < alen M f i) inferInstance ls (vI (sAt i z) :: st) M else aG (0 ≤ z ∧ z < alen M f i) inferInstance ls (vI (M f i z) :: st) M) else none
  | .laload => pIR st fun f i z st => bif Nat.beq (aek f) 12 then aG (0 ≤ z ∧ z < alen M f i) inferInstance ls (vL (M f i z) :: st) M else none
  | .aaload => xAald ls st M
  | .iastore => pIIR st fun f i z v st => bif Nat.beq (aek f) 10 && Nat.blt f 30000 then aG (0 ≤ z ∧ z < alen M f i) inferInstance ls st (mset M f i z v) else none
  | .bastore => xBast ls st M
  | .lastore => pLIR st fun f i z v st => bif Nat.beq (aek f) 12 && Nat.blt f 30000 then aG (0 ≤ z ∧ z < alen M f i) inferInstance ls st (mset M f i z v) else none
  | .arraylength => pR st fun f i st => bif Nat.beq (aek f) 99 then none else aC ls (vI (alen M f i) :: st) M
  | .ifCond c _ => pI st fun a st => xIf c (o1 i) ls M a st
  | .if_icmp c _ => pII st fun a d st => xIfc c (o1 i) ls M a d st
  | .goto _ => aJ (o1 i) ls st M
  | .nop => aJ (o1 i) ls st M
  | .tableswitch _ _ _ _ => xSw i ls st M
  | .ireturn => xIret (o1 i) st M
  | .lreturn => xLret st M
  | .areturn => xAret (o1 i) st M
  | .return_ => xRet st M
  | .athrow => xThrow st M
  | .invokevirtual _ => xCall i.2.2 ls st M
  | .invokestatic _ => (match i.2.2 with
    | [] => xCopy ls st M
    | q => xCall q ls st M)
  | _ => none
/-- what is done with a callee's answer -/
def kV (K : Mem → Prop) (r : AR) (M : Mem) : Prop := match r with
  | .inl none => K M
  | _ => False
def kI (K : Int → Mem → Prop) (r : AR) (M : Mem) : Prop := match r with
  | .inl (some (.inl x)) => K x M
  | _ => False
def kL (K : Int → Mem → Prop) (r : AR) (M : Mem) : Prop := match r with
  | .inl (some (.inr (.inl x))) => K x M
  | _ => False
def kR (f : Nat) (K : Int → Mem → Prop) (r : AR) (M : Mem) : Prop := match r with
  | .inl (some (.inr (.inr (g, x)))) => g = f ∧ K x M
  | _ => False
def kX (E : Int → Mem → Prop) (N : AR → Mem → Prop) (r : AR) (M : Mem) : Prop := match r with
  | .inr e => E e M
  | r => N r M
/-- the answer onto the stack -/
def rst (k : Nat) (v : Option AV) (st : List AV) : Option (List AV) := match k, v with
  | 0, none => some st
  | 1, some (.inl x) => some (vI x :: st)
  | 2, some (.inr (.inl x)) => some (vL x :: st)
  | f + 3, some (.inr (.inr (g, x))) => if g = f then some (vR f x :: st) else none
  | _, _ => none
def exB (rec : Nat → Nat → List AV → List AV → Mem → ERes) (y : Nat) (dd : List (List Nat)) : List Ins → List AV → List AV → Mem → ERes
  | [], _, _, _ => none
  | i :: is, ls, st, M => match ex1 i ls st M with
    | none => none
    | some (.inl (ls, st, M)) => exB rec y dd is ls st M
    | some (.inr (.inl (p, ls, st, M))) => @ite _ p.1 p.2 (exB rec y dd is ls st M) none
    | some (.inr (.inr (.inl (p, b, ls, st, M)))) => @ite _ p.1 p.2 (rec y b (kill (dd.getD b []) ls) st M) (exB rec y dd is ls st M)
    | some (.inr (.inr (.inr (.inl (b, ls, st, M))))) => rec y b (kill (dd.getD b []) ls) st M
    | some (.inr (.inr (.inr (.inr (.inl (og, z, en, k, tm, ls, st, M)))))) =>
      (match og with
        | none => (rec z 0 en [] M).bind fun q => (match q.1 with
          | .inl v => (rst k v st).bind fun st => exB rec y dd is ls st q.2
          | .inr e => (match tm with
            | 0 => none
            | 1 => some (.inr e, q.2)
            | h + 2 => rec y h (kill (dd.getD h []) ls) [vR 11 e] q.2))
        | some p => @ite _ p.1 p.2 ((rec z 0 en [] M).bind fun q => (match q.1 with
          | .inl v => (rst k v st).bind fun st => exB rec y dd is ls st q.2
          | .inr e => (match tm with
            | 0 => none
            | 1 => some (.inr e, q.2)
            | h + 2 => rec y h (kill (dd.getD h []) ls) [vR 11 e] q.2))) none)
    | some (.inr (.inr (.inr (.inr (.inr (.inl (r, M))))))) => some (r, M)
    | some (.inr (.inr (.inr (.inr (.inr (.inr (z, lo, ts, d, ls, st, M))))))) => rec y (swt z d lo ts) (kill (dd.getD (swt z d lo ts) []) ls) st M
def run : Nat → Nat → Nat → List AV → List AV → Mem → ERes
  | 0, _, _, _, _, _ => none
  | n + 1, y, b, ls, st, M => exB (run n) y (deadT y) (blk y b) ls st M
/-- TOTAL CORRECTNESS: from block b of method y on, it comes to an end, with Q -/
def Tq (y b : Nat) (ls st : List AV) (M : Mem) (Q : AR → Mem → Prop) : Prop := ∃ (n : Nat) (r : AR) (M' : Mem), run n y b ls st M = some (r, M') ∧ Q r M'
def kN (k : Nat) (F : List AV → Mem → Prop) (st : List AV) : AR → Mem → Prop := match k with
  | 0 => kV fun M => F st M
  | 1 => kI fun x M => F (vI x :: st) M
  | 2 => kL fun x M => F (vL x :: st) M
  | f + 3 => kR f fun x M => F (vR f x :: st) M
def swP (F : Nat → Prop) (z : Int) (d : Nat) : Int → List Nat → Prop
  | _, [] => F d
  | v, t :: ts => bif Nat.beq t d then swP F z d (v + 1) ts else if z = v then F t else swP F z d (v + 1) ts
def Bq (y : Nat) (dd : List (List Nat)) : List Ins → List AV → List AV → Mem → (AR → Mem → Prop) → Prop
  | [], _, _, _, _ => False
  | i :: is, ls, st, M, Q => match ex1 i ls st M with
    | none => False
    | some (.inl (ls, st, M)) => Bq y dd is ls st M Q
    | some (.inr (.inl (p, ls, st, M))) => p.1 ∧ Bq y dd is ls st M Q
    | some (.inr (.inr (.inl (p, b, ls, st, M)))) => @ite _ p.1 p.2 (Tq y b (kill (dd.getD b []) ls) st M Q) (Bq y dd is ls st M Q)
    | some (.inr (.inr (.inr (.inl (b, ls, st, M))))) => Tq y b (kill (dd.getD b []) ls) st M Q
    | some (.inr (.inr (.inr (.inr (.inl (og, z, en, k, tm, ls, st, M)))))) =>
      (match og with
        | none => Tq z 0 en [] M (match tm with
          | 0 => kN k (fun st M => Bq y dd is ls st M Q) st
          | 1 => kX (fun e M => Q (.inr e) M) (kN k (fun st M => Bq y dd is ls st M Q) st)
          | h + 2 => kX (fun e M => Tq y h (kill (dd.getD h []) ls) [vR 11 e] M Q) (kN k (fun st M => Bq y dd is ls st M Q) st))
        | some p => p.1 ∧ Tq z 0 en [] M (match tm with
          | 0 => kN k (fun st M => Bq y dd is ls st M Q) st
          | 1 => kX (fun e M => Q (.inr e) M) (kN k (fun st M => Bq y dd is ls st M Q) st)
          | h + 2 => kX (fun e M => Tq y h (kill (dd.getD h []) ls) [vR 11 e] M Q) (kN k (fun st M => Bq y dd is ls st M Q) st)))
    | some (.inr (.inr (.inr (.inr (.inr (.inl (r, M))))))) => Q r M
    | some (.inr (.inr (.inr (.inr (.inr (.inr (z, lo, ts, d, ls, st, M))))))) => swP (fun b => Tq y b (kill (dd.getD b []) ls) st M Q) z d lo ts
theorem swP_iff {F : Nat → Prop} {z : Int} {d : Nat} : ∀ (ts : List Nat) (v : Int), swP F z d v ts ↔ F (swt z d v ts)
  | [], _ => Iff.rfl
  | t :: ts, v => by
    unfold swP swt
    cases Nat.beq t d
    · simp only [cond_false]
      by_cases h : z = v
      · rw [if_pos h, if_pos h]
      · rw [if_neg h, if_neg h]
        exact swP_iff ts (v + 1)
    · simp only [cond_true]
      exact swP_iff ts (v + 1)
theorem kN_iff {k : Nat} {F : List AV → Mem → Prop} {st : List AV} {v : Option AV} {M : Mem} : kN k F st (.inl v) M ↔ ∃ st', rst k v st = some st' ∧ F st' M := by
  rcases k with _ | _ | _ | f
  · cases v with
    | none => simp [kN, kV, rst]
    | some v => simp [kN, kV, rst]
  · rcases v with _ | z | z | z <;> simp [kN, kI, rst]
  · rcases v with _ | z | z | z <;> simp [kN, kL, rst]
  · rcases v with _ | z | z | ⟨g, z⟩
    · simp [kN, kR, rst]
    · simp [kN, kR, rst]
    · simp [kN, kR, rst]
    · by_cases h : g = f
      · simp [kN, kR, rst, h]
      · simp [kN, kR, rst, h]
theorem kN_inr {k : Nat} {F : List AV → Mem → Prop} {st : List AV} {e : Int} {M : Mem} : ¬ kN k F st (.inr e) M := by
  rcases k with _ | _ | _ | f <;> simp [kN, kV, kI, kL, kR]
theorem exB_mono {rec rec' : Nat → Nat → List AV → List AV → Mem → ERes} {y : Nat} {dd : List (List Nat)} (h : ∀ y b ls st M x, rec y b ls st M = some x → rec' y b ls st M = some x) :
    ∀ (is : List Ins) (ls st : List AV) (M : Mem) (x : AR × Mem), exB rec y dd is ls st M = some x → exB rec' y dd is ls st M = some x := by
  have hcall : ∀ (is : List Ins) (z : Nat) (en : List AV) (k tm : Nat) (ls st : List AV) (M : Mem) (x : AR × Mem), (∀ ls st M x, exB rec y dd is ls st M = some x → exB rec' y dd is ls st M = some x) →
      ((rec z 0 en [] M).bind fun q => (match q.1 with
          | .inl v => (rst k v st).bind fun st => exB rec y dd is ls st q.2
          | .inr e => (match tm with
            | 0 => none
            | 1 => some (.inr e, q.2)
            | h + 2 => rec y h (kill (dd.getD h []) ls) [vR 11 e] q.2))) = some x →
      ((rec' z 0 en [] M).bind fun q => (match q.1 with
          | .inl v => (rst k v st).bind fun st => exB rec' y dd is ls st q.2
          | .inr e => (match tm with
            | 0 => none
            | 1 => some (.inr e, q.2)
            | h + 2 => rec' y h (kill (dd.getD h []) ls) [vR 11 e] q.2))) = some x := by
    intro is z en k tm ls st M x ih hx
    cases hr : rec z 0 en [] M with
    | none => rw [hr] at hx; cases hx
    | some q =>
      rw [hr] at hx
      rw [h _ _ _ _ _ _ hr]
      obtain ⟨r, M1⟩ := q
      cases r with
      | inl v =>
        simp only [Option.bind_some] at hx ⊢
        cases hs : rst k v st with
        | none => rw [hs] at hx; cases hx
        | some st1 =>
          rw [hs] at hx
          simp only [Option.bind_some] at hx ⊢
          exact ih _ _ _ _ hx
      | inr e =>
        simp only [Option.bind_some] at hx ⊢
        rcases tm with _ | _ | t
        · cases hx
        · exact hx
        · exact h _ _ _ _ _ _ hx
  intro is
  induction is with
  | nil => intro ls st M x hx; cases hx
  | cons i is ih =>
    intro ls st M x hx
    unfold exB at hx ⊢
    generalize ex1 i ls st M = ac at hx ⊢
    rcases ac with _ | a | a | a | a | ⟨og, z, en, k, tm, ls, st, M⟩ | a | a
    · cases hx
    · exact ih _ _ _ _ hx
    · obtain ⟨p, ls, st, M⟩ := a
      dsimp only at hx ⊢
      by_cases hp : p.1
      · simp only [if_pos hp] at hx ⊢
        exact ih _ _ _ _ hx
      · simp only [if_neg hp] at hx
        cases hx
    · obtain ⟨p, b, ls, st, M⟩ := a
      dsimp only at hx ⊢
      by_cases hp : p.1
      · simp only [if_pos hp] at hx ⊢
        exact h _ _ _ _ _ _ hx
      · simp only [if_neg hp] at hx ⊢
        exact ih _ _ _ _ hx
    · exact h _ _ _ _ _ _ hx
    · dsimp only at hx ⊢
      rcases og with _ | p
      · exact hcall is z en k tm ls st M x ih hx
      · dsimp only at hx ⊢
        by_cases hp : p.1
        · simp only [if_pos hp] at hx ⊢
          exact hcall is z en k tm ls st M x ih hx
        · simp only [if_neg hp] at hx
          cases hx
    · exact hx
    · exact h _ _ _ _ _ _ hx
theorem run_succ : ∀ (n y b : Nat) (ls st : List AV) (M : Mem) (x : AR × Mem), run n y b ls st M = some x → run (n + 1) y b ls st M = some x
  | 0, _, _, _, _, _, _ => fun h => by cases h
  | n + 1, y, b, ls, st, M, x => fun h => by
    unfold run at h ⊢
    exact exB_mono (fun y b ls st M x => run_succ n y b ls st M x) _ _ _ _ _ h
theorem run_mono {n m y b : Nat} {ls st : List AV} {M : Mem} {x : AR × Mem} (h : n ≤ m) (hx : run n y b ls st M = some x) : run m y b ls st M = some x := by
  obtain ⟨k, rfl⟩ := Nat.le.dest h
  induction k with
  | zero => exact hx
  | succ k ih => exact run_succ _ _ _ _ _ _ _ (ih (Nat.le_add_right _ _))
theorem exr_mono {n m y : Nat} {dd : List (List Nat)} {is : List Ins} {ls st : List AV} {M : Mem} {x : AR × Mem} (h : n ≤ m) (hx : exB (run n) y dd is ls st M = some x) : exB (run m) y dd is ls st M = some x :=
  exB_mono (fun _ _ _ _ _ _ => run_mono h) _ _ _ _ _ hx
/-- a run of a block gives the block's statement -/
theorem Bq_of {y : Nat} {dd : List (List Nat)} {n : Nat} {Q : AR → Mem → Prop} {r : AR} {M' : Mem} (hQ : Q r M') :
    ∀ (is : List Ins) (ls st : List AV) (M : Mem), exB (run n) y dd is ls st M = some (r, M') → Bq y dd is ls st M Q := by
  have hcall : ∀ (is : List Ins) (z : Nat) (en : List AV) (k tm : Nat) (ls st : List AV) (M : Mem), (∀ ls st M, exB (run n) y dd is ls st M = some (r, M') → Bq y dd is ls st M Q) →
      ((run n z 0 en [] M).bind fun q => (match q.1 with
          | .inl v => (rst k v st).bind fun st => exB (run n) y dd is ls st q.2
          | .inr e => (match tm with
            | 0 => none
            | 1 => some (.inr e, q.2)
            | h + 2 => run n y h (kill (dd.getD h []) ls) [vR 11 e] q.2))) = some (r, M') →
      Tq z 0 en [] M (match tm with
          | 0 => kN k (fun st M => Bq y dd is ls st M Q) st
          | 1 => kX (fun e M => Q (.inr e) M) (kN k (fun st M => Bq y dd is ls st M Q) st)
          | h + 2 => kX (fun e M => Tq y h (kill (dd.getD h []) ls) [vR 11 e] M Q) (kN k (fun st M => Bq y dd is ls st M Q) st)) := by
    intro is z en k tm ls st M ih hx
    cases hr : run n z 0 en [] M with
    | none => rw [hr] at hx; cases hx
    | some q =>
      rw [hr] at hx
      obtain ⟨r1, M1⟩ := q
      refine ⟨n, r1, M1, hr, ?_⟩
      cases r1 with
      | inl v =>
        simp only [Option.bind_some] at hx
        cases hs : rst k v st with
        | none => rw [hs] at hx; cases hx
        | some st1 =>
          rw [hs] at hx
          simp only [Option.bind_some] at hx
          have h2 : kN k (fun st M => Bq y dd is ls st M Q) st (.inl v) M1 := kN_iff.mpr ⟨st1, hs, ih _ _ _ hx⟩
          rcases tm with _ | _ | t
          · exact h2
          · exact h2
          · exact h2
      | inr e =>
        simp only [Option.bind_some] at hx
        rcases tm with _ | _ | t
        · cases hx
        · cases hx
          exact hQ
        · exact ⟨n, r, M', hx, hQ⟩
  intro is
  induction is with
  | nil => intro ls st M hx; cases hx
  | cons i is ih =>
    intro ls st M hx
    unfold exB at hx
    unfold Bq
    generalize ex1 i ls st M = ac at hx ⊢
    rcases ac with _ | a | a | a | a | ⟨og, z, en, k, tm, ls, st, M⟩ | a | a
    · cases hx
    · exact ih _ _ _ hx
    · obtain ⟨p, ls, st, M⟩ := a
      dsimp only at hx ⊢
      by_cases hp : p.1
      · simp only [if_pos hp] at hx
        exact ⟨hp, ih _ _ _ hx⟩
      · simp only [if_neg hp] at hx
        cases hx
    · obtain ⟨p, b, ls, st, M⟩ := a
      dsimp only at hx ⊢
      by_cases hp : p.1
      · simp only [if_pos hp] at hx ⊢
        exact ⟨n, r, M', hx, hQ⟩
      · simp only [if_neg hp] at hx ⊢
        exact ih _ _ _ hx
    · exact ⟨n, r, M', hx, hQ⟩
    · dsimp only at hx ⊢
      rcases og with _ | p
      · exact hcall is z en k tm ls st M ih hx
      · dsimp only at hx ⊢
        by_cases hp : p.1
        · simp only [if_pos hp] at hx
          exact ⟨hp, hcall is z en k tm ls st M ih hx⟩
        · simp only [if_neg hp] at hx
          cases hx
    · cases hx
      exact hQ
    · exact (swP_iff _ _).mpr ⟨n, r, M', hx, hQ⟩
theorem Bq_run {y : Nat} {dd : List (List Nat)} {Q : AR → Mem → Prop} :
    ∀ (is : List Ins) (ls st : List AV) (M : Mem), Bq y dd is ls st M Q → ∃ (n : Nat) (r : AR) (M' : Mem), exB (run n) y dd is ls st M = some (r, M') ∧ Q r M' := by
  have hcall : ∀ (is : List Ins) (z : Nat) (en : List AV) (k tm : Nat) (ls st : List AV) (M : Mem), (∀ ls st M, Bq y dd is ls st M Q → ∃ (n : Nat) (r : AR) (M' : Mem), exB (run n) y dd is ls st M = some (r, M') ∧ Q r M') →
      Tq z 0 en [] M (match tm with
          | 0 => kN k (fun st M => Bq y dd is ls st M Q) st
          | 1 => kX (fun e M => Q (.inr e) M) (kN k (fun st M => Bq y dd is ls st M Q) st)
          | h + 2 => kX (fun e M => Tq y h (kill (dd.getD h []) ls) [vR 11 e] M Q) (kN k (fun st M => Bq y dd is ls st M Q) st)) →
      ∃ (n : Nat) (r : AR) (M' : Mem), ((run n z 0 en [] M).bind fun q => (match q.1 with
          | .inl v => (rst k v st).bind fun st => exB (run n) y dd is ls st q.2
          | .inr e => (match tm with
            | 0 => none
            | 1 => some (.inr e, q.2)
            | h + 2 => run n y h (kill (dd.getD h []) ls) [vR 11 e] q.2))) = some (r, M') ∧ Q r M' := by
    intro is z en k tm ls st M ih hx
    obtain ⟨n, r1, M1, hr, hq⟩ := hx
    cases r1 with
    | inl v =>
      have h2 : kN k (fun st M => Bq y dd is ls st M Q) st (.inl v) M1 := by
        rcases tm with _ | _ | t
        · exact hq
        · exact hq
        · exact hq
      obtain ⟨st1, hs, hb⟩ := kN_iff.mp h2
      obtain ⟨n2, r, M', h3, h4⟩ := ih _ _ _ hb
      refine ⟨max n n2, r, M', ?_, h4⟩
      rw [run_mono (Nat.le_max_left n n2) hr]
      simp only [Option.bind_some, hs]
      exact exr_mono (Nat.le_max_right n n2) h3
    | inr e =>
      rcases tm with _ | _ | t
      · exact absurd hq kN_inr
      · refine ⟨n, .inr e, M1, ?_, hq⟩
        rw [hr]
        rfl
      · obtain ⟨n2, r, M', h3, h4⟩ := hq
        refine ⟨max n n2, r, M', ?_, h4⟩
        rw [run_mono (Nat.le_max_left n n2) hr]
        exact run_mono (Nat.le_max_right n n2) h3
  intro is
  induction is with
  | nil => intro ls st M hx; cases hx
  | cons i is ih =>
    intro ls st M hx
    unfold exB
    unfold Bq at hx
    generalize ex1 i ls st M = ac at hx ⊢
    rcases ac with _ | a | a | a | a | ⟨og, z, en, k, tm, ls, st, M⟩ | a | a
    · cases hx
    · exact ih _ _ _ hx
    · obtain ⟨p, ls, st, M⟩ := a
      dsimp only at hx ⊢
      simp only [if_pos hx.1]
      exact ih _ _ _ hx.2
    · obtain ⟨p, b, ls, st, M⟩ := a
      dsimp only at hx ⊢
      by_cases hp : p.1
      · simp only [if_pos hp] at hx ⊢
        exact hx
      · simp only [if_neg hp] at hx ⊢
        exact ih _ _ _ hx
    · exact hx
    · dsimp only at hx ⊢
      rcases og with _ | p
      · exact hcall is z en k tm ls st M ih hx
      · dsimp only at hx ⊢
        simp only [if_pos hx.1]
        exact hcall is z en k tm ls st M ih hx.2
    · exact ⟨0, _, _, rfl, hx⟩
    · exact (swP_iff _ _).mp hx
/-- A BLOCK's STATEMENT: what is to be shown at its start -/
theorem Tq_blk {y b : Nat} {is : List Ins} {dd : List (List Nat)} {ls st : List AV} {M : Mem} {Q : AR → Mem → Prop} (hb : blk y b = is) (hd : deadT y = dd) : Tq y b ls st M Q ↔ Bq y dd is ls st M Q := by
  subst hb; subst hd
  constructor
  · rintro ⟨n, r, M', h, hQ⟩
    cases n with
    | zero => cases h
    | succ n => exact Bq_of hQ _ _ _ _ h
  · intro h
    obtain ⟨n, r, M', h1, h2⟩ := Bq_run _ _ _ _ h
    exact ⟨n + 1, r, M', h1, h2⟩
theorem Tq_imp {y b : Nat} {ls st : List AV} {M : Mem} {Q Q' : AR → Mem → Prop} (h : Tq y b ls st M Q) (hi : ∀ r M', Q r M' → Q' r M') : Tq y b ls st M Q' := by
  obtain ⟨n, r, M', h1, h2⟩ := h
  exact ⟨n, r, M', h1, hi _ _ h2⟩
theorem Tq_cg {y b : Nat} {ls st : List AV} {M : Mem} {Q Q' : AR → Mem → Prop} (hi : ∀ r M', Q r M' ↔ Q' r M') : Tq y b ls st M Q ↔ Tq y b ls st M Q' :=
  ⟨fun h => Tq_imp h fun r M' => (hi r M').mp, fun h => Tq_imp h fun r M' => (hi r M').mpr⟩
