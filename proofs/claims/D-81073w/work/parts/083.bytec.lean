/-! BYTES: contracts -/
/-- numbers laid over a row of the memory -/
def movl (M : Mem) (f : Nat) (i a : Int) (L : List Int) : Mem := mrow M f i (ovl (M f i) a L)
theorem movl_2 {M : Mem} {f : Nat} {i a : Int} {L : List Int} {f' : Nat} {i' : Int} : movl M f i a L f' i' = if f' = f ∧ i' = i then ovl (M f i) a L else M f' i' := mrow_2
theorem movl_s {M : Mem} {f : Nat} {i a : Int} {L : List Int} : movl M f i a L f i = ovl (M f i) a L := by rw [movl_2, if_pos ⟨rfl, rfl⟩]
theorem movl_app {M : Mem} {f : Nat} {i a b : Int} {L L' : List Int} (h : b = a + L.length) : movl (movl M f i a L) f i b L' = movl M f i a (L ++ L') := by
  unfold movl
  rw [mrow_row, mrow_2, if_pos ⟨rfl, rfl⟩, ovl_app h]
theorem movl_nil {M : Mem} {f : Nat} {i a : Int} : movl M f i a [] = M := by unfold movl; rw [ovl_nil, mrow_self]
theorem mset_movl {M : Mem} {f : Nat} {i k v : Int} : mset M f i k v = movl M f i k [v] := by unfold movl; rw [mset_row, fup_ovl]
theorem mset_mrow_comm {M : Mem} {f f' : Nat} {i k v i' : Int} {g : Int → Int} (h : ¬ (f = f' ∧ i = i')) : mset (mrow M f' i' g) f i k v = mrow (mset M f i k v) f' i' g := by
  rw [mset_row, mset_row, mrow_comm (fun q => h ⟨q.1.symm, q.2.symm⟩), mrow_2, if_neg h]
theorem mset_movl_comm {M : Mem} {f f' : Nat} {i k v i' a : Int} {L : List Int} (h : ¬ (f = f' ∧ i = i')) : mset (movl M f' i' a L) f i k v = movl (mset M f i k v) f' i' a L := by
  unfold movl
  rw [mset_mrow_comm h, mset_o (fun q => h ⟨q.1.symm, q.2.symm⟩)]
theorem mset_mset {M : Mem} {f : Nat} {i k v v' : Int} : mset (mset M f i k v) f i k v' = mset M f i k v' := by
  rw [mset_row, mset_row, mset_row, mrow_row, mrow_2, if_pos ⟨rfl, rfl⟩]
  congr 1
  funext j
  unfold fup
  split <;> rfl
/-- bytes go behind a Bytes -/
def bapp (M : Mem) (i : Int) (L : List Int) : Mem := mset (movl M 13000 i (M 13 i 1) L) 13 i 1 (M 13 i 1 + L.length)
theorem bapp_2 {M : Mem} {i : Int} {L : List Int} {f : Nat} {j : Int} : bapp M i L f j = if f = 13 ∧ j = i then fup (M 13 i) 1 (M 13 i 1 + L.length) else if f = 13000 ∧ j = i then ovl (M 13000 i) (M 13 i 1) L else M f j := by
  unfold bapp
  rw [mset_2, movl_2, movl_2, if_neg (show ¬ (13 = 13000 ∧ i = i) by simp)]
theorem bapp_sz {M : Mem} {i : Int} {L : List Int} : bapp M i L 13 i 1 = M 13 i 1 + L.length := by rw [bapp_2, if_pos ⟨rfl, rfl⟩, fup_eq]
theorem bapp_cells {M : Mem} {i : Int} {L : List Int} : bapp M i L 13000 i = ovl (M 13000 i) (M 13 i 1) L := by rw [bapp_2, if_neg (by simp), if_pos ⟨rfl, rfl⟩]
theorem bapp_nil {M : Mem} {i : Int} : bapp M i [] = M := by
  unfold bapp
  rw [movl_nil]
  funext f j k
  rw [mset_3]
  split
  · rename_i h; rw [h.1, h.2.1, h.2.2]; simp
  · rfl
theorem bapp_app {M : Mem} {i : Int} {L L' : List Int} : bapp (bapp M i L) i L' = bapp M i (L ++ L') := by
  rw [bapp.eq_def (bapp M i L), bapp_sz]
  unfold bapp
  rw [← mset_movl_comm (by simp), movl_app rfl, mset_mset]
  congr 1
  simp
  omega
section Byt
variable {M : Mem} {Q : AR → Mem → Prop} {i v : Int}
theorem m113 (h0 : 0 ≤ M 13 i 1) (h1 : M 13 i 1 < bLen i) : Tq 113 0 [vR 13 i, vI v] [] M Q ↔ Q (.inl none) (bapp M i [w8 v]) := by
  have hb := bLen_rng i
  simp only [kI_v, kL_v, kV_v, kR_v, kX_n, kX_e, bd_e, b2i_e0, b2i_e1, b2i_nb, nb_0, nb_1, cmp_lt, cmp_le, cmp_gt, cmp_ge, cmp_eq, not_true_eq_false, not_false_eq_true, if_true, if_false, ite_true, ite_false, true_and, and_true, false_and, and_false, Int.reduceLT, Int.reduceLE, Int.reduceEq, Int.reduceSub, Int.reduceAdd, Int.reduceNeg, Int.reduceMul, Classical.not_not, Int.zero_add, Int.add_zero, Int.le_refl, t113_0, w8_w8, h0, h1]
  have e : mset (mset M 13000 i (M 13 i 1) (w8 v)) 13 i 1 (w32 (mset M 13000 i (M 13 i 1) (w8 v) 13 i 1 + 1)) = bapp M i [w8 v] := by
    unfold bapp
    rw [mset_3, if_neg (by simp), w32_id (by omega) (by omega), ← mset_movl]
    rfl
  rw [e]
theorem m112 (h0 : 0 ≤ M 13 i 1) (h1 : M 13 i 1 + 2 ≤ bLen i) : Tq 112 0 [vR 13 i, vI v] [] M Q ↔ Q (.inl none) (bapp M i (be2 v)) := by
  rw [t112_0, m113 h0 (by omega), kV_v, m113 (by rw [bapp_sz]; simp; omega) (by rw [bapp_sz]; simp; omega), kV_v, bapp_app]
  rfl
theorem m111 (h0 : 0 ≤ M 13 i 1) (h1 : M 13 i 1 + 4 ≤ bLen i) : Tq 111 0 [vR 13 i, vI v] [] M Q ↔ Q (.inl none) (bapp M i (be4 v)) := by
  rw [t111_0, m112 h0 (by omega), kV_v, m112 (by rw [bapp_sz]; simp [be2]; omega) (by rw [bapp_sz]; simp [be2]; omega), kV_v, bapp_app]
  rfl
/-- a byte of a Bytes, or NONE -/
def bat (M : Mem) (i k : Int) : Int := if 0 ≤ k ∧ k < M 13 i 1 then M 13000 i k % 256 else -99999999
theorem m114 {k : Int} (h1 : M 13 i 1 ≤ bLen i) : Tq 114 0 [vR 13 i, vI k] [] M Q ↔ Q (.inl (some (vI (bat M i k)))) M := by
  simp only [kI_v, kL_v, kV_v, kR_v, kX_n, kX_e, bd_e, b2i_e0, b2i_e1, b2i_nb, nb_0, nb_1, cmp_lt, cmp_le, cmp_gt, cmp_ge, cmp_eq, not_true_eq_false, not_false_eq_true, if_true, if_false, ite_true, ite_false, true_and, and_true, false_and, and_false, Int.reduceLT, Int.reduceLE, Int.reduceEq, Int.reduceSub, Int.reduceAdd, Int.reduceNeg, Int.reduceMul, Classical.not_not, Int.zero_add, Int.add_zero, Int.le_refl, t114_0, t114_1, t114_2, and255]
  unfold bat
  by_cases h2 : k < 0
  · rw [if_pos h2, if_neg (by omega)]
  · by_cases h3 : M 13 i 1 ≤ k
    · rw [if_neg h2, if_pos h3, if_neg (by omega)]
    · rw [if_neg h2, if_neg h3, if_pos (by omega)]
      exact ⟨fun h => h.2, fun h => ⟨by omega, h⟩⟩
theorem rot17 (s : Int) : or32 (shl32 s 17) (ush32 s (w32 (-17))) = or32 (shl32 s 17) (ush32 s 15) := rfl
theorem m115_1 {b : Int} (hb : b ≤ bLen i) : ∀ (n : Nat) (a s : Int), 0 ≤ a → b = a + n → (Tq 115 1 [vR 13 i, vJ, vI b, vI s, vI a] [] M Q ↔ Q (.inl (some (vI (sumF (M 13000 i) n a s)))) M)
  | 0, a, s, h1, h2 => by
    rw [t115_1, if_pos (by omega), t115_2]
    rfl
  | n + 1, a, s, h1, h2 => by
    have hr := bLen_rng i
    rw [t115_1, if_neg (by omega), t5_0, kI_v, rot17, w32_id (z := a + 1) (by omega) (by omega), m115_1 hb n (a + 1) _ (by omega) (by omega)]
    exact ⟨fun h => h.2, fun h => ⟨by omega, h⟩⟩
theorem m115 {a b : Int} (h0 : 0 ≤ a) (h1 : a ≤ b) (hb : b ≤ bLen i) : Tq 115 0 [vR 13 i, vI a, vI b, vJ, vJ] [] M Q ↔ Q (.inl (some (vI (sumF (M 13000 i) (b - a).toNat a 0)))) M := by
  rw [t115_0, m115_1 hb (b - a).toNat a 0 h0 (by omega)]
theorem m116 {k : Int} (h0 : 0 ≤ k) (h1 : k + 1 < bLen i) : Tq 116 0 [vR 13 i, vI k] [] M Q ↔ Q (.inl (some (vI (tw (M 13000 i) k)))) M := by
  have hr := bLen_rng i
  rw [t116_0, w32_id (by omega) (by omega)]
  exact ⟨fun h => h.2.2, fun h => ⟨by omega, by omega, h⟩⟩
theorem m117 {k : Int} (h0 : 0 ≤ k) (h1 : k + 3 < bLen i) : Tq 117 0 [vR 13 i, vI k] [] M Q ↔ Q (.inl (some (vI (fo (M 13000 i) k)))) M := by
  have hr := bLen_rng i
  rw [t117_0, m116 h0 (by omega), kI_v, w32_id (by omega) (by omega), m116 (by omega) (by omega), kI_v]
  rfl
/-- the first n bytes go -/
def bdrop (M : Mem) (i n : Int) : Mem := mset (mrow M 13000 i (fun k => if 0 ≤ k ∧ k < M 13 i 1 - n then M 13000 i (n + k) else M 13000 i k)) 13 i 1 (M 13 i 1 - n)
theorem m118 {n : Int} (h0 : 0 ≤ n) (h1 : n ≤ M 13 i 1) (h2 : M 13 i 1 ≤ bLen i) : Tq 118 0 [vR 13 i, vI n] [] M Q ↔ Q (.inl none) (bdrop M i n) := by
  have hr := bLen_rng i
  simp only [kI_v, kL_v, kV_v, kR_v, kX_n, kX_e, bd_e, b2i_e0, b2i_e1, b2i_nb, nb_0, nb_1, cmp_lt, cmp_le, cmp_gt, cmp_ge, cmp_eq, not_true_eq_false, not_false_eq_true, if_true, if_false, ite_true, ite_false, true_and, and_true, false_and, and_false, Int.reduceLT, Int.reduceLE, Int.reduceEq, Int.reduceSub, Int.reduceAdd, Int.reduceNeg, Int.reduceMul, Classical.not_not, Int.zero_add, Int.add_zero, Int.le_refl, t118_0]
  rw [w32_id (z := M 13 i 1 - n) (by omega) (by omega), mcpy_row, mrow_2, if_neg (by simp), w32_id (by omega) (by omega)]
  have e : (fun k => if 0 ≤ k ∧ k < 0 + (M 13 i 1 - n) then M 13000 i (n + (k - 0)) else M 13000 i k) = (fun k => if 0 ≤ k ∧ k < M 13 i 1 - n then M 13000 i (n + k) else M 13000 i k) := by
    funext k
    rw [Int.zero_add, Int.sub_zero]
  rw [e]
  exact ⟨fun h => h.2, fun h => ⟨by omega, h⟩⟩
/-! the model's -/
theorem m186_log {a : Int} (h0 : 0 ≤ a) (h1 : a + 1 < 61000) : Tq 186 0 [vR 22004 0, vI a, vI v] [] M Q ↔ Q (.inl none) (movl M 22004 0 a (be2 v)) := by
  simp only [kI_v, kL_v, kV_v, kR_v, kX_n, kX_e, bd_e, b2i_e0, b2i_e1, b2i_nb, nb_0, nb_1, cmp_lt, cmp_le, cmp_gt, cmp_ge, cmp_eq, not_true_eq_false, not_false_eq_true, if_true, if_false, ite_true, ite_false, true_and, and_true, false_and, and_false, Int.reduceLT, Int.reduceLE, Int.reduceEq, Int.reduceSub, Int.reduceAdd, Int.reduceNeg, Int.reduceMul, Classical.not_not, Int.zero_add, Int.add_zero, Int.le_refl, t186_0_22004, w8_w8]
  rw [w32_id (by omega) (by omega), mset_movl, mset_movl, movl_app (by simp)]
  exact ⟨fun h => h.2.2, fun h => ⟨by omega, by omega, h⟩⟩
theorem m186_row {r a : Int} (h0 : 0 ≤ a) (h1 : a + 1 < 400) : Tq 186 0 [vR 22099 r, vI a, vI v] [] M Q ↔ Q (.inl none) (movl M 22099 r a (be2 v)) := by
  simp only [kI_v, kL_v, kV_v, kR_v, kX_n, kX_e, bd_e, b2i_e0, b2i_e1, b2i_nb, nb_0, nb_1, cmp_lt, cmp_le, cmp_gt, cmp_ge, cmp_eq, not_true_eq_false, not_false_eq_true, if_true, if_false, ite_true, ite_false, true_and, and_true, false_and, and_false, Int.reduceLT, Int.reduceLE, Int.reduceEq, Int.reduceSub, Int.reduceAdd, Int.reduceNeg, Int.reduceMul, Classical.not_not, Int.zero_add, Int.add_zero, Int.le_refl, t186_0_22099, w8_w8]
  rw [w32_id (by omega) (by omega), mset_movl, mset_movl, movl_app (by simp)]
  exact ⟨fun h => h.2.2, fun h => ⟨by omega, by omega, h⟩⟩
theorem m185_log {a : Int} (h0 : 0 ≤ a) (h1 : a + 3 < 61000) : Tq 185 0 [vR 22004 0, vI a, vI v] [] M Q ↔ Q (.inl none) (movl M 22004 0 a (be4 v)) := by
  rw [t185_0_22004, m186_log h0 (by omega), kV_v, w32_id (by omega) (by omega), m186_log (by omega) (by omega), kV_v, movl_app (by simp [be2])]
  rfl
theorem m185_row {r a : Int} (h0 : 0 ≤ a) (h1 : a + 3 < 400) : Tq 185 0 [vR 22099 r, vI a, vI v] [] M Q ↔ Q (.inl none) (movl M 22099 r a (be4 v)) := by
  rw [t185_0_22099, m186_row h0 (by omega), kV_v, w32_id (by omega) (by omega), m186_row (by omega) (by omega), kV_v, movl_app (by simp [be2])]
  rfl
theorem m192_log {a : Int} (h0 : 0 ≤ a) (h1 : a + 1 < 61000) : Tq 192 0 [vR 22004 0, vI a] [] M Q ↔ Q (.inl (some (vI (tw (M 22004 0) a)))) M := by
  rw [t192_0_22004, w32_id (by omega) (by omega)]
  exact ⟨fun h => h.2.2, fun h => ⟨by omega, by omega, h⟩⟩
theorem m192_old {a : Int} (h0 : 0 ≤ a) (h1 : a + 1 < 60000) : Tq 192 0 [vR 22008 0, vI a] [] M Q ↔ Q (.inl (some (vI (tw (M 22008 0) a)))) M := by
  rw [t192_0_22008, w32_id (by omega) (by omega)]
  exact ⟨fun h => h.2.2, fun h => ⟨by omega, by omega, h⟩⟩
theorem m192_ear {a : Int} (h0 : 0 ≤ a) (h1 : a + 1 < 4000) : Tq 192 0 [vR 22016 0, vI a] [] M Q ↔ Q (.inl (some (vI (tw (M 22016 0) a)))) M := by
  rw [t192_0_22016, w32_id (by omega) (by omega)]
  exact ⟨fun h => h.2.2, fun h => ⟨by omega, by omega, h⟩⟩
theorem m195_old {a : Int} (h0 : 0 ≤ a) (h1 : a + 3 < 60000) : Tq 195 0 [vR 22008 0, vI a] [] M Q ↔ Q (.inl (some (vI (fo (M 22008 0) a)))) M := by
  rw [t195_0_22008, m192_old h0 (by omega), kI_v, w32_id (by omega) (by omega), m192_old (by omega) (by omega), kI_v]
  rfl
theorem m195_ear {a : Int} (h0 : 0 ≤ a) (h1 : a + 3 < 4000) : Tq 195 0 [vR 22016 0, vI a] [] M Q ↔ Q (.inl (some (vI (fo (M 22016 0) a)))) M := by
  rw [t195_0_22016, m192_ear h0 (by omega), kI_v, w32_id (by omega) (by omega), m192_ear (by omega) (by omega), kI_v]
  rfl
theorem m194 {a k : Int} (h0 : 0 ≤ a) (h1 : 0 ≤ k) (h2 : a + 4 * k + 4 < 60000) : Tq 194 0 [vR 22 0, vI a, vI k] [] M Q ↔ Q (.inl (some (vI (fo (M 22008 0) (a + 1 + 4 * k))))) M := by
  rw [t194_0, w32_id (z := a + 1) (by omega) (by omega), w32_id (z := 4 * k) (by omega) (by omega), w32_id (by omega) (by omega), m195_old (by omega) (by omega), kI_v]
theorem m203_log_1 {a m : Int} (ha : 0 ≤ a) (hb : a + m ≤ 61000) : ∀ (n : Nat) (k s : Int), 0 ≤ k → m = k + n → (Tq 203 1 [vR 22004 0, vI a, vI m, vI s, vI k] [] M Q ↔ Q (.inl (some (vI (sumF (M 22004 0) n (a + k) s)))) M)
  | 0, k, s, h1, h2 => by
    rw [t203_1_22004, if_pos (by omega), t203_2_22004]
    rfl
  | n + 1, k, s, h1, h2 => by
    rw [t203_1_22004, if_neg (by omega), w32_id (z := k + 1) (by omega) (by omega), w32_id (z := a + k) (by omega) (by omega), m203_log_1 ha hb n (k + 1) _ (by omega) (by omega)]
    rw [show a + (k + 1) = a + k + 1 by omega]
    exact ⟨fun h => h.2, fun h => ⟨by omega, h⟩⟩
theorem m203_log {a m : Int} (ha : 0 ≤ a) (hm : 0 ≤ m) (hb : a + m ≤ 61000) : Tq 203 0 [vR 22004 0, vI a, vI m, vJ, vJ] [] M Q ↔ Q (.inl (some (vI (sumF (M 22004 0) m.toNat a 0)))) M := by
  rw [t203_0_22004, m203_log_1 ha hb m.toNat 0 0 (by omega) (by omega), Int.add_zero]
theorem m203_ear_1 {a m : Int} (ha : 0 ≤ a) (hb : a + m ≤ 4000) : ∀ (n : Nat) (k s : Int), 0 ≤ k → m = k + n → (Tq 203 1 [vR 22016 0, vI a, vI m, vI s, vI k] [] M Q ↔ Q (.inl (some (vI (sumF (M 22016 0) n (a + k) s)))) M)
  | 0, k, s, h1, h2 => by
    rw [t203_1_22016, if_pos (by omega), t203_2_22016]
    rfl
  | n + 1, k, s, h1, h2 => by
    rw [t203_1_22016, if_neg (by omega), w32_id (z := k + 1) (by omega) (by omega), w32_id (z := a + k) (by omega) (by omega), m203_ear_1 ha hb n (k + 1) _ (by omega) (by omega)]
    rw [show a + (k + 1) = a + k + 1 by omega]
    exact ⟨fun h => h.2, fun h => ⟨by omega, h⟩⟩
theorem m203_ear {a m : Int} (ha : 0 ≤ a) (hm : 0 ≤ m) (hb : a + m ≤ 4000) : Tq 203 0 [vR 22016 0, vI a, vI m, vJ, vJ] [] M Q ↔ Q (.inl (some (vI (sumF (M 22016 0) m.toNat a 0)))) M := by
  rw [t203_0_22016, m203_ear_1 ha hb m.toNat 0 0 (by omega) (by omega), Int.add_zero]
theorem m203_row_1 {r a m : Int} (ha : 0 ≤ a) (hb : a + m ≤ 400) : ∀ (n : Nat) (k s : Int), 0 ≤ k → m = k + n → (Tq 203 1 [vR 22099 r, vI a, vI m, vI s, vI k] [] M Q ↔ Q (.inl (some (vI (sumF (M 22099 r) n (a + k) s)))) M)
  | 0, k, s, h1, h2 => by
    rw [t203_1_22099, if_pos (by omega), t203_2_22099]
    rfl
  | n + 1, k, s, h1, h2 => by
    rw [t203_1_22099, if_neg (by omega), w32_id (z := k + 1) (by omega) (by omega), w32_id (z := a + k) (by omega) (by omega), m203_row_1 ha hb n (k + 1) _ (by omega) (by omega)]
    rw [show a + (k + 1) = a + k + 1 by omega]
    exact ⟨fun h => h.2, fun h => ⟨by omega, h⟩⟩
theorem m203_row {r a m : Int} (ha : 0 ≤ a) (hm : 0 ≤ m) (hb : a + m ≤ 400) : Tq 203 0 [vR 22099 r, vI a, vI m, vJ, vJ] [] M Q ↔ Q (.inl (some (vI (sumF (M 22099 r) m.toNat a 0)))) M := by
  rw [t203_0_22099, m203_row_1 ha hb m.toNat 0 0 (by omega) (by omega), Int.add_zero]
end Byt
