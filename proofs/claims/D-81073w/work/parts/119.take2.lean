/-! LINES: a record that is whole -/
theorem bat_v {M : Mem} {i k : Int} (h0 : 0 ≤ k) (h1 : k < M 13 i 1) : bat M i k = M 13000 i k % 256 := if_pos ⟨h0, h1⟩
/-- the counts behind a record -/
def tkC (c : Int → Int) (e num ok fr tw n room : Int) (j : Int) : Int := if ok = 0 then (if j = 3 then w32 (c 3 + 1) else c j) else if 0 < fr ∧ room = 0 then (if j = 6 then w32 (nmC c e num 6 + 1) else nmC c e num j) else if j = 2 then w32 (nmC c e num 2 + 1) else if j = 7 then w32 (nmC c e num 7 + fr) else if j = 8 then w32 (nmC c e num 8 + tw) else if j = 9 then w32 (nmC c e num 9 + (n - fr - tw)) else nmC c e num j
theorem ctL_known : ∀ (L : List Int) (M : Mem) (a : Int), frs (M 5004 0) a L = 0 → ctL M a L = M
  | [], _, _, _ => rfl
  | v :: L, M, a, h => by
    have hr := ft_rng (K := M 5004 0) (S := M 5004 0) L (a + 1)
    unfold frs at h
    by_cases c : M 5004 0 a = 0
    · rw [if_pos c] at h
      omega
    · rw [if_neg c] at h
      show ctL (ctk M a v) (a + 1) L = M
      have : ctk M a v = M := by unfold ctk; rw [if_neg c]
      rw [this]
      exact ctL_known L M (a + 1) (by omega)
theorem ctL_cg : ∀ (L : List Int) (A B : Mem) (a : Int), A 5003 0 = B 5003 0 → A 5004 0 = B 5004 0 → ctL A a L 5003 0 = ctL B a L 5003 0 ∧ ctL A a L 5004 0 = ctL B a L 5004 0
  | [], A, B, a, e1, e2 => ⟨e1, e2⟩
  | u :: L, A, B, a, e1, e2 => by
    refine ctL_cg L (ctk A a u) (ctk B a u) (a + 1) ?_ ?_
    · unfold ctk
      rw [e2]
      split
      · rw [mset_s, mset_s, mset_o (by simp), mset_o (by simp), e1]
      · exact e1
    · unfold ctk
      rw [e2]
      split
      · rw [mset_o (M := mset A 5004 0 a 1) (by simp), mset_o (M := mset B 5004 0 a 1) (by simp), mset_s, mset_s, e2]
      · exact e2
/-- what a record changes on the one side -/
def STkC (x : Int) (f : Nat) (i k : Int) : Prop := f = 5003 ∨ f = 5004 ∨ (f = 16001 ∧ i = x) ∨ (f = 16002 ∧ i = x) ∨ f = 15000 ∨ LCLog f i k
theorem lmid_fr {M : Mem} {n : Int} {C : List Int} : Fr LCLog M (lmid M n C) := by
  unfold lmid
  exact Fr.bapp (Fr.mset Fr.refl (by simp [LCLog])) (by simp [LCLog]) (fun k => by simp [LCLog])
section Take2
variable {M P : Mem} {Q : AR → Mem → Prop} {x s t n v a z num cd ok : Int} {L : List Int} {rs : List (Int × List Int)}
/-- the samples go behind a row -/
theorem m31_5 {x3 x4 m : Int} : ∀ (L : List Int) (k : Int) (C : List Int), 0 ≤ k → k + L.length = n → n ≤ 56 → (∀ j : Nat, j < L.length → M 15000 0 (k + j) = L.getD j 0) → 0 ≤ M 13 1 1 → M 13 1 1 + 2 + C.length + 4 * L.length ≤ 60000 → (Tq 31 5 [vR 1 0, vR 16 x, vJ, vI x3, vI x4, vI n, vJ, vI k] [] (lmid M m C) Q ↔ Tq 31 6 [vR 1 0, vR 16 x, vJ, vI x3, vI x4, vI n, vJ, vJ] [] (lmid M m (C ++ L.flatMap be4)) Q)
  | [], k, C, h1, h2, h3, h4, h5, h6 => by
    rw [List.length_nil] at h2
    rw [t31_5, if_pos (by omega), List.flatMap_nil, List.append_nil]
  | v :: L, k, C, h1, h2, h3, h4, h5, h6 => by
    rw [List.length_cons] at h2 h6
    have hv := h4 0 (by simp)
    rw [show k + ((0 : Nat) : Int) = k by omega, List.getD_cons_zero] at hv
    rw [t31_5, if_neg (by omega), lmid_fr 15000 0 k (by simp [LCLog]), hv, m111_l h5 (by omega), kV_v, w32_id (z := k + 1) (by omega) (by omega), m31_5 L (k + 1) (C ++ be4 v) (by omega) (by omega) h3 (fun j hj => by
      have := h4 (j + 1) (by simp; omega)
      rw [List.getD_cons_succ, show k + ((j + 1 : Nat) : Int) = k + 1 + j by omega] at this
      exact this) h5 (by rw [List.length_append, be4_len]; omega), List.append_assoc]
    exact andi (by omega) Iff.rfl
theorem m31_7 (hs : 0 ≤ s ∧ s < 12) (ht : 0 ≤ t) (htn : t + n ≤ 4096) (hn : n ≤ 56) (hl : (L.length : Int) = n) (hL : ∀ j : Nat, j < L.length → M 15000 0 j = L.getD j 0) (hc : ∀ j, 0 ≤ j → j < 10 → I32 (M 16001 x j)) (hQ : ∀ M', Fr (STk x) M M' → M' 5003 0 = ctL M (s * 4096 + t) L 5003 0 → M' 5004 0 = ctL M (s * 4096 + t) L 5004 0 → (∀ j, M' 16001 x j = if j = 2 then w32 (M 16001 x 2 + 1) else if j = 7 then w32 (M 16001 x 7 + frs (M 5004 0) (s * 4096 + t) L) else if j = 8 then w32 (M 16001 x 8 + twc (M 5004 0) (M 5003 0) (s * 4096 + t) L) else if j = 9 then w32 (M 16001 x 9 + (n - frs (M 5004 0) (s * 4096 + t) L - twc (M 5004 0) (M 5003 0) (s * 4096 + t) L)) else M' 16001 x j) → (∀ j, j < 7 → ¬ j = 2 → M' 16001 x j = M 16001 x j) → Q (.inl none) M') : Tq 31 7 [vR 1 0, vR 16 x, vJ, vI s, vI t, vI n, vJ, vJ] [] M Q := by
  rw [t31_7]
  refine m31_8 hs ht htn hn L 0 M (by omega) (by omega) (fun j hj => by rw [Int.zero_add]; exact hL j hj) hc ?_
  rw [Int.add_zero]
  intro M' f1 f2 f3 f4 f5 f6 f7
  rw [t31_9]
  refine ⟨by decide, by decide, ?_⟩
  rw [bd_e]
  refine hQ _ (Fr.mset f1 (by simp [STk])) (by rw [mset_o (by simp), f2]) (by rw [mset_o (by simp), f3]) (fun j => ?_) (fun j j1 j2 => ?_)
  · rw [mset_s, fup_at]
    by_cases c2 : j = 2
    · rw [if_pos c2, if_pos c2, f4 2 (by decide)]
    · rw [if_neg c2, if_neg c2]
      by_cases c7 : j = 7
      · rw [if_pos c7, c7, f5]
      · rw [if_neg c7]
        by_cases c8 : j = 8
        · rw [if_pos c8, c8, f6]
        · rw [if_neg c8]
          by_cases c9 : j = 9
          · rw [if_pos c9, c9, f7, hl]
          · rw [if_neg c9]
  · rw [mset_s, fup_ne j2, f4 j j1]
theorem m31 {p : Int} (hx : 0 ≤ x ∧ x < 4) (hp : 0 ≤ p) (hS : p + 12 + z ≤ M 13 (3 + x) 1) (hS2 : M 13 (3 + x) 1 ≤ 800) (es : M 13000 (3 + x) (p + 1) % 256 = s) (enum : M 13000 (3 + x) (p + 2) % 256 = num) (ecd : M 13000 (3 + x) (p + 3) % 256 = cd) (et : tw (M 13000 (3 + x)) (p + 4) = t) (en : M 13000 (3 + x) (p + 6) % 256 = n) (ez : M 13000 (3 + x) (p + 7) % 256 = z) (hs : 0 ≤ s ∧ s < 12) (hn : 1 ≤ n ∧ n ≤ 56) (htn : t + n ≤ 4096)
    (hdec : ∀ Q, Tq 125 0 [vR 15 0, vR 13 (3 + x), vI (p + 8), vI z, vI cd, vI n] [] M Q ↔ Q (.inl (some (vI ok))) (movl M 15000 0 0 L)) (hok : ok = 0 ∨ ok = 1) (hL : ok = 1 → (L.length : Int) = n) (hc : ∀ j, 0 ≤ j → j < 10 → I32 (M 16001 x j)) (he : M 16002 x s = -99999999 ∨ 0 ≤ M 16002 x s ∧ M 16002 x s ≤ 255) (hk : ∀ j, 0 ≤ j → j < 49152 → M 5004 0 j = 0 ∨ M 5004 0 j = 1) (hlog : CLog M rs)
    (hQ : ∀ M' room fr, (room = 0 ∨ room = 1) → (room = 1 ↔ M 13 1 1 + 19 + 4 * n ≤ 60000) → fr = frs (M 5004 0) (s * 4096 + t) L → Fr (STkC x) M M' → (∀ j, 0 ≤ j → j < 10 → M' 16001 x j = tkC (M 16001 x) (M 16002 x s) num ok fr (twc (M 5004 0) (M 5003 0) (s * 4096 + t) L) n room j) → M' 16002 x = (if ok = 0 then M 16002 x else nmE (M 16002 x) s num) → (ok = 1 ∧ 0 < fr ∧ room = 1 → CLog M' ((82, s :: t :: n :: L) :: rs) ∧ M' 5003 0 = ctL M (s * 4096 + t) L 5003 0 ∧ M' 5004 0 = ctL M (s * 4096 + t) L 5004 0) → (¬ (ok = 1 ∧ 0 < fr ∧ room = 1) → CLog M' rs ∧ M' 5003 0 = M 5003 0 ∧ M' 5004 0 = M 5004 0) → Q (.inl none) M') : Tq 31 0 [vR 1 0, vR 16 x, vI p, vJ, vJ, vJ, vJ, vJ] [] M Q := by
  have h8 : bLen (3 + x) = 800 := bLen_ear hx.1 hx.2
  have hrg := hlog.rng
  have ht0 : 0 ≤ t := by rw [← et]; exact tw_rng.1
  rw [t31_0, w32_id (z := p + 1) (by omega) (by omega), m114 (by omega), kI_v, bat_v (by omega) (by omega), es, w32_id (z := p + 4) (by omega) (by omega), m116 (by omega) (by omega), kI_v, et, w32_id (z := p + 6) (by omega) (by omega), m114 (by omega), kI_v, bat_v (by omega) (by omega), en, w32_id (z := p + 7) (by omega) (by omega), m114 (by omega), kI_v, bat_v (by omega) (by omega), ez, w32_id (z := p + 3) (by omega) (by omega), m114 (by omega), kI_v, bat_v (by omega) (by omega), ecd, w32_id (z := p + 8) (by omega) (by omega), hdec, kI_v]
  have r : ∀ {f : Nat} {i : Int}, ¬ f = 15000 → movl M 15000 0 0 L f i = M f i := fun h => movl_r h
  rcases hok with h0 | h1
  · -- not decoded
    rw [if_neg (by omega)]
    refine ⟨by decide, by decide, ?_⟩
    rw [bd_e]
    refine hQ _ (b2i (M 13 1 1 + 19 + 4 * n ≤ 60000)) _ b2i_01 b2i_e1 rfl (Fr.mset (Fr.movl Fr.refl (fun _ => by simp [STkC])) (by simp [STkC])) (fun j j1 j2 => ?_) ?_ (fun q => by omega) (fun _ => ⟨?_, ?_, ?_⟩)
    · rw [mset_s, r (by decide), fup_at]
      unfold tkC
      rw [if_pos h0]
    · rw [mset_o (by simp), r (by decide), if_pos h0]
    · exact CLog_fr (S := fun f _ _ => f = 15000 ∨ f = 16001) hlog (Fr.mset (Fr.movl Fr.refl (fun _ => by simp)) (by simp)) (by simp only [LCLog]; omega)
    · rw [mset_o (by simp), r (by decide)]
    · rw [mset_o (by simp), r (by decide)]
  · have hl := hL h1
    rw [if_pos (by omega), t31_1, w32_id (z := p + 2) (by omega) (by omega), m114 (by rw [r (by decide), h8]; omega), kI_v, bat_v (by omega) (by rw [r (by decide)]; omega), r (by decide), enum, m137 hs (by omega) (by rw [r (by decide)]; exact he), kV_v, r (by decide), r (by decide)]
    generalize hM2 : mrow (mrow (movl M 15000 0 0 L) 16001 x (nmC (M 16001 x) (M 16002 x s) num)) 16002 x (nmE (M 16002 x) s num) = M2
    have r2 : ∀ {f : Nat} {i : Int}, ¬ f = 15000 → ¬ f = 16001 → ¬ f = 16002 → M2 f i = M f i := fun h1 h2 h3 => by rw [← hM2, mrow_2, if_neg (fun q => h3 q.1), mrow_2, if_neg (fun q => h2 q.1), r h1]
    have q1 : M2 16001 x = nmC (M 16001 x) (M 16002 x s) num := by rw [← hM2, mrow_2, if_neg (by simp), mrow_2, if_pos ⟨rfl, rfl⟩]
    have q2 : M2 16002 x = nmE (M 16002 x) s num := by rw [← hM2, mrow_2, if_pos ⟨rfl, rfl⟩]
    have q3 : ∀ j : Nat, j < L.length → M2 15000 0 j = L.getD j 0 := fun j hj => by
      rw [← hM2, mrow_2, if_neg (by simp), mrow_2, if_neg (by simp), movl_0g (by omega) (by omega), Int.toNat_natCast]
    have f2 : Fr (STkC x) M M2 := by
      rw [← hM2]
      exact Fr.mrow (Fr.mrow (Fr.movl Fr.refl (fun _ => by simp [STkC])) (fun _ => by simp [STkC])) (fun _ => by simp [STkC])
    have hc2 : ∀ j, 0 ≤ j → j < 10 → I32 (M2 16001 x j) := fun j j1 j2 => by
      rw [q1]
      unfold nmC
      split
      · rw [fup_at]; split
        · exact w32_rng _
        · exact hc j j1 j2
      · rw [fup_at]; split
        · exact w32_rng _
        · exact hc j j1 j2
    rw [m354 hs ht0 (by omega) htn (fun j j1 j2 => by rw [r2 (by decide) (by decide) (by decide)]; exact hk j j1 j2), kI_v, r2 (f := 5004) (by decide) (by decide) (by decide)]
    have hak : akF (M 5004 0) n.toNat (s * 4096 + t) = 1 ↔ frs (M 5004 0) (s * 4096 + t) L = 0 := by
      rw [frs_ak, show n.toNat = L.length by omega]
    have hft := ft_rng (K := M 5004 0) (S := M 5003 0) L (s * 4096 + t)
    have hL2 : CLog M2 rs := CLog_fr hlog (S := fun f _ _ => f = 15000 ∨ f = 16001 ∨ f = 16002) (by rw [← hM2]; exact Fr.mrow (Fr.mrow (Fr.movl Fr.refl (fun _ => by simp)) (fun _ => by simp)) (fun _ => by simp)) (by simp only [LCLog]; omega)
    have e13 : M2 13 1 1 = M 13 1 1 := by rw [r2 (by decide) (by decide) (by decide)]
    have e14 : M2 14 0 1 = M 14 0 1 := by rw [r2 (by decide) (by decide) (by decide)]
    -- the end, from block 7
    have fin : ∀ M3, (∀ f i, ¬ (f = 13 ∧ i = 1) → ¬ (f = 13000 ∧ i = 1) → ¬ f = 14 → M3 f i = M2 f i) → (∀ room : Int, (room = 0 ∨ room = 1) → (room = 1 ↔ M 13 1 1 + 19 + 4 * n ≤ 60000) → ¬ (0 < frs (M 5004 0) (s * 4096 + t) L ∧ room = 0) → (0 < frs (M 5004 0) (s * 4096 + t) L → CLog M3 ((82, s :: t :: n :: L) :: rs)) → (frs (M 5004 0) (s * 4096 + t) L = 0 → CLog M3 rs) → Fr (STkC x) M M3 → Tq 31 7 [vR 1 0, vR 16 x, vJ, vI s, vI t, vI n, vJ, vJ] [] M3 Q) := by
      intro M3 e3 room hr hr1 hnr g1 g2 gf
      have x0 : ∀ {f : Nat} {i : Int}, ¬ f = 13 → ¬ f = 13000 → ¬ f = 14 → M3 f i = M2 f i := fun h1 h2 h3 => e3 _ _ (fun q => h1 q.1) (fun q => h2 q.1) h3
      refine m31_7 hs ht0 htn hn.2 hl (fun j hj => by rw [x0 (by decide) (by decide) (by decide)]; exact q3 j hj) (fun j j1 j2 => by rw [x0 (by decide) (by decide) (by decide)]; exact hc2 j j1 j2) (fun M' k1 k2 k3 k4 k5 => ?_)
      have y3 : M3 5003 0 = M 5003 0 := by rw [x0 (by decide) (by decide) (by decide), r2 (by decide) (by decide) (by decide)]
      have y4 : M3 5004 0 = M 5004 0 := by rw [x0 (by decide) (by decide) (by decide), r2 (by decide) (by decide) (by decide)]
      have y1 : M3 16001 x = nmC (M 16001 x) (M 16002 x s) num := by rw [x0 (by decide) (by decide) (by decide), q1]
      have yc := ctL_cg L M3 M (s * 4096 + t) y3 y4
      rw [y3, y4, y1] at k4
      rw [y1] at k5
      refine hQ M' room _ hr hr1 rfl (gf.trans (k1.mono (by simp only [STk, STkC]; omega))) (fun j j1 j2 => ?_) ?_ (fun q => ⟨CLog_fr (g1 q.2.1) k1 (by simp only [STk, LCLog]; omega), by rw [k2, yc.1], by rw [k3, yc.2]⟩) (fun q => ?_)
      · unfold tkC
        rw [if_neg (by omega), if_neg hnr]
        by_cases c2 : j = 2
        · rw [if_pos c2, c2, k4 2, if_pos rfl]
        · rw [if_neg c2]
          by_cases c7 : j = 7
          · rw [if_pos c7, c7, k4 7, if_neg (by decide), if_pos rfl]
          · rw [if_neg c7]
            by_cases c8 : j = 8
            · rw [if_pos c8, c8, k4 8, if_neg (by decide), if_neg (by decide), if_pos rfl]
            · rw [if_neg c8]
              by_cases c9 : j = 9
              · rw [if_pos c9, c9, k4 9, if_neg (by decide), if_neg (by decide), if_neg (by decide), if_pos rfl]
              · rw [if_neg c9, k5 j (by omega) c2]
      · rw [k1.row 16002 x (fun k => by simp [STk]), x0 (by decide) (by decide) (by decide), q2, if_neg (by omega)]
      · have f0 : frs (M 5004 0) (s * 4096 + t) L = 0 := by omega
        refine ⟨CLog_fr (g2 f0) k1 (by simp only [STk, LCLog]; omega), ?_, ?_⟩
        · rw [k2, yc.1, ctL_known L M _ f0]
        · rw [k3, yc.2, ctL_known L M _ f0]
    by_cases hf : frs (M 5004 0) (s * 4096 + t) L = 0
    · rw [if_pos (by rw [hak.mpr hf]; decide), t31_2, t31_3, if_pos rfl, t31_4, if_pos rfl]
      exact fin M2 (fun _ _ _ _ _ => rfl) (b2i (M 13 1 1 + 19 + 4 * n ≤ 60000)) b2i_01 b2i_e1 (by omega) (fun q => by omega) (fun _ => hL2) f2
    · have hk0 : akF (M 5004 0) n.toNat (s * 4096 + t) = 0 := by
        rcases akF_01 (g := M 5004 0) n.toNat (s * 4096 + t) with q | q
        · exact q
        · exact absurd (hak.mp q) hf
      rw [if_neg (by omega), t31_3, if_neg (by decide), w32_id (z := 4 * n) (by omega) (by omega), w32_id (z := 13 + 4 * n) (by omega) (by omega), m119 (by omega) (by omega) (by omega) (by omega), kI_v, e13]
      by_cases hroom : M 13 1 1 + 19 + 4 * n ≤ 60000
      · rw [if_pos (by rw [b2i_t (by omega)]; decide), t31_4, if_neg (by decide), w32_id (z := 4 * n) (by omega) (by omega), w32_id (z := 13 + 4 * n) (by omega) (by omega), m121 (by omega) (by omega) (by omega) (by omega), kV_v, m111_l (by omega) (by rw [e13]; simp; omega), kV_v, m111_l (by omega) (by rw [e13]; simp [be4_len]; omega), kV_v, m111_l (by omega) (by rw [e13]; simp [be4_len]; omega), kV_v]
        have ec : [w8 82] ++ be4 s ++ be4 t ++ be4 n ++ L.flatMap be4 = cont (82, s :: t :: n :: L) := by
          rw [cont_N (by decide)]
          simp [List.flatMap_cons]
        have ecl : ((cont (82, s :: t :: n :: L)).length : Int) = 13 + 4 * n := by rw [cont_len (by decide)]; simp; omega
        rw [m31_5 L 0 _ (by omega) (by omega) hn.2 (fun j hj => by rw [Int.zero_add]; exact q3 j hj) (by omega) (by rw [e13]; simp [be4_len]; omega), t31_6, ec, m122 (by omega) (by omega) (by omega) (by omega) (by omega), kV_v]
        have hg := CLog_add (r := (82, s :: t :: n :: L)) hL2 (by omega)
        exact fin _ (fun f i h1 h2 h3 => by
          funext k
          refine lgw_fr f i k ?_
          simp only [LCLog]
          omega) 1 (Or.inr rfl) ⟨fun _ => hroom, fun _ => rfl⟩ (by omega) (fun _ => hg) (fun q => absurd q hf) (f2.trans (lgw_fr.mono (fun f i k h => Or.inr (Or.inr (Or.inr (Or.inr (Or.inr h)))))))
      · rw [if_neg (by rw [b2i_f (by omega)]; decide)]
        refine ⟨by decide, by decide, ?_⟩
        rw [bd_e]
        refine hQ _ 0 _ (Or.inl rfl) (by omega) rfl (Fr.mset f2 (by simp [STkC])) (fun j j1 j2 => ?_) ?_ (fun q => by omega) (fun _ => ⟨?_, ?_, ?_⟩)
        · rw [mset_s, fup_at, q1]
          unfold tkC
          rw [if_neg (show ¬ ok = 0 by omega), if_pos (show 0 < frs (M 5004 0) (s * 4096 + t) L ∧ (0 : Int) = 0 by omega)]
        · rw [mset_o (by simp), q2, if_neg (by omega)]
        · exact CLog_fr (S := fun f _ _ => f = 16001) hL2 (Fr.mset Fr.refl (by simp)) (by simp only [LCLog]; omega)
        · rw [mset_o (by simp), r2 (by decide) (by decide) (by decide)]
        · rw [mset_o (by simp), r2 (by decide) (by decide) (by decide)]
end Take2
