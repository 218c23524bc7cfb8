/-! LINES: a record that is whole, on the one side -/
/-- how many are new; how many are the same -/
def frs (K : Int → Int) (a : Int) : List Int → Int
  | [] => 0
  | _ :: L => (if K a = 0 then 1 else 0) + frs K (a + 1) L
def twc (K S : Int → Int) (a : Int) : List Int → Int
  | [] => 0
  | v :: L => (if ¬ K a = 0 ∧ S a = v then 1 else 0) + twc K S (a + 1) L
theorem frs_cg {K K' : Int → Int} : ∀ (L : List Int) (a : Int), (∀ j, a ≤ j → j < a + L.length → K j = K' j) → frs K a L = frs K' a L
  | [], _, _ => rfl
  | v :: L, a, h => by
    unfold frs
    rw [List.length_cons] at h
    rw [h a (by omega) (by omega), frs_cg L (a + 1) (fun j j1 j2 => h j (by omega) (by omega))]
theorem twc_cg {K K' S S' : Int → Int} : ∀ (L : List Int) (a : Int), (∀ j, a ≤ j → j < a + L.length → K j = K' j ∧ (¬ K' j = 0 → S j = S' j)) → twc K S a L = twc K' S' a L
  | [], _, _ => rfl
  | v :: L, a, h => by
    unfold twc
    rw [List.length_cons] at h
    have h0 := h a (by omega) (by omega)
    rw [h0.1, twc_cg L (a + 1) (fun j j1 j2 => h j (by omega) (by omega))]
    by_cases c : K' a = 0
    · rw [if_neg (fun q => q.1 c), if_neg (fun q => q.1 c)]
    · rw [h0.2 c]
theorem ft_rng {K S : Int → Int} : ∀ (L : List Int) (a : Int), 0 ≤ frs K a L ∧ 0 ≤ twc K S a L ∧ frs K a L + twc K S a L ≤ L.length
  | [], _ => by simp [frs, twc]
  | v :: L, a => by
    have h := ft_rng (K := K) (S := S) L (a + 1)
    unfold frs twc
    rw [List.length_cons]
    by_cases c : K a = 0
    · rw [if_pos c, if_neg (fun q => q.1 c)]
      omega
    · rw [if_neg c]
      split <;> omega
theorem frs_ak {K : Int → Int} : ∀ (L : List Int) (a : Int), frs K a L = 0 ↔ akF K L.length a = 1
  | [], _ => by simp [frs, akF]
  | v :: L, a => by
    have h := ft_rng (K := K) (S := K) L (a + 1)
    unfold frs
    rw [List.length_cons, akF_s]
    by_cases c : K a = 0
    · rw [if_pos c, if_pos c]
      omega
    · rw [if_neg c, if_neg c, Int.zero_add]
      exact frs_ak L (a + 1)
theorem w32_ad {c a b : Int} : w32 (w32 (c + a) + b) = w32 (c + (a + b)) := by
  refine w32_cg ?_
  have := w32_mod (c + a)
  omega
section Take
variable {M P : Mem} {Q : AR → Mem → Prop} {x s t n v a : Int}
/-- what taking changes -/
def STk (x : Int) (f : Nat) (i _ : Int) : Prop := f = 5003 ∨ f = 5004 ∨ (f = 16001 ∧ i = x)
theorem m356 (hs : 0 ≤ s ∧ s < 12) (ht : 0 ≤ t ∧ t < 4096) : Tq 356 0 [vR 5 0, vI s, vI t, vI v, vJ] [] M Q ↔ Q (.inl (some (vI (if M 5004 0 (s * 4096 + t) = 0 then 0 else if M 5003 0 (s * 4096 + t) = v then 1 else 2)))) (ctk M (s * 4096 + t) v) := by
  rw [t356_0, w32_id (z := s * 4096) (by omega) (by omega), w32_id (z := s * 4096 + t) (by omega) (by omega), t356_1, t356_2, t356_2, t356_3, nb_1]
  unfold ctk
  refine andi (by omega) ?_
  by_cases c : M 5004 0 (s * 4096 + t) = 0
  · rw [if_pos c, if_pos c, if_pos c]
    exact andi (by omega) (andi (by omega) Iff.rfl)
  · rw [if_neg c, if_neg c, if_neg c]
    refine andi (by omega) ?_
    by_cases c2 : M 5003 0 (s * 4096 + t) = v
    · rw [if_neg (by simpa using c2), if_pos c2]
    · rw [if_pos c2, if_neg c2]
theorem m31_8 (hs : 0 ≤ s ∧ s < 12) (ht : 0 ≤ t) (htn : t + n ≤ 4096) (hn : n ≤ 56) : ∀ (L : List Int) (k : Int) (M : Mem), 0 ≤ k → k + L.length = n → (∀ j : Nat, j < L.length → M 15000 0 (k + j) = L.getD j 0) → (∀ j, 0 ≤ j → j < 10 → I32 (M 16001 x j)) → (∀ M', Fr (STk x) M M' → M' 5003 0 = ctL M (s * 4096 + t + k) L 5003 0 → M' 5004 0 = ctL M (s * 4096 + t + k) L 5004 0 → (∀ j, j < 7 → M' 16001 x j = M 16001 x j) → M' 16001 x 7 = w32 (M 16001 x 7 + frs (M 5004 0) (s * 4096 + t + k) L) → M' 16001 x 8 = w32 (M 16001 x 8 + twc (M 5004 0) (M 5003 0) (s * 4096 + t + k) L) → M' 16001 x 9 = w32 (M 16001 x 9 + (L.length - frs (M 5004 0) (s * 4096 + t + k) L - twc (M 5004 0) (M 5003 0) (s * 4096 + t + k) L)) → Tq 31 9 [vJ, vR 16 x, vJ, vJ, vJ, vJ, vJ, vJ] [] M' Q) → Tq 31 8 [vR 1 0, vR 16 x, vJ, vI s, vI t, vI n, vJ, vI k] [] M Q
  | [], k, M, h1, h2, h3, h4, h5 => by
    rw [List.length_nil] at h2
    rw [t31_8, if_pos (by omega)]
    have i7 := h4 7 (by decide) (by decide)
    have i8 := h4 8 (by decide) (by decide)
    have i9 := h4 9 (by decide) (by decide)
    refine h5 M Fr.refl rfl rfl (fun _ _ => rfl) ?_ ?_ ?_
    · show _ = w32 (M 16001 x 7 + 0)
      rw [Int.add_zero, w32_id i7.1 i7.2]
    · show _ = w32 (M 16001 x 8 + 0)
      rw [Int.add_zero, w32_id i8.1 i8.2]
    · show _ = w32 (M 16001 x 9 + 0)
      rw [Int.add_zero, w32_id i9.1 i9.2]
  | v :: L, k, M, h1, h2, h3, h4, h5 => by
    rw [List.length_cons] at h2
    have hv := h3 0 (by simp)
    rw [show k + ((0 : Nat) : Int) = k by omega, List.getD_cons_zero] at hv
    rw [t31_8, if_neg (by omega), hv, w32_id (z := t + k) (by omega) (by omega), m356 hs (by omega), kI_v, ← Int.add_assoc]
    generalize hr : (if M 5004 0 (s * 4096 + t + k) = 0 then 0 else if M 5003 0 (s * 4096 + t + k) = v then 1 else 2 : Int) = r
    have r2 : r = 0 ∨ r = 1 ∨ r = 2 := by rw [← hr]; split <;> (try split) <;> omega
    rw [w32_id (z := 7 + r) (by omega) (by omega), w32_id (z := k + 1) (by omega) (by omega)]
    refine ⟨by omega, by omega, by omega, ?_⟩
    have fC : Fr (fun f _ _ => f = 5003 ∨ f = 5004) M (ctk M (s * 4096 + t + k) v) := ctk_fr
    have r16 : ctk M (s * 4096 + t + k) v 16001 x = M 16001 x := fC.row _ _ (fun _ => by simp)
    rw [bd_e, r16]
    generalize hM1 : mset (ctk M (s * 4096 + t + k) v) 16001 x (7 + r) (w32 (M 16001 x (7 + r) + 1)) = M1
    have fr1 : Fr (STk x) M M1 := by
      rw [← hM1]
      exact Fr.mset (fC.mono (by simp only [STk]; omega)) (by simp [STk])
    have q3 : M1 5003 0 = ctk M (s * 4096 + t + k) v 5003 0 := by rw [← hM1, mset_o (by simp)]
    have q4 : M1 5004 0 = ctk M (s * 4096 + t + k) v 5004 0 := by rw [← hM1, mset_o (by simp)]
    have q16 : M1 16001 x = fup (M 16001 x) (7 + r) (w32 (M 16001 x (7 + r) + 1)) := by rw [← hM1, mset_s, r16]
    have o3 : ∀ j, ¬ j = s * 4096 + t + k → M1 5003 0 j = M 5003 0 j := fun j hj => by
      rw [q3]; unfold ctk; split
      · rw [mset_3, if_neg (by simp [hj]), mset_3, if_neg (by simp)]
      · rfl
    have o4 : ∀ j, ¬ j = s * 4096 + t + k → M1 5004 0 j = M 5004 0 j := fun j hj => by
      rw [q4]; unfold ctk; split
      · rw [mset_3, if_neg (by simp), mset_3, if_neg (by simp [hj])]
      · rfl
    have eC : ∀ f, f = 5003 ∨ f = 5004 → ∀ a, ctL M1 a L f 0 = ctL (ctk M (s * 4096 + t + k) v) a L f 0 := by
      have gen : ∀ (L : List Int) (A B : Mem) (a : Int), A 5003 0 = B 5003 0 → A 5004 0 = B 5004 0 → ctL A a L 5003 0 = ctL B a L 5003 0 ∧ ctL A a L 5004 0 = ctL B a L 5004 0 := by
        intro L
        induction L with
        | nil => intro A B a e1 e2; exact ⟨e1, e2⟩
        | cons u L ih =>
          intro A B a e1 e2
          refine ih (ctk A a u) (ctk B a u) (a + 1) ?_ ?_
          · unfold ctk
            rw [e2]
            split
            · rw [mset_s, mset_s, mset_o (by simp), mset_o (by simp), e1]
            · exact e1
          · unfold ctk
            rw [e2]
            split
            · rw [mset_o (M := mset A 5004 0 a 1) (by simp), mset_o (M := mset B 5004 0 a 1) (by simp), mset_s, mset_s, e2]
            · exact e2
      intro f hf a
      have := gen L M1 (ctk M (s * 4096 + t + k) v) a q3 q4
      rcases hf with rfl | rfl
      · exact this.1
      · exact this.2
    refine m31_8 hs ht htn hn L (k + 1) M1 (by omega) (by omega) (fun j hj => ?_) (fun j j1 j2 => ?_) (fun M' f1 f2 f3 f4 f5 f6 f7 => ?_)
    · have := h3 (j + 1) (by simp; omega)
      rw [List.getD_cons_succ, show k + ((j + 1 : Nat) : Int) = k + 1 + j by omega] at this
      rw [← this]
      exact fr1 _ _ _ (by simp [STk])
    · rw [q16, fup_at]
      split
      · exact w32_rng _
      · exact h4 j j1 j2
    · have ek : frs (M1 5004 0) (s * 4096 + t + (k + 1)) L = frs (M 5004 0) (s * 4096 + t + k + 1) L := by
        rw [show s * 4096 + t + (k + 1) = s * 4096 + t + k + 1 by omega]
        exact frs_cg L _ (fun j j1 j2 => o4 j (by omega))
      have et : twc (M1 5004 0) (M1 5003 0) (s * 4096 + t + (k + 1)) L = twc (M 5004 0) (M 5003 0) (s * 4096 + t + k + 1) L := by
        rw [show s * 4096 + t + (k + 1) = s * 4096 + t + k + 1 by omega]
        exact twc_cg L _ (fun j j1 j2 => ⟨o4 j (by omega), fun _ => o3 j (by omega)⟩)
      rw [ek] at f5 f7
      rw [et] at f6 f7
      rw [q16] at f4 f5 f6 f7
      simp only [fup_at] at f4 f5 f6 f7
      have hF : frs (M 5004 0) (s * 4096 + t + k) (v :: L) = (if M 5004 0 (s * 4096 + t + k) = 0 then 1 else 0) + frs (M 5004 0) (s * 4096 + t + k + 1) L := rfl
      have hT : twc (M 5004 0) (M 5003 0) (s * 4096 + t + k) (v :: L) = (if ¬ M 5004 0 (s * 4096 + t + k) = 0 ∧ M 5003 0 (s * 4096 + t + k) = v then 1 else 0) + twc (M 5004 0) (M 5003 0) (s * 4096 + t + k + 1) L := rfl
      refine h5 M' (fr1.trans f1) ?_ ?_ (fun j hj => by rw [f4 j hj, if_neg (by omega)]) ?_ ?_ ?_
      · rw [f2, eC _ (Or.inl rfl), show s * 4096 + t + (k + 1) = s * 4096 + t + k + 1 by omega]
        rfl
      · rw [f3, eC _ (Or.inr rfl), show s * 4096 + t + (k + 1) = s * 4096 + t + k + 1 by omega]
        rfl
      · rw [f5, hF]
        by_cases c : M 5004 0 (s * 4096 + t + k) = 0
        · rw [if_pos c] at hr
          subst hr
          rw [if_pos (by decide), if_pos c, w32_ad, show (7 : Int) + 0 = 7 by decide]
        · rw [if_neg c] at hr
          rw [if_neg (by split at hr <;> omega), if_neg c, Int.zero_add]
      · rw [f6, hT]
        by_cases c : M 5004 0 (s * 4096 + t + k) = 0
        · rw [if_pos c] at hr
          subst hr
          rw [if_neg (by decide), if_neg (fun q => q.1 c), Int.zero_add]
        · rw [if_neg c] at hr
          by_cases c2 : M 5003 0 (s * 4096 + t + k) = v
          · rw [if_pos c2] at hr
            subst hr
            rw [if_pos (by decide), if_pos ⟨c, c2⟩, w32_ad, show (7 : Int) + 1 = 8 by decide]
          · rw [if_neg c2] at hr
            subst hr
            rw [if_neg (by decide), if_neg (fun q => c2 q.2), Int.zero_add]
      · rw [f7, hF, hT, List.length_cons]
        by_cases c : M 5004 0 (s * 4096 + t + k) = 0
        · rw [if_pos c] at hr
          subst hr
          rw [if_neg (by decide), if_pos c, if_neg (fun q => q.1 c)]
          congr 1
          omega
        · rw [if_neg c] at hr
          by_cases c2 : M 5003 0 (s * 4096 + t + k) = v
          · rw [if_pos c2] at hr
            subst hr
            rw [if_neg (by decide), if_neg c, if_pos ⟨c, c2⟩]
            congr 1
            omega
          · rw [if_neg c2] at hr
            subst hr
            rw [if_pos (by decide), if_neg c, if_neg (fun q => c2 q.2), w32_ad, show (7 : Int) + 2 = 9 by decide]
            congr 1
            omega
/-- the number of a record -/
def nmd (e num : Int) : Int := if e = -99999999 then 0 else (num - e) % 256
def nmC (c : Int → Int) (e num : Int) : Int → Int := if nmd e num < 128 then fup c 4 (w32 (c 4 + nmd e num)) else fup c 5 (w32 (c 5 + 1))
def nmE (ex : Int → Int) (s num : Int) : Int → Int := if nmd (ex s) num < 128 then fup ex s ((num + 1) % 256) else ex
theorem m137 {num : Int} (hs : 0 ≤ s ∧ s < 12) (hn : 0 ≤ num ∧ num ≤ 255) (he : M 16002 x s = -99999999 ∨ 0 ≤ M 16002 x s ∧ M 16002 x s ≤ 255) : Tq 137 0 [vR 16 x, vI s, vI num, vJ, vJ] [] M Q ↔ Q (.inl none) (mrow (mrow M 16001 x (nmC (M 16001 x) (M 16002 x s) num)) 16002 x (nmE (M 16002 x) s num)) := by
  have key : ∀ z : Int, (num - z) % 256 = nmd (M 16002 x s) num → I32 (num - z) → (Tq 137 2 [vR 16 x, vI s, vI num, vJ, vJ] [vI z] M Q ↔ Q (.inl none) (mrow (mrow M 16001 x (nmC (M 16001 x) (M 16002 x s) num)) 16002 x (nmE (M 16002 x) s num))) := by
    intro z h1 h2
    simp only [t137_2, t137_3, t137_4]
    rw [w32_id h2.1 h2.2, w32_id (z := num + 1) (by omega) (by omega), and255, and255, h1]
    unfold nmC nmE
    by_cases c : nmd (M 16002 x s) num < 128
    · rw [if_neg (by omega), if_pos c, if_pos c, mset_row, bd_e]
      refine andi (by decide) (andi (by decide) (andi (by omega) ?_))
      rw [bd_e, mset_row, mrow_2, if_neg (by simp)]
    · rw [if_pos (by omega), if_neg c, if_neg c, mset_row]
      refine andi (by decide) (andi (by decide) ?_)
      rw [bd_e]
      have : mrow (mrow M 16001 x (fup (M 16001 x) 5 (w32 (M 16001 x 5 + 1)))) 16002 x (M 16002 x) = mrow M 16001 x (fup (M 16001 x) 5 (w32 (M 16001 x 5 + 1))) := by
        rw [mrow_comm (by simp), mrow_self]
      rw [this]
  rw [t137_0, t137_1]
  refine andi (by omega) ?_
  by_cases c : M 16002 x s = -99999999
  · rw [if_neg (by simpa using c)]
    refine key num ?_ ?_
    · unfold nmd
      rw [if_pos c]
      omega
    · unfold I32
      omega
  · rw [if_pos c]
    refine andi (by omega) (key _ ?_ ?_)
    · unfold nmd
      rw [if_neg c]
    · unfold I32
      omega
end Take
