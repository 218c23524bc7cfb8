/-! EARTH: the model's passes -/
def SRk (ph : Int) (f : Nat) (i k : Int) : Prop := f = 22026 ∧ i = 0 ∧ 1440 * ph ≤ k ∧ k < 1440 * ph + 1440
/-- a pass: what is changed, and the cells gone over (G) when nothing is -/
def PFI (sl : Int → Int) (ph : Int) (N0 N : Mem) (m : Int) (G : Int → Prop) : Prop := Fr (SRk ph) N0 N ∧ BF (EdE sl) 0 1440 (dN N ph) ∧ (∀ v, 0 ≤ v → v < 1440 → dN N ph v ≤ dN N0 ph v) ∧ ((m = 0 ∧ N = N0 ∧ ∀ v, G v → ∀ o c, EdE sl o v c → ¬ dN N0 ph o = 2147483647 → dN N0 ph v ≤ dN N0 ph o + c) ∨ (m = 1 ∧ ∃ v, 0 ≤ v ∧ v < 1440 ∧ dN N ph v < dN N0 ph v))
section Pass
variable {ph : Int} {sl : Int → Int} {N0 : Mem}
theorem PFI_G {N : Mem} {m : Int} {G G' : Int → Prop} (h : PFI sl ph N0 N m G) (hG : ∀ v, G' v → G v) : PFI sl ph N0 N m G' := by
  obtain ⟨h1, h2, h3, h4⟩ := h
  refine ⟨h1, h2, h3, ?_⟩
  rcases h4 with ⟨q1, q2, q3⟩ | q
  · exact Or.inl ⟨q1, q2, fun v hv => q3 v (hG v hv)⟩
  · exact Or.inr q
theorem PFI_step {N N' : Mem} {m v : Int} {G : Int → Prop} (hv : 0 ≤ v ∧ v < 1440) (h : PFI sl ph N0 N m G) (hL : LSI sl ph v N N' (fun o c => EdE sl o v c)) : PFI sl ph N0 N' (or32 m (b2i (dN N' ph v < dN N ph v))) (fun w => G w ∨ w = v) := by
  obtain ⟨h1, h2, h3, h4⟩ := h
  obtain ⟨l1, l2, l3, l4⟩ := hL
  have hoth : ∀ w, ¬ w = v → dN N' ph w = dN N ph w := fun w q => l1 22026 0 (1440 * ph + w) (by unfold SLs; omega)
  have hle : ∀ w, 0 ≤ w → w < 1440 → dN N' ph w ≤ dN N0 ph w := fun w w1 w2 => by
    have := h3 w w1 w2
    by_cases q : w = v
    · subst q; omega
    · rw [hoth w q]; exact this
  have hfr : Fr (SRk ph) N0 N' := h1.trans (l1.mono (fun f i k q => by unfold SLs at q; unfold SRk; omega))
  refine ⟨hfr, l2, hle, ?_⟩
  by_cases q : dN N' ph v < dN N ph v
  · rw [b2i_t q]
    refine Or.inr ⟨?_, v, hv.1, hv.2, by have := h3 v hv.1 hv.2; omega⟩
    rcases h4 with ⟨q1, _⟩ | ⟨q1, _⟩ <;> rw [q1] <;> rfl
  · rw [b2i_f q]
    have same : N' = N := by
      funext f i k
      by_cases qs : SLs (1440 * ph + v) f i k
      · obtain ⟨rfl, rfl, rfl⟩ := qs
        show dN N' ph v = dN N ph v
        omega
      · exact l1 f i k qs
    subst same
    rcases h4 with ⟨q1, q2, q3⟩ | ⟨q1, q2⟩
    · refine Or.inl ⟨by rw [q1]; rfl, q2, fun w hw o c he ho => ?_⟩
      rcases hw with hw | rfl
      · exact q3 w hw o c he ho
      · have := l4 o c he
        rw [q2] at this
        exact this ho
    · exact Or.inr ⟨by rw [q1]; rfl, q2⟩
theorem sl_keep {N : Mem} (h : Fr (SRk ph) N0 N) (hN : ∀ z, 0 ≤ z → z < 16 → N0 22025 0 (16 * ph + z) = sl z) : ∀ z, 0 ≤ z → z < 16 → N 22025 0 (16 * ph + z) = sl z := by
  rw [h.row 22025 0 (by simp [SRk])]
  exact hN
theorem m263_5 {x : Int} (hph : ph = 0 ∨ ph = 1) (hsl : SlO sl) (hx : 0 ≤ x ∧ x < 90) (hN : ∀ z, 0 ≤ z → z < 16 → N0 22025 0 (16 * ph + z) = sl z) : ∀ (r : Nat) (z : Int) (N : Mem) (m : Int), z + r = 16 → 0 ≤ z → PFI sl ph N0 N m (fun v => v % 90 < x ∨ (v % 90 = x ∧ v / 90 < z)) → ∃ N' m', PFI sl ph N0 N' m' (fun v => v % 90 < x + 1) ∧ ∀ Q : AR → Mem → Prop, (Tq 263 5 [vR 22 0, vI ph, vJ, vI m, vI x, vI z] [] N Q ↔ Tq 263 4 [vR 22 0, vI ph, vJ, vI m', vI (x + 1), vJ] [] N' Q) := by
  intro r
  induction r with
  | zero =>
    intro z N m h1 h2 hP
    have hP2 : PFI sl ph N0 N m (fun v => v % 90 < x + 1) := by
      obtain ⟨p1, p2, p3, p4⟩ := hP
      refine ⟨p1, p2, p3, ?_⟩
      rcases p4 with ⟨q1, q2, q3⟩ | q
      · refine Or.inl ⟨q1, q2, fun v hv o c he => q3 v ?_ o c he⟩
        have := he.2.1
        show v % 90 < x ∨ (v % 90 = x ∧ v / 90 < z)
        have hv : v % 90 < x + 1 := hv
        omega
      · exact Or.inr q
    refine ⟨N, m, hP2, fun Q => ?_⟩
    rw [t263_5, if_pos (by omega), t263_6, w32_id (z := x + 1) (by omega) (by omega)]
  | succ r ih =>
    intro z N m h1 h2 hP
    obtain ⟨N1, a1, a2⟩ := m264 (N := N) (z := z) hph hsl hx (by omega) (sl_keep hP.1 hN) hP.2.1
    have hs := PFI_step (v := 90 * z + x) (by omega) hP a1
    obtain ⟨N2, m2, b1, b2⟩ := ih (z + 1) N1 _ (by omega) (by omega) (PFI_G hs (fun v q => by
      have q : v % 90 < x ∨ (v % 90 = x ∧ v / 90 < z + 1) := q
      show (v % 90 < x ∨ (v % 90 = x ∧ v / 90 < z)) ∨ v = 90 * z + x
      omega))
    refine ⟨N2, m2, b1, fun Q => ?_⟩
    rw [t263_5, if_neg (by omega), a2, kI_v, w32_id (z := z + 1) (by omega) (by omega), b2 Q]
theorem m263_4 (hph : ph = 0 ∨ ph = 1) (hsl : SlO sl) (hN : ∀ z, 0 ≤ z → z < 16 → N0 22025 0 (16 * ph + z) = sl z) : ∀ (r : Nat) (x : Int) (N : Mem) (m : Int), x + r = 90 → 0 ≤ x → PFI sl ph N0 N m (fun v => v % 90 < x) → ∃ N' m', PFI sl ph N0 N' m' (fun _ => True) ∧ ∀ Q : AR → Mem → Prop, (Tq 263 4 [vR 22 0, vI ph, vJ, vI m, vI x, vJ] [] N Q ↔ Tq 263 8 [vR 22 0, vI ph, vJ, vI m', vI 89, vJ] [] N' Q) := by
  intro r
  induction r with
  | zero =>
    intro x N m h1 h2 hP
    refine ⟨N, m, PFI_G hP (fun v _ => by show v % 90 < x; omega), fun Q => ?_⟩
    rw [t263_4, if_pos (by omega), t263_7]
  | succ r ih =>
    intro x N m h1 h2 hP
    obtain ⟨N1, m1, a1, a2⟩ := m263_5 (x := x) hph hsl (by omega) hN 16 0 N m (by omega) (by omega) (by
      obtain ⟨p1, p2, p3, p4⟩ := hP
      refine ⟨p1, p2, p3, ?_⟩
      rcases p4 with ⟨q1, q2, q3⟩ | q
      · refine Or.inl ⟨q1, q2, fun v hv o c he => q3 v ?_ o c he⟩
        have := he.2.1
        have hv : v % 90 < x ∨ (v % 90 = x ∧ v / 90 < 0) := hv
        show v % 90 < x
        omega
      · exact Or.inr q)
    obtain ⟨N2, m2, b1, b2⟩ := ih (x + 1) N1 m1 (by omega) (by omega) a1
    refine ⟨N2, m2, b1, fun Q => ?_⟩
    rw [t263_4, if_neg (by omega), a2 Q, b2 Q]
/-- the pass back only makes less -/
def PBI (sl : Int → Int) (ph : Int) (N0 N : Mem) : Prop := Fr (SRk ph) N0 N ∧ BF (EdE sl) 0 1440 (dN N ph) ∧ (∀ v, 0 ≤ v → v < 1440 → dN N ph v ≤ dN N0 ph v)
theorem PBI_step {N N' : Mem} {v : Int} (hv : 0 ≤ v ∧ v < 1440) (h : PBI sl ph N0 N) (hL : LSI sl ph v N N' (fun o c => EdE sl o v c)) : PBI sl ph N0 N' := by
  obtain ⟨h1, h2, h3⟩ := h
  obtain ⟨l1, l2, l3, l4⟩ := hL
  refine ⟨h1.trans (l1.mono (fun f i k q => by unfold SLs at q; unfold SRk; omega)), l2, fun w w1 w2 => ?_⟩
  have := h3 w w1 w2
  by_cases q : w = v
  · subst q; omega
  · rw [show dN N' ph w = dN N ph w from l1 22026 0 (1440 * ph + w) (by unfold SLs; omega)]; exact this
theorem m263_9 {x m : Int} (hph : ph = 0 ∨ ph = 1) (hsl : SlO sl) (hx : 0 ≤ x ∧ x < 90) (hN : ∀ z, 0 ≤ z → z < 16 → N0 22025 0 (16 * ph + z) = sl z) : ∀ (r : Nat) (N : Mem), r ≤ 16 → PBI sl ph N0 N → ∃ N', PBI sl ph N0 N' ∧ ∀ Q : AR → Mem → Prop, (Tq 263 9 [vR 22 0, vI ph, vJ, vI m, vI x, vI (r - 1)] [] N Q ↔ Tq 263 8 [vR 22 0, vI ph, vJ, vI m, vI (x - 1), vJ] [] N' Q) := by
  intro r
  induction r with
  | zero =>
    intro N _ hP
    refine ⟨N, hP, fun Q => ?_⟩
    rw [t263_9, if_pos (by omega), t263_10, w32_id (z := x + -1) (by omega) (by omega), show x + -1 = x - 1 by omega]
  | succ r ih =>
    intro N hr hP
    obtain ⟨N1, a1, a2⟩ := m264 (N := N) (z := r) hph hsl hx (by omega) (sl_keep hP.1 hN) hP.2.1
    obtain ⟨N2, b1, b2⟩ := ih N1 (by omega) (PBI_step (by omega) hP a1)
    refine ⟨N2, b1, fun Q => ?_⟩
    rw [show ((r + 1 : Nat) : Int) - 1 = r by omega, t263_9, if_neg (by omega), a2, kI_v, w32_id (z := (r : Int) + -1) (by omega) (by omega), show (r : Int) + -1 = r - 1 by omega, b2 Q]
theorem m263_8 {m : Int} (hph : ph = 0 ∨ ph = 1) (hsl : SlO sl) (hm : ¬ m = 0) (hN : ∀ z, 0 ≤ z → z < 16 → N0 22025 0 (16 * ph + z) = sl z) : ∀ (r : Nat) (N : Mem), r ≤ 90 → PBI sl ph N0 N → ∃ N', PBI sl ph N0 N' ∧ ∀ Q : AR → Mem → Prop, (Tq 263 8 [vR 22 0, vI ph, vJ, vI m, vI (r - 1), vJ] [] N Q ↔ Tq 263 3 [vR 22 0, vI ph, vJ, vI m, vJ, vJ] [] N' Q) := by
  intro r
  induction r with
  | zero =>
    intro N _ hP
    refine ⟨N, hP, fun Q => ?_⟩
    rw [t263_8, if_pos (by omega), t263_11]
  | succ r ih =>
    intro N hr hP
    obtain ⟨N1, a1, a2⟩ := m263_9 (x := r) (m := m) hph hsl (by omega) hN 16 N (by omega) hP
    obtain ⟨N2, b1, b2⟩ := ih N1 (by omega) a1
    refine ⟨N2, b1, fun Q => ?_⟩
    have := a2 Q
    rw [show ((16 : Nat) : Int) - 1 = 15 from rfl] at this
    rw [show ((r + 1 : Nat) : Int) - 1 = r by omega, t263_8, if_neg (by omega), if_neg hm, this, b2 Q]
theorem m263_3 (hph : ph = 0 ∨ ph = 1) (hsl : SlO sl) : ∀ (r : Nat) (N : Mem), sg (dN N ph) 1440 ≤ r → (∀ z, 0 ≤ z → z < 16 → N 22025 0 (16 * ph + z) = sl z) → BF (EdE sl) 0 1440 (dN N ph) → ∃ N', Fr (SRk ph) N N' ∧ LeE sl (dN N' ph) ∧ ∀ Q : AR → Mem → Prop, (Tq 263 3 [vR 22 0, vI ph, vJ, vI 1, vJ, vJ] [] N Q ↔ Q (.inl none) N') := by
  intro r
  induction r with
  | zero =>
    intro N hr hN hB
    obtain ⟨N1, m1, a1, a2⟩ := m263_4 (N0 := N) hph hsl hN 90 0 N 0 (by omega) (by omega) ⟨Fr.refl, hB, fun v _ _ => Int.le_refl _, Or.inl ⟨rfl, rfl, fun v hv o c he => by have hv : v % 90 < 0 := hv; omega⟩⟩
    obtain ⟨p1, p2, p3, p4⟩ := a1
    rcases p4 with ⟨q1, q2, q3⟩ | ⟨q1, v, v1, v2, v3⟩
    · subst q1 q2
      refine ⟨N1, Fr.refl, BF_end (EdE_R hsl) hB (by decide) (fun u v c he hu => q3 v trivial u c he hu), fun Q => ?_⟩
      rw [t263_3, if_neg (by decide), a2 Q, t263_8, if_neg (by decide), if_pos rfl, t263_11, t263_3, if_pos rfl, t263_12]
    · have h1 := sg_lt 1440 p3 v1 v2 v3
      have h2 := sg_nn (d := dN N1 ph) 1440 (fun v h1 h2 => by rcases BF_rng p2 (by decide) h1 h2 with q | q <;> omega)
      omega
  | succ r ih =>
    intro N hr hN hB
    obtain ⟨N1, m1, a1, a2⟩ := m263_4 (N0 := N) hph hsl hN 90 0 N 0 (by omega) (by omega) ⟨Fr.refl, hB, fun v _ _ => Int.le_refl _, Or.inl ⟨rfl, rfl, fun v hv o c he => by have hv : v % 90 < 0 := hv; omega⟩⟩
    obtain ⟨p1, p2, p3, p4⟩ := a1
    rcases p4 with ⟨q1, q2, q3⟩ | ⟨q1, v, v1, v2, v3⟩
    · subst q1 q2
      refine ⟨N1, Fr.refl, BF_end (EdE_R hsl) hB (by decide) (fun u v c he hu => q3 v trivial u c he hu), fun Q => ?_⟩
      rw [t263_3, if_neg (by decide), a2 Q, t263_8, if_neg (by decide), if_pos rfl, t263_11, t263_3, if_pos rfl, t263_12]
    · subst q1
      have h1 := sg_lt 1440 p3 v1 v2 v3
      obtain ⟨N2, b1, b2⟩ := m263_8 (N0 := N1) (m := 1) hph hsl (by decide) (sl_keep p1 hN) 90 N1 (by omega) ⟨Fr.refl, p2, fun v _ _ => Int.le_refl _⟩
      have h2 := sg_le 1440 b1.2.2
      obtain ⟨N3, c1, c2, c3⟩ := ih N2 (by omega) (sl_keep b1.1 (sl_keep p1 hN)) b1.2.1
      refine ⟨N3, p1.trans (b1.1.trans c1), c2, fun Q => ?_⟩
      have := b2 Q
      rw [show ((90 : Nat) : Int) - 1 = 89 from rfl] at this
      rw [t263_3, if_neg (by decide), a2 Q, this, c3 Q]
theorem m263_1 {N : Mem} {Q : AR → Mem → Prop} (hph : ph = 0 ∨ ph = 1) : ∀ (d : Nat) (k : Int), 0 ≤ k → k + d = 1440 → (Tq 263 1 [vR 22 0, vI ph, vI (1440 * ph), vI k, vJ, vJ] [] (mrow N 22026 0 (fun j => if 1440 * ph ≤ j ∧ j < 1440 * ph + k then 2147483647 else N 22026 0 j)) Q ↔ Tq 263 2 [vR 22 0, vI ph, vI (1440 * ph), vJ, vJ, vJ] [] (mrow N 22026 0 (fun j => if 1440 * ph ≤ j ∧ j < 1440 * ph + 1440 then 2147483647 else N 22026 0 j)) Q) := by
  intro d
  induction d with
  | zero =>
    intro k h0 h1
    rw [t263_1, if_pos (by omega), show k = 1440 by omega]
  | succ d ih =>
    intro k h0 h1
    have nx := ih (k + 1) (by omega) (by omega)
    rw [t263_1, if_neg (by omega), w32_id (z := 1440 * ph + k) (by omega) (by omega), w32_id (z := k + 1) (by omega) (by omega), bd_e, mset_mrow]
    have e : fup (fun j => if 1440 * ph ≤ j ∧ j < 1440 * ph + k then 2147483647 else N 22026 0 j) (1440 * ph + k) 2147483647 = (fun j => if 1440 * ph ≤ j ∧ j < 1440 * ph + (k + 1) then 2147483647 else N 22026 0 j) := by
      funext j
      rw [fup_at]
      by_cases q : j = 1440 * ph + k
      · rw [if_pos q, if_pos (by omega)]
      · rw [if_neg q]
        by_cases q2 : 1440 * ph ≤ j ∧ j < 1440 * ph + k
        · rw [if_pos q2, if_pos (by omega)]
        · rw [if_neg q2, if_neg (by omega)]
    rw [e, nx]
    exact andi (by omega) Iff.rfl
theorem BF_cg {E : Int → Int → Int → Prop} {s : Int} {n : Nat} {d d' : Int → Int} (hs : 0 ≤ s ∧ s < n) (h : BF E s n d) (he : ∀ v : Int, 0 ≤ v → v < n → d' v = d v) : BF E s n d' := by
  obtain ⟨a1, p, hp, a2, a3⟩ := h
  refine ⟨by rw [he s hs.1 hs.2]; exact a1, fun v => ¬ d' v = 2147483647, fun v => inferInstance, fun v => Iff.rfl, fun v h1 h2 => ?_⟩
  rw [he v h1 h2, ← cntp_cg (p := p) (q := fun v => ¬ d' v = 2147483647) n (fun k k1 k2 => by rw [a2, he k k1 k2])]
  exact a3 v h1 h2
theorem m263 {N : Mem} (hph : ph = 0 ∨ ph = 1) (hsl : SlO sl) (hN : ∀ z, 0 ≤ z → z < 16 → N 22025 0 (16 * ph + z) = sl z) : ∃ N', Fr (SRk ph) N N' ∧ LeE sl (dN N' ph) ∧ ∀ Q : AR → Mem → Prop, (Tq 263 0 [vR 22 0, vI ph, vJ, vJ, vJ, vJ] [] N Q ↔ Q (.inl none) N') := by
  have l := fun Q => m263_1 (Q := Q) (N := N) hph 1440 0 (by omega) (by omega)
  have e0 : mrow N 22026 0 (fun j => if 1440 * ph ≤ j ∧ j < 1440 * ph + 0 then 2147483647 else N 22026 0 j) = N := by
    rw [show (fun j => if 1440 * ph ≤ j ∧ j < 1440 * ph + 0 then 2147483647 else N 22026 0 j) = N 22026 0 from by funext j; rw [if_neg (by omega)], mrow_self]
  rw [e0] at l
  generalize hN1 : mset (mrow N 22026 0 (fun j => if 1440 * ph ≤ j ∧ j < 1440 * ph + 1440 then 2147483647 else N 22026 0 j)) 22026 0 (1440 * ph) 0 = N1
  have fr : Fr (SRk ph) N N1 := by
    rw [← hN1]
    intro f i k q
    unfold SRk at q
    rw [mset_3, if_neg (by omega)]
    by_cases qf : f = 22026 ∧ i = 0
    · obtain ⟨rfl, rfl⟩ := qf
      rw [mrow_s, if_neg (by omega)]
    · rw [mrow_n qf]
  have hd : ∀ v : Int, 0 ≤ v → v < 1440 → dN N1 ph v = if v = 0 then 0 else 2147483647 := fun v h1 h2 => by
    show N1 22026 0 (1440 * ph + v) = _
    rw [← hN1, mset_3]
    by_cases q : v = 0
    · rw [if_pos ⟨rfl, rfl, by omega⟩, if_pos q]
    · rw [if_neg (by omega), if_neg q, mrow_s, if_pos (by omega)]
  have hB : BF (EdE sl) 0 1440 (dN N1 ph) := BF_cg (by decide) (BF_new (d := fun v => if v = 0 then 0 else 2147483647) (by decide) (by decide) (fun v => rfl)) hd
  obtain ⟨N', a1, a2, a3⟩ := m263_3 hph hsl (sg (dN N1 ph) 1440).toNat N1 (by omega) (sl_keep fr hN) hB
  refine ⟨N', fr.trans a1, a2, fun Q => ?_⟩
  rw [t263_0, w32_id (z := 1440 * ph) (by omega) (by omega), l Q, t263_2, bd_e, hN1, a3 Q]
  exact andi (by omega) Iff.rfl
end Pass
def SEaM (f : Nat) (_ k : Int) : Prop := f = 22026 ∨ (f = 22 ∧ k = 27)
section TravM
variable {N P : Mem} {ph x z : Int}
theorem m262n {Q : AR → Mem → Prop} (hr : REa N P) (h0 : N 22 0 27 = 1) (hp : ph = 0 ∨ ph = 1) (hx : 0 ≤ x ∧ x < 90) (hz : 0 ≤ z ∧ z < 16) : Tq 262 0 [vR 22 0, vI ph, vI x, vI z] [] N Q ↔ Q (.inl (some (vI (trv P ph x z)))) N := by
  rw [t262_0, if_pos (by omega), t262_1, w32_id (z := 1440 * ph) (by omega) (by omega), w32_id (z := 90 * z) (by omega) (by omega), w32_id (z := 1440 * ph + 90 * z) (by omega) (by omega), w32_id (z := 1440 * ph + 90 * z + x) (by omega) (by omega), hr.2.2 h0 ph x z hp hx hz]
  exact andi (by omega) Iff.rfl
theorem m262 (hw : WEa P) (hr : REa N P) (hp : ph = 0 ∨ ph = 1) (hx : 0 ≤ x ∧ x < 90) (hz : 0 ≤ z ∧ z < 16) : ∃ N', Fr SEaM N N' ∧ REa N' P ∧ N' 22 0 27 = 1 ∧ (N 22 0 27 = 1 → N' = N) ∧ ∀ Q : AR → Mem → Prop, (Tq 262 0 [vR 22 0, vI ph, vI x, vI z] [] N Q ↔ Q (.inl (some (vI (trv P ph x z)))) N') := by
  by_cases h0 : N 22 0 27 = 1
  · exact ⟨N, Fr.refl, hr, h0, fun _ => rfl, fun Q => m262n hr h0 hp hx hz⟩
  · obtain ⟨r1, r2, r3⟩ := hr
    obtain ⟨N1, a1, a2, a3⟩ := m263 (N := N) (ph := 0) (sl := slF (P 22025 0) 0) (Or.inl rfl) (WEa_sl hw (Or.inl rfl)) (fun z h1 h2 => r1 _ (by omega) (by omega))
    have e1 : N1 22025 0 = N 22025 0 := a1.row 22025 0 (by simp [SRk])
    obtain ⟨N2, b1, b2, b3⟩ := m263 (N := N1) (ph := 1) (sl := slF (P 22025 0) 1) (Or.inr rfl) (WEa_sl hw (Or.inr rfl)) (fun z h1 h2 => by rw [e1]; exact r1 _ (by omega) (by omega))
    have e2 : N2 22025 0 = N 22025 0 := by rw [b1.row 22025 0 (by simp [SRk]), e1]
    have c0 : mset N2 22 0 27 1 22026 0 = N2 22026 0 := by rw [mset_o (by simp)]
    have hR : REa (mset N2 22 0 27 1) P := by
      refine ⟨?_, Or.inr (by rw [mset_3, if_pos ⟨rfl, rfl, rfl⟩]), fun _ ph x z q1 q2 q3 => ?_⟩
      · rw [mset_o (by simp), e2]
        exact r1
      · rw [c0]
        rcases q1 with rfl | rfl
        · have e : N2 22026 0 (1440 * 0 + 90 * z + x) = dN N1 0 (90 * z + x) := by
            show _ = N1 22026 0 (1440 * 0 + (90 * z + x))
            rw [show (1440 : Int) * 0 + 90 * z + x = 1440 * 0 + (90 * z + x) by omega]
            exact b1 _ _ _ (by unfold SRk; omega)
          rw [e]
          exact trF_eq hw (Or.inl rfl) a2 q2 q3
        · have e : N2 22026 0 (1440 * 1 + 90 * z + x) = dN N2 1 (90 * z + x) := by
            show _ = N2 22026 0 (1440 * 1 + (90 * z + x))
            rw [show (1440 : Int) * 1 + 90 * z + x = 1440 * 1 + (90 * z + x) by omega]
          rw [e]
          exact trF_eq hw (Or.inr rfl) b2 q2 q3
    have h27 : mset N2 22 0 27 1 22 0 27 = 1 := by rw [mset_3, if_pos ⟨rfl, rfl, rfl⟩]
    refine ⟨mset N2 22 0 27 1, ?_, hR, h27, fun q => absurd q h0, fun Q => ?_⟩
    · intro f i k q
      unfold SEaM at q
      rw [mset_3, if_neg (by omega), b1 f i k (by unfold SRk; omega), a1 f i k (by unfold SRk; omega)]
    · have := m262n (Q := Q) hR h27 hp hx hz
      rw [t262_0, if_pos (by omega)] at this
      rw [t262_0, if_neg (by rcases r2 with q | q; simpa using q; exact absurd q h0), a3, kV_v, b3, kV_v, bd_e, this]
      exact andi (by decide) Iff.rfl
end TravM
