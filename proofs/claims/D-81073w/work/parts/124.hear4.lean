/-! LINES: the loop of hear on both sides -/
section Hear4
variable {M N P : Mem} {Q : AR → Mem → Prop} {x p b bef st d z : Int} {rs : List (Int × List Int)}
theorem nmC_cg {c c' : Int → Int} {e num j : Int} (h : ∀ j, 1 ≤ j → j < 10 → c j = c' j) (j1 : 1 ≤ j) (j2 : j < 10) : nmC c e num j = nmC c' e num j := by
  unfold nmC
  split
  · rw [fup_at, fup_at, h 4 (by decide) (by decide), h j j1 j2]
  · rw [fup_at, fup_at, h 5 (by decide) (by decide), h j j1 j2]
theorem tkC_cg {c c' : Int → Int} {e num ok fr tw n room j : Int} (h : ∀ j, 1 ≤ j → j < 10 → c j = c' j) (j1 : 1 ≤ j) (j2 : j < 10) : tkC c e num ok fr tw n room j = tkC c' e num ok fr tw n room j := by
  unfold tkC
  rw [h 3 (by decide) (by decide), h j j1 j2, nmC_cg h j1 j2, nmC_cg h (j := 6) (by decide) (by decide), nmC_cg h (j := 2) (by decide) (by decide), nmC_cg h (j := 7) (by decide) (by decide), nmC_cg h (j := 8) (by decide) (by decide), nmC_cg h (j := 9) (by decide) (by decide)]
theorem nmC_32 {c : Int → Int} {e num j : Int} (h : I32 (c j)) : I32 (nmC c e num j) := by
  unfold nmC
  split
  · rw [fup_at]; split
    · exact w32_rng _
    · exact h
  · rw [fup_at]; split
    · exact w32_rng _
    · exact h
theorem tkC_32 {c : Int → Int} {e num ok fr tw n room j : Int} (h : I32 (c j)) : I32 (tkC c e num ok fr tw n room j) := by
  unfold tkC
  have q := nmC_32 (e := e) (num := num) h
  repeat' split
  all_goals first | exact w32_rng _ | exact h | exact q
theorem nmE_ok {ex : Int → Int} {s num : Int} (h : ∀ k, 0 ≤ k → k < 12 → ex k = -99999999 ∨ 0 ≤ ex k ∧ ex k ≤ 255) : ∀ k, 0 ≤ k → k < 12 → nmE ex s num k = -99999999 ∨ 0 ≤ nmE ex s num k ∧ nmE ex s num k ≤ 255 := by
  intro k k1 k2
  unfold nmE
  split
  · rw [fup_at]
    split
    · omega
    · exact h k k1 k2
  · exact h k k1 k2
theorem nmE_cg {ex ex' : Int → Int} {s num k : Int} (h : ∀ k, 0 ≤ k → k < 12 → ex k = ex' k) (hs : 0 ≤ s ∧ s < 12) (k1 : 0 ≤ k) (k2 : k < 12) : nmE ex s num k = nmE ex' s num k := by
  unfold nmE
  rw [h s hs.1 hs.2]
  split
  · rw [fup_at, fup_at, h k k1 k2]
  · exact h k k1 k2
theorem fr_1 {f : Nat} {i k : Int} : STkC x f i k → SHr x f i k := fun h => by
  rcases h with h | h | h | h | h | h
  · exact Or.inl h
  · exact Or.inr (Or.inl h)
  · exact Or.inr (Or.inr (Or.inl h))
  · exact Or.inr (Or.inr (Or.inr (Or.inl h)))
  · exact Or.inr (Or.inr (Or.inr (Or.inr (Or.inl h))))
  · exact Or.inr (Or.inr (Or.inr (Or.inr (Or.inr (Or.inl h)))))
theorem fr_2 {f : Nat} {i k : Int} : STkM x f i k → SHm x f i k := fun h => by
  rcases h with h | h | h | h | h | h
  · exact Or.inl h
  · exact Or.inr (Or.inl h)
  · exact Or.inr (Or.inr (Or.inl ⟨h.1, by omega, by omega⟩))
  · exact Or.inr (Or.inr (Or.inr (Or.inl h)))
  · exact Or.inr (Or.inr (Or.inr (Or.inr (Or.inl h))))
  · exact Or.inr (Or.inr (Or.inr (Or.inr (Or.inr (Or.inl h)))))
/-- both sides see the same -/
theorem same_N (hx : 0 ≤ x ∧ x < 4) (hn : LnN M N x p) (hp : 0 ≤ p ∧ p < M 13 (3 + x) 1) : (N 22016 0 (1000 * x) % 256 = M 13000 (3 + x) p % 256) ∧ (8 ≤ M 13 (3 + x) 1 - p → (hd (N 22016 0) (1000 * x) st ↔ hd (M 13000 (3 + x)) p st) ∧ N 22016 0 (1000 * x + 7) = M 13000 (3 + x) (p + 7)) ∧ (∀ w : Int, 0 ≤ w → 4 + w ≤ M 13 (3 + x) 1 - p → sumF (N 22016 0) w.toNat (1000 * x) 0 = sumF (M 13000 (3 + x)) w.toNat p 0 ∧ fo (N 22016 0) (1000 * x + w) = fo (M 13000 (3 + x)) (p + w)) := by
  obtain ⟨n1, n2, n3, n4⟩ := hn
  refine ⟨?_, fun h8 => ⟨hd_cg (fun k k1 k2 => n2 k k1 (by omega)), n2 7 (by decide) (by omega)⟩, fun w w1 w2 => ⟨?_, ?_⟩⟩
  · have := n2 0 (by decide) (by omega)
    rw [Int.add_zero, Int.add_zero] at this
    rw [this]
  · exact sumF_cg _ _ _ _ (fun k k1 k2 => n2 k k1 (by omega))
  · exact fo_cg (fun k k1 k2 => by rw [Int.add_assoc, n2 (w + k) (by omega) (by omega), Int.add_assoc])
theorem hear_loop (hx : 0 ≤ x ∧ x < 4) : ∀ (F : Nat) (M P : Mem) (rs : List (Int × List Int)) (p : Int), LnM M x → 0 ≤ p → p ≤ M 13 (3 + x) 1 → M 13 (3 + x) 1 - p ≤ F → CLog M rs → CNet M P → WNet P → Tq 29 17 [vR 1 0, vJ, vR 16 x, vI bef, vI p, vI 1, vJ, vJ, vJ, vJ] [] M (HQ M P rs x p bef) := by
  intro F
  induction F with
  | zero =>
    intro M P rs p hl hp1 hp2 hF hC hN hW
    have hc1 : M 5 0 0 = P 22 0 9 := hN.1
    have hw1 : 0 ≤ P 22 0 9 ∧ P 22 0 9 ≤ 12 := hW.1
    rw [t29_17, if_pos (by omega), t29_18, t29_19, show and32 1 0 = 0 from rfl, t29_6, if_pos rfl]
    refine hear_end hx hl ⟨hp1, hp2⟩ (by omega) hC hN hW (fun N n1 n3 Q => ?_)
    haveI := Classical.propDecidable (hd (N 22016 0) (1000 * x) (P 22 0 9))
    rw [h275 (z := 0) (st := P 22 0 9) hx rfl n3.1 hw1 (by rw [n1.1]; omega) (by omega) (fun h => by omega), if_pos (Or.inl rfl)]
  | succ F ih =>
    intro M P rs p hl hp1 hp2 hF hC hN hW
    have hc1 : M 5 0 0 = P 22 0 9 := hN.1
    have hw1 : 0 ≤ P 22 0 9 ∧ P 22 0 9 ≤ 12 := hW.1
    by_cases hpS : M 13 (3 + x) 1 ≤ p
    · exact (fun F0 : M 13 (3 + x) 1 - p ≤ F => ih M P rs p hl hp1 hp2 F0 hC hN hW) (by omega)
    haveI := Classical.propDecidable (hd (M 13000 (3 + x)) p (P 22 0 9))
    obtain ⟨l1, l2, l3, l4⟩ := id hl
    have h8 : bLen (3 + x) = 800 := bLen_ear hx.1 hx.2
    rw [t29_17, if_neg hpS, t29_19, show and32 1 1 = 1 from rfl, h6 (st := P 22 0 9) hx hc1 hw1 hp1 (by omega) l1.2]
    -- the model's turn, by what the one side sees
    have turn : ∀ N, LnN M N x p → RNet N P → ∀ Q, Tq 275 4 [vR 22 0, vI x, vI (10 * x), vI (1000 * x), vI bef, vI 1, vJ, vJ, vJ] [] N Q ↔ (if M 13000 (3 + x) p % 256 = 165 ∧ (M 13 (3 + x) 1 - p < 8 ∨ (hd (M 13000 (3 + x)) p (P 22 0 9) ∧ M 13 (3 + x) 1 - p < 12 + M 13000 (3 + x) (p + 7) % 256)) then Tq 275 16 [vR 22 0, vJ, vI (10 * x), vJ, vI bef, vJ, vJ, vJ, vJ] [] N Q else if M 13000 (3 + x) p % 256 = 165 ∧ hd (M 13000 (3 + x)) p (P 22 0 9) ∧ sumF (M 13000 (3 + x)) (8 + M 13000 (3 + x) (p + 7) % 256).toNat p 0 = fo (M 13000 (3 + x)) (p + (8 + M 13000 (3 + x) (p + 7) % 256)) then Tq 277 0 [vR 22 0, vI x, vI (1000 * x), vJ, vJ, vJ, vJ, vJ, vJ, vJ, vJ, vJ, vJ, vJ, vJ, vJ, vJ] [] N (kV fun N1 => Tq 282 0 [vR 22 0, vI x, vI (12 + M 13000 (3 + x) (p + 7) % 256), vJ, vJ] [] N1 (kV fun N2 => Tq 275 4 [vR 22 0, vI x, vI (10 * x), vI (1000 * x), vI bef, vI 1, vJ, vJ, vJ] [] N2 Q)) else Tq 282 0 [vR 22 0, vI x, vI 1, vJ, vJ] [] N (kV fun N1 => Tq 275 4 [vR 22 0, vI x, vI (10 * x), vI (1000 * x), vI bef, vI 1, vJ, vJ, vJ] [] (mset N1 22014 0 (10 * x + 1) (w32 (N1 22014 0 (10 * x + 1) + 1))) Q)) := by
      intro N n1 n3 Q
      haveI := Classical.propDecidable (hd (N 22016 0) (1000 * x) (P 22 0 9))
      obtain ⟨s1, s2, s3⟩ := same_N (st := P 22 0 9) hx n1 ⟨hp1, by omega⟩
      rw [h275 (z := M 13 (3 + x) 1 - p) (st := P 22 0 9) hx rfl n3.1 hw1 n1.1 (by omega) (fun _ => by
        have := n1.2.1 0 (by decide) (by omega)
        rw [Int.add_zero] at this
        rw [this]
        exact l2 _ (by omega) (by omega)), s1]
      by_cases c8 : M 13 (3 + x) 1 - p < 8
      · by_cases cm : M 13000 (3 + x) p % 256 = 165
        · rw [if_pos (Or.inr ⟨cm, Or.inl c8⟩), if_pos ⟨cm, Or.inl c8⟩]
        · rw [if_neg (fun q => by rcases q with q | q; omega; exact cm q.1), if_neg (fun q => cm q.1), if_neg (fun q => cm q.1), if_neg (fun q => cm q.1)]
      · obtain ⟨s4, s5⟩ := s2 (by omega)
        rw [s5]
        by_cases cst : M 13000 (3 + x) p % 256 = 165 ∧ (M 13 (3 + x) 1 - p < 8 ∨ (hd (M 13000 (3 + x)) p (P 22 0 9) ∧ M 13 (3 + x) 1 - p < 12 + M 13000 (3 + x) (p + 7) % 256))
        · rw [if_pos cst, if_pos (Or.inr ⟨cst.1, by rcases cst.2 with q | q; exact Or.inl q; exact Or.inr ⟨s4.mpr q.1, q.2⟩⟩)]
        · rw [if_neg cst, if_neg (fun q => by rcases q with q | q; omega; exact cst ⟨q.1, by rcases q.2 with q | q; exact Or.inl q; exact Or.inr ⟨s4.mp q.1, q.2⟩⟩)]
          by_cases cm : M 13000 (3 + x) p % 256 = 165 ∧ hd (M 13000 (3 + x)) p (P 22 0 9)
          · have hw : 12 + M 13000 (3 + x) (p + 7) % 256 ≤ M 13 (3 + x) 1 - p := by
              by_cases q : M 13 (3 + x) 1 - p < 12 + M 13000 (3 + x) (p + 7) % 256
              · exact absurd ⟨cm.1, Or.inr ⟨cm.2, q⟩⟩ cst
              · omega
            obtain ⟨s6, s7⟩ := s3 (8 + M 13000 (3 + x) (p + 7) % 256) (by omega) (by omega)
            rw [s6, s7]
            by_cases cq : sumF (M 13000 (3 + x)) (8 + M 13000 (3 + x) (p + 7) % 256).toNat p 0 = fo (M 13000 (3 + x)) (p + (8 + M 13000 (3 + x) (p + 7) % 256))
            · rw [if_pos ⟨cm.1, s4.mpr cm.2, cq⟩, if_pos ⟨cm.1, cm.2, cq⟩]
            · rw [if_neg (fun q => cq q.2.2), if_neg (fun q => cq q.2.2)]
          · rw [if_neg (fun q => cm ⟨q.1, s4.mp q.2.1⟩), if_neg (fun q => cm ⟨q.1, q.2.1⟩)]
    refine ifg (fun cst => ?_) (fun cst => ifg (fun ctk => ?_) (fun codd => ?_))
    · -- both end
      refine hear_end hx hl ⟨hp1, hp2⟩ (by omega) hC hN hW (fun N n1 n3 Q => ?_)
      rw [turn N n1 n3, if_pos cst]
    · -- a record
      have h8S : 8 ≤ M 13 (3 + x) 1 - p := by
        by_cases q : M 13 (3 + x) 1 - p < 8
        · exact absurd ⟨ctk.1, Or.inl q⟩ cst
        · omega
      have hw : 12 + M 13000 (3 + x) (p + 7) % 256 ≤ M 13 (3 + x) 1 - p := by
        by_cases q : M 13 (3 + x) 1 - p < 12 + M 13000 (3 + x) (p + 7) % 256
        · exact absurd ⟨ctk.1, Or.inr ⟨ctk.2.1, q⟩⟩ cst
        · omega
      have hh := ctk.2.1
      unfold hd at hh
      obtain ⟨hs1, hcd, hn, htn⟩ := hh
      have tr := @tw_rng (M 13000 (3 + x)) (p + 4)
      generalize es : M 13000 (3 + x) (p + 1) % 256 = s at hs1
      generalize ecd : M 13000 (3 + x) (p + 3) % 256 = cd at hcd
      generalize en : M 13000 (3 + x) (p + 6) % 256 = n at hn htn
      generalize et : tw (M 13000 (3 + x)) (p + 4) = t at htn tr
      generalize enum : M 13000 (3 + x) (p + 2) % 256 = num
      generalize ez : M 13000 (3 + x) (p + 7) % 256 = z at hw
      have hz : 0 ≤ z ∧ z ≤ 255 := by omega
      have hs : 0 ≤ s ∧ s < 12 := by omega
      have hnum : 0 ≤ num ∧ num ≤ 255 := by omega
      obtain ⟨ok, L, hok, hL, dC, dM⟩ := dec_all (g := fun k => M 13000 (3 + x) (p + 8 + k)) (cd := cd) hn hz (by omega)
      have hk01 : ∀ j, 0 ≤ j → j < 49152 → M 5004 0 j = 0 ∨ M 5004 0 j = 1 := fun j j1 j2 => by rw [(hN.2.2 j j1 j2).1]; exact (hW.2.2 j j1 j2).1
      refine m31 (x := x) (s := s) (t := t) (n := n) (z := z) (num := num) (cd := cd) (ok := ok) (L := L) (rs := rs) hx hp1 (by omega) l1.2 es enum ecd et en ez hs hn htn (dC M (3 + x) (p + 8) ⟨by omega, by omega, fun k k1 k2 => rfl⟩) hok (fun h => (hL h).1) l3 (l4 s hs.1 hs.2) hk01 hC ?_
      intro M' room fr hr hr1 hfr f1 f2 f3 f4 f5
      rw [kV_v]
      -- what became of the state
      have hca : s * 4096 + t = 4096 * s + t := by omega
      have y13 : M' 13 (3 + x) = M 13 (3 + x) := f1.row _ _ (fun k => by simp only [STkC, LCLog]; omega)
      have y130 : M' 13000 (3 + x) = M 13000 (3 + x) := f1.row _ _ (fun k => by simp only [STkC, LCLog]; omega)
      have y5 : M' 5 0 = M 5 0 := f1.row _ _ (fun k => by simp [STkC, LCLog])
      have y51 : M' 5001 0 = M 5001 0 := f1.row _ _ (fun k => by simp [STkC, LCLog])
      have y52 : M' 5002 0 = M 5002 0 := f1.row _ _ (fun k => by simp [STkC, LCLog])
      have hl' : LnM M' x := by
        refine ⟨by rw [y13]; exact l1, fun k k1 k2 => ?_, fun j j1 j2 => ?_, fun u u1 u2 => ?_⟩
        · rw [y13] at k2
          rw [y130]
          exact l2 k k1 k2
        · rw [f2 j j1 j2]
          exact tkC_32 (l3 j j1 j2)
        · rw [f3]
          split
          · exact l4 u u1 u2
          · exact nmE_ok l4 u u1 u2
      have hst : ∃ kk rs1 P1, (∀ k rs' P', Ext k rs1 P1 rs' P' → Ext (kk + k) rs P rs' P') ∧ CLog M' rs1 ∧ CNet M' P1 ∧ WNet P1 ∧ ((ok = 1 ∧ 0 < fr ∧ room = 1) → rs1 = (82, s :: t :: n :: L) :: rs ∧ P1 = bmp (ptL P (4096 * s + t) L)) ∧ (¬ (ok = 1 ∧ 0 < fr ∧ room = 1) → rs1 = rs ∧ P1 = P) := by
        by_cases hrow : ok = 1 ∧ 0 < fr ∧ room = 1
        · obtain ⟨g1, g2, g3⟩ := f4 hrow
          obtain ⟨hl1, hl2⟩ := hL hrow.1
          obtain ⟨w1, w2, w3⟩ := net_L L M M P (4096 * s + t) hl2 (by omega) (by omega) hW
          refine ⟨1, (82, s :: t :: n :: L) :: rs, bmp (ptL P (4096 * s + t) L), fun k rs' P' he => ?_, g1, ?_, ?_, fun _ => ⟨rfl, rfl⟩, fun q => absurd hrow q⟩
          · rw [Nat.add_comm]
            exact ⟨s, t, n, L, ⟨⟨hs.1, hs1⟩, by omega, hn, htn, hl1, hl2⟩, he⟩
          · refine CNet_frP (S := fun f i k => f = 22 ∧ k = 6) (P := ptL P (4096 * s + t) L) ?_ (Fr.mset Fr.refl (by simp)) (by simp only [LPCNet]; omega)
            refine CNet_cg (M := ctL M (4096 * s + t) L) (fun f i k hl => ?_) (fun _ _ _ _ => rfl) (w2 hN)
            rw [hca] at g2 g3
            simp only [LCNet] at hl
            rcases hl with ⟨rfl, rfl, rfl⟩ | ⟨rfl, rfl⟩ | ⟨rfl, rfl⟩ | ⟨rfl, rfl⟩ | ⟨rfl, rfl⟩
            · rw [y5, ctL_r (by decide) (by decide)]
            · rw [y51, ctL_r (by decide) (by decide)]
            · rw [y52, ctL_r (by decide) (by decide)]
            · rw [g2]
            · rw [g3]
          · exact WNet_fr (S := fun f i k => f = 22 ∧ k = 6) w1 (Fr.mset Fr.refl (by simp)) (by simp only [LWNet]; omega)
        · obtain ⟨g1, g2, g3⟩ := f5 hrow
          refine ⟨0, rs, P, fun k rs' P' he => by rw [Nat.zero_add]; exact he, g1, ?_, hW, fun q => absurd q hrow, fun _ => ⟨rfl, rfl⟩⟩
          refine CNet_cg (M := M) (fun f i k hl => ?_) (fun _ _ _ _ => rfl) hN
          simp only [LCNet] at hl
          rcases hl with ⟨rfl, rfl, rfl⟩ | ⟨rfl, rfl⟩ | ⟨rfl, rfl⟩ | ⟨rfl, rfl⟩ | ⟨rfl, rfl⟩
          · rw [y5]
          · rw [y51]
          · rw [y52]
          · rw [g2]
          · rw [g3]
      obtain ⟨kk, rs1, P1, e1, e2, e3, e4, e5, e6⟩ := hst
      refine Tq_imp (ih M' P1 rs1 (p + (12 + z)) hl' (by omega) (by rw [y13]; omega) (by rw [y13]; omega) e2 e3 e4) ?_
      intro r M1 hq
      unfold HQ at hq ⊢
      rcases r with (_ | (v | w)) | i <;> try exact hq.elim
      rw [kI_v] at hq ⊢
      obtain ⟨k, rs', P', q1, q2, q3, q4, q5, q6, q7, q8⟩ := hq
      refine ⟨kk + k, rs', P', e1 k rs' P' q1, q2, q3, q4, (f1.mono (fun f i k => fr_1)).trans q5, q6, q7, fun N n1 n2 n3 => ?_⟩
      obtain ⟨s1, s2, s3⟩ := same_N (st := P 22 0 9) hx n1 ⟨hp1, by omega⟩
      have hE : ∀ k, 0 ≤ k → k < M 13 (3 + x) 1 - p → N 22016 0 (1000 * x + k) = M 13000 (3 + x) (p + k) := n1.2.1
      rw [turn N n1 n3, if_neg cst, if_pos ctk, ez]
      have nor3 := l2 (p + 3) (by omega) (by omega)
      have r3 := w8_rng (M 13000 (3 + x) (p + 3))
      have etN : tw (N 22016 0) (1000 * x + 4) = t := by rw [tw_cg (g := M 13000 (3 + x)) (a := p + 4) (hE 4 (by decide) (by omega)) (by rw [show 1000 * x + 4 + 1 = 1000 * x + 5 by omega, show p + 4 + 1 = p + 5 by omega]; exact hE 5 (by decide) (by omega)), et]
      obtain ⟨dm0, dm1, dm2⟩ := dM N (1000 * x + 8) ⟨by omega, by omega, fun k k1 k2 => by rw [Int.add_assoc, hE (8 + k) (by omega) (by omega), ← Int.add_assoc]⟩
      refine m277 (x := x) (s := s) (t := t) (n := n) (z := z) (num := num) (cd := cd) (ok := ok) (L := L) (rs := rs) hx rfl (by rw [hE 1 (by decide) (by omega)]; exact es) (by rw [hE 2 (by decide) (by omega)]; exact enum) (by rw [hE 3 (by decide) (by omega)]; exact ecd) (by rw [hE 3 (by decide) (by omega)]; omega) etN (by rw [hE 6 (by decide) (by omega)]; exact en) (by rw [hE 7 (by decide) (by omega)]; exact ez) hs hn htn dm0 dm1 dm2 hok (fun h => (hL h).1) (by rw [n1.2.2.2 s hs.1 hs.2]; exact l4 s hs.1 hs.2) n2 ?_
      intro N' room' fr' hr' hr1' hfr' g1 g2 g3 g4 g5
      -- the two sides count alike
      have elog : N 22 0 5 = M 13 1 1 := by rw [n2.1, hC.1]
      have eroom : room' = room := by
        rw [elog] at hr1'
        have := hr1'.trans hr1.symm
        omega
      have ekn : ∀ j, 0 ≤ j → j < 49152 → M 5004 0 j = N 22012 0 j ∧ (¬ N 22012 0 j = 0 → M 5003 0 j = N 22013 0 j) := fun j j1 j2 => by
        rw [(hN.2.2 j j1 j2).1, (n3.2.2 j j1 j2).1]
        refine ⟨rfl, fun hne => ?_⟩
        have : P 22012 0 j = 1 := by rcases (hW.2.2 j j1 j2).1 with q | q; exact absurd q hne; exact q
        rw [(hN.2.2 j j1 j2).2 this, (n3.2.2 j j1 j2).2 this]
      have efr : ok = 1 → fr' = fr := fun h => by
        have hl1 := (hL h).1
        rw [hfr, hfr', hca]
        exact (frs_cg L _ (fun j j1 j2 => (ekn j (by omega) (by omega)).1)).symm
      have etw : ok = 1 → twc (N 22012 0) (N 22013 0) (4096 * s + t) L = twc (M 5004 0) (M 5003 0) (s * 4096 + t) L := fun h => by
        have hl1 := (hL h).1
        rw [hca]
        exact (twc_cg L _ (fun j j1 j2 => ekn j (by omega) (by omega))).symm
      have hrow : (ok = 1 ∧ 0 < fr' ∧ room' = 1) ↔ (ok = 1 ∧ 0 < fr ∧ room = 1) := by
        rw [eroom]
        constructor
        · rintro ⟨a, b, c⟩; rw [efr a] at b; exact ⟨a, b, c⟩
        · rintro ⟨a, b, c⟩; rw [← efr a] at b; exact ⟨a, b, c⟩
      have ec0 : N 22014 0 (10 * x) = M 13 (3 + x) 1 - p := n1.1
      have w0 : N' 22014 0 (10 * x) = M 13 (3 + x) 1 - p := by rw [g1 _ _ _ (by simp only [STkM, LRLog]; omega), ec0]
      have w16 : N' 22016 0 = N 22016 0 := g1.row _ _ (fun k => by simp only [STkM, LRLog]; omega)
      rw [kV_v, m282 hx (by omega) (by rw [w0]; omega) (by rw [w0]; omega) (fun k k1 k2 => by rw [w0] at k2; rw [w16, hE k k1 (by omega)]; exact l2 _ (by omega) (by omega)), kV_v, w0]
      generalize hN2 : mset (kgo N' x (12 + z) (M 13 (3 + x) 1 - p - (12 + z))) 22014 0 (10 * x) (M 13 (3 + x) 1 - p - (12 + z)) = N2
      have v0 : ∀ {f : Nat} {i : Int}, ¬ f = 22014 → ¬ f = 22016 → N2 f i = N' f i := fun h1 h2 => by rw [← hN2, mset_o (fun q => h1 q.1), kgo_r h2]
      have v14 : ∀ k, ¬ k = 10 * x → N2 22014 0 k = N' 22014 0 k := fun k hk => by rw [← hN2, mset_3, if_neg (by simp [hk]), kgo_r (by decide)]
      have f2N : Fr (SHm x) N N2 := by
        refine Fr.trans (g1.mono (fun f i k => fr_2)) ?_
        rw [← hN2]
        refine Fr.mset ?_ (Or.inr (Or.inr (Or.inl ⟨rfl, by omega, by omega⟩)))
        intro f i k hsf
        unfold kgo
        rw [mrow_2]
        split
        · rename_i q
          obtain ⟨rfl, rfl⟩ := q
          exact if_neg (fun q => hsf (Or.inr (Or.inr (Or.inr (Or.inr (Or.inr (Or.inr ⟨rfl, by omega, by omega⟩)))))))
        · rfl
      have nl : LnN M' N2 x (p + (12 + z)) := by
        refine ⟨by rw [← hN2, mset_3, if_pos ⟨rfl, rfl, rfl⟩, y13]; omega, fun k k1 k2 => ?_, fun j j1 j2 => ?_, fun u u1 u2 => ?_⟩
        · rw [y13] at k2
          rw [← hN2, mset_o (by simp), kgo_s, if_pos (by omega), w16, y130, show 1000 * x + k + (12 + z) = 1000 * x + (12 + z + k) by omega, hE _ (by omega) (by omega), ← Int.add_assoc]
        · rw [v14 _ (by omega), g2 j j1 j2, f2 j (by omega) j2, n1.2.2.2 s hs.1 hs.2, eroom]
          rw [tkC_cg (c' := M 16001 x) (fun j j1 j2 => n1.2.2.1 j j1 j2) j1 j2]
          rcases hok with h0 | h1
          · unfold tkC
            rw [if_pos h0, if_pos h0]
          · rw [efr h1, etw h1]
        · rw [v0 (by decide) (by decide), g3 u u1 u2, f3]
          rcases hok with h0 | h1
          · rw [if_pos h0, if_pos h0]
            exact n1.2.2.2 u u1 u2
          · rw [if_neg (by omega), if_neg (by omega)]
            exact nmE_cg (fun k k1 k2 => n1.2.2.2 k k1 k2) hs u1 u2
      have nlog : RLog N2 rs1 ∧ RNet N2 P1 := by
        have u9 : N' 22 0 9 = N 22 0 9 := g1 _ _ _ (by simp [STkM, LRLog])
        have u10 : N' 22010 0 = N 22010 0 := g1.row _ _ (fun k => by simp [STkM, LRLog])
        have u11 : N' 22011 0 = N 22011 0 := g1.row _ _ (fun k => by simp [STkM, LRLog])
        have toN2 : ∀ {r}, RLog N' r → RLog N2 r := fun h => by
          unfold RLog
          rw [v0 (by decide) (by decide), v0 (by decide) (by decide)]
          exact h
        by_cases hr2 : ok = 1 ∧ 0 < fr ∧ room = 1
        · obtain ⟨a1, a2, a3⟩ := g4 (hrow.mpr hr2)
          obtain ⟨b1, b2⟩ := e5 hr2
          obtain ⟨hl1, hl2⟩ := hL hr2.1
          obtain ⟨w1, w2, w3⟩ := net_L L N N P (4096 * s + t) hl2 (by omega) (by omega) hW
          rw [b1, b2]
          refine ⟨toN2 a1, ?_⟩
          refine RNet_frP (S := fun f i k => f = 22 ∧ k = 6) (P := ptL P (4096 * s + t) L) ?_ (Fr.mset Fr.refl (by simp)) (by simp only [LPRNet]; omega)
          refine RNet_cg (M := kkL N (4096 * s + t) L) (fun f i k hl => ?_) (fun _ _ _ _ => rfl) (w3 n3)
          simp only [LRNet] at hl
          rcases hl with ⟨rfl, rfl, rfl⟩ | ⟨rfl, rfl⟩ | ⟨rfl, rfl⟩ | ⟨rfl, rfl⟩ | ⟨rfl, rfl⟩
          · rw [v0 (by decide) (by decide), u9, kkL_r (by decide) (by decide)]
          · rw [v0 (by decide) (by decide), u10, kkL_r (by decide) (by decide)]
          · rw [v0 (by decide) (by decide), u11, kkL_r (by decide) (by decide)]
          · rw [v0 (by decide) (by decide), a3]
          · rw [v0 (by decide) (by decide), a2]
        · obtain ⟨a1, a2, a3⟩ := g5 (fun q => hr2 (hrow.mp q))
          obtain ⟨b1, b2⟩ := e6 hr2
          rw [b1, b2]
          refine ⟨toN2 a1, ?_⟩
          refine RNet_cg (M := N) (fun f i k hl => ?_) (fun _ _ _ _ => rfl) n3
          simp only [LRNet] at hl
          rcases hl with ⟨rfl, rfl, rfl⟩ | ⟨rfl, rfl⟩ | ⟨rfl, rfl⟩ | ⟨rfl, rfl⟩ | ⟨rfl, rfl⟩
          · rw [v0 (by decide) (by decide), u9]
          · rw [v0 (by decide) (by decide), u10]
          · rw [v0 (by decide) (by decide), u11]
          · rw [v0 (by decide) (by decide), a3]
          · rw [v0 (by decide) (by decide), a2]
      refine Tq_imp (q8 N2 nl nlog.1 nlog.2) ?_
      intro r N1 hq
      rcases r with (_ | (v2 | w)) | i <;> try exact hq.elim
      rw [kI_v] at hq ⊢
      exact ⟨hq.1, f2N.trans hq.2.1, hq.2.2⟩
    · -- an odd byte
      generalize hM1 : mset M 16001 x 1 (w32 (M 16001 x 1 + 1)) = M'
      have v0 : ∀ {f : Nat} {i : Int}, ¬ f = 16001 → M' f i = M f i := fun h => by rw [← hM1, mset_o (fun q => h q.1)]
      have v1 : M' 16001 x = fup (M 16001 x) 1 (w32 (M 16001 x 1 + 1)) := by rw [← hM1, mset_s]
      have f1 : Fr (fun f i _ => f = 16001 ∧ i = x) M M' := by rw [← hM1]; exact Fr.mset Fr.refl (by simp)
      have hl' : LnM M' x := by
        refine ⟨by rw [v0 (by decide)]; exact l1, fun k k1 k2 => ?_, fun j j1 j2 => ?_, fun u u1 u2 => ?_⟩
        · rw [v0 (by decide)] at k2
          rw [v0 (by decide)]
          exact l2 k k1 k2
        · rw [v1, fup_at]
          split
          · exact w32_rng _
          · exact l3 j j1 j2
        · rw [v0 (by decide)]
          exact l4 u u1 u2
      refine Tq_imp (ih M' P rs (p + 1) hl' (by omega) (by rw [v0 (by decide)]; omega) (by rw [v0 (by decide)]; omega) (CLog_fr hC f1 (by simp only [LCLog]; omega)) (CNet_fr hN f1 (by simp only [LCNet]; omega)) hW) ?_
      intro r M1 hq
      unfold HQ at hq ⊢
      rcases r with (_ | (v | w)) | i <;> try exact hq.elim
      rw [kI_v] at hq ⊢
      obtain ⟨k, rs', P', q1, q2, q3, q4, q5, q6, q7, q8⟩ := hq
      refine ⟨k, rs', P', q1, q2, q3, q4, (f1.mono (by simp only [SHr]; omega)).trans q5, q6, q7, fun N n1 n2 n3 => ?_⟩
      have hE : ∀ k, 0 ≤ k → k < M 13 (3 + x) 1 - p → N 22016 0 (1000 * x + k) = M 13000 (3 + x) (p + k) := n1.2.1
      have w0 : N 22014 0 (10 * x) = M 13 (3 + x) 1 - p := n1.1
      rw [turn N n1 n3, if_neg cst, if_neg codd, m282 hx (by omega) (by rw [w0]; omega) (by rw [w0]; omega) (fun k k1 k2 => by rw [w0] at k2; rw [hE k k1 (by omega)]; exact l2 _ (by omega) (by omega)), kV_v, w0]
      generalize hN2 : mset (kgo N x 1 (M 13 (3 + x) 1 - p - 1)) 22014 0 (10 * x) (M 13 (3 + x) 1 - p - 1) = N2
      have u14 : ∀ k, ¬ k = 10 * x → N2 22014 0 k = N 22014 0 k := fun k hk => by rw [← hN2, mset_3, if_neg (by simp [hk]), kgo_r (by decide)]
      rw [u14 _ (by omega), n1.2.2.1 1 (by decide) (by decide)]
      generalize hN3 : mset N2 22014 0 (10 * x + 1) (w32 (M 16001 x 1 + 1)) = N3
      have u0 : ∀ {f : Nat} {i : Int}, ¬ f = 22014 → ¬ f = 22016 → N3 f i = N f i := fun h1 h2 => by rw [← hN3, mset_o (fun q => h1 q.1), ← hN2, mset_o (fun q => h1 q.1), kgo_r h2]
      have f2N : Fr (SHm x) N N3 := by
        rw [← hN3, ← hN2]
        refine Fr.mset (Fr.mset ?_ (Or.inr (Or.inr (Or.inl ⟨rfl, by omega, by omega⟩)))) (Or.inr (Or.inr (Or.inl ⟨rfl, by omega, by omega⟩)))
        intro f i k hsf
        unfold kgo
        rw [mrow_2]
        split
        · rename_i q
          obtain ⟨rfl, rfl⟩ := q
          exact if_neg (fun q => hsf (Or.inr (Or.inr (Or.inr (Or.inr (Or.inr (Or.inr ⟨rfl, by omega, by omega⟩)))))))
        · rfl
      have nl : LnN M' N3 x (p + 1) := by
        refine ⟨by rw [← hN3, mset_3, if_neg (by omega), ← hN2, mset_3, if_pos ⟨rfl, rfl, rfl⟩, v0 (by decide)]; omega, fun k k1 k2 => ?_, fun j j1 j2 => ?_, fun u u1 u2 => ?_⟩
        · rw [v0 (by decide)] at k2
          rw [← hN3, mset_o (by simp), ← hN2, mset_o (by simp), kgo_s, if_pos (by omega), v0 (by decide), show 1000 * x + k + 1 = 1000 * x + (1 + k) by omega, hE _ (by omega) (by omega), ← Int.add_assoc]
        · rw [← hN3, mset_3, v1, fup_at]
          by_cases c1 : j = 1
          · rw [if_pos (by omega), if_pos c1]
          · rw [if_neg (by omega), if_neg c1, u14 _ (by omega)]
            exact n1.2.2.1 j j1 j2
        · rw [u0 (by decide) (by decide), v0 (by decide)]
          exact n1.2.2.2 u u1 u2
      refine Tq_imp (q8 N3 nl ?_ ?_) ?_
      · unfold RLog
        rw [u0 (by decide) (by decide), u0 (by decide) (by decide)]
        exact n2
      · refine RNet_cg (M := N) (fun f i k hl => ?_) (fun _ _ _ _ => rfl) n3
        rw [u0 (by simp only [LRNet] at hl; omega) (by simp only [LRNet] at hl; omega)]
      intro r N1 hq
      rcases r with (_ | (v2 | w)) | i <;> try exact hq.elim
      rw [kI_v] at hq ⊢
      exact ⟨hq.1, f2N.trans hq.2.1, hq.2.2⟩
end Hear4
