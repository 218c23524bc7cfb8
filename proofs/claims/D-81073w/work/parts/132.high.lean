/-! GAUGES: high -/
def Hi (V : Int → Int) (t o : Int) : Prop := V (t - 1) < V t ∧ ∃ u, t < u ∧ u ≤ o ∧ (∀ s, t < s → s < u → V s = V t) ∧ V u < V t
section High
variable {M P : Mem} {Q : AR → Mem → Prop} {g t f o k w sg : Int}
/-- what is turned about for lows -/
def vt (P : Mem) (g sg t : Int) : Int := w32 (sg * prd P g t)
theorem m324 (hw : WGa P) (hr : RGa M P) (hg : 0 ≤ g ∧ g < P 22 0 43) (h1 : 1 ≤ t) (h2 : t < o) (h3 : o ≤ 4095) [Decidable (Hi (vt P g sg) t o)] : RtI 324 0 [vR 22 0, vI g, vI t, vI o, vI sg, vJ, vJ] [] M (b2i (Hi (vt P g sg) t o)) := by
  intro Q
  rw [t324_0, m243 hw hr hg (by omega), kI_v, w32_id (z := t - 1) (by omega) (by omega), m243 hw hr hg (by omega), kI_v, t324_1, w32_id (z := t + 1) (by omega) (by omega), nb_0]
  show (if vt P g sg (t - 1) < vt P g sg t then Tq 324 2 [vR 22 0, vI g, vJ, vI o, vI sg, vI (vt P g sg t), vI (t + 1)] [] M Q else _) ↔ _
  by_cases c : vt P g sg (t - 1) < vt P g sg t
  · rw [if_pos c]
    have fin : ∀ u, t < u → u ≤ o → (∀ s, t < s → s < u → vt P g sg s = vt P g sg t) → (u = o ∨ ¬ vt P g sg u = vt P g sg t) → (Tq 324 3 [vR 22 0, vI g, vJ, vJ, vI sg, vI (vt P g sg t), vI u] [] M Q ↔ Q (.inl (some (vI (b2i (Hi (vt P g sg) t o))))) M) := by
      intro u u1 u2 u3 u4
      rw [t324_3, m243 hw hr hg (by omega), kI_v, t324_4, t324_5, t324_5, nb_0, nb_1]
      show (if vt P g sg t ≤ vt P g sg u then _ else _) ↔ _
      by_cases c2 : vt P g sg t ≤ vt P g sg u
      · rw [if_pos c2, b2i_f]
        rintro ⟨-, y, y1, y2, y3, y4⟩
        by_cases e : y < u
        · have := u3 y y1 e
          omega
        · by_cases e2 : y = u
          · subst e2; omega
          · have := y3 u u1 (by omega)
            omega
      · rw [if_neg c2, b2i_t ⟨c, u, u1, u2, u3, by omega⟩]
    have loop : ∀ (d : Nat) (u : Int), t < u → u + d = o → (∀ s, t < s → s < u → vt P g sg s = vt P g sg t) → (Tq 324 2 [vR 22 0, vI g, vJ, vI o, vI sg, vI (vt P g sg t), vI u] [] M Q ↔ Q (.inl (some (vI (b2i (Hi (vt P g sg) t o))))) M) := by
      intro d
      induction d with
      | zero =>
        intro u u1 u2 u3
        rw [t324_2, if_pos (by omega), fin u u1 (by omega) u3 (Or.inl (by omega))]
      | succ d ih =>
        intro u u1 u2 u3
        rw [t324_2, if_neg (by omega), m243 hw hr hg (by omega), kI_v, w32_id (z := u + 1) (by omega) (by omega)]
        show (if ¬ vt P g sg u = vt P g sg t then _ else _) ↔ _
        by_cases c2 : vt P g sg u = vt P g sg t
        · rw [if_neg (by simpa using c2)]
          refine ih (u + 1) (by omega) (by omega) (fun s s1 s2 => ?_)
          by_cases e : s = u
          · rw [e]; exact c2
          · exact u3 s s1 (by omega)
        · rw [if_pos c2, fin u u1 (by omega) u3 (Or.inr c2)]
    exact loop (o - t - 1).toNat (t + 1) (by omega) (by omega) (fun s s1 s2 => by omega)
  · rw [if_neg c, b2i_f (fun q => c q.1)]
/-- the model goes on -/
theorem hi_step {f0 : Int} (hw : WGa P) (hr : RGa M P) (hg : 0 ≤ g ∧ g < P 22 0 43) (h1 : 1 ≤ t) (h3 : o ≤ 4095) (ht : t ≤ o) (hl : (w = 0 ∧ sg = 1) ∨ (¬ w = 0 ∧ sg = -1)) (hn : ¬ Hi (vt P g sg) t o ∨ o ≤ t) {v : Int} (h : RtI 323 3 [vR 22 0, vI g, vJ, vI o, vI k, vI w, vI f0, vI (t + 1)] [] M v) : RtI 323 3 [vR 22 0, vI g, vJ, vI o, vI k, vI w, vI f0, vI t] [] M v := by
  by_cases c : o ≤ t
  · intro Q
    have := h Q
    rw [t323_3, if_pos (by omega)] at this
    rw [t323_3, if_pos c, this]
  · intro Q
    haveI := Classical.propDecidable (Hi (vt P g sg) t o)
    have hn : ¬ Hi (vt P g sg) t o := by rcases hn with q | q; exact q; exact absurd q c
    have g5 : Tq 323 5 [vR 22 0, vI g, vJ, vI o, vI k, vI w, vI f0, vI t] [vI sg, vI o, vI t, vI g, vR 22 0] M Q ↔ Q (.inl (some (vI v))) M := by
      rw [t323_5, m324 hw hr hg h1 (by omega) h3, kI_v, if_pos (by rw [b2i_f hn]), t323_7, w32_id (z := t + 1) (by omega) (by omega), h]
    rw [t323_3, if_neg c, t323_4]
    rcases hl with ⟨l1, l2⟩ | ⟨l1, l2⟩
    · rw [if_pos l1, ← l2, g5]
    · rw [if_neg l1, ← l2, g5]
theorem hi_skip {f0 : Int} (hw : WGa P) (hr : RGa M P) (hg : 0 ≤ g ∧ g < P 22 0 43) (h3 : o ≤ 4095) (hl : (w = 0 ∧ sg = 1) ∨ (¬ w = 0 ∧ sg = -1)) {v : Int} : ∀ (d : Nat) (t : Int), 1 ≤ t → t + d ≤ o + 1 → (∀ s, t ≤ s → s < t + d → ¬ Hi (vt P g sg) s o ∨ o ≤ s) → RtI 323 3 [vR 22 0, vI g, vJ, vI o, vI k, vI w, vI f0, vI (t + d)] [] M v → RtI 323 3 [vR 22 0, vI g, vJ, vI o, vI k, vI w, vI f0, vI t] [] M v := by
  intro d
  induction d with
  | zero =>
    intro t _ _ _ h
    rw [show t + ((0 : Nat) : Int) = t by omega] at h
    exact h
  | succ d ih =>
    intro t t1 t2 t3 h
    refine hi_step hw hr hg t1 h3 (by omega) hl (t3 t (by omega) (by omega)) (ih (t + 1) (by omega) (by omega) (fun s s1 s2 => t3 s (by omega) (by omega)) ?_)
    rw [show t + 1 + (d : Int) = t + ((d + 1 : Nat) : Int) by omega]
    exact h
theorem high_joint (hw : WGa P) (hc : CGa M P) (hr : RGa M P) (hg : 0 ≤ g ∧ g < P 22 0 43) (h3 : o ≤ 4095) (hl : (w = 0 ∧ sg = 1) ∨ (¬ w = 0 ∧ sg = -1)) (hk : -2147483648 ≤ k ∧ k < 2147483648) : ∀ (d : Nat) (t l f0 : Int), 1 ≤ t → t + d = o + 1 → l = k - f0 → 0 ≤ l → 0 ≤ f0 → f0 ≤ t → (∃ v, RtI 379 3 [vR 8 0, vI g, vJ, vI o, vJ, vJ, vI sg, vI l, vI (-99999999), vI (vt P g sg (t - 1)), vI t, vJ] [] M v ∧ RtI 323 3 [vR 22 0, vI g, vJ, vI o, vI k, vI w, vI f0, vI t] [] M v) ∧ (∀ s, 1 ≤ s → s < t → s ≤ o → vt P g sg (s - 1) < vt P g sg s → (∀ y, s < y → y < t → vt P g sg y = vt P g sg s) → f0 ≤ s → ∃ v, RtI 379 3 [vR 8 0, vI g, vJ, vI o, vJ, vJ, vI sg, vI l, vI s, vI (vt P g sg (t - 1)), vI t, vJ] [] M v ∧ RtI 323 3 [vR 22 0, vI g, vJ, vI o, vI k, vI w, vI f0, vI s] [] M v) := by
  intro d
  induction d with
  | zero =>
    intro t l f0 t1 t2 l1 l2 f1 f2
    have cE : ∀ y, RtI 379 3 [vR 8 0, vI g, vJ, vI o, vJ, vJ, vI sg, vI l, vI y, vI (vt P g sg (t - 1)), vI t, vJ] [] M (-99999999) := fun y Q => by rw [t379_3, if_pos (by omega), t379_9]
    have mE : ∀ y, o ≤ y → RtI 323 3 [vR 22 0, vI g, vJ, vI o, vI k, vI w, vI f0, vI y] [] M (-99999999) := fun y hy Q => by rw [t323_3, if_pos hy, t323_8]
    refine ⟨⟨-99999999, cE _, mE t (by omega)⟩, fun s s1 s2 s3 s4 s5 s6 => ⟨-99999999, cE _, ?_⟩⟩
    refine hi_skip hw hr hg h3 hl (o - s).toNat s s1 (by omega) (fun y y1 y2 => ?_) (mE _ (by omega))
    left
    rintro ⟨h1, u, u1, u2, u3, u4⟩
    by_cases e : y = s
    · subst e
      have := s5 u u1 (by omega)
      omega
    · have a1 := s5 y (by omega) (by omega)
      by_cases e2 : y - 1 = s
      · rw [e2] at h1; omega
      · have a2 := s5 (y - 1) (by omega) (by omega)
        omega
  | succ d ih =>
    intro t l f0 t1 t2 l1 l2 f1 f2
    have et : t + 1 - 1 = t := by omega
    -- the one side's turn
    have c5 : ∀ (l' y : Int) Q, Tq 379 5 [vR 8 0, vI g, vJ, vI o, vJ, vJ, vI sg, vI l', vI y, vI (vt P g sg (t - 1)), vI t, vI (vt P g sg t)] [] M Q ↔ Tq 379 3 [vR 8 0, vI g, vJ, vI o, vJ, vJ, vI sg, vI l', vI (if vt P g sg (t - 1) < vt P g sg t then t else if vt P g sg t < vt P g sg (t - 1) then -99999999 else y), vI (vt P g sg t), vI (t + 1), vJ] [] M Q := by
      intro l' y Q
      rw [t379_5, t379_6, t379_7, t379_8, t379_8, t379_8, w32_id (z := t + 1) (by omega) (by omega)]
      by_cases a1 : vt P g sg t ≤ vt P g sg (t - 1)
      · rw [if_pos a1, if_neg (show ¬ vt P g sg (t - 1) < vt P g sg t by omega)]
        by_cases a2 : vt P g sg (t - 1) ≤ vt P g sg t
        · rw [if_pos a2, if_neg (show ¬ vt P g sg t < vt P g sg (t - 1) by omega)]
        · rw [if_neg a2, if_pos (show vt P g sg t < vt P g sg (t - 1) by omega)]
      · rw [if_neg a1, if_pos (show vt P g sg (t - 1) < vt P g sg t by omega)]
    have c3 : ∀ (y : Int) Q, Tq 379 3 [vR 8 0, vI g, vJ, vI o, vJ, vJ, vI sg, vI l, vI y, vI (vt P g sg (t - 1)), vI t, vJ] [] M Q ↔ if vt P g sg t < vt P g sg (t - 1) ∧ ¬ y = -99999999 then (if l = 0 then Q (.inl (some (vI y))) M else Tq 379 3 [vR 8 0, vI g, vJ, vI o, vJ, vJ, vI sg, vI (l - 1), vI (-99999999), vI (vt P g sg t), vI (t + 1), vJ] [] M Q) else Tq 379 3 [vR 8 0, vI g, vJ, vI o, vJ, vJ, vI sg, vI l, vI (if vt P g sg (t - 1) < vt P g sg t then t else if vt P g sg t < vt P g sg (t - 1) then -99999999 else y), vI (vt P g sg t), vI (t + 1), vJ] [] M Q := by
      intro y Q
      rw [t379_3, if_neg (by omega), if_neg (by omega), m378 hw hc hg, kI_v, t379_4, w32_id (z := l + -1) (by omega) (by omega)]
      show (if vt P g sg (t - 1) ≤ vt P g sg t then Tq 379 5 [vR 8 0, vI g, vJ, vI o, vJ, vJ, vI sg, vI l, vI y, vI (vt P g sg (t - 1)), vI t, vI (vt P g sg t)] [] M Q else if y = -99999999 then Tq 379 5 [vR 8 0, vI g, vJ, vI o, vJ, vJ, vI sg, vI l, vI y, vI (vt P g sg (t - 1)), vI t, vI (vt P g sg t)] [] M Q else if ¬ l = 0 then Tq 379 5 [vR 8 0, vI g, vJ, vI o, vJ, vJ, vI sg, vI (l + -1), vI y, vI (vt P g sg (t - 1)), vI t, vI (vt P g sg t)] [] M Q else _) ↔ _
      rw [c5, c5]
      by_cases a1 : vt P g sg (t - 1) ≤ vt P g sg t
      · rw [if_pos a1, if_neg (show ¬ (vt P g sg t < vt P g sg (t - 1) ∧ ¬ y = -99999999) by omega)]
      · rw [if_neg a1]
        by_cases a2 : y = -99999999
        · rw [if_pos a2, if_neg (show ¬ (vt P g sg t < vt P g sg (t - 1) ∧ ¬ y = -99999999) from fun q => q.2 a2)]
        · rw [if_neg a2, if_pos (show vt P g sg t < vt P g sg (t - 1) ∧ ¬ y = -99999999 from ⟨by omega, a2⟩)]
          by_cases a3 : l = 0
          · rw [if_neg (by simpa using a3), if_pos a3]
          · rw [if_pos a3, if_neg a3, if_neg (show ¬ vt P g sg (t - 1) < vt P g sg t by omega), if_pos (show vt P g sg t < vt P g sg (t - 1) by omega), show l + -1 = l - 1 by omega]
    obtain ⟨ihA, ihB⟩ := ih (t + 1) l f0 (by omega) (by omega) l1 l2 f1 (by omega)
    rw [et] at ihA
    constructor
    · by_cases a1 : vt P g sg (t - 1) < vt P g sg t
      · obtain ⟨v, v1, v2⟩ := ihB t t1 (by omega) (by omega) a1 (fun y y1 y2 => by omega) f2
        rw [et] at v1
        refine ⟨v, fun Q => ?_, v2⟩
        rw [c3, if_neg (by omega), if_pos a1, v1]
      · obtain ⟨v, v1, v2⟩ := ihA
        refine ⟨v, fun Q => ?_, hi_step hw hr hg t1 h3 (by omega) hl (Or.inl (fun q => a1 q.1)) v2⟩
        rw [c3, if_neg (by omega), if_neg a1]
        by_cases a2 : vt P g sg t < vt P g sg (t - 1)
        · rw [if_pos a2, v1]
        · rw [if_neg a2, v1]
    · intro s s1 s2 s3 s4 s5 s6
      have hs5 : vt P g sg (t - 1) = vt P g sg s := by
        by_cases e : t - 1 = s
        · rw [e]
        · exact s5 (t - 1) (by omega) (by omega)
      have flat : ∀ y, s < y → y < t → ¬ Hi (vt P g sg) y o := fun y y1 y2 q => by
        have a1 := s5 y y1 y2
        have q1 := q.1
        by_cases e2 : y - 1 = s
        · rw [e2] at q1; omega
        · have a2 := s5 (y - 1) (by omega) (by omega)
          omega
      rcases Int.lt_trichotomy (vt P g sg t) (vt P g sg (t - 1)) with a1 | a1 | a1
      · -- a fall: s is a high
        have hs : Hi (vt P g sg) s o := ⟨s4, t, s2, by omega, s5, by omega⟩
        haveI := Classical.propDecidable (Hi (vt P g sg) s o)
        have so : s < o := by omega
        have ms : ∀ Q, Tq 323 3 [vR 22 0, vI g, vJ, vI o, vI k, vI w, vI f0, vI s] [] M Q ↔ if l = 0 then Q (.inl (some (vI s))) M else Tq 323 3 [vR 22 0, vI g, vJ, vI o, vI k, vI w, vI (f0 + 1), vI (s + 1)] [] M Q := by
          intro Q
          have g5 : Tq 323 5 [vR 22 0, vI g, vJ, vI o, vI k, vI w, vI f0, vI s] [vI sg, vI o, vI s, vI g, vR 22 0] M Q ↔ if l = 0 then Q (.inl (some (vI s))) M else Tq 323 3 [vR 22 0, vI g, vJ, vI o, vI k, vI w, vI (f0 + 1), vI (s + 1)] [] M Q := by
            rw [t323_5, m324 hw hr hg s1 so h3, kI_v, if_neg (by rw [b2i_t hs]; decide), t323_6, t323_7, w32_id (z := s + 1) (by omega) (by omega), w32_id (z := f0 + 1) (by omega) (by omega)]
            by_cases c0 : l = 0
            · rw [if_neg (by omega), if_pos c0]
            · rw [if_pos (by omega), if_neg c0]
          rw [t323_3, if_neg (by omega), t323_4]
          rcases hl with ⟨l1, l2⟩ | ⟨l1, l2⟩
          · rw [l2] at g5; rw [if_pos l1, g5]
          · rw [l2] at g5; rw [if_neg l1, g5]
        by_cases c0 : l = 0
        · refine ⟨s, fun Q => ?_, fun Q => by rw [ms, if_pos c0]⟩
          rw [c3, if_pos ⟨a1, by omega⟩, if_pos c0]
        · obtain ⟨⟨v, v1, v2⟩, -⟩ := ih (t + 1) (l - 1) (f0 + 1) (by omega) (by omega) (by omega) (by omega) (by omega) (by omega)
          rw [et] at v1
          refine ⟨v, fun Q => by rw [c3, if_pos ⟨a1, by omega⟩, if_neg c0, v1], fun Q => ?_⟩
          rw [ms, if_neg c0]
          have sk : RtI 323 3 [vR 22 0, vI g, vJ, vI o, vI k, vI w, vI (f0 + 1), vI (s + 1)] [] M v := by
            refine hi_skip hw hr hg h3 hl (t - s).toNat (s + 1) (by omega) (by omega) (fun y y1 y2 => ?_) (by rw [show s + 1 + ((t - s).toNat : Int) = t + 1 by omega]; exact v2)
            by_cases e : y = t
            · left
              intro q
              have := q.1
              rw [e] at this
              omega
            · exact Or.inl (flat y (by omega) (by omega))
          exact sk Q
      · -- on the flat
        obtain ⟨v, v1, v2⟩ := ihB s s1 (by omega) s3 s4 (fun y y1 y2 => by
          by_cases e : y = t
          · rw [e, a1, hs5]
          · exact s5 y y1 (by omega)) s6
        rw [et] at v1
        exact ⟨v, fun Q => by rw [c3, if_neg (by omega), if_neg (by omega), if_neg (by omega), v1], v2⟩
      · -- a rise
        obtain ⟨v, v1, v2⟩ := ihB t t1 (by omega) (by omega) a1 (fun y y1 y2 => by omega) f2
        rw [et] at v1
        refine ⟨v, fun Q => by rw [c3, if_neg (by omega), if_pos a1, v1], ?_⟩
        refine hi_skip hw hr hg h3 hl (t - s).toNat s s1 (by omega) (fun y y1 y2 => ?_) (by rw [show s + ((t - s).toNat : Int) = t by omega]; exact v2)
        left
        by_cases e : y = s
        · subst e
          rintro ⟨-, u, u1, u2, u3, u4⟩
          by_cases e1 : u < t
          · have := s5 u u1 e1
            omega
          · by_cases e2 : u = t
            · subst e2; omega
            · have := u3 t s2 (by omega)
              omega
        · exact flat y (by omega) (by omega)
theorem op_high {I : Mem → Prop} (hw : WGa P) (hc : CGa M P) (hr : RGa M P) (hk : I32 k) (hI : I M) : Op2 S0 S0 79 [vR 1 0, vI g, vI f, vI o, vI k, vI w] 323 [vR 22 0, vI g, vI f, vI o, vI k, vI w, vJ, vJ] M I := by
  have c1 : M 8 0 0 = P 22 0 43 := hc.1
  have r1 : M 22 0 43 = P 22 0 43 := hr.1
  have w1 : 0 ≤ P 22 0 43 ∧ P 22 0 43 ≤ 4 := hw.1
  by_cases hb : (0 ≤ g ∧ g < P 22 0 43) ∧ (0 ≤ f ∧ f ≤ 4095) ∧ (0 ≤ o ∧ o ≤ 4095) ∧ f ≤ o
  · obtain ⟨b1, b2, b3, b4⟩ := hb
    have e1 : ∀ Q, Tq 79 0 [vR 1 0, vI g, vI f, vI o, vI k, vI w] [] M Q ↔ Tq 379 3 [vR 8 0, vI g, vJ, vI o, vJ, vJ, vI (if w = 0 then 1 else -1), vI k, vI (-99999999), vI (vt P g (if w = 0 then 1 else -1) f), vI (f + 1), vJ] [] M (kI fun v1 M1 => Q (.inl (some (vI v1))) M1) := by
      intro Q
      rw [t79_0, m375 (by omega), kI_v, c1, if_neg (by rw [b2i_t b1]; decide), m34, kI_v, if_neg (by rw [b2i_t b2]; decide), m34, kI_v, if_neg (by rw [b2i_t b3]; decide), if_pos b4, t79_2, t379_0, t379_1, t379_2, t379_2, m378 hw hc b1, kI_v, m378 hw hc b1, kI_v, w32_id (z := f + 1) (by omega) (by omega)]
      by_cases c : w = 0
      · rw [if_pos c, if_pos c]; rfl
      · rw [if_neg c, if_neg c]; rfl
    have e2 : ∀ Q, Tq 323 0 [vR 22 0, vI g, vI f, vI o, vI k, vI w, vJ, vJ] [] M Q ↔ Tq 323 3 [vR 22 0, vI g, vJ, vI o, vI k, vI w, vI 0, vI (f + 1)] [] M Q := by
      intro Q
      rw [t323_0, m216 (by omega), kI_v, r1, if_neg (by rw [b2i_t b1]; decide), m219, kI_v, if_neg (by rw [b2i_t b2]; decide), m219, kI_v, if_neg (by rw [b2i_t b3]; decide), if_pos b4, t323_2, w32_id (z := f + 1) (by omega) (by omega)]
    have hl : (w = 0 ∧ (if w = 0 then 1 else -1 : Int) = 1) ∨ (¬ w = 0 ∧ (if w = 0 then 1 else -1 : Int) = -1) := by
      by_cases c : w = 0
      · exact Or.inl ⟨c, if_pos c⟩
      · exact Or.inr ⟨c, if_neg c⟩
    by_cases hn : k < 0
    · refine Op2_ret (v := -99999999) (fun Q => ?_) (fun Q => ?_) hI
      · rw [e1, t379_3]
        refine ifi (fun _ => by rw [t379_9, kI_v]) (fun _ => ?_)
        rw [if_pos hn, t379_9, kI_v]
      · rw [e2]
        have loop : ∀ (d : Nat) (t f0 : Int), 1 ≤ t → t + d = o + 1 → 0 ≤ f0 → f0 ≤ t → RtI 323 3 [vR 22 0, vI g, vJ, vI o, vI k, vI w, vI f0, vI t] [] M (-99999999) := by
          intro d
          induction d with
          | zero =>
            intro t f0 t1 t2 t3 t4 Q
            rw [t323_3, if_pos (by omega), t323_8]
          | succ d ih =>
            intro t f0 t1 t2 t3 t4 Q
            by_cases co : o ≤ t
            · rw [t323_3, if_pos co, t323_8]
            · haveI := Classical.propDecidable (Hi (vt P g (if w = 0 then 1 else -1)) t o)
              have g5 : Tq 323 5 [vR 22 0, vI g, vJ, vI o, vI k, vI w, vI f0, vI t] [vI (if w = 0 then 1 else -1), vI o, vI t, vI g, vR 22 0] M Q ↔ Q (.inl (some (vI (-99999999)))) M := by
                rw [t323_5, m324 hw hr b1 t1 (by omega) (by omega), kI_v, t323_6, t323_7, t323_7, w32_id (z := t + 1) (by omega) (by omega), w32_id (z := f0 + 1) (by omega) (by omega)]
                refine ifi (fun _ => ih (t + 1) f0 (by omega) (by omega) t3 (by omega) Q) (fun _ => ?_)
                rw [if_pos (by omega)]
                exact ih (t + 1) (f0 + 1) (by omega) (by omega) (by omega) (by omega) Q
              rw [t323_3, if_neg co, t323_4]
              rcases hl with ⟨l1, l2⟩ | ⟨l1, l2⟩
              · rw [l2] at g5; rw [if_pos l1, g5]
              · rw [l2] at g5; rw [if_neg l1, g5]
        exact loop (o - f).toNat (f + 1) 0 (by omega) (by omega) (by omega) (by omega) Q
    · obtain ⟨⟨v, v1, v2⟩, -⟩ := high_joint (k := k) hw hc hr b1 b3.2 hl hk (o - f).toNat (f + 1) k 0 (by omega) (by omega) (by omega) (by omega) (by omega) (by omega)
      rw [show f + 1 - 1 = f by omega] at v1
      refine Op2_ret (v := v) (fun Q => ?_) (fun Q => ?_) hI
      · rw [e1, v1, kI_v]
      · rw [e2, v2]
  · refine Op2_ret (v := -1) (fun Q => ?_) (fun Q => ?_) hI
    · simp only [kI_v, kL_v, kV_v, kR_v, kX_n, kX_e, bd_e, b2i_e0, b2i_e1, b2i_nb, nb_0, nb_1, cmp_lt, cmp_le, cmp_gt, cmp_ge, cmp_eq, not_true_eq_false, not_false_eq_true, if_true, if_false, ite_true, ite_false, true_and, and_true, false_and, and_false, Int.reduceLT, Int.reduceLE, Int.reduceEq, Int.reduceSub, Int.reduceAdd, Int.reduceNeg, Int.reduceMul, Classical.not_not, Int.zero_add, Int.add_zero, Int.le_refl, t79_0, t79_1, m375 (M := M) (show 0 ≤ M 8 0 0 ∧ M 8 0 0 ≤ 4 by omega), m34]
      refine ifi (fun _ => Iff.rfl) (fun d1 => ifi (fun _ => Iff.rfl) (fun d2 => ifi (fun _ => Iff.rfl) (fun d3 => ?_)))
      rw [if_neg (by omega)]
    · simp only [kI_v, kL_v, kV_v, kR_v, kX_n, kX_e, bd_e, b2i_e0, b2i_e1, b2i_nb, nb_0, nb_1, cmp_lt, cmp_le, cmp_gt, cmp_ge, cmp_eq, not_true_eq_false, not_false_eq_true, if_true, if_false, ite_true, ite_false, true_and, and_true, false_and, and_false, Int.reduceLT, Int.reduceLE, Int.reduceEq, Int.reduceSub, Int.reduceAdd, Int.reduceNeg, Int.reduceMul, Classical.not_not, Int.zero_add, Int.add_zero, Int.le_refl, t323_0, t323_1, m216 (M := M) (show 0 ≤ M 22 0 43 ∧ M 22 0 43 ≤ 4 by omega), m219]
      refine ifi (fun _ => Iff.rfl) (fun d1 => ifi (fun _ => Iff.rfl) (fun d2 => ifi (fun _ => Iff.rfl) (fun d3 => ?_)))
      rw [if_neg (by omega)]
end High
