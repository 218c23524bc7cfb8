/-! ASSOCIATE: the state of both sides, kept -/
def ASI (M N P : Mem) (rs : List (Int × List Int)) : Prop := WEa P ∧ WNet P ∧ WBk P ∧ P 22 0 6 = rs.length ∧ (0 ≤ P 22 0 81 ∧ P 22 0 81 ≤ 4095) ∧ (CEa M P ∧ CNet M P ∧ CBk M P ∧ CLog M rs ∧ M 4 0 10 = P 22 0 81) ∧ (REa N P ∧ RNet N P ∧ RBk N P ∧ RLog N rs ∧ RtOK N ∧ N 22 0 81 = P 22 0 81) ∧ PkR M N (P 22 0 9)
def SFoC (f : Nat) (i k : Int) : Prop := f = 6 ∨ f = 7 ∨ f = 7000 ∨ f = 7002 ∨ f = 18006 ∨ f = 1014 ∨ LCLog f i k
def SFoM (f : Nat) (i k : Int) : Prop := f = 22024 ∨ f = 22030 ∨ f = 22031 ∨ f = 22032 ∨ f = 22033 ∨ f = 22034 ∨ f = 22035 ∨ (f = 22 ∧ (k = 28 ∨ k = 29)) ∨ LRLog f i k
section Asi2
variable {X Y M N P : Mem} {e x y z o m n ck : Int} {L A : List Int} {rs : List (Int × List Int)}
theorem cvs_ag (h6 : X 6 = Y 6) (h7 : X 7 = Y 7) (h70 : X 7000 = Y 7000) (h72 : X 7002 = Y 7002) : ∀ f i k, (f = 6 ∨ f = 7 ∨ f = 7000 ∨ f = 7002) → cvs X e L ck f i k = cvs Y e L ck f i k := by
  intro f i k hf
  unfold cvs
  rw [mset_3, mset_3, mset_3, mset_3, mset_3, mset_3, movl_2, movl_2, h6, h7, h70]
  have : X f i = Y f i := by rcases hf with rfl | rfl | rfl | rfl <;> simp only [h6, h7, h70, h72]
  rw [this]
theorem pvs_ag (h : ∀ (f : Nat) (i : Int), ¬ f = 22024 → X f i = Y f i) : ∀ (f : Nat) (i k : Int), ¬ f = 22024 → pvs X e L f i k = pvs Y e L f i k := by
  intro f i k hf
  unfold pvs
  rw [mset_3, mset_3, mset_3, mset_3, mset_3, mset_3, movl_2, movl_2, h 22 0 (by decide), h 22032 0 (by decide), h 22033 0 (by decide), h f i hf]
theorem fC_fr : Fr SFoC M (fC M e x y z o m L) := by
  have a : Fr SFoC M (fX M e L) := by
    intro f i k q
    unfold SFoC at q
    rw [fX_r (fun h => q (by omega)) (fun h => q (by omega)) (fun h => q (by omega)) (fun h => q (by omega))]
  have b : Fr SFoC M (movl (fX M e L) 1014 0 0 (fLv x y z o m)) := Fr.movl a (fun k => by simp [SFoC])
  have c : Fr SFoC M (lgw (movl (fX M e L) 1014 0 0 (fLv x y z o m)) (cont (69, fRw x y z o m (L.flatMap (ar5C M)) L.length))) := b.trans (lgw_fr.mono (fun f i k q => Or.inr (Or.inr (Or.inr (Or.inr (Or.inr (Or.inr q)))))))
  unfold fC cvs
  exact Fr.mset (Fr.mset (Fr.mset (Fr.movl c (fun k => by simp [SFoC])) (by simp [SFoC])) (by simp [SFoC])) (by simp [SFoC])
theorem fM_fr : Fr SFoM N (fM N e x y z o m L) := by
  have a : Fr SFoM N (fY N e L) := by
    unfold fY pne
    exact Fr.mrow (Fr.mset (Fr.movl (Fr.mset (Fr.mset (Fr.mset (Fr.mset Fr.refl (by simp [SFoM])) (by simp [SFoM])) (by simp [SFoM])) (by simp [SFoM])) (fun k => by simp [SFoM])) (by simp [SFoM])) (fun k => by simp [SFoM])
  have b : Fr SFoM N (pvs (fY N e L) e (fLv x y z o m)) := by
    unfold pvs
    exact Fr.mset (Fr.mset (Fr.mset (Fr.movl a (fun k => by simp [SFoM])) (by simp [SFoM])) (by simp [SFoM])) (by simp [SFoM])
  exact b.trans (kgw_fr.mono (fun f i k q => Or.inr (Or.inr (Or.inr (Or.inr (Or.inr (Or.inr (Or.inr (Or.inr q)))))))))
theorem fC_18006 : fC M e x y z o m L 18006 0 = mkF (M 18006 0) e L := by
  unfold fC cvs
  rw [mset_o (by simp), mset_o (by simp), mset_o (by simp), movl_r (by decide), lgw_r (by decide) (by decide) (by decide), movl_r (by decide)]
  unfold fX
  rw [mrow_s]
theorem fM_22024 : fM N e x y z o m L 22024 0 = mkM (N 22024 0) e L := by
  unfold fM
  rw [kgw_r (by decide) (by decide), pvs_r (by decide) (by decide) (by decide) (by decide), fY_24]
/-- what bmp and pev leave as it was -/
theorem pe_r {f : Nat} {i : Int} {Lv : List Int} (h1 : ¬ f = 22) (h2 : ¬ f = 22030) (h3 : ¬ f = 22031) (h4 : ¬ f = 22032) (h5 : ¬ f = 22033) (h6 : ¬ f = 22034) (h7 : ¬ f = 22035) : bmp (pev P A n Lv) f i = P f i := by
  unfold bmp
  rw [mset_o (fun q => h1 q.1)]
  show pvs (pe1 P A n) (P 22 0 28) Lv f i = _
  rw [pvs_r h1 h4 h5 h6, pe1_r h1 h2 h3 h4 h7]
theorem pe_22 {k : Int} {Lv : List Int} (h1 : ¬ k = 28) (h2 : ¬ k = 29) (h3 : ¬ k = 6) : bmp (pev P A n Lv) 22 0 k = P 22 0 k := by
  unfold bmp
  rw [mset_3, if_neg (by simp [h3])]
  show pvs (pe1 P A n) (P 22 0 28) Lv 22 0 k = _
  rw [pvs_s, if_neg h2, pe1_s, if_neg h1]
theorem pe_6 {Lv : List Int} : bmp (pev P A n Lv) 22 0 6 = P 22 0 6 + 1 := by
  unfold bmp
  rw [mset_3, if_pos ⟨rfl, rfl, rfl⟩]
  show pvs (pe1 P A n) (P 22 0 28) Lv 22 0 6 + 1 = _
  rw [pvs_s, if_neg (by decide), pe1_s, if_neg (by decide)]
theorem pe_28 {Lv : List Int} : bmp (pev P A n Lv) 22 0 28 = P 22 0 28 + 1 := by
  unfold bmp
  rw [mset_3, if_neg (by simp)]
  show pvs (pe1 P A n) (P 22 0 28) Lv 22 0 28 = _
  rw [pvs_s, if_neg (by decide), pe1_s, if_pos rfl]
def gdE (x y z o m n : Int) (A : List Int) (P : Mem) : Prop := (0 ≤ n ∧ n ≤ 24) ∧ OkAL A n (P 22 0 9) ∧ P 22 0 28 < 24 ∧ OkV 0 x y z o m (-99999999) (P 22 0 81) (P 22 0 81)
theorem ASI_found (h : ASI M N P rs) (he : P 22 0 28 = e) (hL : ∀ p ∈ L, 0 ≤ p ∧ p < N 22 0 23) (hg : gdE x y z o m L.length (L.flatMap (ar5M N)) P) (hroom : M 13 1 1 + 31 + 20 * L.length ≤ 60000) : ASI (fC M e x y z o m L) (fM N e x y z o m L) (bmp (pev P (L.flatMap (ar5M N)) L.length (fLv x y z o m))) ((69, fRw x y z o m (L.flatMap (ar5M N)) L.length) :: rs) := by
  obtain ⟨h1, h2, h3, h4, h5, ⟨c1, c2, c3, c4, c5⟩, ⟨r1, r2, r3, r4, r5, r6⟩, hp⟩ := h
  obtain ⟨g1, g2, g3, g4⟩ := hg
  have eA : L.flatMap (ar5C M) = L.flatMap (ar5M N) := by
    have : ∀ T : List Int, (∀ p ∈ T, 0 ≤ p ∧ p < N 22 0 23) → T.flatMap (ar5C M) = T.flatMap (ar5M N) := fun T => by
      induction T with
      | nil => intro _; rfl
      | cons p T ih =>
        intro hT
        obtain ⟨q1, q2⟩ := hT p (List.mem_cons_self ..)
        obtain ⟨a1, a2, a3, a4, a5, -⟩ := hp.2.2 p q1 q2
        rw [List.flatMap_cons, List.flatMap_cons, ih (fun q hq => hT q (List.mem_cons_of_mem _ hq))]
        unfold ar5C ar5M
        rw [a1, a2, a3, a4, a5]
    exact this L hL
  have e1 : M 6 0 1 = e := by rw [← he]; exact c3.1
  have e2 : N 22 0 28 = e := by rw [← he]; exact r3.1
  have e0 : 0 ≤ e ∧ e < 24 := by have := h3.1; omega
  have hfC := @fC_fr M e x y z o m L
  have hfM := @fM_fr N e x y z o m L
  generalize hAA : L.flatMap (ar5M N) = A at *
  have cL := cont_len (l := 69) (L := fRw x y z o m A L.length) (by decide)
  have lA : (A.length : Int) = 5 * L.length := g2.1
  have lR : ((fRw x y z o m A L.length).length : Int) = 6 + 5 * L.length := by
    unfold fRw
    rw [List.length_append, List.length_append]
    show ((5 + 1 + A.length : Nat) : Int) = _
    omega
  rw [lR] at cL
  have rowsM := CLog.rng c4
  have rowsN := RLog.rng r4
  have hrm : N 22 0 5 = M 13 1 1 := by rw [c4.1, r4.1]
  refine ⟨?_, ?_, ?_, ?_, ?_, ⟨?_, ?_, ?_, ?_, ?_⟩, ⟨?_, ?_, ?_, ?_, ?_, ?_⟩, ?_⟩
  · exact WEa_cg (fun f i k hl => by unfold LWEa at hl; rw [pe_r (by omega) (by omega) (by omega) (by omega) (by omega) (by omega) (by omega)]) h1
  · exact WNet_cg (fun f i k hl => by
      unfold LWNet at hl
      rcases hl with ⟨rfl, rfl, rfl⟩ | hl
      · exact pe_22 (by decide) (by decide) (by decide)
      · rw [pe_r (by omega) (by omega) (by omega) (by omega) (by omega) (by omega) (by omega)]) h2
  · exact WBk_e h3 g1 g2 g3 g4
  · rw [pe_6, h4, List.length_cons]
    omega
  · rw [pe_22 (by decide) (by decide) (by decide)]
    exact h5
  · refine CEa_cg (fun f i k hl => ?_) (fun f i k hl => ?_) c1
    · unfold LCEa at hl
      exact hfC f i k (by unfold SFoC LCLog; omega)
    · unfold LPCEa at hl
      rw [pe_r (by omega) (by omega) (by omega) (by omega) (by omega) (by omega) (by omega)]
  · refine CNet_cg (fun f i k hl => ?_) (fun f i k hl => ?_) c2
    · unfold LCNet at hl
      exact hfC f i k (by unfold SFoC LCLog; omega)
    · unfold LPCNet at hl
      rcases hl with ⟨rfl, rfl, rfl⟩ | hl
      · exact pe_22 (by decide) (by decide) (by decide)
      · rw [pe_r (by omega) (by omega) (by omega) (by omega) (by omega) (by omega) (by omega)]
  · have ce := CBk_e (A := A) (n := L.length) (L := fLv x y z o m) c3 h3 g1 lA rfl g3
    refine CBk_cg (fun f i k hl => ?_) (fun f i k hl => ?_) ce
    · unfold fC cev
      rw [c5, eA, e1]
      refine cvs_ag ?_ ?_ ?_ ?_ f i k (by unfold LCBk at hl; omega)
      · funext i
        rw [lgw_r (by decide) (by decide) (by decide), movl_r (by decide)]
        unfold fX
        rw [mrow_n (by simp), eA]
      · funext i
        rw [lgw_r (by decide) (by decide) (by decide), movl_r (by decide)]
        unfold fX
        rw [mrow_n (by simp), eA]
      · funext i
        rw [lgw_r (by decide) (by decide) (by decide), movl_r (by decide)]
        unfold fX
        rw [mrow_n (by simp), eA]
      · funext i
        rw [lgw_r (by decide) (by decide) (by decide), movl_r (by decide)]
        unfold fX
        rw [mrow_n (by simp), eA]
    · unfold LPCBk at hl
      unfold bmp
      rw [mset_3, if_neg (by omega)]
  · have k0 : CLog (movl (fX M e L) 1014 0 0 (fLv x y z o m)) rs := CLog_fr (S := fun f _ _ => f = 6 ∨ f = 7 ∨ f = 7002 ∨ f = 18006 ∨ f = 1014) c4 (by
      intro f i k q
      rw [movl_r (by omega), fX_r (by omega) (by omega) (by omega) (by omega)]) (fun f i k hl => by unfold LCLog at hl; omega)
    have k13 : movl (fX M e L) 1014 0 0 (fLv x y z o m) 13 1 1 = M 13 1 1 := by rw [movl_r (by decide), fX_r (by decide) (by decide) (by decide) (by decide)]
    have k1 := CLog_add (r := (69, fRw x y z o m A L.length)) k0 (by rw [k13, cL]; omega)
    unfold fC
    rw [eA]
    refine CLog_fr (S := fun f _ _ => f = 6 ∨ f = 7 ∨ f = 7000) k1 ?_ (fun f i k hl => by unfold LCLog at hl; omega)
    unfold cvs
    exact Fr.mset (Fr.mset (Fr.mset (Fr.movl Fr.refl (fun k => by simp)) (by simp)) (by simp)) (by simp)
  · rw [pe_22 (by decide) (by decide) (by decide), hfC 4 0 10 (by simp [SFoC, LCLog])]
    exact c5
  · refine REa_cg (fun f i k hl => ?_) (fun f i k hl => ?_) r1
    · unfold LREa at hl
      exact hfM f i k (by unfold SFoM LRLog; omega)
    · unfold LPREa at hl
      rw [pe_r (by omega) (by omega) (by omega) (by omega) (by omega) (by omega) (by omega)]
  · refine RNet_cg (fun f i k hl => ?_) (fun f i k hl => ?_) r2
    · unfold LRNet at hl
      exact hfM f i k (by unfold SFoM LRLog; omega)
    · unfold LPRNet at hl
      rcases hl with ⟨rfl, rfl, rfl⟩ | hl
      · exact pe_22 (by decide) (by decide) (by decide)
      · rw [pe_r (by omega) (by omega) (by omega) (by omega) (by omega) (by omega) (by omega)]
  · have re := RBk_e (A := A) (n := L.length) (L := fLv x y z o m) r3 h3 g1 lA rfl g3 r6
    have y22 : fY N e L 22 = mset (movl (pne N) 22031 0 (120 * e) A) 22030 0 e L.length 22 := by funext i; unfold fY; rw [mrow_n (by simp), hAA]
    have yr : ∀ {f : Nat} {i : Int}, ¬ f = 22024 → fY N e L f i = mset (movl (pne N) 22031 0 (120 * e) A) 22030 0 e L.length f i := fun hf => by unfold fY; rw [mrow_n (fun q => hf q.1), hAA]
    refine RBk_cg (fun f i k hl => ?_) (fun f i k hl => ?_) re
    · unfold LRBk at hl
      unfold fM
      rw [kgw_fr f i k (by unfold LRLog; omega)]
      show pvs (fY N e L) e (fLv x y z o m) f i k = pvs (mset (movl (pne N) 22031 0 (120 * N 22 0 28) A) 22030 0 (N 22 0 28) L.length) (N 22 0 28) (fLv x y z o m) f i k
      rw [e2]
      exact pvs_ag (fun f i hf => yr hf) f i k (by omega)
    · unfold LPRBk at hl
      unfold bmp
      rw [mset_3, if_neg (by omega)]
  · have k0 : RLog (pvs (fY N e L) e (fLv x y z o m)) rs := by
      refine RLog_fr (S := fun f _ k => f = 22024 ∨ f = 22030 ∨ f = 22031 ∨ f = 22032 ∨ f = 22033 ∨ f = 22034 ∨ f = 22035 ∨ (f = 22 ∧ (k = 28 ∨ k = 29))) r4 ?_ (fun f i k hl => by unfold LRLog at hl; omega)
      unfold pvs fY pne
      exact Fr.mset (Fr.mset (Fr.mset (Fr.movl (Fr.mrow (Fr.mset (Fr.movl (Fr.mset (Fr.mset (Fr.mset (Fr.mset Fr.refl (by simp)) (by simp)) (by simp)) (by simp)) (fun k => by simp)) (by simp)) (fun k => by simp)) (fun k => by simp)) (by simp)) (by simp)) (by simp)
    have k5 : pvs (fY N e L) e (fLv x y z o m) 22 0 5 = N 22 0 5 := by
      rw [pvs_s, if_neg (by decide)]
      unfold fY pne
      rw [mrow_n (by simp), mset_o (by simp), movl_r (by decide), mset_3, if_neg (by simp), mset_o (by simp), mset_o (by simp), mset_o (by simp)]
    have k1 := RLog_add (r := (69, fRw x y z o m A L.length)) k0 (by rw [k5, cL]; omega)
    unfold fM
    rw [hAA]
    exact k1
  · exact RtOK_fr r5 hfM (fun f i k q => by unfold SRt at q; unfold SFoM LRLog; omega)
  · rw [pe_22 (by decide) (by decide) (by decide), hfM 22 0 81 (by simp [SFoM, LRLog])]
    exact r6
  · obtain ⟨p1, p2, p3⟩ := hp
    unfold PkR
    rw [pe_22 (by decide) (by decide) (by decide), fC_18006, fM_22024, hfC 18 0 0 (by simp [SFoC, LCLog]), hfC.row 18001 0 (by simp [SFoC, LCLog]), hfC.row 18002 0 (by simp [SFoC, LCLog]), hfC.row 18003 0 (by simp [SFoC, LCLog]), hfC.row 18004 0 (by simp [SFoC, LCLog]), hfC.row 18005 0 (by simp [SFoC, LCLog]), hfM 22 0 23 (by simp [SFoM, LRLog])]
    refine ⟨p1, p2, fun j j1 j2 => ?_⟩
    obtain ⟨a1, a2, a3, a4, a5, a6, b1, b2, b3, b4, b5, b6⟩ := p3 j j1 j2
    rw [mkM_o (j := 6 * j) (by omega), mkM_o (j := 6 * j + 1) (by omega), mkM_o (j := 6 * j + 2) (by omega), mkM_o (j := 6 * j + 3) (by omega), mkM_o (j := 6 * j + 4) (by omega)]
    refine ⟨a1, a2, a3, a4, a5, ?_, b1, b2, b3, b4, b5, ?_⟩
    · unfold mkF mkM
      by_cases q : j ∈ L
      · rw [if_pos q, if_pos ⟨by omega, by rw [show (6 * j + 5) / 6 = j by omega]; exact q⟩]
      · rw [if_neg q, if_neg (fun c => q (by rw [show (6 * j + 5) / 6 = j by omega] at c; exact c.2)), a6]
    · unfold mkM
      split
      · exact Or.inr e0
      · exact b6
end Asi2
