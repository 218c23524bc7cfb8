/-! ONE INSTRUCTION: putfield, getstatic, arrays -/
section Step3
variable {p : Program} {l : Launch} {e : Env} {R : Room} {s : State} {m : MethodId} {args : Array Value} {below : List Frame} {meth : Method} {c : Code} {H : Heap} {locs : List Loc} {cells slots : Nat} {Q : State → Prop} {G : Gh} {y pc : Nat} {la : Array Slot} {sa : List Value}
theorem narr {v : Value} {t : FieldType} (h : match t with | .object _ => True | .array _ => True | _ => False) : narrow t v = v := by
  cases t <;> first | rfl | cases h
theorem fitr {q : Nat} {t : FieldType} (h : match t with | .object _ => True | .array _ => True | _ => False) : fits t (.ref q) = true := by
  cases t <;> first | rfl | cases h
set_option maxHeartbeats 4000000 in
theorem st_put {cc : Int} {q : List Nat} {n : Nat} {ls st ls' st' : List AV} {M M' : Mem} {a : Act} (C : CX G y p s m args c) (hd : decode (bts y) pc = .ok (.putfield n, 3)) (hk : okI lkT y pc (.putfield n, cc, q) = true) (hL : LR G (mxl y) ls la) (hS : SR G st sa) (hR : Rp G M H) (hl : LocOK G locs) (he : xPut q ls st M = some a) (hN : Nx a (ls', st', M'))
    (kk : ∀ H' locs' la' sa', LR G (mxl y) ls' la' → SR G st' sa' → Rp G M' H' → LocOK G locs' → W p l e R s m args below meth c H' locs' cells slots Q (F0 m (pc + 3) la' sa')) : W p l e R s m args below meth c H locs cells slots Q (F0 m pc la sa) := by
  have C0 := C
  obtain ⟨hx, hb, hml, hown, hts, hK, hG⟩ := C
  simp only [okI] at hk
  obtain ⟨w, hw, h1⟩ := List.any_eq_true.mp hk
  simp only [Bool.and_eq_true, Nat.beq_eq, decide_eq_true_eq, Bool.not_eq_true'] at h1
  obtain ⟨⟨rfl, hq⟩, hfin⟩ := h1
  have hF := fiT_ok _ w hw
  obtain ⟨idx, g, k, nest⟩ := w
  dsimp only at hq hd hfin
  obtain ⟨⟨g1, g2, hkk⟩, -⟩ := id hF
  dsimp only at g1 g2 hkk
  have hfd := fdC_ok g g2 k hkk
  have main : ∀ (i z : Int) (sb : List Value) (v : Value), lyo g i → narrow (cY g k) v = v → fits (cY g k) v = true → fv G g i (mset M g i k z) k v → SR G st' sb → ls' = ls → M' = mset M g i k z → W p l e R s m args below meth c H locs cells slots Q (F0 m pc la (v :: .ref (gA G g i) :: sb)) := by
    rintro i z sb v hi hn hf hv hS1 rfl rfl
    obtain ⟨V, hO, hV⟩ := hR.2.2.1 g i g1 g2 hi
    refine pf_row (t := (idx, g, k, nest)) C0 hF hfin hn hf hO hd (fun H' sl hO' hz ho => ?_)
    exact kk _ _ _ _ hL hS1 (hR.put hG g1 g2 hi hV hv hO' hz ho) (hl.add (hG.2.1 g i (wrtO g1 g2) hi))
  unfold fq at hq
  unfold fdC at hfd
  split at hq
  all_goals rename_i hfk
  all_goals (try rw [hfk] at hfd)
  · subst hq
    obtain ⟨f, i, z, st1, rfl, h9⟩ := pIR_inv (show pIR st (fun f i z st => bif Nat.beq f g then aC ls st (mset M g i k z) else none) = some a from he)
    cases hf : Nat.beq f g with
    | false => rw [hf] at h9; cases h9
    | true =>
      rw [hf] at h9
      cases h9
      obtain ⟨e1, e2, e3⟩ := Nx_c hN
      obtain rfl := beq_t hf
      obtain ⟨x, sb, rfl, rfl, hS1⟩ := hS.i
      obtain ⟨sc, rfl, hi, hS2⟩ := hS1.a (by omega)
      have hty := of_decide_eq_true hfd
      refine main i _ sc _ hi (by rw [hty]; rfl) (by rw [hty]; rfl) ?_ (by rw [e2]; exact hS2) e1 e3
      unfold fv
      rw [hfk]
      exact ⟨x, rfl, mset_at.symm⟩
  · subst hq
    obtain ⟨f, i, z, st1, rfl, h9⟩ := pIR_inv (show pIR st (fun f i z st => bif Nat.beq f g then aG (z = 0 ∨ z = 1) inferInstance ls st (mset M g i k z) else none) = some a from he)
    cases hf : Nat.beq f g with
    | false => rw [hf] at h9; cases h9
    | true =>
      rw [hf] at h9
      cases h9
      obtain ⟨hg, e1, e2, e3⟩ := Nx_g hN
      obtain rfl := beq_t hf
      obtain ⟨x, sb, rfl, rfl, hS1⟩ := hS.i
      obtain ⟨sc, rfl, hi, hS2⟩ := hS1.a (by omega)
      have hty := of_decide_eq_true hfd
      have hg : x.toInt = 0 ∨ x.toInt = 1 := hg
      have hx01 : x = 0 ∨ x = 1 := by
        rcases hg with h | h
        · exact Or.inl (Int32.toInt_inj.mp h)
        · exact Or.inr (Int32.toInt_inj.mp h)
      refine main i _ sc _ hi (by rw [hty]; rcases hx01 with rfl | rfl <;> rfl) (by rw [hty]; rcases hx01 with rfl | rfl <;> rfl) ?_ (by rw [e2]; exact hS2) e1 e3
      unfold fv
      rw [hfk]
      refine ⟨x, rfl, mset_at.symm, ?_⟩
      rw [mset_at]
      exact hg
  · subst hq
    obtain ⟨z, st1, rfl, h9⟩ := pL_inv (show pL st (fun z st => pR st fun f i st => bif Nat.beq f g then aC ls st (mset M g i k z) else none) = some a from he)
    obtain ⟨f, i, st2, rfl, h8⟩ := pR_inv h9
    cases hf : Nat.beq f g with
    | false => rw [hf] at h8; cases h8
    | true =>
      rw [hf] at h8
      cases h8
      obtain ⟨e1, e2, e3⟩ := Nx_c hN
      obtain rfl := beq_t hf
      obtain ⟨x, sb, rfl, rfl, hS1⟩ := hS.l
      obtain ⟨sc, rfl, hi, hS2⟩ := hS1.a (by omega)
      have hty := of_decide_eq_true hfd
      refine main i _ sc _ hi (by rw [hty]; rfl) (by rw [hty]; rfl) ?_ (by rw [e2]; exact hS2) e1 e3
      unfold fv
      rw [hfk]
      exact ⟨x, rfl, mset_at.symm⟩
  · split at hq
    · subst hq; cases he
    · subst hq; cases he
  · rename_i pp aa nn
    subst hq
    simp only [Bool.and_eq_true, decide_eq_true_eq] at hfd
    obtain ⟨⟨p0, p3⟩, hty⟩ := hfd
    have hty : (match cY g k with | .object _ => True | .array _ => True | _ => False) := by
      revert hty
      cases cY g k <;> simp
    obtain ⟨h, j, st1, rfl, h9⟩ := pR_inv (show pR st (fun h j st => pR st fun f i st => bif Nat.beq f g && Nat.beq h pp then aC ls st (mset M g i k j) else none) = some a from he)
    obtain ⟨f, i, st2, rfl, h8⟩ := pR_inv h9
    cases hf : (Nat.beq f g && Nat.beq h pp) with
    | false => rw [hf] at h8; cases h8
    | true =>
      rw [hf] at h8
      cases h8
      obtain ⟨e1, e2, e3⟩ := Nx_c hN
      simp only [Bool.and_eq_true, Nat.beq_eq] at hf
      obtain ⟨rfl, rfl⟩ := hf
      obtain ⟨sb, rfl, hj, hS1⟩ := hS.a p3
      obtain ⟨sc, rfl, hi, hS2⟩ := hS1.a (by omega)
      refine main i _ sc _ hi (narr hty) (fitr hty) ?_ (by rw [e2]; exact hS2) e1 e3
      unfold fv
      rw [hfk]
      refine Or.inr ?_
      rw [mset_at]
      exact ⟨hj, rfl⟩
  · subst hq; cases he
  · subst hq; cases he
  · subst hq; cases he
set_option maxHeartbeats 4000000 in
theorem st_gs {cc : Int} {q : List Nat} {n : Nat} {ls st ls' st' : List AV} {M M' : Mem} {a : Act} (C : CX G y p s m args c) (hd : decode (bts y) pc = .ok (.getstatic n, 3)) (hk : okI lkT y pc (.getstatic n, cc, q) = true) (hL : LR G (mxl y) ls la) (hS : SR G st sa) (hR : Rp G M H) (hl : LocOK G locs) (he : xGs (.getstatic n, cc, q) ls st M = some a) (hN : Nx a (ls', st', M'))
    (kk : ∀ H' locs' la' sa', LR G (mxl y) ls' la' → SR G st' sa' → Rp G M' H' → LocOK G locs' → W p l e R s m args below meth c H' locs' cells slots Q (F0 m (pc + 3) la' sa')) : W p l e R s m args below meth c H locs cells slots Q (F0 m pc la sa) := by
  have C0 := C
  obtain ⟨hx, hb, hml, hown, hts, hK, hG⟩ := C
  obtain ⟨z0, z1, z2, z3, v9, hv9, z4⟩ := hK.2.2.2.2.2.1
  simp only [okI] at hk
  split at hk
  · simp only [Bool.and_eq_true, decide_eq_true_eq] at hk
    obtain ⟨hk, rfl⟩ := hk
    obtain ⟨⟨i0, k0, b0⟩, hw, h1⟩ := List.any_eq_true.mp hk
    simp only [Bool.and_eq_true, Nat.beq_eq] at h1
    obtain ⟨rfl, rfl⟩ := h1
    cases he
    obtain ⟨rfl, rfl, rfl⟩ := Nx_c hN
    exact gs_row (t := (i0, 3, b0)) C0 hR.2.1 (gsT_ok _ _ hw) z3 hd (kk _ _ _ _ hL ⟨⟨1, rfl, rfl⟩, hS⟩ hR hl)
  · obtain ⟨⟨i0, k0, b0⟩, hw, h1⟩ := List.any_eq_true.mp hk
    simp only [Bool.and_eq_true, Nat.beq_eq] at h1
    obtain ⟨rfl, rfl⟩ := h1
    cases he
    obtain ⟨rfl, rfl, rfl⟩ := Nx_c hN
    exact gs_row (t := (i0, 4, b0)) C0 hR.2.1 (gsT_ok _ _ hw) z4 hd (kk _ _ _ _ hL ⟨⟨by decide, Or.inl ⟨rfl, hv9⟩⟩, hS⟩ hR hl)
  · rename_i g hg
    obtain ⟨⟨i0, k0, b0⟩, hw, h1⟩ := List.any_eq_true.mp hk
    simp only [Bool.and_eq_true, Nat.beq_eq, Nat.blt_eq] at h1
    obtain ⟨⟨rfl, hk3⟩, rfl⟩ := h1
    cases he
    obtain ⟨rfl, rfl, rfl⟩ := Nx_c hN
    rcases k0 with _ | _ | _ | k0
    · exact gs_row (t := (i0, 0, b0)) C0 hR.2.1 (gsT_ok _ _ hw) z0 hd (kk _ _ _ _ hL ⟨⟨by decide, Or.inr ⟨by decide, rfl, by decide +kernel, by decide +kernel⟩⟩, hS⟩ hR hl)
    · exact gs_row (t := (i0, 1, b0)) C0 hR.2.1 (gsT_ok _ _ hw) z1 hd (kk _ _ _ _ hL ⟨⟨by decide, Or.inr ⟨by decide, rfl, by decide +kernel, by decide +kernel⟩⟩, hS⟩ hR hl)
    · exact gs_row (t := (i0, 2, b0)) C0 hR.2.1 (gsT_ok _ _ hw) z2 hd (kk _ _ _ _ hL ⟨⟨by decide, Or.inr ⟨by decide, rfl, by decide +kernel, by decide +kernel⟩⟩, hS⟩ hR hl)
    · omega
  · cases hk
end Step3
