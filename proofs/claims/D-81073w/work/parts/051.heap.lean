/-! THE HEAP: reads and writes of the memory are reads and writes of the heap -/
theorem mset_at {M : Mem} {f : Nat} {i k v : Int} : mset M f i k v f i k = v := by simp [mset]
theorem mset_ne {M : Mem} {f f' : Nat} {i k v i' k' : Int} (h : ¬ (f' = f ∧ i' = i ∧ k' = k)) : mset M f i k v f' i' k' = M f' i' k' := by
  unfold mset
  by_cases h1 : f' = f
  · subst h1
    by_cases h2 : i' = i
    · subst h2
      by_cases h3 : k' = k
      · exact absurd ⟨rfl, rfl, h3⟩ h
      · simp [h3]
    · simp [h2]
  · simp [h1]
theorem fv_cong {G : Gh} {g k : Nat} {i : Int} {M M' : Mem} {V : Value} (h : M' g i k = M g i k) (hv : fv G g i M k V) : fv G g i M' k V := by
  unfold fv at hv ⊢
  rw [h]
  exact hv
theorem ev_cong {G : Gh} {f j : Nat} {i : Int} {M M' : Mem} {V : Value} (h : M' f i j = M f i j) (hv : ev G f i M j V) : ev G f i M' j V := by
  unfold ev at hv ⊢
  rw [h]
  exact hv
theorem wrtO {g : Nat} (h1 : 1 ≤ g) (h2 : g < 23) : wrt g := Or.inl ⟨h1, h2⟩
theorem wrtA {f : Nat} (h1 : 1000 ≤ f) (h2 : f < 30000) : wrt f := Or.inr ⟨h1, h2⟩
/-- an object's field is written -/
theorem Rp.put {G : Gh} {M : Mem} {H H' : Heap} {g k : Nat} {i z : Int} {V : Nat → Value} {v : Value} (hG : GA G) (hR : Rp G M H) (g1 : 1 ≤ g) (g2 : g < 23) (hi : lyo g i) (hV : ∀ j, j < cF g → fv G g i M j (V j)) (hv : fv G g i (mset M g i k z) k v)
    (hO : t_OB (gA G g i) (gC G g) (cF g) (gI G g) H' (updV V k v)) (hz : H'.size = H.size) (ho : ∀ q, q ≠ gA G g i → H'[q]? = H[q]?) : Rp G (mset M g i k z) H' := by
  obtain ⟨r1, r2, r3, r4, r5, r6⟩ := hR
  have hb := hG.2.1 g i (wrtO g1 g2) hi
  refine ⟨hz.trans r1, fun q hq => (ho q (by omega)).trans (r2 q hq), fun g' i' h1 h2 h3 => ?_, fun f i' h1 h2 h3 => ?_, ?_, fun j hj => ?_⟩
  · by_cases e : gA G g' i' = gA G g i
    · obtain ⟨rfl, rfl⟩ := hG.1 _ _ _ _ (wrtO h1 h2) (wrtO g1 g2) h3 hi e
      refine ⟨_, hO, fun j hj => ?_⟩
      unfold updV
      by_cases e2 : j = k
      · subst e2
        simpa using hv
      · simp only [if_neg e2]
        exact fv_cong (mset_ne (fun q => e2 (by have := q.2.2; omega))) (hV j hj)
    · obtain ⟨V', q1, q2⟩ := r3 g' i' h1 h2 h3
      refine ⟨V', q1.kept (ho _ e), fun j hj => fv_cong (mset_ne (fun q => e (by rw [q.1, q.2.1]))) (q2 j hj)⟩
  · have e : ¬ gA G f i' = gA G g i := fun e => by
      have := (hG.1 _ _ _ _ (wrtA h1 h2) (wrtO g1 g2) h3 hi e).1
      omega
    obtain ⟨F, q1, q2⟩ := r4 f i' h1 h2 h3
    exact ⟨F, (ho _ e).trans q1, fun j hj => ev_cong (mset_ne (fun q => by have := q.1; omega)) (q2 j hj)⟩
  · rw [mset_ne (fun q => by have := q.1; omega)]
    exact r5
  · rw [mset_ne (fun q => by have := q.1; omega)]
    exact r6 j hj
/-- an array is written -/
theorem Rp.aput {G : Gh} {M M' : Mem} {H H' : Heap} {f : Nat} {i : Int} {F : Nat → Value} (hG : GA G) (hR : Rp G M H) (f1 : 1000 ≤ f) (f2 : f < 30000) (hi : lyo f i) (hM : ∀ f' i' k', ¬ (f' = f ∧ i' = i) → M' f' i' k' = M f' i' k') (hF : ∀ j, j < aN f i → ev G f i M' j (F j))
    (hO : H'[gA G f i]? = some (arrV (gX G f) (aN f i) F)) (hz : H'.size = H.size) (ho : ∀ q, q ≠ gA G f i → H'[q]? = H[q]?) : Rp G M' H' := by
  obtain ⟨r1, r2, r3, r4, r5, r6⟩ := hR
  have hb := hG.2.1 f i (wrtA f1 f2) hi
  refine ⟨hz.trans r1, fun q hq => (ho q (by omega)).trans (r2 q hq), fun g' i' h1 h2 h3 => ?_, fun f' i' h1 h2 h3 => ?_, ?_, fun j hj => ?_⟩
  · have e : ¬ gA G g' i' = gA G f i := fun e => by
      have := (hG.1 _ _ _ _ (wrtO h1 h2) (wrtA f1 f2) h3 hi e).1
      omega
    obtain ⟨V', q1, q2⟩ := r3 g' i' h1 h2 h3
    exact ⟨V', q1.kept (ho _ e), fun j hj => fv_cong (hM _ _ _ (fun q => by have := q.1; omega)) (q2 j hj)⟩
  · by_cases e : gA G f' i' = gA G f i
    · obtain ⟨rfl, rfl⟩ := hG.1 _ _ _ _ (wrtA h1 h2) (wrtA f1 f2) h3 hi e
      exact ⟨F, hO, hF⟩
    · obtain ⟨F', q1, q2⟩ := r4 f' i' h1 h2 h3
      exact ⟨F', (ho _ e).trans q1, fun j hj => ev_cong (hM _ _ _ (fun q => e (by rw [q.1, q.2]))) (q2 j hj)⟩
  · rw [hM _ _ _ (fun q => by have := q.1; omega)]
    exact r5
  · rw [hM _ _ _ (fun q => by have := q.1; omega)]
    exact r6 j hj
theorem alen_w {M : Mem} {f : Nat} {i z : Int} (h : f < 30000) (h0 : 0 ≤ z) (hz : z < alen M f i) : z.toNat < aN f i := by
  unfold alen at hz
  unfold aN
  split at hz
  · simp only [Nat.beq_refl, cond_true]
    omega
  · omega
  · omega
  · rename_i n1 n2 n3
    have e : Nat.beq f 13000 = false := by
      cases hq : Nat.beq f 13000 with
      | false => rfl
      | true => exact absurd (Nat.eq_of_beq_eq_true hq) n1
    rw [e, cond_false]
    omega
theorem i32_in {x : Int32} {n : Nat} (h0 : 0 ≤ x.toInt) (h : x.toInt.toNat < n) : ¬ (x < 0 ∨ n ≤ x.toNatClampNeg) := by
  have e : x.toNatClampNeg = x.toInt.toNat := rfl
  rintro (h1 | h1)
  · rw [Int32.lt_iff_toInt_lt] at h1
    have : (0 : Int32).toInt = 0 := rfl
    omega
  · omega
/-- families of arrays -/
theorem aek_cases {f : Nat} (h : ¬ aek f = 99) : f < 30000 ∨ f = 30000 ∨ f = 30001 ∨ f = 30002 ∨ f = 31000 ∨ f = 32000 := by
  by_cases h1 : f < 30000
  · exact Or.inl h1
  · right
    unfold aek aif at h
    have hd : f = 1000 * (f / 1000) + f % 1000 := by omega
    by_cases h2 : f / 1000 = 30
    · rw [h2] at h
      by_cases h3 : f % 1000 < 3
      · omega
      · obtain ⟨n, hn⟩ : ∃ n, f % 1000 = n + 3 := ⟨f % 1000 - 3, by omega⟩
        rw [hn] at h
        exact absurd rfl h
    · by_cases h4 : f / 1000 = 31
      · rw [h4] at h
        by_cases h3 : f % 1000 = 0
        · omega
        · obtain ⟨n, hn⟩ : ∃ n, f % 1000 = n + 1 := ⟨f % 1000 - 1, by omega⟩
          rw [hn] at h
          rcases n with _ | n
          · exact absurd rfl h
          · exact absurd rfl h
      · by_cases h5 : f / 1000 = 32
        · rw [h5] at h
          by_cases h3 : f % 1000 = 0
          · omega
          · obtain ⟨n, hn⟩ : ∃ n, f % 1000 = n + 1 := ⟨f % 1000 - 1, by omega⟩
            rw [hn] at h
            exact absurd rfl h
        · obtain ⟨n, hn⟩ : ∃ n, f / 1000 = n + 33 := ⟨f / 1000 - 33, by omega⟩
          rw [hn] at h
          exact absurd rfl h
theorem aek_ge {f : Nat} (h : ¬ aek f = 99) : 1000 ≤ f := by
  by_cases h1 : 1000 ≤ f
  · exact h1
  · have h2 : f / 1000 = 0 := by omega
    unfold aek aif at h
    rw [h2] at h
    exact absurd rfl h
section HeapRows
variable {p : Program} {l : Launch} {e : Env} {R : Room} {s : State} {m : MethodId} {args : Array Value} {below : List Frame} {meth : Method} {c : Code} {H : Heap} {locs : List Loc} {cells slots : Nat} {Q : State → Prop} {G : Gh} {y pc : Nat} {la : Array Slot} {rest : List Value}
theorem gf_row {t : Nat × Nat × Nat × Bool} {i : Int} {V : Nat → Value} (C : CX G y p s m args c) (hF : FLF (cno y) t) (hO : t_OB (gA G t.2.1 i) (gC G t.2.1) (cF t.2.1) (gI G t.2.1) H V) (hd : decode (bts y) pc = .ok (.getfield t.1, 3))
    (kk : W p l e R s m args below meth c H locs cells slots Q (F0 m (pc + 3) la (V t.2.2.1 :: rest))) : W p l e R s m args below meth c H locs cells slots Q (F0 m pc la (.ref (gA G t.2.1 i) :: rest)) := by
  obtain ⟨hx, hb, hml, hown, hts, hK, hG⟩ := C
  obtain ⟨idx, g, k, nest⟩ := t
  obtain ⟨⟨g1, g2, hk⟩, hlink⟩ := hF
  dsimp only at hO hd kk g1 g2 hk hlink ⊢
  obtain ⟨hS, hfc, kC, hkC, hkind⟩ := hK.1 g g1 g2
  obtain ⟨cf, kf, fi, f, hi, hsl⟩ := hS k hk
  have hst := (u_facts hfc hkC (u_lays hts (c_in g g1 g2) hk) hi).1
  obtain ⟨cell, q1, q2, q3, q4⟩ := hO
  cases nest with
  | false => exact W.getf hx hb hown (hts _ hlink) hi hst q1 (by rw [q3]; exact fun h => by cases h) (by rw [hsl]; exact q4 k hk) rfl rfl hd kk
  | true =>
    obtain ⟨host, hlink⟩ := hlink
    exact va_Wgetf hx hb hown (va_Nw.use rfl (hK.2.2.1 _ hlink rfl)) hi hst q1 (by rw [q3]; exact fun h => by cases h) (by rw [hsl]; exact q4 k hk) rfl rfl hd kk
theorem pf_row {t : Nat × Nat × Nat × Bool} {i : Int} {V : Nat → Value} {v : Value} (C : CX G y p s m args c) (hF : FLF (cno y) t) (hfin : (cT t.2.1 t.2.2.1).2.2.2 = false) (hn : narrow (cY t.2.1 t.2.2.1) v = v) (hfit : fits (cY t.2.1 t.2.2.1) v = true) (hO : t_OB (gA G t.2.1 i) (gC G t.2.1) (cF t.2.1) (gI G t.2.1) H V) (hd : decode (bts y) pc = .ok (.putfield t.1, 3))
    (kk : ∀ (H' : Heap) (sl : Nat), t_OB (gA G t.2.1 i) (gC G t.2.1) (cF t.2.1) (gI G t.2.1) H' (updV V t.2.2.1 v) → H'.size = H.size → (∀ q, q ≠ gA G t.2.1 i → H'[q]? = H[q]?) → W p l e R s m args below meth c H' (locs ++ [⟨gA G t.2.1 i, sl⟩]) cells slots Q (F0 m (pc + 3) la rest)) : W p l e R s m args below meth c H locs cells slots Q (F0 m pc la (v :: .ref (gA G t.2.1 i) :: rest)) := by
  obtain ⟨hx, hb, hml, hown, hts, hK, hG⟩ := C
  obtain ⟨idx, g, k, nest⟩ := t
  obtain ⟨⟨g1, g2, hk⟩, hlink⟩ := hF
  dsimp only at hO hd kk g1 g2 hk hlink hfin hn hfit ⊢
  obtain ⟨hS, hfc, kC, hkC, hkind⟩ := hK.1 g g1 g2
  obtain ⟨cf, kf, fi, f, hi, hsl⟩ := hS k hk
  have hst := (u_facts hfc hkC (u_lays hts (c_in g g1 g2) hk) hi).1
  have hlay := hts _ (c_in g g1 g2 _ (u_in_lay hk))
  unfold u_lay at hlay
  rw [if_neg (by rw [hfin]; decide)] at hlay
  have h6 := u_store hfc hkC hkind hlay hi (c_ty g g1 g2 k hk) hn hfit
  have hap : ∀ a b, a < cF g → b < cF g → a ≠ b → gI G g a ≠ gI G g b := by
    intro a b ha hb' hab
    obtain ⟨cfa, kfa, fia, fa, hia, hsa⟩ := hS a ha
    obtain ⟨cfb, kfb, fib, fb, hib, hsb⟩ := hS b hb'
    rw [← hsa, ← hsb]
    refine u_apart (u_lays hts (c_in g g1 g2) ha) (u_lays hts (c_in g g1 g2) hb') hia hib ?_
    rw [(State.fieldFound?_type hia (c_ty g g1 g2 a ha)).1, (State.fieldFound?_type hib (c_ty g g1 g2 b hb')).1]
    exact c_nm g g1 g2 a ha b hb' hab
  obtain ⟨cell, q1, q2, q3, q4⟩ := hO
  cases nest with
  | false =>
    refine W.putK hx hb (f := f) ⟨hown, hts _ hlink, ⟨_, _, _, hi⟩, hst⟩ (by rw [q2]; exact h6) q1 q3 (by rw [hsl]; exact k2_hasslot (q4 k hk)) rfl rfl hd fun H' e1 e2 e3 => ?_
    rw [hsl] at e1 ⊢
    exact kk H' _ ⟨_, e1, q2, q3, t_set q4 hap hk v⟩ e2 e3
  | true =>
    obtain ⟨host, hlink⟩ := hlink
    refine va_WputK hx hb (f := f) hown (va_Nw.use rfl (hK.2.2.1 _ hlink rfl)) hi hst (by rw [q2]; exact h6) q1 q3 (by rw [hsl]; exact k2_hasslot (q4 k hk)) rfl rfl hd fun H' e1 e2 e3 => ?_
    rw [hsl] at e1 ⊢
    exact kk H' _ ⟨_, e1, q2, q3, t_set q4 hap hk v⟩ e2 e3
/-- a static that holds v -/
theorem gs_row {t : Nat × Nat × Bool} {v : Value} (C : CX G y p s m args c) (hR2 : ∀ q, q < gB G → H[q]? = (gH G)[q]?) (hF : GSF (cno y) t) (hZ : va_Z (gsN t.2.1).1 (gsN t.2.1).2.1 (gsN t.2.1).2.2 v (gO G) s (gH G)) (hd : decode (bts y) pc = .ok (.getstatic t.1, 3))
    (kk : W p l e R s m args below meth c H locs cells slots Q (F0 m (pc + 3) la (v :: rest))) : W p l e R s m args below meth c H locs cells slots Q (F0 m pc la rest) := by
  obtain ⟨hx, hb, hml, hown, hts, hK, hG⟩ := C
  obtain ⟨idx, g, nest⟩ := t
  obtain ⟨cf, kf, fi, f, a, cell, h1, h2, h3, h4, h5, h6, h7, h8⟩ := hZ
  have hcell : H[a]? = some cell := by rw [hR2 a (Nat.not_le.mp h8)]; exact h5
  unfold GSF at hF
  dsimp only at hF hd h1
  cases nest with
  | false => exact W.gets hx hb hown (hts _ hF) h1 h2 h3 h4 hcell (fun e => by rw [e] at h6; cases h6) h7 rfl hd kk
  | true =>
    obtain ⟨host, hF⟩ := hF
    exact va_WgetsN hx hb hown (va_Nw.use rfl (hK.2.2.1 _ hF rfl)) h1 h2 h3 h4 hcell (fun e => by rw [e] at h6; cases h6) h7 rfl hd kk
/-- a String's own field -/
theorem sf_row {n d : String} {idx : Nat} {v : Value} {q : Nat} (C : CX G y p s m args c) (hR2 : ∀ q, q < gB G → H[q]? = (gH G)[q]?) (hl : Cond.fieldLink (clN (cno y)) idx "java/lang/String" n d ∈ lw_all) (hE : va_OF "java/lang/String" n d v q (gO G) s (gH G)) (hd : decode (bts y) pc = .ok (.getfield idx, 3))
    (kk : W p l e R s m args below meth c H locs cells slots Q (F0 m (pc + 3) la (v :: rest))) : W p l e R s m args below meth c H locs cells slots Q (F0 m pc la (.ref q :: rest)) := by
  obtain ⟨hx, hb, hml, hown, hts, hK, hG⟩ := C
  obtain ⟨cf, k, fi, f, cell, h1, h2, h3, h4, h5, h6⟩ := hE
  exact W.getf hx hb hown (hts _ hl) h1 h2 (by rw [hR2 q (Nat.not_le.mp h6)]; exact h3) h4 (v := v) h5 rfl rfl hd kk
end HeapRows
