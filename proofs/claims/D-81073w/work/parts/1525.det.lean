/-! ONE END: what comes out is one -/
theorem Tq_det {y b : Nat} {ls st : List AV} {M : Mem} {Q0 : AR → Mem → Prop} (h : Tq y b ls st M Q0) : ∃ r M', Q0 r M' ∧ ∀ Q : AR → Mem → Prop, (Tq y b ls st M Q ↔ Q r M') := by
  obtain ⟨n, r, M', h1, h2⟩ := h
  refine ⟨r, M', h2, fun Q => ⟨fun q => ?_, fun q => ⟨n, r, M', h1, q⟩⟩⟩
  obtain ⟨m, r2, M2, g1, g2⟩ := q
  have a := run_mono (Nat.le_max_left n m) h1
  have b := run_mono (Nat.le_max_right n m) g1
  rw [a] at b
  injection b with b
  injection b with b1 b2
  subst b1 b2
  exact g2
