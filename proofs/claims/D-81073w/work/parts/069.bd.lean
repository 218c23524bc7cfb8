/-! small words for the block statements -/
/-- a value named once -/
def bd {α : Type} (a : α) (k : α → Prop) : Prop := k a
theorem bd_i {α : Type} {a : α} {k : α → Prop} (h : ∀ x, x = a → k x) : bd a k := h a rfl
theorem bd_e {α : Type} {a : α} {k : α → Prop} : bd a k ↔ k a := Iff.rfl
