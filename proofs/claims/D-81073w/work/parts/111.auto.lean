/-! what is plain by arithmetic -/
theorem lt_T {a b : Int} (h : a < b) : (a < b) = True := eq_true h
theorem lt_F {a b : Int} (h : b ≤ a) : (a < b) = False := eq_false (by omega)
theorem le_T {a b : Int} (h : a ≤ b) : (a ≤ b) = True := eq_true h
theorem le_F {a b : Int} (h : b < a) : (a ≤ b) = False := eq_false (by omega)
theorem eq_T {a b : Int} (h : a = b) : (a = b) = True := eq_true h
theorem eq_F {a b : Int} (h : ¬ a = b) : (a = b) = False := eq_false h
