/-! LOCALS under a new form -/
theorem xl_cons {α : Type} {a b : α} {l m : List α} (h : a = b) (t : l = m) : a :: l = b :: m := by rw [h, t]
theorem xl_eq {ls : Array Slot} {n : Nat} {a b : List (Nat × Value)} (h : lv_has ls n a) (e : a = b) : lv_has ls n b := e ▸ h
