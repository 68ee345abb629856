/-! THE COMPONENT: its cells -/
set_option maxRecDepth 100000
/-- the hull: its object, the outer array, the rows -/
def HU (G : xG) (f : xF) (hu hv xx : Nat) (hr : Nat → Nat) (rw9 : Nat → Nat → Nat) : Prop := f hu = some (xO 100 1 [.ref hv, .ref xx]) ∧ f hv = some (xR G 3 101 6 (fun k => some (hr k))) ∧ ∀ k, k < 6 → f (hr k) = some (xN G (110 + k) 9 (rw9 k))
theorem HU.keep {G : xG} {f f1 : xF} {hu hv xx : Nat} {hr : Nat → Nat} {rw9 : Nat → Nat → Nat} {lo hi : Nat} (h : HU G f hu hv xx hr rw9) (hk : xkeep lo hi f f1) (ht : 120 ≤ lo ∨ hi ≤ 100) : HU G f1 hu hv xx hr rw9 :=
  ⟨hk _ _ h.1 (by show (100 : Nat) < lo ∨ hi ≤ 100; omega), hk _ _ h.2.1 (by show (101 : Nat) < lo ∨ hi ≤ 101; omega), fun k hk2 => hk _ _ (h.2.2 k hk2) (by show 110 + k < lo ∨ hi ≤ 110 + k; omega)⟩
theorem HU.row {G : xG} {f : xF} {hu hv xx : Nat} {hr : Nat → Nat} {rw9 : Nat → Nat → Nat} {w : Nat} (h : HU G f hu hv xx hr rw9) (hw : w < 6) (g : Nat → Nat) : HU G (xset f (hr w) (xN G (110 + w) 9 g)) hu hv xx hr (va_up rw9 w g) := by
  have hrw := h.2.2 w hw
  refine ⟨?_, ?_, fun k hk => ?_⟩
  · rw [xset_ne (xne h.1 hrw (by show (100 : Nat) ≠ 110 + w; omega))]; exact h.1
  · rw [xset_ne (xne h.2.1 hrw (by show (101 : Nat) ≠ 110 + w; omega))]; exact h.2.1
  · by_cases e : k = w
    · subst e; rw [xset_eq, va_up_self]
    · rw [xset_ne (xne (h.2.2 k hk) hrw (by show 110 + k ≠ 110 + w; omega)), va_up_ne _ _ e]; exact h.2.2 k hk
/-- the cargo: its object, the array, the weights (the ballast: the 16th) -/
def CA (G : xG) (f : xF) (ca cw : Nat) (wa : Nat → Nat) (nw : Nat) (sa sw : Nat → Nat) : Prop := f ca = some (xO 200 2 [.ref cw, .int (nI nw), .ref (wa 16)]) ∧ f cw = some (xR G 4 201 16 (fun k => if k < nw then some (wa k) else none)) ∧ ∀ k, (k < nw ∨ k = 16) → f (wa k) = some (xO (210 + k) 3 [.int (nI (sa k)), .int (nI (sw k))])
theorem CA.keep {G : xG} {f f1 : xF} {ca cw nw : Nat} {wa sa sw : Nat → Nat} {lo hi : Nat} (h : CA G f ca cw wa nw sa sw) (hk : xkeep lo hi f f1) (hnw : nw ≤ 16) (ht : 240 ≤ lo ∨ hi ≤ 200) : CA G f1 ca cw wa nw sa sw :=
  ⟨hk _ _ h.1 (by show (200 : Nat) < lo ∨ hi ≤ 200; omega), hk _ _ h.2.1 (by show (201 : Nat) < lo ∨ hi ≤ 201; omega), fun k hk2 => hk _ _ (h.2.2 k hk2) (by show 210 + k < lo ∨ hi ≤ 210 + k; omega)⟩
/-- one weight's fields are written -/
theorem CA.put {G : xG} {f : xF} {ca cw nw k v0 v1 : Nat} {wa sa sw : Nat → Nat} (h : CA G f ca cw wa nw sa sw) (hk : k < nw ∨ k = 16) : CA G (xset f (wa k) (xO (210 + k) 3 [.int (nI v0), .int (nI v1)])) ca cw wa nw (va_up sa k v0) (va_up sw k v1) := by
  have hw := h.2.2 k hk
  refine ⟨?_, ?_, fun j hj => ?_⟩
  · rw [xset_ne (xne h.1 hw (by show (200 : Nat) ≠ 210 + k; omega))]; exact h.1
  · rw [xset_ne (xne h.2.1 hw (by show (201 : Nat) ≠ 210 + k; omega))]; exact h.2.1
  · by_cases e : j = k
    · subst e; rw [xset_eq, va_up_self, va_up_self]
    · rw [xset_ne (xne (h.2.2 j hj) hw (by show 210 + j ≠ 210 + k; omega)), va_up_ne _ _ e, va_up_ne _ _ e]; exact h.2.2 j hj
/-- the weights' places in their order: those that there are, then the ballast -/
def wpl (nw i : Nat) : Nat := if i < nw then i else 16
theorem wpl_ok {nw i : Nat} : wpl nw i < nw ∨ wpl nw i = 16 := by
  unfold wpl
  split <;> omega
theorem sumN_zero {g : Nat → Nat} {n a : Nat} (h : ∀ k, a ≤ k → k < n → g k = 0) (ha : a ≤ n) : sumN g n = sumN g a := by
  induction n with
  | zero => rw [show a = 0 by omega]
  | succ n ih =>
    by_cases e : a = n + 1
    · rw [e]
    · rw [sumN, ih (fun k h1 h2 => h k h1 (by omega)) (by omega), h n (by omega) (by omega), Nat.add_zero]
/-- a sum over the weights and the ballast is a sum over all places -/
theorem sumW {g : Nat → Nat} {nw : Nat} (hn : nw ≤ 16) (h : ∀ k, nw ≤ k → k < 16 → g k = 0) : sumN (fun i => g (wpl nw i)) (nw + 1) = sumN g 17 := by
  show sumN (fun i => g (wpl nw i)) nw + g (wpl nw nw) = sumN g 16 + g 16
  have h1 : wpl nw nw = 16 := by unfold wpl; rw [if_neg (Nat.lt_irrefl _)]
  rw [h1, sumN_zero h hn, sumN_congr (f := fun i => g (wpl nw i)) (g := g) (fun k hk => by show g (wpl nw k) = g k; unfold wpl; rw [if_pos hk])]
