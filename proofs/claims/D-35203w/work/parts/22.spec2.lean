/-! THE PLAIN LAW, PART 2: what the model's fairing computes -/
set_option maxRecDepth 100000
theorem sqZ_nonneg (z : Int) : 0 ≤ sqZ z := by
  unfold sqZ
  rcases Int.le_total 0 z with h | h
  · exact Int.mul_nonneg h h
  · exact Int.mul_nonneg_of_nonpos_of_nonpos h h
theorem sqZ_le {z B : Int} (h1 : -B ≤ z) (h2 : z ≤ B) : sqZ z ≤ B * B := by
  unfold sqZ
  have hB : 0 ≤ B := by omega
  rcases Int.le_total 0 z with h | h
  · exact Int.mul_le_mul h2 h2 h hB
  · have h3 := Int.mul_le_mul (show -z ≤ B by omega) (show -z ≤ B by omega) (show 0 ≤ -z by omega) hB
    rw [Int.neg_mul_neg] at h3
    exact h3
/-- may the half breadth h move to its choice k -/
abbrev mayP (h k tol : Nat) : Prop := (((k : Nat) : Int) - ((2 : Nat) : Int)).natAbs ≤ tol ∧ ((0 : Nat) : Int) ≤ ((h + k : Nat) : Int) - ((2 : Nat) : Int) ∧ ((h + k : Nat) : Int) - ((2 : Nat) : Int) ≤ ((200 : Nat) : Int)
def offZ (h : Nat → Nat) (s a b c : Nat) : Int := ((((((h (s - 1) + a : Nat) : Int) - ((2 : Nat) : Int)) + ((h (s + 1) : Nat) : Int)) + ((c : Nat) : Int)) - ((2 : Nat) : Int)) - (((2 : Nat) : Int) * (((h s + b : Nat) : Int) - ((2 : Nat) : Int)))
/-- the bend at s and behind it, by the choices a, b, c at s - 1, s, s + 1 -/
def bbN (h : Nat → Nat) (nx : Nat → Nat → Nat) (s a b c : Nat) : Nat := (sqZ (offZ h s a b c)).toNat + nx b c
def lbN (h : Nat → Nat) (nx : Nat → Nat → Nat) (tol s a b : Nat) : Nat → Nat
  | 0 => 100000000
  | c + 1 => if mayP (h (s + 1)) c tol then (if bbN h nx s a b c < lbN h nx tol s a b c then bbN h nx s a b c else lbN h nx tol s a b c) else (if 100000000 < lbN h nx tol s a b c then 100000000 else lbN h nx tol s a b c)
theorem lbN_succ {h : Nat → Nat} {nx : Nat → Nat → Nat} {tol s a b c : Nat} : lbN h nx tol s a b (c + 1) = if mayP (h (s + 1)) c tol then (if bbN h nx s a b c < lbN h nx tol s a b c then bbN h nx s a b c else lbN h nx tol s a b c) else (if 100000000 < lbN h nx tol s a b c then 100000000 else lbN h nx tol s a b c) := rfl
theorem lbN_le {h : Nat → Nat} {nx : Nat → Nat → Nat} {tol s a b : Nat} (c : Nat) : lbN h nx tol s a b c ≤ 100000000 := by
  induction c with
  | zero => exact Nat.le_refl _
  | succ c ih =>
    unfold lbN
    split
    · split <;> omega
    · split <;> omega
theorem offZ_bd {h : Nat → Nat} {s a b c : Nat} (hb : ∀ j, j < 9 → h j ≤ 200) (hs : 1 ≤ s ∧ s ≤ 7) (ha : a < 5) (hb2 : b < 5) (hc : c < 5) : -408 ≤ offZ h s a b c ∧ offZ h s a b c ≤ 408 := by
  have h1 := hb (s - 1) (by omega)
  have h2 := hb s (by omega)
  have h3 := hb (s + 1) (by omega)
  unfold offZ
  omega
theorem bbN_le {h : Nat → Nat} {nx : Nat → Nat → Nat} {s a b c : Nat} (hb : ∀ j, j < 9 → h j ≤ 200) (hs : 1 ≤ s ∧ s ≤ 7) (ha : a < 5) (hb2 : b < 5) (hc : c < 5) : bbN h nx s a b c ≤ 166464 + nx b c := by
  obtain ⟨h1, h2⟩ := offZ_bd (s := s) (a := a) (b := b) (c := c) hb hs ha hb2 hc
  have h3 := sqZ_le (B := 408) h1 h2
  unfold bbN
  omega
