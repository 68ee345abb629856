/-! THE PLAIN LAW, PART 6: the planks -/
set_option maxRecDepth 100000
theorem strN_pos {h : Nat → Nat → Nat} {k : Nat} : 1 ≤ strN h k := by
  show 1 ≤ sumN _ 7 + (10 + _)
  omega
/-- whole planks for one half strake (fuel, left, how many, needed) -/
def wl (len : Nat) : Nat → (Nat → Nat) → Nat → Nat → (Nat → Nat) × Nat × Nat
  | 0, l, n, d => (l, n, d)
  | u + 1, l, n, d => if len < d then wl len u (va_up l n 0) (n + 1) (d - len) else (l, n, d)
theorem wl_t {len u n d : Nat} {l : Nat → Nat} (h : len < d) (hu : 1 ≤ u) : wl len u l n d = wl len (u - 1) (va_up l n 0) (n + 1) (d - len) := by
  obtain ⟨t, rfl⟩ : ∃ t, u = t + 1 := ⟨u - 1, by omega⟩
  exact if_pos h
theorem wl_f {len u n d : Nat} {l : Nat → Nat} (h : ¬ len < d) : wl len u l n d = (l, n, d) := by
  cases u with
  | zero => rfl
  | succ u => exact if_neg h
/-- the first plank with so much left, or one past the last -/
def ff (l : Nat → Nat) (d : Nat) : Nat → Nat → Nat
  | 0, i => i
  | u + 1, i => if l i < d then ff l d u (i + 1) else i
theorem ff_t {l : Nat → Nat} {d u i : Nat} (h : l i < d) (hu : 1 ≤ u) : ff l d u i = ff l d (u - 1) (i + 1) := by
  obtain ⟨t, rfl⟩ : ∃ t, u = t + 1 := ⟨u - 1, by omega⟩
  exact if_pos h
theorem ff_f {l : Nat → Nat} {d u i : Nat} (h : ¬ l i < d) : ff l d u i = i := by
  cases u with
  | zero => rfl
  | succ u => exact if_neg h
def pkT (len p : Nat) (c : Nat → Nat) (l : Nat → Nat) (m d i : Nat) : (Nat → Nat) × Nat × (Nat → Nat) :=
  if i = m then (va_up (va_up l m len) i (va_up l m len i - d), m + 1, va_up c p i) else (va_up l i (l i - d), m, va_up c p i)
def pkS (len d0 p : Nat) (x : (Nat → Nat) × Nat × (Nat → Nat)) : (Nat → Nat) × Nat × (Nat → Nat) :=
  pkT len p x.2.2 (wl len 17 x.1 x.2.1 d0).1 (wl len 17 x.1 x.2.1 d0).2.1 (wl len 17 x.1 x.2.1 d0).2.2 (ff (wl len 17 x.1 x.2.1 d0).1 (wl len 17 x.1 x.2.1 d0).2.2 (wl len 17 x.1 x.2.1 d0).2.1 0)
def sbN (st : Nat → Nat) (m : Nat) : Nat := (sbZ st m 5).toNat
def pk (len : Nat) (st lf cf : Nat → Nat) : Nat → (Nat → Nat) × Nat × (Nat → Nat)
  | 0 => (lf, 0, cf)
  | k + 1 => pkS len (st (sbN st (k / 2))) (2 * sbN st (k / 2) + k % 2) (pk len st lf cf k)
theorem pk_A {len : Nat} {st lf cf l lm c : Nat → Nat} {k n m d i sk : Nat} (hpk : pk len st lf cf k = (l, n, c)) (hse : sbZ st (k / 2) 5 = (sk : Int)) (hw : wl len 17 l n (st sk) = (lm, m, d)) (hff : ff lm d m 0 = i) (hi : i = m) : pk len st lf cf (k + 1) = (va_up (va_up lm m len) i (va_up lm m len i - d), m + 1, va_up c (2 * sk + k % 2) i) := by
  have hs : sbN st (k / 2) = sk := by unfold sbN; rw [hse]; rfl
  show pkS len (st (sbN st (k / 2))) (2 * sbN st (k / 2) + k % 2) (pk len st lf cf k) = _
  rw [hs, hpk]
  unfold pkS
  simp only [hw, hff]
  unfold pkT
  rw [if_pos hi]
theorem pk_B {len : Nat} {st lf cf l lm c : Nat → Nat} {k n m d i sk : Nat} (hpk : pk len st lf cf k = (l, n, c)) (hse : sbZ st (k / 2) 5 = (sk : Int)) (hw : wl len 17 l n (st sk) = (lm, m, d)) (hff : ff lm d m 0 = i) (hi : i ≠ m) : pk len st lf cf (k + 1) = (va_up lm i (lm i - d), m, va_up c (2 * sk + k % 2) i) := by
  have hs : sbN st (k / 2) = sk := by unfold sbN; rw [hse]; rfl
  show pkS len (st (sbN st (k / 2))) (2 * sbN st (k / 2) + k % 2) (pk len st lf cf k) = _
  rw [hs, hpk]
  unfold pkS
  simp only [hw, hff]
  unfold pkT
  rw [if_neg hi]
theorem bdd_up {l : Nat → Nat} {n i v B : Nat} (h : ∀ j, j < n → l j ≤ B) (hv : v ≤ B) : ∀ j, j < n → va_up l i v j ≤ B := fun j hj => by
  unfold va_up
  split
  · exact hv
  · exact h j hj
theorem bdd_new {l : Nat → Nat} {n v B : Nat} (h : ∀ j, j < n → l j ≤ B) (hv : v ≤ B) : ∀ j, j < n + 1 → va_up l n v j ≤ B := fun j hj => by
  unfold va_up
  split
  · exact hv
  · exact h j (by omega)
