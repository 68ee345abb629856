/-! THE PLAIN LAW, PART 9: sums the other way, the ballast's loads -/
set_option maxRecDepth 100000
theorem sumN_add (f g : Nat → Nat) (n : Nat) : sumN f n + sumN g n = sumN (fun k => f k + g k) n := by
  induction n with
  | zero => rfl
  | succ n ih =>
    have h : sumN (fun k => f k + g k) (n + 1) = sumN (fun k => f k + g k) n + (f n + g n) := rfl
    rw [h, ← ih, sumN, sumN]
    omega
theorem sumN_zero0 (n : Nat) : sumN (fun _ => 0) n = 0 := by
  induction n with
  | zero => rfl
  | succ n ih => rw [sumN, ih]
theorem sumN_swap (F : Nat → Nat → Nat) (n m : Nat) : sumN (fun i => sumN (fun j => F i j) m) n = sumN (fun j => sumN (fun i => F i j) n) m := by
  induction n with
  | zero => exact (sumN_zero0 m).symm
  | succ n ih =>
    have h : sumN (fun i => sumN (fun j => F i j) m) (n + 1) = sumN (fun i => sumN (fun j => F i j) m) n + sumN (fun j => F n j) m := rfl
    rw [h, ih, sumN_add]
    rfl
/-- the sum of a measure and the next one, for all but the last one -/
def slN (g : Nat → Nat) (many : Nat) : Nat := sumN (fun k => g k + g (k + 1)) (many - 1)
theorem sl_area (h : Nat → Nat → Nat) (s w : Nat) : slN (fun k => h k s) (w + 1) = areaN h s w := rfl
theorem sl_vol (h : Nat → Nat → Nat) (w : Nat) : slN (fun k => areaN h k w) 9 = volN h w := rfl
theorem sl_volA (h : Nat → Nat → Nat) (w : Nat) : slN (fun v => slN (fun k => h v k) 9) (w + 1) = volN h w := by
  show sumN (fun v => sumN (fun k => h v k + h v (k + 1)) 8 + sumN (fun k => h (v + 1) k + h (v + 1) (k + 1)) 8) w = sumN (fun i => sumN (fun j => h j i + h (j + 1) i) w + sumN (fun j => h j (i + 1) + h (j + 1) (i + 1)) w) 8
  have e1 : (fun v => sumN (fun k => h v k + h v (k + 1)) 8 + sumN (fun k => h (v + 1) k + h (v + 1) (k + 1)) 8) = fun v => sumN (fun k => (h v k + h v (k + 1)) + (h (v + 1) k + h (v + 1) (k + 1))) 8 := funext fun v => sumN_add _ _ _
  have e2 : (fun i => sumN (fun j => h j i + h (j + 1) i) w + sumN (fun j => h j (i + 1) + h (j + 1) (i + 1)) w) = fun i => sumN (fun j => (h j i + h (j + 1) i) + (h j (i + 1) + h (j + 1) (i + 1))) w := funext fun i => sumN_add _ _ _
  rw [e1, e2, sumN_swap]
  exact sumN_congr (fun i _ => sumN_congr (fun j _ => by omega))
/-- functions that agree on the hull's places -/
def hEq (h h' : Nat → Nat → Nat) : Prop := ∀ w s, w < 6 → s < 9 → h w s = h' w s
theorem areaN_eq {h h' : Nat → Nat → Nat} (e : hEq h h') {s w : Nat} (hs : s < 9) (hw : w < 6) : areaN h s w = areaN h' s w :=
  sumN_congr (fun j hj => by rw [e j s (by omega) hs, e (j + 1) s (by omega) hs])
theorem volN_eq {h h' : Nat → Nat → Nat} (e : hEq h h') {w : Nat} (hw : w < 6) : volN h w = volN h' w :=
  sumN_congr (fun i hi => by rw [areaN_eq e (by omega) hw, areaN_eq e (by omega) hw])
theorem momN_eq {h h' : Nat → Nat → Nat} (e : hEq h h') {w : Nat} (hw : w < 6) : momN h w = momN h' w :=
  sumN_congr (fun i hi => by rw [areaN_eq e (by omega) hw, areaN_eq e (by omega) hw])
theorem strN_eq {h h' : Nat → Nat → Nat} (e : hEq h h') {k : Nat} (hk : k < 6) : strN h k = strN h' k :=
  sumN_congr (fun s hs => by rw [e k s hk (by omega), e k (s + 1) hk (by omega)])
theorem loadN_16 (sw : Nat → Nat) (k : Nat) : loadN (va_up sw 16 k) + 10 * sw 16 = loadN sw + 10 * k := by
  have h1 : loadN (va_up sw 16 k) = sumN (fun i => 10 * va_up sw 16 k i) 16 + 10 * k := by
    show sumN (fun i => 10 * va_up sw 16 k i) 16 + 10 * va_up sw 16 k 16 = _
    rw [va_up_self]
  have h2 : loadN sw = sumN (fun i => 10 * sw i) 16 + 10 * sw 16 := rfl
  have h3 : sumN (fun i => 10 * va_up sw 16 k i) 16 = sumN (fun i => 10 * sw i) 16 := sumN_congr (fun i hi => by rw [va_up_ne _ _ (show i ≠ 16 by omega)])
  omega
theorem lmomN_16 (sa sw : Nat → Nat) (s k : Nat) : lmomN (va_up sa 16 s) (va_up sw 16 k) + sw 16 * 20 * sa 16 = lmomN sa sw + k * 20 * s := by
  have h1 : lmomN (va_up sa 16 s) (va_up sw 16 k) = sumN (fun i => va_up sw 16 k i * 20 * va_up sa 16 s i) 16 + k * 20 * s := by
    show sumN (fun i => va_up sw 16 k i * 20 * va_up sa 16 s i) 16 + va_up sw 16 k 16 * 20 * va_up sa 16 s 16 = _
    rw [va_up_self, va_up_self]
  have h2 : lmomN sa sw = sumN (fun i => sw i * 20 * sa i) 16 + sw 16 * 20 * sa 16 := rfl
  have h3 : sumN (fun i => va_up sw 16 k i * 20 * va_up sa 16 s i) 16 = sumN (fun i => sw i * 20 * sa i) 16 := sumN_congr (fun i hi => by rw [va_up_ne _ _ (show i ≠ 16 by omega), va_up_ne _ _ (show i ≠ 16 by omega)])
  omega
