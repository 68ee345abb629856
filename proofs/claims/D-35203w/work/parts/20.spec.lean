/-! THE PLAIN LAW, PART 1: sums, the model's cells -/
set_option maxRecDepth 100000
def sumN (f : Nat → Nat) : Nat → Nat
  | 0 => 0
  | n + 1 => sumN f n + f n
def sumZ (f : Nat → Int) : Nat → Int
  | 0 => 0
  | n + 1 => sumZ f n + f n
theorem sumN_congr {f g : Nat → Nat} {n : Nat} (h : ∀ k, k < n → f k = g k) : sumN f n = sumN g n := by
  induction n with
  | zero => rfl
  | succ n ih => rw [sumN, sumN, ih (fun k hk => h k (by omega)), h n (by omega)]
theorem sumZ_congr {f g : Nat → Int} {n : Nat} (h : ∀ k, k < n → f k = g k) : sumZ f n = sumZ g n := by
  induction n with
  | zero => rfl
  | succ n ih => rw [sumZ, sumZ, ih (fun k hk => h k (by omega)), h n (by omega)]
theorem sumN_le {f : Nat → Nat} {n B : Nat} (h : ∀ k, k < n → f k ≤ B) : sumN f n ≤ n * B := by
  induction n with
  | zero => simp [sumN]
  | succ n ih =>
    have h1 := ih (fun k hk => h k (by omega))
    have h2 := h n (by omega)
    rw [sumN, Nat.succ_mul]
    omega
/-- the size of a section: h w s: the half breadth at the line w and the station s -/
def areaN (h : Nat → Nat → Nat) (s w : Nat) : Nat := sumN (fun k => h k s + h (k + 1) s) w
def volN (h : Nat → Nat → Nat) (w : Nat) : Nat := sumN (fun s => areaN h s w + areaN h (s + 1) w) 8
def momN (h : Nat → Nat → Nat) (w : Nat) : Nat := sumN (fun s => (2 * s + 1) * (areaN h s w + areaN h (s + 1) w)) 8
def strN (h : Nat → Nat → Nat) (k : Nat) : Nat := sumN (fun s => 10 + ((h k s : Int) - (h k (s + 1) : Int)).natAbs) 8
def sqZ (z : Int) : Int := z * z
def bendZ (l : Nat → Nat) : Int := sumZ (fun j => sqZ ((l j : Int) + (l (j + 2) : Int) - 2 * (l (j + 1) : Int))) 7
/-- the model's half breadths by lines and stations -/
abbrev h2 (g : Nat → Nat) : Nat → Nat → Nat := fun w s => g (9 * w + s)
/-- the model's fields: numbers ms (0 thrown, 1 weights, 2 length, 3 tides, 4 sill, 5 today, 6 isLaunched), arrays at ad -/
def mfs (ad : Nat → Nat) (ms : Nat → Nat) : List Value := [.int (nI (ms 0)), .ref (ad 0), .int (nI (ms 1)), .ref (ad 1), .ref (ad 2), .int (nI (ms 2)), .ref (ad 3), .ref (ad 4), .int (nI (ms 3)), .ref (ad 5), .ref (ad 6), .int (nI (ms 4)), .int (nI (ms 5)), .int (nI (ms 6)), .ref (ad 7), .ref (ad 8)]
/-- lengths: half, at, weight, left, cutFrom, tideDay, tide, behind, line -/
def mlen : Nat → Nat
  | 0 => 54
  | 1 => 17
  | 2 => 17
  | 3 => 180
  | 4 => 10
  | 5 => 40
  | 6 => 40
  | 7 => 250
  | _ => 9
def MI (G : xG) (f : xF) (mm : Nat) (ad ms : Nat → Nat) (ma : Nat → Nat → Nat) : Prop := f mm = some (xO 1000 4 (mfs ad ms)) ∧ ∀ k, k < 9 → f (ad k) = some (xN G (1001 + k) (mlen k) (ma k))
/-- cells marked outside lo..hi stay -/
def xkeep (lo hi : Nat) (f f1 : xF) : Prop := ∀ (a : Nat) (e : xE), f a = some e → (e.1 < lo ∨ hi ≤ e.1) → f1 a = some e
theorem xkeep.refl {lo hi : Nat} {f : xF} : xkeep lo hi f f := fun _ _ h _ => h
theorem xkeep.trans {lo hi : Nat} {f f1 f2 : xF} (h : xkeep lo hi f f1) (h2 : xkeep lo hi f1 f2) : xkeep lo hi f f2 := fun a e ha ht => h2 a e (h a e ha ht) ht
theorem xkeep.set {lo hi : Nat} {f f1 : xF} {a t0 : Nat} {x0 : va_E} {e : xE} (h : xkeep lo hi f f1) (ha : f1 a = some (t0, x0)) (ht : lo ≤ t0 ∧ t0 < hi) : xkeep lo hi f (xset f1 a e) := fun b eb hb htb => by
  have h1 := h b eb hb htb
  rw [xset_ne (xne (t1 := eb.1) (x1 := eb.2) h1 ha (by omega))]
  exact h1
theorem xkeep.new {lo hi : Nat} {f f1 : xF} {a : Nat} {e : xE} (h : xkeep lo hi f f1) (ha : f1 a = none) : xkeep lo hi f (xset f1 a e) := fun b eb hb htb => by
  have h1 := h b eb hb htb
  rw [xset_ne (xneN h1 ha)]
  exact h1
theorem xkeep.wide {lo hi lo2 hi2 : Nat} {f f1 : xF} (h : xkeep lo hi f f1) (h1 : lo2 ≤ lo) (h2 : hi ≤ hi2) : xkeep lo2 hi2 f f1 := fun a e ha ht => h a e ha (by omega)
theorem MI.keep {G : xG} {f f1 : xF} {mm : Nat} {ad ms : Nat → Nat} {ma : Nat → Nat → Nat} {lo hi : Nat} (h : MI G f mm ad ms ma) (hk : xkeep lo hi f f1) (hh : hi ≤ 1000) : MI G f1 mm ad ms ma :=
  ⟨hk _ _ h.1 (Or.inr hh), fun k hk9 => hk _ _ (h.2 k hk9) (Or.inr (by show hi ≤ 1001 + k; omega))⟩
/-- a number of the model is written -/
theorem MI.setS {G : xG} {f : xF} {mm : Nat} {ad ms : Nat → Nat} {ma : Nat → Nat → Nat} (h : MI G f mm ad ms ma) (i v : Nat) : MI G (xset f mm (xO 1000 4 (mfs ad (va_up ms i v)))) mm ad (va_up ms i v) ma :=
  ⟨xset_eq, fun k hk9 => by rw [xset_ne (xne (h.2 k hk9) h.1 (by show 1001 + k ≠ 1000; omega))]; exact h.2 k hk9⟩
/-- an array of the model is written -/
theorem MI.setA {G : xG} {f : xF} {mm : Nat} {ad ms : Nat → Nat} {ma : Nat → Nat → Nat} (h : MI G f mm ad ms ma) (i : Nat) (hi : i < 9) (g : Nat → Nat) : MI G (xset f (ad i) (xN G (1001 + i) (mlen i) g)) mm ad ms (va_up ma i g) := by
  refine ⟨?_, fun k hk9 => ?_⟩
  · rw [xset_ne (xne h.1 (h.2 i hi) (by show 1000 ≠ 1001 + i; omega))]
    exact h.1
  · by_cases hki : k = i
    · subst hki
      rw [xset_eq, va_up_self]
    · rw [xset_ne (xne (h.2 k hk9) (h.2 i hi) (by show 1001 + k ≠ 1001 + i; omega)), va_up_ne _ _ hki]
      exact h.2 k hk9
def msc (th nw ln nt sl td la : Nat) : Nat → Nat
  | 0 => th
  | 1 => nw
  | 2 => ln
  | 3 => nt
  | 4 => sl
  | 5 => td
  | 6 => la
  | _ => 0
def mar (hf sa sw lf cf dd tt bh li : Nat → Nat) : Nat → Nat → Nat
  | 0 => hf
  | 1 => sa
  | 2 => sw
  | 3 => lf
  | 4 => cf
  | 5 => dd
  | 6 => tt
  | 7 => bh
  | _ => li
/-- the model by its numbers and arrays -/
abbrev MM (G : xG) (f : xF) (mm : Nat) (ad : Nat → Nat) (th nw ln nt sl td la : Nat) (hf sa sw lf cf dd tt bh li : Nat → Nat) : Prop := MI G f mm ad (msc th nw ln nt sl td la) (mar hf sa sw lf cf dd tt bh li)
section MMS
variable {G : xG} {f : xF} {mm : Nat} {ad : Nat → Nat} {th nw ln nt sl td la : Nat} {hf sa sw lf cf dd tt bh li : Nat → Nat}
theorem MM.put0 (h : MM G f mm ad th nw ln nt sl td la hf sa sw lf cf dd tt bh li) (v : Nat) : MM G (xset f mm (xO 1000 4 ((mfs ad (msc th nw ln nt sl td la)).set 0 (.int (nI v))))) mm ad v nw ln nt sl td la hf sa sw lf cf dd tt bh li := by
  have h1 := MI.setS h 0 v
  have h2 : va_up (msc th nw ln nt sl td la) 0 v = msc v nw ln nt sl td la := by
    funext k; match k with | 0 => rfl | 1 => rfl | 2 => rfl | 3 => rfl | 4 => rfl | 5 => rfl | 6 => rfl | k + 7 => exact va_up_ne _ _ (by omega)
  rw [h2] at h1
  exact h1
theorem MM.put1 (h : MM G f mm ad th nw ln nt sl td la hf sa sw lf cf dd tt bh li) (v : Nat) : MM G (xset f mm (xO 1000 4 ((mfs ad (msc th nw ln nt sl td la)).set 2 (.int (nI v))))) mm ad th v ln nt sl td la hf sa sw lf cf dd tt bh li := by
  have h1 := MI.setS h 1 v
  have h2 : va_up (msc th nw ln nt sl td la) 1 v = msc th v ln nt sl td la := by
    funext k; match k with | 0 => rfl | 1 => rfl | 2 => rfl | 3 => rfl | 4 => rfl | 5 => rfl | 6 => rfl | k + 7 => exact va_up_ne _ _ (by omega)
  rw [h2] at h1
  exact h1
theorem MM.put2 (h : MM G f mm ad th nw ln nt sl td la hf sa sw lf cf dd tt bh li) (v : Nat) : MM G (xset f mm (xO 1000 4 ((mfs ad (msc th nw ln nt sl td la)).set 5 (.int (nI v))))) mm ad th nw v nt sl td la hf sa sw lf cf dd tt bh li := by
  have h1 := MI.setS h 2 v
  have h2 : va_up (msc th nw ln nt sl td la) 2 v = msc th nw v nt sl td la := by
    funext k; match k with | 0 => rfl | 1 => rfl | 2 => rfl | 3 => rfl | 4 => rfl | 5 => rfl | 6 => rfl | k + 7 => exact va_up_ne _ _ (by omega)
  rw [h2] at h1
  exact h1
theorem MM.put3 (h : MM G f mm ad th nw ln nt sl td la hf sa sw lf cf dd tt bh li) (v : Nat) : MM G (xset f mm (xO 1000 4 ((mfs ad (msc th nw ln nt sl td la)).set 8 (.int (nI v))))) mm ad th nw ln v sl td la hf sa sw lf cf dd tt bh li := by
  have h1 := MI.setS h 3 v
  have h2 : va_up (msc th nw ln nt sl td la) 3 v = msc th nw ln v sl td la := by
    funext k; match k with | 0 => rfl | 1 => rfl | 2 => rfl | 3 => rfl | 4 => rfl | 5 => rfl | 6 => rfl | k + 7 => exact va_up_ne _ _ (by omega)
  rw [h2] at h1
  exact h1
theorem MM.put4 (h : MM G f mm ad th nw ln nt sl td la hf sa sw lf cf dd tt bh li) (v : Nat) : MM G (xset f mm (xO 1000 4 ((mfs ad (msc th nw ln nt sl td la)).set 11 (.int (nI v))))) mm ad th nw ln nt v td la hf sa sw lf cf dd tt bh li := by
  have h1 := MI.setS h 4 v
  have h2 : va_up (msc th nw ln nt sl td la) 4 v = msc th nw ln nt v td la := by
    funext k; match k with | 0 => rfl | 1 => rfl | 2 => rfl | 3 => rfl | 4 => rfl | 5 => rfl | 6 => rfl | k + 7 => exact va_up_ne _ _ (by omega)
  rw [h2] at h1
  exact h1
theorem MM.put5 (h : MM G f mm ad th nw ln nt sl td la hf sa sw lf cf dd tt bh li) (v : Nat) : MM G (xset f mm (xO 1000 4 ((mfs ad (msc th nw ln nt sl td la)).set 12 (.int (nI v))))) mm ad th nw ln nt sl v la hf sa sw lf cf dd tt bh li := by
  have h1 := MI.setS h 5 v
  have h2 : va_up (msc th nw ln nt sl td la) 5 v = msc th nw ln nt sl v la := by
    funext k; match k with | 0 => rfl | 1 => rfl | 2 => rfl | 3 => rfl | 4 => rfl | 5 => rfl | 6 => rfl | k + 7 => exact va_up_ne _ _ (by omega)
  rw [h2] at h1
  exact h1
theorem MM.put6 (h : MM G f mm ad th nw ln nt sl td la hf sa sw lf cf dd tt bh li) (v : Nat) : MM G (xset f mm (xO 1000 4 ((mfs ad (msc th nw ln nt sl td la)).set 13 (.int (nI v))))) mm ad th nw ln nt sl td v hf sa sw lf cf dd tt bh li := by
  have h1 := MI.setS h 6 v
  have h2 : va_up (msc th nw ln nt sl td la) 6 v = msc th nw ln nt sl td v := by
    funext k; match k with | 0 => rfl | 1 => rfl | 2 => rfl | 3 => rfl | 4 => rfl | 5 => rfl | 6 => rfl | k + 7 => exact va_up_ne _ _ (by omega)
  rw [h2] at h1
  exact h1
theorem MM.arr0 (h : MM G f mm ad th nw ln nt sl td la hf sa sw lf cf dd tt bh li) (g : Nat → Nat) : MM G (xset f (ad 0) (xN G 1001 54 g)) mm ad th nw ln nt sl td la g sa sw lf cf dd tt bh li := by
  refine ⟨?_, fun k hk9 => ?_⟩
  · rw [xset_ne (xne h.1 (h.2 0 (by decide)) (by decide))]; exact h.1
  · rcases (show k = 0 ∨ k = 1 ∨ k = 2 ∨ k = 3 ∨ k = 4 ∨ k = 5 ∨ k = 6 ∨ k = 7 ∨ k = 8 by omega) with rfl | rfl | rfl | rfl | rfl | rfl | rfl | rfl | rfl
    · exact xset_eq
    · rw [xset_ne (xne (h.2 1 (by decide)) (h.2 0 (by decide)) (by decide))]; exact h.2 1 (by decide)
    · rw [xset_ne (xne (h.2 2 (by decide)) (h.2 0 (by decide)) (by decide))]; exact h.2 2 (by decide)
    · rw [xset_ne (xne (h.2 3 (by decide)) (h.2 0 (by decide)) (by decide))]; exact h.2 3 (by decide)
    · rw [xset_ne (xne (h.2 4 (by decide)) (h.2 0 (by decide)) (by decide))]; exact h.2 4 (by decide)
    · rw [xset_ne (xne (h.2 5 (by decide)) (h.2 0 (by decide)) (by decide))]; exact h.2 5 (by decide)
    · rw [xset_ne (xne (h.2 6 (by decide)) (h.2 0 (by decide)) (by decide))]; exact h.2 6 (by decide)
    · rw [xset_ne (xne (h.2 7 (by decide)) (h.2 0 (by decide)) (by decide))]; exact h.2 7 (by decide)
    · rw [xset_ne (xne (h.2 8 (by decide)) (h.2 0 (by decide)) (by decide))]; exact h.2 8 (by decide)
theorem MM.arr1 (h : MM G f mm ad th nw ln nt sl td la hf sa sw lf cf dd tt bh li) (g : Nat → Nat) : MM G (xset f (ad 1) (xN G 1002 17 g)) mm ad th nw ln nt sl td la hf g sw lf cf dd tt bh li := by
  refine ⟨?_, fun k hk9 => ?_⟩
  · rw [xset_ne (xne h.1 (h.2 1 (by decide)) (by decide))]; exact h.1
  · rcases (show k = 0 ∨ k = 1 ∨ k = 2 ∨ k = 3 ∨ k = 4 ∨ k = 5 ∨ k = 6 ∨ k = 7 ∨ k = 8 by omega) with rfl | rfl | rfl | rfl | rfl | rfl | rfl | rfl | rfl
    · rw [xset_ne (xne (h.2 0 (by decide)) (h.2 1 (by decide)) (by decide))]; exact h.2 0 (by decide)
    · exact xset_eq
    · rw [xset_ne (xne (h.2 2 (by decide)) (h.2 1 (by decide)) (by decide))]; exact h.2 2 (by decide)
    · rw [xset_ne (xne (h.2 3 (by decide)) (h.2 1 (by decide)) (by decide))]; exact h.2 3 (by decide)
    · rw [xset_ne (xne (h.2 4 (by decide)) (h.2 1 (by decide)) (by decide))]; exact h.2 4 (by decide)
    · rw [xset_ne (xne (h.2 5 (by decide)) (h.2 1 (by decide)) (by decide))]; exact h.2 5 (by decide)
    · rw [xset_ne (xne (h.2 6 (by decide)) (h.2 1 (by decide)) (by decide))]; exact h.2 6 (by decide)
    · rw [xset_ne (xne (h.2 7 (by decide)) (h.2 1 (by decide)) (by decide))]; exact h.2 7 (by decide)
    · rw [xset_ne (xne (h.2 8 (by decide)) (h.2 1 (by decide)) (by decide))]; exact h.2 8 (by decide)
theorem MM.arr2 (h : MM G f mm ad th nw ln nt sl td la hf sa sw lf cf dd tt bh li) (g : Nat → Nat) : MM G (xset f (ad 2) (xN G 1003 17 g)) mm ad th nw ln nt sl td la hf sa g lf cf dd tt bh li := by
  refine ⟨?_, fun k hk9 => ?_⟩
  · rw [xset_ne (xne h.1 (h.2 2 (by decide)) (by decide))]; exact h.1
  · rcases (show k = 0 ∨ k = 1 ∨ k = 2 ∨ k = 3 ∨ k = 4 ∨ k = 5 ∨ k = 6 ∨ k = 7 ∨ k = 8 by omega) with rfl | rfl | rfl | rfl | rfl | rfl | rfl | rfl | rfl
    · rw [xset_ne (xne (h.2 0 (by decide)) (h.2 2 (by decide)) (by decide))]; exact h.2 0 (by decide)
    · rw [xset_ne (xne (h.2 1 (by decide)) (h.2 2 (by decide)) (by decide))]; exact h.2 1 (by decide)
    · exact xset_eq
    · rw [xset_ne (xne (h.2 3 (by decide)) (h.2 2 (by decide)) (by decide))]; exact h.2 3 (by decide)
    · rw [xset_ne (xne (h.2 4 (by decide)) (h.2 2 (by decide)) (by decide))]; exact h.2 4 (by decide)
    · rw [xset_ne (xne (h.2 5 (by decide)) (h.2 2 (by decide)) (by decide))]; exact h.2 5 (by decide)
    · rw [xset_ne (xne (h.2 6 (by decide)) (h.2 2 (by decide)) (by decide))]; exact h.2 6 (by decide)
    · rw [xset_ne (xne (h.2 7 (by decide)) (h.2 2 (by decide)) (by decide))]; exact h.2 7 (by decide)
    · rw [xset_ne (xne (h.2 8 (by decide)) (h.2 2 (by decide)) (by decide))]; exact h.2 8 (by decide)
theorem MM.arr3 (h : MM G f mm ad th nw ln nt sl td la hf sa sw lf cf dd tt bh li) (g : Nat → Nat) : MM G (xset f (ad 3) (xN G 1004 180 g)) mm ad th nw ln nt sl td la hf sa sw g cf dd tt bh li := by
  refine ⟨?_, fun k hk9 => ?_⟩
  · rw [xset_ne (xne h.1 (h.2 3 (by decide)) (by decide))]; exact h.1
  · rcases (show k = 0 ∨ k = 1 ∨ k = 2 ∨ k = 3 ∨ k = 4 ∨ k = 5 ∨ k = 6 ∨ k = 7 ∨ k = 8 by omega) with rfl | rfl | rfl | rfl | rfl | rfl | rfl | rfl | rfl
    · rw [xset_ne (xne (h.2 0 (by decide)) (h.2 3 (by decide)) (by decide))]; exact h.2 0 (by decide)
    · rw [xset_ne (xne (h.2 1 (by decide)) (h.2 3 (by decide)) (by decide))]; exact h.2 1 (by decide)
    · rw [xset_ne (xne (h.2 2 (by decide)) (h.2 3 (by decide)) (by decide))]; exact h.2 2 (by decide)
    · exact xset_eq
    · rw [xset_ne (xne (h.2 4 (by decide)) (h.2 3 (by decide)) (by decide))]; exact h.2 4 (by decide)
    · rw [xset_ne (xne (h.2 5 (by decide)) (h.2 3 (by decide)) (by decide))]; exact h.2 5 (by decide)
    · rw [xset_ne (xne (h.2 6 (by decide)) (h.2 3 (by decide)) (by decide))]; exact h.2 6 (by decide)
    · rw [xset_ne (xne (h.2 7 (by decide)) (h.2 3 (by decide)) (by decide))]; exact h.2 7 (by decide)
    · rw [xset_ne (xne (h.2 8 (by decide)) (h.2 3 (by decide)) (by decide))]; exact h.2 8 (by decide)
theorem MM.arr4 (h : MM G f mm ad th nw ln nt sl td la hf sa sw lf cf dd tt bh li) (g : Nat → Nat) : MM G (xset f (ad 4) (xN G 1005 10 g)) mm ad th nw ln nt sl td la hf sa sw lf g dd tt bh li := by
  refine ⟨?_, fun k hk9 => ?_⟩
  · rw [xset_ne (xne h.1 (h.2 4 (by decide)) (by decide))]; exact h.1
  · rcases (show k = 0 ∨ k = 1 ∨ k = 2 ∨ k = 3 ∨ k = 4 ∨ k = 5 ∨ k = 6 ∨ k = 7 ∨ k = 8 by omega) with rfl | rfl | rfl | rfl | rfl | rfl | rfl | rfl | rfl
    · rw [xset_ne (xne (h.2 0 (by decide)) (h.2 4 (by decide)) (by decide))]; exact h.2 0 (by decide)
    · rw [xset_ne (xne (h.2 1 (by decide)) (h.2 4 (by decide)) (by decide))]; exact h.2 1 (by decide)
    · rw [xset_ne (xne (h.2 2 (by decide)) (h.2 4 (by decide)) (by decide))]; exact h.2 2 (by decide)
    · rw [xset_ne (xne (h.2 3 (by decide)) (h.2 4 (by decide)) (by decide))]; exact h.2 3 (by decide)
    · exact xset_eq
    · rw [xset_ne (xne (h.2 5 (by decide)) (h.2 4 (by decide)) (by decide))]; exact h.2 5 (by decide)
    · rw [xset_ne (xne (h.2 6 (by decide)) (h.2 4 (by decide)) (by decide))]; exact h.2 6 (by decide)
    · rw [xset_ne (xne (h.2 7 (by decide)) (h.2 4 (by decide)) (by decide))]; exact h.2 7 (by decide)
    · rw [xset_ne (xne (h.2 8 (by decide)) (h.2 4 (by decide)) (by decide))]; exact h.2 8 (by decide)
theorem MM.arr5 (h : MM G f mm ad th nw ln nt sl td la hf sa sw lf cf dd tt bh li) (g : Nat → Nat) : MM G (xset f (ad 5) (xN G 1006 40 g)) mm ad th nw ln nt sl td la hf sa sw lf cf g tt bh li := by
  refine ⟨?_, fun k hk9 => ?_⟩
  · rw [xset_ne (xne h.1 (h.2 5 (by decide)) (by decide))]; exact h.1
  · rcases (show k = 0 ∨ k = 1 ∨ k = 2 ∨ k = 3 ∨ k = 4 ∨ k = 5 ∨ k = 6 ∨ k = 7 ∨ k = 8 by omega) with rfl | rfl | rfl | rfl | rfl | rfl | rfl | rfl | rfl
    · rw [xset_ne (xne (h.2 0 (by decide)) (h.2 5 (by decide)) (by decide))]; exact h.2 0 (by decide)
    · rw [xset_ne (xne (h.2 1 (by decide)) (h.2 5 (by decide)) (by decide))]; exact h.2 1 (by decide)
    · rw [xset_ne (xne (h.2 2 (by decide)) (h.2 5 (by decide)) (by decide))]; exact h.2 2 (by decide)
    · rw [xset_ne (xne (h.2 3 (by decide)) (h.2 5 (by decide)) (by decide))]; exact h.2 3 (by decide)
    · rw [xset_ne (xne (h.2 4 (by decide)) (h.2 5 (by decide)) (by decide))]; exact h.2 4 (by decide)
    · exact xset_eq
    · rw [xset_ne (xne (h.2 6 (by decide)) (h.2 5 (by decide)) (by decide))]; exact h.2 6 (by decide)
    · rw [xset_ne (xne (h.2 7 (by decide)) (h.2 5 (by decide)) (by decide))]; exact h.2 7 (by decide)
    · rw [xset_ne (xne (h.2 8 (by decide)) (h.2 5 (by decide)) (by decide))]; exact h.2 8 (by decide)
theorem MM.arr6 (h : MM G f mm ad th nw ln nt sl td la hf sa sw lf cf dd tt bh li) (g : Nat → Nat) : MM G (xset f (ad 6) (xN G 1007 40 g)) mm ad th nw ln nt sl td la hf sa sw lf cf dd g bh li := by
  refine ⟨?_, fun k hk9 => ?_⟩
  · rw [xset_ne (xne h.1 (h.2 6 (by decide)) (by decide))]; exact h.1
  · rcases (show k = 0 ∨ k = 1 ∨ k = 2 ∨ k = 3 ∨ k = 4 ∨ k = 5 ∨ k = 6 ∨ k = 7 ∨ k = 8 by omega) with rfl | rfl | rfl | rfl | rfl | rfl | rfl | rfl | rfl
    · rw [xset_ne (xne (h.2 0 (by decide)) (h.2 6 (by decide)) (by decide))]; exact h.2 0 (by decide)
    · rw [xset_ne (xne (h.2 1 (by decide)) (h.2 6 (by decide)) (by decide))]; exact h.2 1 (by decide)
    · rw [xset_ne (xne (h.2 2 (by decide)) (h.2 6 (by decide)) (by decide))]; exact h.2 2 (by decide)
    · rw [xset_ne (xne (h.2 3 (by decide)) (h.2 6 (by decide)) (by decide))]; exact h.2 3 (by decide)
    · rw [xset_ne (xne (h.2 4 (by decide)) (h.2 6 (by decide)) (by decide))]; exact h.2 4 (by decide)
    · rw [xset_ne (xne (h.2 5 (by decide)) (h.2 6 (by decide)) (by decide))]; exact h.2 5 (by decide)
    · exact xset_eq
    · rw [xset_ne (xne (h.2 7 (by decide)) (h.2 6 (by decide)) (by decide))]; exact h.2 7 (by decide)
    · rw [xset_ne (xne (h.2 8 (by decide)) (h.2 6 (by decide)) (by decide))]; exact h.2 8 (by decide)
theorem MM.arr7 (h : MM G f mm ad th nw ln nt sl td la hf sa sw lf cf dd tt bh li) (g : Nat → Nat) : MM G (xset f (ad 7) (xN G 1008 250 g)) mm ad th nw ln nt sl td la hf sa sw lf cf dd tt g li := by
  refine ⟨?_, fun k hk9 => ?_⟩
  · rw [xset_ne (xne h.1 (h.2 7 (by decide)) (by decide))]; exact h.1
  · rcases (show k = 0 ∨ k = 1 ∨ k = 2 ∨ k = 3 ∨ k = 4 ∨ k = 5 ∨ k = 6 ∨ k = 7 ∨ k = 8 by omega) with rfl | rfl | rfl | rfl | rfl | rfl | rfl | rfl | rfl
    · rw [xset_ne (xne (h.2 0 (by decide)) (h.2 7 (by decide)) (by decide))]; exact h.2 0 (by decide)
    · rw [xset_ne (xne (h.2 1 (by decide)) (h.2 7 (by decide)) (by decide))]; exact h.2 1 (by decide)
    · rw [xset_ne (xne (h.2 2 (by decide)) (h.2 7 (by decide)) (by decide))]; exact h.2 2 (by decide)
    · rw [xset_ne (xne (h.2 3 (by decide)) (h.2 7 (by decide)) (by decide))]; exact h.2 3 (by decide)
    · rw [xset_ne (xne (h.2 4 (by decide)) (h.2 7 (by decide)) (by decide))]; exact h.2 4 (by decide)
    · rw [xset_ne (xne (h.2 5 (by decide)) (h.2 7 (by decide)) (by decide))]; exact h.2 5 (by decide)
    · rw [xset_ne (xne (h.2 6 (by decide)) (h.2 7 (by decide)) (by decide))]; exact h.2 6 (by decide)
    · exact xset_eq
    · rw [xset_ne (xne (h.2 8 (by decide)) (h.2 7 (by decide)) (by decide))]; exact h.2 8 (by decide)
theorem MM.arr8 (h : MM G f mm ad th nw ln nt sl td la hf sa sw lf cf dd tt bh li) (g : Nat → Nat) : MM G (xset f (ad 8) (xN G 1009 9 g)) mm ad th nw ln nt sl td la hf sa sw lf cf dd tt bh g := by
  refine ⟨?_, fun k hk9 => ?_⟩
  · rw [xset_ne (xne h.1 (h.2 8 (by decide)) (by decide))]; exact h.1
  · rcases (show k = 0 ∨ k = 1 ∨ k = 2 ∨ k = 3 ∨ k = 4 ∨ k = 5 ∨ k = 6 ∨ k = 7 ∨ k = 8 by omega) with rfl | rfl | rfl | rfl | rfl | rfl | rfl | rfl | rfl
    · rw [xset_ne (xne (h.2 0 (by decide)) (h.2 8 (by decide)) (by decide))]; exact h.2 0 (by decide)
    · rw [xset_ne (xne (h.2 1 (by decide)) (h.2 8 (by decide)) (by decide))]; exact h.2 1 (by decide)
    · rw [xset_ne (xne (h.2 2 (by decide)) (h.2 8 (by decide)) (by decide))]; exact h.2 2 (by decide)
    · rw [xset_ne (xne (h.2 3 (by decide)) (h.2 8 (by decide)) (by decide))]; exact h.2 3 (by decide)
    · rw [xset_ne (xne (h.2 4 (by decide)) (h.2 8 (by decide)) (by decide))]; exact h.2 4 (by decide)
    · rw [xset_ne (xne (h.2 5 (by decide)) (h.2 8 (by decide)) (by decide))]; exact h.2 5 (by decide)
    · rw [xset_ne (xne (h.2 6 (by decide)) (h.2 8 (by decide)) (by decide))]; exact h.2 6 (by decide)
    · rw [xset_ne (xne (h.2 7 (by decide)) (h.2 8 (by decide)) (by decide))]; exact h.2 7 (by decide)
    · exact xset_eq
end MMS
