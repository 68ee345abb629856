/-! THE PLAIN LAW, PART 4: bounds -/
set_option maxRecDepth 100000
theorem sumN_mul_le {f g : Nat → Nat} {n c : Nat} (h : ∀ k, k < n → f k ≤ c * g k) : sumN f n ≤ c * sumN g n := by
  induction n with
  | zero => simp [sumN]
  | succ n ih =>
    have h1 := ih (fun k hk => h k (by omega))
    have h2 := h n (by omega)
    rw [sumN, sumN, Nat.mul_add]
    omega
theorem meanN_le2 {mo al c : Nat} (h : mo ≤ c * al) : meanN mo al ≤ 100 * c := by
  unfold meanN
  split
  · omega
  · rename_i h0
    exact Nat.div_le_of_le_mul (by
      rw [Nat.mul_comm al, Nat.mul_assoc]
      exact Nat.mul_le_mul_left 100 h)
theorem lmomN_le2 {sa sw : Nat → Nat} (hS : ∀ k, k < 17 → sa k ≤ 8) : lmomN sa sw ≤ 16 * loadN sw :=
  sumN_mul_le (fun k hk => by
    have a := hS k hk
    show sw k * 20 * sa k ≤ 16 * (10 * sw k)
    have b : sw k * 20 * sa k ≤ sw k * 20 * 8 := Nat.mul_le_mul_left _ a
    omega)
theorem momN_le2 {h : Nat → Nat → Nat} {w : Nat} : momN h w ≤ 15 * volN h w :=
  sumN_mul_le (fun k hk => Nat.mul_le_mul_right _ (by omega))
theorem trZ_bd {h : Nat → Nat → Nat} {sa sw : Nat → Nat} (hB : ∀ w s, w < 6 → s < 9 → h w s ≤ 200) (hW : ∀ k, k < 17 → sw k ≤ 999) (hS : ∀ k, k < 17 → sa k ≤ 8) : (trZ (volN h) (momN h) (loadN sw) (lmomN sa sw)).natAbs ≤ 1600 := by
  unfold trZ
  split
  · decide
  · have a := meanN_le2 (lmomN_le2 (sw := sw) hS)
    have b := meanN_le2 (momN_le2 (h := h) (w := (drZ (volN h) (loadN sw)).toNat))
    omega
theorem needZ_bd {h : Nat → Nat → Nat} {sa sw : Nat → Nat} {sl : Nat} (hB : ∀ w s, w < 6 → s < 9 → h w s ≤ 200) (hW : ∀ k, k < 17 → sw k ≤ 999) (hS : ∀ k, k < 17 → sa k ≤ 8) (hsl : sl ≤ 50) : -1 ≤ needZ (volN h) (momN h) (loadN sw) (lmomN sa sw) sl ∧ needZ (volN h) (momN h) (loadN sw) (lmomN sa sw) sl ≤ 1000 := by
  have a := trZ_bd hB hW hS
  have b := drZ_bd (volN h) (loadN sw)
  unfold needZ
  split
  · omega
  · omega
theorem frst_dayd {P : Nat → Bool} {td t : Nat} (ht : t < 100) : frst P (td + 100 - (t + 1)) (t + 1) = if P (td + 99 - t) then ((td + 99 - t : Nat) : Int) else frst P (td + 100 - t) t := by
  have h1 : td + 100 - (t + 1) = td + 99 - t := by omega
  rw [h1, frst_ahead]
  have h2 : td + 99 - t + 1 = td + 100 - t := by omega
  rw [h2]
def cdT1 (d h : Int) : Nat := if (0 ≤ d ∧ d ≤ 9999) ∧ (0 ≤ h ∧ h ≤ 99) then 0 else 1
theorem cdT1_0 {d h : Int} (e : cdT1 d h = 0) : (0 ≤ d ∧ d ≤ 9999) ∧ (0 ≤ h ∧ h ≤ 99) := by
  unfold cdT1 at e
  split at e
  · assumption
  · cases e
def cdTide (d h : Int) (dd : Nat → Nat) (nt : Nat) : Nat := if cdT1 d h = 0 then (if plN dd d.toNat nt nt = 40 then 2 else 0) else 1
/-- how many strakes go ahead of the k-th -/
def ahN (st : Nat → Nat) (k : Nat) : Nat → Nat
  | 0 => 0
  | o + 1 => ahN st k o + (if st k < st o ∨ (st o = st k ∧ o < k) then 1 else 0)
theorem ahN_succ {st : Nat → Nat} {k o : Nat} : ahN st k (o + 1) = ahN st k o + (if st k < st o ∨ (st o = st k ∧ o < k) then 1 else 0) := rfl
/-- the strake that comes next behind so many -/
def sbZ (st : Nat → Nat) (many : Nat) : Nat → Int
  | 0 => -1
  | k + 1 => if ahN st k 5 = many then (k : Int) else sbZ st many k
theorem sbZ_succ {st : Nat → Nat} {many k : Nat} : sbZ st many (k + 1) = if ahN st k 5 = many then (k : Int) else sbZ st many k := rfl
theorem ahN_mono {st : Nat → Nat} {o k : Nat} (h : st k < st o ∨ (st o = st k ∧ o < k)) (n : Nat) : ahN st o n ≤ ahN st k n := by
  induction n with
  | zero => exact Nat.le_refl _
  | succ n ih =>
    rw [ahN_succ, ahN_succ]
    by_cases h1 : st o < st n ∨ (st n = st o ∧ n < o)
    · rw [if_pos h1, if_pos (by omega)]; omega
    · rw [if_neg h1]; omega
theorem ahN_lt {st : Nat → Nat} {o k : Nat} (h : st k < st o ∨ (st o = st k ∧ o < k)) {n : Nat} (hn : o < n) : ahN st o n < ahN st k n := by
  induction n with
  | zero => omega
  | succ n ih =>
    rw [ahN_succ, ahN_succ]
    by_cases e : o = n
    · subst e
      have h1 := ahN_mono h o
      rw [if_neg (by omega), if_pos h]
      omega
    · have h1 := ih (by omega)
      by_cases h2 : st o < st n ∨ (st n = st o ∧ n < o)
      · rw [if_pos h2, if_pos (by omega)]; omega
      · rw [if_neg h2]; omega
theorem ahN_le {st : Nat → Nat} {k n : Nat} : ahN st k n ≤ n := by
  induction n with
  | zero => exact Nat.le_refl _
  | succ n ih =>
    rw [ahN_succ]
    split <;> omega
theorem ahN_le4 {st : Nat → Nat} {k : Nat} (hk : k < 5) : ahN st k 5 < 5 := by
  have h : ∀ n, k < n → ahN st k n < n := by
    intro n
    induction n with
    | zero => intro h; omega
    | succ n ih =>
      intro h
      rw [ahN_succ]
      by_cases e : k = n
      · subst e
        rw [if_neg (by omega)]
        have := ahN_le (st := st) (k := k) (n := k)
        omega
      · have := ih (by omega)
        split <;> omega
  exact h 5 hk
theorem ahN_inj {st : Nat → Nat} {o k : Nat} (ho : o < 5) (hk : k < 5) (h : ahN st o 5 = ahN st k 5) : o = k := by
  rcases Nat.lt_trichotomy o k with h1 | h1 | h1
  · by_cases h2 : st k ≤ st o
    · have := ahN_lt (st := st) (o := o) (k := k) (by omega) ho; omega
    · have := ahN_lt (st := st) (o := k) (k := o) (by omega) hk; omega
  · exact h1
  · by_cases h2 : st o ≤ st k
    · have := ahN_lt (st := st) (o := k) (k := o) (by omega) hk; omega
    · have := ahN_lt (st := st) (o := o) (k := k) (by omega) ho; omega
theorem pigeon5 : ∀ a b c d e m : Fin 5, a ≠ b → a ≠ c → a ≠ d → a ≠ e → b ≠ c → b ≠ d → b ≠ e → c ≠ d → c ≠ e → d ≠ e → m = a ∨ m = b ∨ m = c ∨ m = d ∨ m = e := by decide +kernel
theorem ahN_surj {st : Nat → Nat} {m : Nat} (hm : m < 5) : ∃ k, k < 5 ∧ ahN st k 5 = m := by
  have ne : ∀ o k : Nat, o < 5 → k < 5 → o ≠ k → ∀ (h1 : ahN st o 5 < 5) (h2 : ahN st k 5 < 5), (⟨ahN st o 5, h1⟩ : Fin 5) ≠ ⟨ahN st k 5, h2⟩ := fun o k ho hk hne h1 h2 e => hne (ahN_inj ho hk (congrArg Fin.val e))
  have l : ∀ k : Nat, k < 5 → ahN st k 5 < 5 := fun k hk => ahN_le4 hk
  have h := pigeon5 ⟨_, l 0 (by decide)⟩ ⟨_, l 1 (by decide)⟩ ⟨_, l 2 (by decide)⟩ ⟨_, l 3 (by decide)⟩ ⟨_, l 4 (by decide)⟩ ⟨m, hm⟩
    (ne 0 1 (by decide) (by decide) (by decide) _ _) (ne 0 2 (by decide) (by decide) (by decide) _ _) (ne 0 3 (by decide) (by decide) (by decide) _ _) (ne 0 4 (by decide) (by decide) (by decide) _ _) (ne 1 2 (by decide) (by decide) (by decide) _ _) (ne 1 3 (by decide) (by decide) (by decide) _ _) (ne 1 4 (by decide) (by decide) (by decide) _ _) (ne 2 3 (by decide) (by decide) (by decide) _ _) (ne 2 4 (by decide) (by decide) (by decide) _ _) (ne 3 4 (by decide) (by decide) (by decide) _ _)
  rcases h with h | h | h | h | h
  · exact ⟨0, by decide, (congrArg Fin.val h).symm⟩
  · exact ⟨1, by decide, (congrArg Fin.val h).symm⟩
  · exact ⟨2, by decide, (congrArg Fin.val h).symm⟩
  · exact ⟨3, by decide, (congrArg Fin.val h).symm⟩
  · exact ⟨4, by decide, (congrArg Fin.val h).symm⟩
/-- what sbZ finds -/
theorem sbZ_spec {st : Nat → Nat} {m : Nat} (hm : m < 5) : ∃ k : Nat, k < 5 ∧ sbZ st m 5 = (k : Int) ∧ ahN st k 5 = m := by
  obtain ⟨k, hk, he⟩ := ahN_surj (st := st) hm
  have h : ∀ n, n ≤ 5 → k < n → sbZ st m n = (k : Int) := by
    intro n
    induction n with
    | zero => intro _ h; omega
    | succ n ih =>
      intro h5 hkn
      rw [sbZ_succ]
      by_cases e : ahN st n 5 = m
      · rw [if_pos e, ahN_inj (st := st) hk (show n < 5 by omega) (he.trans e.symm)]
      · rw [if_neg e]
        exact ih (by omega) (by
          have : k ≠ n := fun z => e (by rw [← z]; exact he)
          omega)
  exact ⟨k, hk, h 5 (Nat.le_refl _) hk, he⟩
/-- the ballast's search: at the place i (station i % 9, weight i / 9) -/
def balI (vol mom : Nat → Nat) (sa sw : Nat → Nat) (s k : Nat) : Nat := if drZ vol (loadN (va_up sw 16 k)) = -1 then 100000000 else (trZ vol mom (loadN (va_up sw 16 k)) (lmomN (va_up sa 16 s) (va_up sw 16 k))).natAbs
def balF (it : Nat → Nat → Nat) (a0 w0 : Nat) : Nat → Nat × Nat × Nat
  | 0 => (a0, w0, 100000000)
  | i + 1 => if it (i % 9) (i / 9) < (balF it a0 w0 i).2.2 then (i % 9, i / 9, it (i % 9) (i / 9)) else balF it a0 w0 i
theorem balF_succ {it : Nat → Nat → Nat} {a0 w0 i : Nat} : balF it a0 w0 (i + 1) = if it (i % 9) (i / 9) < (balF it a0 w0 i).2.2 then (i % 9, i / 9, it (i % 9) (i / 9)) else balF it a0 w0 i := rfl
theorem balF_bd {it : Nat → Nat → Nat} {a0 w0 i : Nat} (ha : a0 ≤ 8) (hw : w0 ≤ 999) (hi : i ≤ 900) : (balF it a0 w0 i).1 ≤ 8 ∧ (balF it a0 w0 i).2.1 ≤ 999 ∧ (balF it a0 w0 i).2.2 ≤ 100000000 := by
  induction i with
  | zero => exact ⟨ha, hw, Nat.le_refl _⟩
  | succ i ih =>
    obtain ⟨h1, h2, h3⟩ := ih (by omega)
    rw [balF_succ]
    split
    · refine ⟨by show i % 9 ≤ 8; omega, by show i / 9 ≤ 999; omega, by show it (i % 9) (i / 9) ≤ _; omega⟩
    · exact ⟨h1, h2, h3⟩
theorem balI_bd {h : Nat → Nat → Nat} {sa sw : Nat → Nat} {s k : Nat} (hB : ∀ w s, w < 6 → s < 9 → h w s ≤ 200) (hW : ∀ k, k < 17 → sw k ≤ 999) (hS : ∀ k, k < 17 → sa k ≤ 8) (hs : s ≤ 8) (hk : k ≤ 999) : balI (volN h) (momN h) sa sw s k ≤ 100000000 := by
  have hW' : ∀ j, j < 17 → va_up sw 16 k j ≤ 999 := fun j hj => by
    unfold va_up
    split
    · exact hk
    · exact hW j hj
  have hS' : ∀ j, j < 17 → va_up sa 16 s j ≤ 8 := fun j hj => by
    unfold va_up
    split
    · exact hs
    · exact hS j hj
  have := trZ_bd hB hW' hS'
  unfold balI
  split <;> omega
