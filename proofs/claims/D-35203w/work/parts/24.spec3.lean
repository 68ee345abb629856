/-! THE PLAIN LAW, PART 3: what is thrown; loads, draught, trim -/
set_option maxRecDepth 100000
def cdOff (a b c : Int) (la : Nat) : Nat := if ¬ ((0 ≤ a ∧ a ≤ 8) ∧ (0 ≤ b ∧ b ≤ 5)) then 1 else if ¬ (0 ≤ c ∧ c ≤ 200) then 2 else if la ≠ 0 then 3 else 0
def cdSt (a b : Int) : Nat := if (0 ≤ a ∧ a ≤ 8) ∧ (0 ≤ b ∧ b ≤ 5) then 0 else 1
def cdIn (a lo hi : Int) : Nat := if lo ≤ a ∧ a ≤ hi then 0 else 1
def cdFair (b t : Int) (la : Nat) : Nat := if ¬ (0 ≤ b ∧ b ≤ 5) then 1 else if ¬ (0 ≤ t ∧ t ≤ 2) then 2 else if la ≠ 0 then 3 else 0
def cdW (a w : Int) (nw : Nat) : Nat := if ¬ (0 ≤ a ∧ a ≤ 8) then 1 else if ¬ (0 ≤ w ∧ w ≤ 999) then 2 else if nw = 16 then 3 else 0
def cdC (h a w : Int) (nw : Nat) : Nat := if ¬ ((0 ≤ h ∧ h ≤ (nw : Int) - 1) ∧ (0 ≤ a ∧ a ≤ 8)) then 1 else if 0 ≤ w ∧ w ≤ 999 then 0 else 2
def cdPass (d : Int) (td : Nat) : Nat := if ¬ (1 ≤ d ∧ d ≤ 99) then 1 else if 9000 < (td : Int) + d then 2 else 0
theorem cdOff_0 {a b c : Int} {la : Nat} (h : cdOff a b c la = 0) : (0 ≤ a ∧ a ≤ 8) ∧ (0 ≤ b ∧ b ≤ 5) ∧ (0 ≤ c ∧ c ≤ 200) ∧ la = 0 := by
  unfold cdOff at h
  split at h
  · cases h
  · split at h
    · cases h
    · split at h
      · cases h
      · omega
theorem cdSt_0 {a b : Int} (h : cdSt a b = 0) : (0 ≤ a ∧ a ≤ 8) ∧ (0 ≤ b ∧ b ≤ 5) := by
  unfold cdSt at h
  split at h
  · assumption
  · cases h
theorem cdIn_0 {a lo hi : Int} (h : cdIn a lo hi = 0) : lo ≤ a ∧ a ≤ hi := by
  unfold cdIn at h
  split at h
  · assumption
  · cases h
theorem cdFair_0 {b t : Int} {la : Nat} (h : cdFair b t la = 0) : (0 ≤ b ∧ b ≤ 5) ∧ (0 ≤ t ∧ t ≤ 2) ∧ la = 0 := by
  unfold cdFair at h
  split at h
  · cases h
  · split at h
    · cases h
    · split at h
      · cases h
      · omega
theorem cdW_0 {a w : Int} {nw : Nat} (h : cdW a w nw = 0) : (0 ≤ a ∧ a ≤ 8) ∧ (0 ≤ w ∧ w ≤ 999) ∧ nw ≠ 16 := by
  unfold cdW at h
  split at h
  · cases h
  · split at h
    · cases h
    · split at h
      · cases h
      · omega
theorem cdC_0 {x a w : Int} {nw : Nat} (h : cdC x a w nw = 0) : (0 ≤ x ∧ x ≤ (nw : Int) - 1) ∧ (0 ≤ a ∧ a ≤ 8) ∧ (0 ≤ w ∧ w ≤ 999) := by
  unfold cdC at h
  split at h
  · cases h
  · split at h
    · omega
    · cases h
theorem cdPass_0 {d : Int} {td : Nat} (h : cdPass d td = 0) : (1 ≤ d ∧ d ≤ 99) ∧ (td : Int) + d ≤ 9000 := by
  unfold cdPass at h
  split at h
  · cases h
  · split at h
    · cases h
    · omega
def loadN (sw : Nat → Nat) : Nat := sumN (fun k => 10 * sw k) 17
def lmomN (sa sw : Nat → Nat) : Nat := sumN (fun k => sw k * 20 * sa k) 17
/-- the first k below n with P k; -1: none -/
def frst (P : Nat → Bool) : Nat → Nat → Int
  | _, 0 => -1
  | k, n + 1 => if P k then (k : Int) else frst P (k + 1) n
theorem frst_spec (P : Nat → Bool) : ∀ (n k : Nat), (frst P k n = -1 ∧ ∀ j, k ≤ j → j < k + n → P j = false) ∨ ∃ j, k ≤ j ∧ j < k + n ∧ P j = true ∧ frst P k n = (j : Int) ∧ ∀ i, k ≤ i → i < j → P i = false := by
  intro n
  induction n with
  | zero => intro k; exact Or.inl ⟨rfl, fun j h1 h2 => by omega⟩
  | succ n ih =>
    intro k
    unfold frst
    cases hp : P k with
    | true => exact Or.inr ⟨k, Nat.le_refl _, by omega, hp, by simp, fun i h1 h2 => by omega⟩
    | false =>
      rcases ih (k + 1) with ⟨h1, h2⟩ | ⟨j, h1, h2, h3, h4, h5⟩
      · refine Or.inl ⟨by simpa using h1, fun j h3 h4 => ?_⟩
        by_cases hj : j = k
        · rw [hj]; exact hp
        · exact h2 j (by omega) (by omega)
      · refine Or.inr ⟨j, by omega, by omega, h3, by simpa using h4, fun i h6 h7 => ?_⟩
        by_cases hi : i = k
        · rw [hi]; exact hp
        · exact h5 i (by omega) h7
theorem frst_some {P : Nat → Bool} {n k j : Nat} (h1 : k ≤ j) (h2 : j < k + n) (h3 : P j = true) (h4 : ∀ i, k ≤ i → i < j → P i = false) : frst P k n = (j : Int) := by
  rcases frst_spec P n k with ⟨-, h⟩ | ⟨i, a1, a2, a3, a4, a5⟩
  · rw [h j h1 h2] at h3; cases h3
  · rw [a4]
    rcases Nat.lt_trichotomy i j with h | h | h
    · rw [h4 i a1 h] at a3; cases a3
    · rw [h]
    · rw [a5 j h1 h] at h3; cases h3
theorem frst_none {P : Nat → Bool} {n k : Nat} (h : ∀ j, k ≤ j → j < k + n → P j = false) : frst P k n = -1 := by
  rcases frst_spec P n k with ⟨a, -⟩ | ⟨j, a1, a2, a3, -, -⟩
  · exact a
  · rw [h j a1 a2] at a3; cases a3
/-- one more ahead -/
theorem frst_ahead {P : Nat → Bool} {k n : Nat} : frst P k (n + 1) = if P k then (k : Int) else frst P (k + 1) n := rfl
/-- the draught: vol: the volumes -/
def drZ (vol : Nat → Nat) (load : Nat) : Int := frst (fun k => decide (load ≤ vol k)) 0 6
theorem drZ_cases (vol : Nat → Nat) (load : Nat) : (drZ vol load = -1 ∧ ∀ j : Nat, j < 6 → vol j < load) ∨ ∃ j : Nat, j < 6 ∧ drZ vol load = (j : Int) ∧ load ≤ vol j ∧ ∀ i : Nat, i < j → vol i < load := by
  rcases frst_spec (fun k => decide (load ≤ vol k)) 6 0 with ⟨h1, h2⟩ | ⟨j, -, h2, h3, h4, h5⟩
  · exact Or.inl ⟨h1, fun j hj => by have := h2 j (by omega) (by omega); simpa using this⟩
  · exact Or.inr ⟨j, by omega, h4, by simpa using h3, fun i hi => by have := h5 i (by omega) hi; simpa using this⟩
def meanN (mo al : Nat) : Nat := if al = 0 then 0 else 100 * mo / al
/-- the trim: of a load, its moment, by the hull's volumes and moments -/
def trZ (vol mom : Nat → Nat) (load lm : Nat) : Int := if drZ vol load = -1 then 0 else (meanN lm load : Int) - (meanN (mom (drZ vol load).toNat) (vol (drZ vol load).toNat) : Int)
theorem areaN_le {h : Nat → Nat → Nat} (hB : ∀ w s, w < 6 → s < 9 → h w s ≤ 200) {s w : Nat} (hs : s < 9) (hw : w < 6) : areaN h s w ≤ 2000 := by
  have h1 : areaN h s w ≤ w * 400 := sumN_le (fun k hk => by
    have a := hB k s (by omega) hs
    have b := hB (k + 1) s (by omega) hs
    show h k s + h (k + 1) s ≤ 400
    omega)
  omega
theorem volN_le {h : Nat → Nat → Nat} (hB : ∀ w s, w < 6 → s < 9 → h w s ≤ 200) {w : Nat} (hw : w < 6) : volN h w ≤ 32000 := by
  have h1 : volN h w ≤ 8 * 4000 := sumN_le (fun k hk => by
    have a := areaN_le hB (show k < 9 by omega) hw
    have b := areaN_le hB (show k + 1 < 9 by omega) hw
    show areaN h k w + areaN h (k + 1) w ≤ 4000
    omega)
  omega
theorem momN_le {h : Nat → Nat → Nat} (hB : ∀ w s, w < 6 → s < 9 → h w s ≤ 200) {w : Nat} (hw : w < 6) : momN h w ≤ 480000 := by
  have h1 : momN h w ≤ 8 * 60000 := sumN_le (fun k hk => by
    have a := areaN_le hB (show k < 9 by omega) hw
    have b := areaN_le hB (show k + 1 < 9 by omega) hw
    show (2 * k + 1) * (areaN h k w + areaN h (k + 1) w) ≤ 60000
    exact Nat.mul_le_mul (show 2 * k + 1 ≤ 15 by omega) (show _ ≤ 4000 by omega))
  omega
theorem strN_le {h : Nat → Nat → Nat} (hB : ∀ w s, w < 6 → s < 9 → h w s ≤ 200) {k : Nat} (hk : k < 6) : strN h k ≤ 1680 := by
  have h1 : strN h k ≤ 8 * 210 := sumN_le (fun s hs => by
    have a := hB k s hk (by omega)
    have b := hB k (s + 1) hk (by omega)
    show 10 + ((h k s : Int) - (h k (s + 1) : Int)).natAbs ≤ 210
    omega)
  omega
theorem loadN_le {sw : Nat → Nat} (hW : ∀ k, k < 17 → sw k ≤ 999) : loadN sw ≤ 169830 := by
  have h1 : loadN sw ≤ 17 * 9990 := sumN_le (fun k hk => by
    have a := hW k hk
    show 10 * sw k ≤ 9990
    omega)
  omega
theorem lmomN_le {sa sw : Nat → Nat} (hW : ∀ k, k < 17 → sw k ≤ 999) (hS : ∀ k, k < 17 → sa k ≤ 8) : lmomN sa sw ≤ 2717280 := by
  have h1 : lmomN sa sw ≤ 17 * 159840 := sumN_le (fun k hk => by
    have a := hW k hk
    have b := hS k hk
    show sw k * 20 * sa k ≤ 159840
    exact Nat.mul_le_mul (show sw k * 20 ≤ 19980 by omega) b)
  omega
theorem frst_down {P : Nat → Bool} {N t : Nat} (ht : t < N) : frst P (N - (t + 1)) (t + 1) = if P (N - 1 - t) then ((N - 1 - t : Nat) : Int) else frst P (N - t) t := by
  have h1 : N - (t + 1) = N - 1 - t := by omega
  rw [h1, frst_ahead]
  have h2 : N - 1 - t + 1 = N - t := by omega
  rw [h2]
theorem drZ_nat {vol : Nat → Nat} {load : Nat} (h : ¬ drZ vol load = -1) : 0 ≤ drZ vol load ∧ drZ vol load < 6 := by
  rcases drZ_cases vol load with ⟨h1, -⟩ | ⟨j, h1, h2, -, -⟩
  · exact absurd h1 h
  · omega
theorem drZ_bd (vol : Nat → Nat) (load : Nat) : -1 ≤ drZ vol load ∧ drZ vol load < 6 := by
  rcases drZ_cases vol load with ⟨h1, -⟩ | ⟨j, h1, h2, -, -⟩ <;> omega
theorem meanN_le {mo al : Nat} : meanN mo al ≤ 100 * mo := by
  unfold meanN
  split
  · omega
  · exact Nat.div_le_self _ _
def needZ (vol mom : Nat → Nat) (load lm sl : Nat) : Int := if drZ vol load = -1 then -1 else ((10 * (drZ vol load).toNat + sl + (trZ vol mom load lm).natAbs / 10 : Nat) : Int)
/-- the tide of a day: nt told ones -/
def tdN (dd tt : Nat → Nat) (d : Nat) : Nat → Nat
  | 0 => (7 * d + 3) % 19
  | k + 1 => if dd k = d then tt k else tdN dd tt d k
theorem tdN_succ {dd tt : Nat → Nat} {d k : Nat} : tdN dd tt d (k + 1) = if dd k = d then tt k else tdN dd tt d k := rfl
theorem tdN_le {dd tt : Nat → Nat} {d n : Nat} (h : ∀ k, k < n → tt k ≤ 99) : tdN dd tt d n ≤ 99 := by
  induction n with
  | zero => unfold tdN; omega
  | succ n ih =>
    unfold tdN
    split
    · exact h n (by omega)
    · exact ih (fun k hk => h k (by omega))
/-- the place of a day: the last of the same, nt if none -/
def plN (dd : Nat → Nat) (d nt : Nat) : Nat → Nat
  | 0 => nt
  | k + 1 => if dd k = d then k else plN dd d nt k
theorem plN_succ {dd : Nat → Nat} {d nt k : Nat} : plN dd d nt (k + 1) = if dd k = d then k else plN dd d nt k := rfl
theorem plN_le {dd : Nat → Nat} {d nt : Nat} (k : Nat) (hk : k ≤ nt) : plN dd d nt k ≤ nt := by
  induction k with
  | zero => exact Nat.le_refl _
  | succ k ih =>
    unfold plN
    split
    · omega
    · exact ih (by omega)
def dayZ (dd tt : Nat → Nat) (nt td la : Nat) (need : Int) : Int := if need = -1 ∨ la ≠ 0 then -1 else frst (fun k => decide (need ≤ (tdN dd tt k nt : Int))) td 100
def cdLaunch (dd tt : Nat → Nat) (nt td la : Nat) (need : Int) : Nat := if la ≠ 0 ∨ need = -1 ∨ (tdN dd tt td nt : Int) < need then 1 else 0
theorem cdLaunch_0 {dd tt : Nat → Nat} {nt td la : Nat} {need : Int} (h : cdLaunch dd tt nt td la need = 0) : la = 0 ∧ need ≠ -1 ∧ need ≤ (tdN dd tt td nt : Int) := by
  unfold cdLaunch at h
  split at h
  · cases h
  · rename_i h1
    refine ⟨?_, ?_, ?_⟩
    · exact Classical.byContradiction fun h2 => h1 (Or.inl h2)
    · exact fun h2 => h1 (Or.inr (Or.inl h2))
    · exact Int.not_lt.mp fun h2 => h1 (Or.inr (Or.inr h2))
