/-! THE PLAIN LAW, PART 5: the fairest line -/
set_option maxRecDepth 100000
section
variable {h : Nat → Nat} {tol : Nat}
theorem lbN_congr {nx nx' : Nat → Nat → Nat} {s a b : Nat} (hb : b < 5) (e : ∀ b c, b < 5 → c < 5 → nx b c = nx' b c) (n : Nat) (hn : n ≤ 5) : lbN h nx tol s a b n = lbN h nx' tol s a b n := by
  induction n with
  | zero => rfl
  | succ n ih =>
    have h1 : bbN h nx s a b n = bbN h nx' s a b n := by unfold bbN; rw [e b n hb (by omega)]
    rw [lbN_succ, lbN_succ, ih (by omega), h1]
/-- the least bend behind, n stations from the end -/
def LB (h : Nat → Nat) (tol : Nat) : Nat → Nat → Nat → Nat
  | 0, _, _ => 0
  | n + 1, a, b => lbN h (LB h tol n) tol (7 - n) a b 5
theorem LB_succ {n a b : Nat} : LB h tol (n + 1) a b = lbN h (LB h tol n) tol (7 - n) a b 5 := rfl
theorem LB_le {n : Nat} (a b : Nat) : LB h tol n a b ≤ 100000000 := by
  cases n with
  | zero => exact Nat.zero_le _
  | succ n => exact lbN_le _
def behP (h : Nat → Nat) (tol s0 : Nat) (bh : Nat → Nat) : Prop := ∀ s, s0 < s → s ≤ 8 → ∀ j, j < 25 → bh (25 * s + j) = LB h tol (8 - s) (j / 5) (j % 5)
def behR (h : Nat → Nat) (tol s k : Nat) (bh : Nat → Nat) : Prop := ∀ j, j < k → bh (25 * s + j) = LB h tol (8 - s) (j / 5) (j % 5)
variable {bh : Nat → Nat} {s0 s k v : Nat}
theorem behP_at {b c : Nat} (H : behP h tol s0 bh) (hs : s0 < s) (h8 : s ≤ 8) (hb : b < 5) (hc : c < 5) : bh (25 * s + 5 * b + c) = LB h tol (8 - s) b c := by
  have h1 := H s hs h8 (5 * b + c) (by omega)
  rw [show 25 * s + (5 * b + c) = 25 * s + 5 * b + c by omega, show (5 * b + c) / 5 = b by omega, show (5 * b + c) % 5 = c by omega] at h1
  exact h1
theorem behP_le {b c : Nat} (H : behP h tol s0 bh) (hs : s0 < s) (h8 : s ≤ 8) (hb : b < 5) (hc : c < 5) : bh (25 * s + 5 * b + c) ≤ 100000000 := by
  rw [behP_at H hs h8 hb hc]; exact LB_le _ _
theorem behP_lb {t a b : Nat} (ht : t < 7) (H : behP h tol (7 - t) bh) (ha : a < 5) (hb : b < 5) : lbN h (fun b c => bh (25 * (7 - t + 1) + 5 * b + c)) tol (7 - t) a b 5 = LB h tol (8 - (7 - t)) a b := by
  rw [show 8 - (7 - t) = t + 1 by omega, LB_succ]
  exact lbN_congr hb (fun b c hb hc => by
    show bh (25 * (7 - t + 1) + 5 * b + c) = _
    rw [behP_at H (by omega) (by omega) hb hc, show 8 - (7 - t + 1) = t by omega]) 5 (Nat.le_refl _)
theorem behR_zero : behR h tol s 0 bh := fun j hj => absurd hj (Nat.not_lt_zero _)
theorem behR_set (H : behR h tol s k bh) (e : v = LB h tol (8 - s) (k / 5) (k % 5)) : behR h tol s (k + 1) (va_up bh (25 * s + 5 * 0 + k) v) := fun j hj => by
  by_cases hk : j = k
  · subst hk; unfold va_up; rw [if_pos (by omega)]; exact e
  · unfold va_up; rw [if_neg (by omega)]; exact H j (by omega)
theorem behP_set (H : behP h tol s bh) (hk : k < 25) : behP h tol s (va_up bh (25 * s + 5 * 0 + k) v) := fun s1 h1 h8 j hj => by
  unfold va_up; rw [if_neg (by omega)]; exact H s1 h1 h8 j hj
theorem behP_step {s2 : Nat} (e : s2 = s + 1) (H : behP h tol s2 bh) (H2 : behR h tol s2 25 bh) : behP h tol s bh := fun s1 h1 h8 j hj => by
  by_cases e1 : s1 = s2
  · rw [e1]; exact H2 j hj
  · exact H s1 (by omega) h8 j hj
/-- the line's two first choices -/
def fl0 (h : Nat → Nat) (tol : Nat) : Nat → Nat × Nat
  | 0 => (100000000, 0)
  | k + 1 => if (mayP (h 0) (k / 5) tol ∧ mayP (h 1) (k % 5) tol) ∧ LB h tol 7 (k / 5) (k % 5) < (fl0 h tol k).1 then (LB h tol 7 (k / 5) (k % 5), k) else fl0 h tol k
theorem fl0_t (h1 : mayP (h 0) (k / 5) tol) (h2 : mayP (h 1) (k % 5) tol) (h3 : LB h tol 7 (k / 5) (k % 5) < (fl0 h tol k).1) : fl0 h tol (k + 1) = (LB h tol 7 (k / 5) (k % 5), k) := if_pos ⟨⟨h1, h2⟩, h3⟩
theorem fl0_f (hn : ¬ ((mayP (h 0) (k / 5) tol ∧ mayP (h 1) (k % 5) tol) ∧ LB h tol 7 (k / 5) (k % 5) < (fl0 h tol k).1)) : fl0 h tol (k + 1) = fl0 h tol k := if_neg hn
theorem fl0_le (hk : k ≤ 25) : (fl0 h tol k).1 ≤ 100000000 ∧ (fl0 h tol k).2 ≤ 24 := by
  induction k with
  | zero => exact ⟨Nat.le_refl _, Nat.zero_le _⟩
  | succ k ih =>
    by_cases hc : (mayP (h 0) (k / 5) tol ∧ mayP (h 1) (k % 5) tol) ∧ LB h tol 7 (k / 5) (k % 5) < (fl0 h tol k).1
    · rw [fl0_t hc.1.1 hc.1.2 hc.2]; exact ⟨LB_le _ _, by show k ≤ 24; omega⟩
    · rw [fl0_f hc]; exact ih (by omega)
def chP (h : Nat → Nat) (tol s a b : Nat) : Nat → Bool := fun c => decide (mayP (h (s + 1)) c tol ∧ bbN h (LB h tol (7 - s)) s a b c = LB h tol (8 - s) a b)
theorem chP_t {a b c x : Nat} (m : mayP (h (s + 1)) c tol) (e : x = bbN h (LB h tol (7 - s)) s a b c) (c2 : x = LB h tol (8 - s) a b) : chP h tol s a b c = true := decide_eq_true ⟨m, e ▸ c2⟩
theorem chP_f1 {a b c : Nat} (m : ¬ mayP (h (s + 1)) c tol) : ¬ chP h tol s a b c = true := fun h9 => m (of_decide_eq_true h9).1
theorem chP_f2 {a b c x : Nat} (e : x = bbN h (LB h tol (7 - s)) s a b c) (c2 : ¬ x = LB h tol (8 - s) a b) : ¬ chP h tol s a b c = true := fun h9 => c2 (e.trans (of_decide_eq_true h9).2)
def ch (h : Nat → Nat) (tol s a b : Nat) : Nat := (frst (chP h tol s a b) 0 5).toNat
def LPr (h : Nat → Nat) (tol : Nat) : Nat → Nat × Nat
  | 0 => ((fl0 h tol 25).2 / 5, (fl0 h tol 25).2 % 5)
  | s + 1 => ((LPr h tol s).2, ch h tol (s + 1) (LPr h tol s).1 (LPr h tol s).2)
/-- the choice at a station -/
def LN (h : Nat → Nat) (tol s : Nat) : Nat := (LPr h tol s).1
theorem LN_next (hs : 1 ≤ s) : LN h tol (s + 1) = ch h tol s (LN h tol (s - 1)) (LN h tol s) := by
  obtain ⟨t, rfl⟩ : ∃ t, s = t + 1 := ⟨s - 1, by omega⟩
  rfl
/-! what is found -/
theorem may2 {x : Nat} (hx : x ≤ 200) : mayP x 2 tol := by unfold mayP; omega
theorem lbN_at {nx : Nat → Nat → Nat} {a b c n : Nat} (hm : mayP (h (s + 1)) c tol) (hc : c < n) : lbN h nx tol s a b n ≤ bbN h nx s a b c := by
  induction n with
  | zero => omega
  | succ n ih =>
    rw [lbN_succ]
    by_cases e : c = n
    · subst e; rw [if_pos hm]; split <;> omega
    · have := ih (by omega)
      split
      · split <;> omega
      · split <;> omega
theorem lbN_att {nx : Nat → Nat → Nat} {a b n : Nat} (hl : lbN h nx tol s a b n < 100000000) : ∃ c, c < n ∧ mayP (h (s + 1)) c tol ∧ bbN h nx s a b c = lbN h nx tol s a b n := by
  induction n with
  | zero => exact absurd hl (Nat.lt_irrefl _)
  | succ n ih =>
    rw [lbN_succ] at hl ⊢
    by_cases hm : mayP (h (s + 1)) n tol
    · rw [if_pos hm] at hl ⊢
      by_cases hx : bbN h nx s a b n < lbN h nx tol s a b n
      · rw [if_pos hx]; exact ⟨n, Nat.lt_succ_self _, hm, rfl⟩
      · rw [if_neg hx] at hl ⊢
        obtain ⟨c, h1, h2, h3⟩ := ih hl
        exact ⟨c, by omega, h2, h3⟩
    · rw [if_neg hm] at hl ⊢
      by_cases hx : 100000000 < lbN h nx tol s a b n
      · rw [if_pos hx] at hl; omega
      · rw [if_neg hx] at hl ⊢
        obtain ⟨c, h1, h2, h3⟩ := ih hl
        exact ⟨c, by omega, h2, h3⟩
theorem LB_small (hB : ∀ j, j < 9 → h j ≤ 200) {n : Nat} (hn : n ≤ 7) : ∀ a b, a < 5 → b < 5 → LB h tol n a b ≤ 166464 * n := by
  induction n with
  | zero => intro a b _ _; exact Nat.le_refl _
  | succ n ih =>
    intro a b ha hb
    rw [LB_succ]
    have h1 := lbN_at (h := h) (tol := tol) (nx := LB h tol n) (s := 7 - n) (a := a) (b := b) (c := 2) (n := 5) (may2 (hB _ (by omega))) (by decide)
    have h2 := bbN_le (h := h) (nx := LB h tol n) (s := 7 - n) (a := a) (b := b) (c := 2) hB (by omega) ha hb (by decide)
    have h3 := ih (by omega) b 2 hb (by decide)
    omega
theorem ch_found (hB : ∀ j, j < 9 → h j ≤ 200) {a b : Nat} (hs : 1 ≤ s) (h7 : s ≤ 7) (ha : a < 5) (hb : b < 5) : frst (chP h tol s a b) 0 5 = ((ch h tol s a b : Nat) : Int) ∧ ch h tol s a b < 5 ∧ mayP (h (s + 1)) (ch h tol s a b) tol ∧ bbN h (LB h tol (7 - s)) s a b (ch h tol s a b) = LB h tol (8 - s) a b ∧ ∀ i, i < ch h tol s a b → chP h tol s a b i = false := by
  have e : LB h tol (8 - s) a b = lbN h (LB h tol (7 - s)) tol s a b 5 := by
    rw [show 8 - s = 7 - s + 1 by omega, LB_succ, show 7 - (7 - s) = s by omega]
  have h1 := LB_small (tol := tol) hB (n := 8 - s) (by omega) a b ha hb
  obtain ⟨c, c1, c2, c3⟩ := lbN_att (h := h) (tol := tol) (nx := LB h tol (7 - s)) (s := s) (a := a) (b := b) (n := 5) (by rw [← e]; omega)
  rcases frst_spec (chP h tol s a b) 5 0 with ⟨-, h2⟩ | ⟨j, -, a2, a3, a4, a5⟩
  · have h3 := h2 c (Nat.zero_le _) (by omega)
    have h4 : chP h tol s a b c = true := decide_eq_true ⟨c2, c3.trans e.symm⟩
    rw [h3] at h4; cases h4
  · have hj : ch h tol s a b = j := by unfold ch; rw [a4]; rfl
    rw [hj]
    exact ⟨a4, by omega, (of_decide_eq_true a3).1, (of_decide_eq_true a3).2, fun i hi => a5 i (Nat.zero_le _) hi⟩
theorem fl0_found (hB : ∀ j, j < 9 → h j ≤ 200) : (fl0 h tol 25).2 < 25 ∧ mayP (h 0) ((fl0 h tol 25).2 / 5) tol ∧ mayP (h 1) ((fl0 h tol 25).2 % 5) tol ∧ (fl0 h tol 25).1 < 100000000 := by
  have h0 := LB_small (tol := tol) hB (n := 7) (by decide) 2 2 (by decide) (by decide)
  have key : ∀ n, n ≤ 25 → ((fl0 h tol n).1 = 100000000 ∨ ((fl0 h tol n).2 < 25 ∧ mayP (h 0) ((fl0 h tol n).2 / 5) tol ∧ mayP (h 1) ((fl0 h tol n).2 % 5) tol)) ∧ (12 < n → (fl0 h tol n).1 ≤ LB h tol 7 2 2) := by
    intro n
    induction n with
    | zero => intro _; exact ⟨Or.inl rfl, fun h => absurd h (by decide)⟩
    | succ n ih =>
      intro hn
      obtain ⟨i1, i2⟩ := ih (by omega)
      by_cases hc : (mayP (h 0) (n / 5) tol ∧ mayP (h 1) (n % 5) tol) ∧ LB h tol 7 (n / 5) (n % 5) < (fl0 h tol n).1
      · rw [fl0_t hc.1.1 hc.1.2 hc.2]
        refine ⟨Or.inr ⟨by show n < 25; omega, hc.1.1, hc.1.2⟩, fun h12 => ?_⟩
        show LB h tol 7 (n / 5) (n % 5) ≤ _
        by_cases e : n = 12
        · subst e; exact Nat.le_refl _
        · have := i2 (by omega); omega
      · rw [fl0_f hc]
        refine ⟨i1, fun h12 => ?_⟩
        by_cases e : n = 12
        · subst e
          have h5 : ¬ LB h tol 7 2 2 < (fl0 h tol 12).1 := fun h9 => hc ⟨⟨may2 (hB 0 (by decide)), may2 (hB 1 (by decide))⟩, h9⟩
          omega
        · exact i2 (by omega)
  obtain ⟨k1, k2⟩ := key 25 (Nat.le_refl _)
  have k3 := k2 (by decide)
  rcases k1 with k1 | k1
  · omega
  · exact ⟨k1.1, k1.2.1, k1.2.2, by omega⟩
theorem LP_ok (hB : ∀ j, j < 9 → h j ≤ 200) (hs : s ≤ 7) : ((LPr h tol s).1 < 5 ∧ mayP (h s) (LPr h tol s).1 tol) ∧ (LPr h tol s).2 < 5 ∧ mayP (h (s + 1)) (LPr h tol s).2 tol := by
  induction s with
  | zero =>
    obtain ⟨a1, a2, a3, -⟩ := fl0_found (tol := tol) hB
    exact ⟨⟨by show (fl0 h tol 25).2 / 5 < 5; omega, a2⟩, by show (fl0 h tol 25).2 % 5 < 5; omega, a3⟩
  | succ s ih =>
    obtain ⟨⟨a1, -⟩, a3, a4⟩ := ih (by omega)
    obtain ⟨-, b2, b3, -⟩ := ch_found (tol := tol) hB (s := s + 1) (by omega) hs a1 a3
    exact ⟨⟨a3, a4⟩, b2, b3⟩
theorem LN_ok (hB : ∀ j, j < 9 → h j ≤ 200) (hs : s < 9) : LN h tol s < 5 ∧ mayP (h s) (LN h tol s) tol := by
  by_cases e : s = 8
  · subst e; exact (LP_ok hB (Nat.le_refl 7)).2
  · exact (LP_ok hB (show s ≤ 7 by omega)).1
end
/-- the offsets of the waterline w after fairing -/
def fairH (hf : Nat → Nat) (w : Nat) (L : Nat → Nat) (i : Nat) : Nat → Nat := fun x => if 9 * w ≤ x ∧ x < 9 * w + i then hf x + L (x - 9 * w) - 2 else hf x
theorem fairH_step {hf hfL : Nat → Nat} {w i : Nat} {L : Nat → Nat} (hx : ∀ x, hfL x = fairH hf w L i x) (_ : hfL (9 * w + i) = hf (9 * w + i)) (x : Nat) : va_up hfL (9 * w + i) (hf (9 * w + i) + L i - 2) x = fairH hf w L (i + 1) x := by
  unfold va_up
  by_cases e : x = 9 * w + i
  · subst e
    rw [if_pos rfl]
    unfold fairH
    rw [if_pos (by omega), show 9 * w + i - 9 * w = i by omega]
  · rw [if_neg e, hx]
    unfold fairH
    by_cases e2 : 9 * w ≤ x ∧ x < 9 * w + i
    · rw [if_pos e2, if_pos (by omega)]
    · rw [if_neg e2, if_neg (by omega)]
