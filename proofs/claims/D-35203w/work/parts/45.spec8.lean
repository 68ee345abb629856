/-! THE COMPONENT: the batten -/
set_option maxRecDepth 100000
section
variable {h : Nat → Nat} {tol s a b : Nat}
/-- the first choice with the least bend; -1: none may be -/
def cbN (h : Nat → Nat) (nx : Nat → Nat → Nat) (tol s a b : Nat) : Nat → Int
  | 0 => -1
  | c + 1 => if mayP (h (s + 1)) c tol ∧ (cbN h nx tol s a b c = -1 ∨ bbN h nx s a b c < bbN h nx s a b (cbN h nx tol s a b c).toNat) then (c : Int) else cbN h nx tol s a b c
theorem cbN_t {nx : Nat → Nat → Nat} {c : Nat} (hm : mayP (h (s + 1)) c tol) (hc : cbN h nx tol s a b c = -1 ∨ bbN h nx s a b c < bbN h nx s a b (cbN h nx tol s a b c).toNat) : cbN h nx tol s a b (c + 1) = (c : Int) := if_pos ⟨hm, hc⟩
theorem cbN_f {nx : Nat → Nat → Nat} {c : Nat} (hc : ¬ (mayP (h (s + 1)) c tol ∧ (cbN h nx tol s a b c = -1 ∨ bbN h nx s a b c < bbN h nx s a b (cbN h nx tol s a b c).toNat))) : cbN h nx tol s a b (c + 1) = cbN h nx tol s a b c := if_neg hc
theorem cbN_spec {nx : Nat → Nat → Nat} (n : Nat) : (cbN h nx tol s a b n = -1 ∧ ∀ c, c < n → ¬ mayP (h (s + 1)) c tol) ∨ ∃ j : Nat, j < n ∧ cbN h nx tol s a b n = (j : Int) ∧ mayP (h (s + 1)) j tol ∧ (∀ c, c < n → mayP (h (s + 1)) c tol → bbN h nx s a b j ≤ bbN h nx s a b c) ∧ ∀ c, c < j → mayP (h (s + 1)) c tol → bbN h nx s a b j < bbN h nx s a b c := by
  induction n with
  | zero => exact Or.inl ⟨rfl, fun c hc => absurd hc (Nat.not_lt_zero _)⟩
  | succ n ih =>
    rcases ih with ⟨h1, h2⟩ | ⟨j, h1, h2, h3, h4, h5⟩
    · by_cases hm : mayP (h (s + 1)) n tol
      · exact Or.inr ⟨n, Nat.lt_succ_self _, cbN_t hm (Or.inl h1), hm, fun c hc hmc => by
          by_cases e : c = n
          · rw [e]; exact Nat.le_refl _
          · exact absurd hmc (h2 c (by omega)), fun c hc hmc => absurd hmc (h2 c hc)⟩
      · exact Or.inl ⟨(cbN_f (fun hx => hm hx.1)).trans h1, fun c hc => by
          by_cases e : c = n
          · rw [e]; exact hm
          · exact h2 c (by omega)⟩
    · have hj : (cbN h nx tol s a b n).toNat = j := by rw [h2]; rfl
      by_cases hm : mayP (h (s + 1)) n tol ∧ bbN h nx s a b n < bbN h nx s a b j
      · exact Or.inr ⟨n, Nat.lt_succ_self _, cbN_t hm.1 (Or.inr (by rw [hj]; exact hm.2)), hm.1, fun c hc hmc => by
          by_cases e : c = n
          · rw [e]; exact Nat.le_refl _
          · have := h4 c (by omega) hmc; omega, fun c hc hmc => by have := h4 c hc hmc; omega⟩
      · refine Or.inr ⟨j, by omega, (cbN_f (fun hx => ?_)).trans h2, h3, fun c hc hmc => ?_, h5⟩
        · rcases hx.2 with e | e
          · rw [h2] at e; omega
          · rw [hj] at e; exact hm ⟨hx.1, e⟩
        · by_cases e : c = n
          · subst e
            have : ¬ bbN h nx s a b c < bbN h nx s a b j := fun hx => hm ⟨hmc, hx⟩
            omega
          · exact h4 c (by omega) hmc
theorem bbN_congr {nx nx' : Nat → Nat → Nat} {c : Nat} (e : nx b c = nx' b c) : bbN h nx s a b c = bbN h nx' s a b c := by unfold bbN; rw [e]
theorem cb_ch {nx : Nat → Nat → Nat} (hB : ∀ j, j < 9 → h j ≤ 200) (hs : 1 ≤ s) (h7 : s ≤ 7) (ha : a < 5) (hb : b < 5) (e : ∀ c, c < 5 → nx b c = LB h tol (7 - s) b c) : cbN h nx tol s a b 5 = ((ch h tol s a b : Nat) : Int) := by
  obtain ⟨-, c1, c2, c3, c4⟩ := ch_found (tol := tol) hB hs h7 ha hb
  have hE : LB h tol (8 - s) a b = lbN h (LB h tol (7 - s)) tol s a b 5 := by
    rw [show 8 - s = 7 - s + 1 by omega, LB_succ, show 7 - (7 - s) = s by omega]
  have hmin : ∀ c, c < 5 → mayP (h (s + 1)) c tol → LB h tol (8 - s) a b ≤ bbN h nx s a b c := fun c hc hm => by
    rw [hE, bbN_congr (h := h) (s := s) (a := a) (b := b) (c := c) (e c hc)]
    exact lbN_at hm hc
  have h0 : bbN h nx s a b (ch h tol s a b) = LB h tol (8 - s) a b := (bbN_congr (e _ c1)).trans c3
  rcases cbN_spec (h := h) (nx := nx) (tol := tol) (s := s) (a := a) (b := b) 5 with ⟨-, h2⟩ | ⟨j, j1, j2, j3, j4, j5⟩
  · exact absurd c2 (h2 _ c1)
  · have k1 := j4 _ c1 c2
    have k2 := hmin j j1 j3
    rcases Nat.lt_trichotomy j (ch h tol s a b) with hl | hl | hl
    · have k3 := c4 j hl
      have k4 : chP h tol s a b j = true := decide_eq_true ⟨j3, (bbN_congr (e j j1)).symm.trans (by omega)⟩
      rw [k4] at k3; cases k3
    · rw [j2, hl]
    · have k3 := j5 _ hl c2; omega
/-- the least bends behind, from the station k0 on -/
def leP (h : Nat → Nat) (tol k0 : Nat) (lw : Nat → Nat → Nat) : Prop := ∀ x, k0 ≤ x → x ≤ 8 → ∀ j, j < 25 → lw x j = LB h tol (7 - x) (j / 5) (j % 5)
theorem leP_at {lw : Nat → Nat → Nat} {k0 x c : Nat} (H : leP h tol k0 lw) (h1 : k0 ≤ x) (h2 : x ≤ 8) (hb : b < 5) (hc : c < 5) : lw x (5 * b + c) = LB h tol (7 - x) b c := by
  have h3 := H x h1 h2 (5 * b + c) (by omega)
  rw [show (5 * b + c) / 5 = b by omega, show (5 * b + c) % 5 = c by omega] at h3
  exact h3
theorem leP_bb {lw : Nat → Nat → Nat} {x : Nat} (hB : ∀ j, j < 9 → h j ≤ 200) (H : leP h tol (x + 1) lw) (hx : x ≤ 6) (ha : a < 5) (hb : b < 5) : bbN h (fun b c => lw (x + 1) (5 * b + c)) (x + 1) a b (ch h tol (x + 1) a b) = LB h tol (7 - x) a b := by
  obtain ⟨-, c1, -, c3, -⟩ := ch_found (tol := tol) hB (s := x + 1) (by omega) (by omega) ha hb
  rw [show 8 - (x + 1) = 7 - x by omega] at c3
  exact (bbN_congr (by show lw (x + 1) (5 * b + _) = _; exact leP_at H (Nat.le_refl _) (by omega) hb c1)).trans c3
def leR (h : Nat → Nat) (tol x k : Nat) (g : Nat → Nat) : Prop := ∀ j, j < k → g j = LB h tol (7 - x) (j / 5) (j % 5)
theorem leR_set {x k v : Nat} {g : Nat → Nat} (H : leR h tol x k g) (e : v = LB h tol (7 - x) (k / 5) (k % 5)) : leR h tol x (k + 1) (va_up g k v) := fun j hj => by
  unfold va_up
  by_cases hk : j = k
  · rw [if_pos hk, hk]; exact e
  · rw [if_neg hk]; exact H j (by omega)
theorem leP_row {lw : Nat → Nat → Nat} {x : Nat} {g : Nat → Nat} (H : leP h tol (x + 1) lw) : leP h tol (x + 1) (va_up lw x g) := fun y h1 h2 j hj => by
  rw [va_up_ne _ _ (show y ≠ x by omega)]
  exact H y h1 h2 j hj
theorem leP_step {lw : Nat → Nat → Nat} {x : Nat} (H : leP h tol (x + 1) lw) (H2 : leR h tol x 25 (lw x)) : leP h tol x lw := fun y h1 h2 j hj => by
  by_cases e : y = x
  · subst e; exact H2 j hj
  · exact H y (by omega) h2 j hj
theorem leP_0 : leP h tol 7 (fun _ _ => 0) := fun x h1 h2 j hj => by
  rw [show 7 - x = 0 by omega]; rfl
/-- the first two choices as the component keeps them -/
def oneZ (h : Nat → Nat) (tol k : Nat) : Int := if (fl0 h tol k).1 = 100000000 then -1 else (((fl0 h tol k).2 / 5 : Nat) : Int)
def twoZ (h : Nat → Nat) (tol k : Nat) : Int := if (fl0 h tol k).1 = 100000000 then -1 else (((fl0 h tol k).2 % 5 : Nat) : Int)
theorem fl0_inv (k : Nat) : (fl0 h tol k).1 = 100000000 ∨ (fl0 h tol k).1 = LB h tol 7 ((fl0 h tol k).2 / 5) ((fl0 h tol k).2 % 5) := by
  induction k with
  | zero => exact Or.inl rfl
  | succ k ih =>
    by_cases hc : (mayP (h 0) (k / 5) tol ∧ mayP (h 1) (k % 5) tol) ∧ LB h tol 7 (k / 5) (k % 5) < (fl0 h tol k).1
    · rw [fl0_t hc.1.1 hc.1.2 hc.2]; exact Or.inr rfl
    · rw [fl0_f hc]; exact ih
def lnZ (h : Nat → Nat) (tol i : Nat) : Int := if i < 9 then ((LN h tol i : Nat) : Int) else -1
end
/-- the batten's cells -/
def BT (G : xG) (f : xF) (bt li9 le : Nat) (la : Nat → Nat) (tl : Nat) (h : Nat → Nat) (tol : Nat) (lw : Nat → Nat → Nat) : Prop := (f bt = some (xO 510 5 [.ref li9, .int (nI tol), .ref le]) ∧ f li9 = some (xN G tl 9 h) ∧ f le = some (xR G 3 520 9 (fun k => some (la k))) ∧ tl < 500) ∧ ∀ k, k < 9 → f (la k) = some (xN G (530 + k) 25 (lw k))
theorem BT.row {G : xG} {f : xF} {bt li9 le tl tol x : Nat} {la : Nat → Nat} {h : Nat → Nat} {lw : Nat → Nat → Nat} (H : BT G f bt li9 le la tl h tol lw) (hx : x < 9) (g : Nat → Nat) : BT G (xset f (la x) (xN G (530 + x) 25 g)) bt li9 le la tl h tol (va_up lw x g) := by
  have hw := H.2 x hx
  refine ⟨⟨?_, ?_, ?_, H.1.2.2.2⟩, fun k hk => ?_⟩
  · rw [xset_ne (xne H.1.1 hw (by show (510 : Nat) ≠ 530 + x; omega))]; exact H.1.1
  · rw [xset_ne (xne H.1.2.1 hw (by have := H.1.2.2.2; show tl ≠ 530 + x; omega))]; exact H.1.2.1
  · rw [xset_ne (xne H.1.2.2.1 hw (by show (520 : Nat) ≠ 530 + x; omega))]; exact H.1.2.2.1
  · by_cases e : k = x
    · subst e; rw [xset_eq, va_up_self]
    · rw [xset_ne (xne (H.2 k hk) hw (by show 530 + k ≠ 530 + x; omega)), va_up_ne _ _ e]; exact H.2 k hk
