/-! THE COMPONENT, cuts (printed by genc.py) -/
set_option maxRecDepth 100000
abbrev rmX11_cuts : Room := { frames := 1, cells := 0, slots := 0, locals := 40 }
set_option maxHeartbeats 4000000 in
set_option maxRecDepth 100000 in
theorem mX11_cuts (l : Launch) (G : xG) (A : Nat → Prop) (f : xF) {l9 tl me : Nat} {g9 : Nat → Nat} (hl9 : f l9 = some (xN G tl 200 g9)) (ln9 pl9 j0 : Nat) (hj0 : j0 < 200) (hg0 : ln9 ≤ g9 j0) (hgb : ∀ j, j < 200 → g9 j ≤ 4000) (hlb : ln9 ≤ 4000) : xMet l yX11_cuts cX11_cuts 5 (some .int) rmX11_cuts G A f [.ref me, .ref l9, .int (nI ln9), .int (nI pl9)] (fun v f1 => v = some (.int (nI (ff g9 ln9 200 0))) ∧ f1 = xset f l9 (xN G tl 200 (va_up g9 (ff g9 ln9 200 0) (g9 (ff g9 ln9 200 0) - ln9))) ∧ ff g9 ln9 200 0 ≤ j0) := by
  refine x_start (by decide) (Nat.le_of_ble_eq_true rfl) ?_
  intro p e s m below meth c ls X hH hS hl
  obtain ⟨hx, hb, hr, hlk, hml, hown, hts, hK, hC, hA, hnm, hmn⟩ := X
  have hl : lv_has ls 5 [(0, .ref me), (1, .ref l9), (2, .int (nI ln9)), (3, .int (nI pl9))] := hl
  refine lv_iconst (v := nI 0) hx hb dX11_cuts_0 rfl ?_
  refine lv_istore (lv' := [(4, .int (nI 0)), (0, .ref me), (1, .ref l9), (2, .int (nI ln9)), (3, .int (nI pl9))]) hx hb dX11_cuts_1 hl (by decide) rfl (fun ls hl => ?_)
  have hloop3 : ∀ (n : Nat) (k : Nat) (H : Heap) (locs : List Loc) (ls : Array Slot), k ≤ j0 → ff g9 ln9 (200 - k) k = ff g9 ln9 200 0 → (200 - k) < n → xH G A f H → va_S A s.heap H locs → lv_has ls 5 [(4, .int (nI k)), (0, .ref me), (1, .ref l9), (2, .int (nI ln9)), (3, .int (nI pl9))] → W p l e rmX11_cuts s m ([.ref me, .ref l9, .int (nI ln9), .int (nI pl9)] : List Value).toArray below meth c H locs 0 0 (MQ below (xQ G A (fun v f1 => v = some (.int (nI (ff g9 ln9 200 0))) ∧ f1 = xset f l9 (xN G tl 200 (va_up g9 (ff g9 ln9 200 0) (g9 (ff g9 ln9 200 0) - ln9))) ∧ ff g9 ln9 200 0 ≤ j0)) ([.ref me, .ref l9, .int (nI ln9), .int (nI pl9)] : List Value).toArray s rmX11_cuts.cells rmX11_cuts.slots A) (F0 m 3 ls []) := by
    intro n
    induction n with
    | zero => intro k H locs ls hk hff hn; exact absurd hn (Nat.not_lt_zero _)
    | succ n ih3 =>
      intro k H locs ls hk hff hn hH hS hl
      have hgk := hgb k (by omega)
      refine lv_aload_n hx hb dX11_cuts_3 rfl (lv_at hl 2 rfl) ?_
      refine lv_iload hx hb dX11_cuts_4 (lv_at hl 0 rfl) ?_
      refine x_iald (j := k) hx hb hK hH hl9 rfl (by omega) (by decide) dX11_cuts_6 ?_
      refine lv_iload_n hx hb dX11_cuts_7 rfl (lv_at hl 3 rfl) ?_
      refine x_icmp_ge (tgt := 17) (P := ln9 ≤ (g9 k)) hx hb dX11_cuts_8 (by decide) (nI_le' (by omega) (by omega)) (fun c8 => ?_) (fun c8 => ?_)
      · skip
        have hfe : ff g9 ln9 200 0 = k := by rw [← hff]; exact ff_f (by omega)
        refine lv_aload_n hx hb dX11_cuts_17 rfl (lv_at hl 2 rfl) ?_
        refine lv_iload hx hb dX11_cuts_18 (lv_at hl 0 rfl) ?_
        refine lv_dup2_11 hx hb dX11_cuts_20 rfl rfl ?_
        refine x_iald (j := k) hx hb hK hH hl9 rfl (by omega) (by decide) dX11_cuts_21 ?_
        refine lv_iload_n hx hb dX11_cuts_22 rfl (lv_at hl 3 rfl) ?_
        refine x_isub (v := nI ((g9 k) - ln9)) hx hb (pk_sub (by omega)) dX11_cuts_23 ?_
        refine x_iast (j := k) (v := (g9 k) - ln9) hx hb hK hH hS hl9 rfl (by omega) (by decide) rfl dX11_cuts_24 (fun H locs f_2 ef_2 hH hS => ?_)
        have h_3 : f_2 l9 = some (xN G tl 200 (va_up g9 k ((g9 k) - ln9))) := by rw [ef_2]; exact xset_eq
        refine lv_iload hx hb dX11_cuts_25 (lv_at hl 0 rfl) ?_
        exact x_iret hx hb hr hlk hH hS ⟨by rw [hfe], by rw [hfe]; exact ef_2, by rw [hfe]; exact hk⟩ (Nat.le_of_ble_eq_true rfl) (Nat.le_of_ble_eq_true rfl) dX11_cuts_27
      · skip
        have hne : k ≠ j0 := fun e9 => by rw [e9] at c8; omega
        refine lv_iinc (v := nI (k + 1)) (lv' := [(4, .int (nI (k + 1))), (0, .ref me), (1, .ref l9), (2, .int (nI ln9)), (3, .int (nI pl9))]) hx hb dX11_cuts_11 hl (k := 0) rfl (nI_inc _) (by decide) rfl (fun ls hl => ?_)
        refine lv_goto (tgt := 3) hx hb dX11_cuts_14 (by decide) ?_
        exact ih3 (k + 1) _ _ _ (by omega) ((congrArg (fun x => ff g9 ln9 x (k + 1)) (show 200 - (k + 1) = 200 - k - 1 by omega)).trans ((ff_t (by omega) (by omega)).symm.trans hff)) (by omega) hH hS (lv_sub hl [0, 1, 2, 3, 4] rfl)
  exact hloop3 (200 - 0 + 1) 0 _ _ _ (by omega) rfl (Nat.lt_succ_self _) hH hS (lv_sub hl [0, 1, 2, 3, 4] rfl)

abbrev rmX8_init : Room := { frames := 2, cells := 0, slots := 0, locals := 80 }
set_option maxHeartbeats 4000000 in
set_option maxRecDepth 100000 in
theorem mX8_init (l : Launch) (G : xG) (A : Nat → Prop) (f : xF) {me : Nat} : xMet l yX8_init cX8_init 1 none rmX8_init G A f [.ref me] (fun v f1 => v = none ∧ f = f1) := by
  refine x_start (by decide) (Nat.le_of_ble_eq_true rfl) ?_
  intro p e s m below meth c ls X hH hS hl
  obtain ⟨hx, hb, hr, hlk, hml, hown, hts, hK, hC, hA, hnm, hmn⟩ := X
  have hl : lv_has ls 1 [(0, .ref me)] := hl
  refine lv_aload_n hx hb dX8_init_0 rfl (lv_at hl 0 rfl) ?_
  refine W.objInit hx hb hown (hts _ q751) (hts _ q66) (hts _ q67) rfl (by rw [hml]; exact hl.1) rfl dX8_init_1 (Nat.le_of_ble_eq_true rfl) (Nat.le_of_ble_eq_true rfl) ?_
  refine W.eq (g2 := F0 m 4 ls []) rfl ?_
  exact x_vret hx hb hr hlk hH hS ⟨rfl, rfl⟩ (Nat.le_of_ble_eq_true rfl) (Nat.le_of_ble_eq_true rfl) dX8_init_4

abbrev rmX9_init : Room := { frames := 3, cells := 0, slots := 0, locals := 120 }
set_option maxHeartbeats 4000000 in
set_option maxRecDepth 100000 in
theorem mX9_init (l : Launch) (G : xG) (A : Nat → Prop) (f : xF) {me : Nat} : xMet l yX9_init cX9_init 1 none rmX9_init G A f [.ref me] (fun v f1 => v = none ∧ f = f1) := by
  refine x_start (by decide) (Nat.le_of_ble_eq_true rfl) ?_
  intro p e s m below meth c ls X hH hS hl
  obtain ⟨hx, hb, hr, hlk, hml, hown, hts, hK, hC, hA, hnm, hmn⟩ := X
  have hl : lv_has ls 1 [(0, .ref me)] := hl
  refine lv_aload_n hx hb dX9_init_0 rfl (lv_at hl 0 rfl) ?_
  refine x_IN (n := 0) (As := []) (rest := []) ⟨hx, hb, hml, hown, hts⟩ hK hC hA hH hS (mX8_init l G A f (me := me)) q748 q749 q51 q750 rfl (by decide +kernel) ⟨Nat.le_of_ble_eq_true rfl, Nat.le_of_ble_eq_true rfl⟩ rfl hl.1 rfl (Nat.le_of_ble_eq_true rfl) dX9_init_1 (Nat.le_of_ble_eq_true rfl) (Nat.le_of_ble_eq_true rfl) (fun v f_1 H locs hp hH hS hz => ?_)
  obtain ⟨rfl, rfl⟩ := hp
  refine x_norm (g2 := F0 m 4 ls []) (k := 0) (n := 0) (Nat.le_refl _) (Nat.le_refl _) rfl ?_
  exact x_vret hx hb hr hlk hH hS ⟨rfl, rfl⟩ (Nat.le_of_ble_eq_true rfl) (Nat.le_of_ble_eq_true rfl) dX9_init_4

abbrev rmX10_init : Room := { frames := 3, cells := 0, slots := 0, locals := 120 }
set_option maxHeartbeats 4000000 in
set_option maxRecDepth 100000 in
theorem mX10_init (l : Launch) (G : xG) (A : Nat → Prop) (f : xF) {me xx : Nat} (hq : f me = some (xO 560 8 [.null])) : xMet l yX10_init cX10_init 2 none rmX10_init G A f [.ref me, .ref xx] (fun v f1 => v = none ∧ f1 = xset f me (xO 560 8 [.ref xx])) := by
  refine x_start (by decide) (Nat.le_of_ble_eq_true rfl) ?_
  intro p e s m below meth c ls X hH hS hl
  obtain ⟨hx, hb, hr, hlk, hml, hown, hts, hK, hC, hA, hnm, hmn⟩ := X
  have hl : lv_has ls 2 [(0, .ref me), (1, .ref xx)] := hl
  refine lv_aload_n hx hb dX10_init_0 rfl (lv_at hl 0 rfl) ?_
  refine lv_aload_n hx hb dX10_init_1 rfl (lv_at hl 1 rfl) ?_
  refine x_putF (C := RX10) (T := TX10) (N := 1) (ci := 8) (v := .ref xx) (ty := (tyX10 0)) hx hb hts in_X10 tyX10_ok nmX10 hown hK hH hS hq rfl 0 (by decide) (hts _ q760) (fun _ h9 => h9) rfl (hnm.trans rfl) rfl (by decide +kernel) rfl rfl (Nat.le_of_ble_eq_true rfl) dX10_init_2 (fun H locs f_1 ef_1 hH hS => ?_)
  have h_2 : f_1 me = some (xO 560 8 [.ref xx]) := by rw [ef_1]; exact xset_eq
  refine lv_aload_n hx hb dX10_init_5 rfl (lv_at hl 0 rfl) ?_
  refine x_IN (n := 0) (As := []) (rest := []) ⟨hx, hb, hml, hown, hts⟩ hK hC hA hH hS (mX8_init l G A f_1 (me := me)) q759 q749 q51 q750 rfl (by decide +kernel) ⟨Nat.le_of_ble_eq_true rfl, Nat.le_of_ble_eq_true rfl⟩ rfl hl.1 rfl (Nat.le_of_ble_eq_true rfl) dX10_init_6 (Nat.le_of_ble_eq_true rfl) (Nat.le_of_ble_eq_true rfl) (fun v f_3 H locs hp hH hS hz => ?_)
  obtain ⟨rfl, rfl⟩ := hp
  refine x_norm (g2 := F0 m 9 ls []) (k := 0) (n := 0) (Nat.le_refl _) (Nat.le_refl _) rfl ?_
  exact x_vret hx hb hr hlk hH hS ⟨rfl, ef_1⟩ (Nat.le_of_ble_eq_true rfl) (Nat.le_of_ble_eq_true rfl) dX10_init_9
