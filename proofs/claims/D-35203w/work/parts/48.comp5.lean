/-! THE COMPONENT, arrays of arrays (printed by genc.py) -/
set_option maxRecDepth 100000
abbrev rmX6_init : Room := { frames := 4, cells := 10, slots := 234, locals := 160 }
set_option maxHeartbeats 4000000 in
set_option maxRecDepth 100000 in
theorem mX6_init (l : Launch) (G : xG) (A : Nat → Prop) (f : xF) {bt li9 tl : Nat} {h9 : Nat → Nat} (hbt : f bt = some (xO 510 5 [.null, .int (nI 0), .null])) (hli : f li9 = some (xN G tl 9 h9)) (htl : tl < 500) (tol : Nat) (hB9 : ∀ j, j < 9 → h9 j ≤ 200) (htol : tol < 3) : xMet l yX6_init cX6_init 5 none rmX6_init G A f [.ref bt, .ref li9, .int (nI tol)] (fun v f1 => v = none ∧ ∃ (le : Nat) (la : Nat → Nat) (lw : Nat → Nat → Nat), BT G f1 bt li9 le la tl h9 tol lw ∧ leP h9 tol 0 lw ∧ xkeep 510 540 f f1) := by
  refine x_start (by decide) (Nat.le_of_ble_eq_true rfl) ?_
  intro p e s m below meth c ls X hH hS hl
  obtain ⟨hx, hb, hr, hlk, hml, hown, hts, hK, hC, hA, hnm, hmn⟩ := X
  have hl : lv_has ls 5 [(0, .ref bt), (1, .ref li9), (2, .int (nI tol))] := hl
  refine lv_aload_n hx hb dX6_init_0 rfl (lv_at hl 0 rfl) ?_
  refine W.objInit hx hb hown (hts _ q629) (hts _ q66) (hts _ q67) rfl (by rw [hml]; exact hl.1) rfl dX6_init_1 (Nat.le_of_ble_eq_true rfl) (Nat.le_of_ble_eq_true rfl) ?_
  refine W.eq (g2 := F0 m 4 ls []) rfl ?_
  refine lv_aload_n hx hb dX6_init_4 rfl (lv_at hl 0 rfl) ?_
  refine lv_bipush (v := nI 9) hx hb dX6_init_5 rfl ?_
  refine lv_bipush (v := nI 25) hx hb dX6_init_7 rfl ?_
  refine x_multi hx hb 520 530 hown (hts _ q630) (hK.use q75 rfl) (hts _ q84) hK hH hS hA (by decide) (by decide) (Nat.le_of_ble_eq_true rfl) (Nat.le_of_ble_eq_true rfl) dX6_init_9 (fun le la H f_1 hq_2 hR_3 hk_4 hH hS => ?_)
  have hkp_5 : xkeep 510 540 f f_1 := xkeep.refl.trans (fun a e ha _ => hk_4 a e ha (Or.inr (Nat.zero_le _)))
  have h_6 : f_1 bt = some (xO 510 5 [.null, .int (nI 0), .null]) := hk_4 _ _ hbt (Or.inr (Nat.zero_le _))
  have h_7 : f_1 li9 = some (xN G tl 9 h9) := hk_4 _ _ hli (Or.inr (Nat.zero_le _))
  refine x_norm (g2 := F0 m 13 ls [.ref le, .ref bt]) (k := 10) (n := 234) (Nat.le_refl _) (Nat.le_refl _) rfl ?_
  refine x_putF (C := RX6) (T := TX6) (N := 3) (ci := 5) (v := .ref le) (ty := (tyX6 2)) hx hb hts in_X6 tyX6_ok nmX6 hown hK hH hS h_6 rfl 2 (by decide) (hts _ q650) (fun _ h9 => h9) rfl (hnm.trans rfl) rfl (by decide +kernel) rfl rfl (Nat.le_of_ble_eq_true rfl) dX6_init_13 (fun H locs f_8 ef_8 hH hS => ?_)
  have h_9 : f_8 li9 = some (xN G tl 9 h9) := by rw [ef_8, xset_ne (xne h_7 h_6 (by show tl ≠ 510; omega))]; exact h_7
  have h_10 : f_8 le = some (xR G 3 520 9 (fun k => some (la k))) := by rw [ef_8, xset_ne (xne hq_2 h_6 (by decide))]; exact hq_2
  have hkp_11 : xkeep 510 540 f f_8 := by rw [ef_8]; exact hkp_5.set h_6 (by decide)
  have hR_12 : ∀ k, k < 9 → f_8 (la k) = some (xN G (530 + k) 25 (fun _ => 0)) := fun k hk => by rw [ef_8, xset_ne (xne (hR_3 k hk) h_6 (by show 530 + k ≠ 510; omega))]; exact hR_3 k hk
  have h_13 : f_8 bt = some (xO 510 5 [.null, .int (nI 0), .ref le]) := by rw [ef_8]; exact xset_eq
  refine lv_aload_n hx hb dX6_init_16 rfl (lv_at hl 0 rfl) ?_
  refine lv_aload_n hx hb dX6_init_17 rfl (lv_at hl 1 rfl) ?_
  refine x_putF (C := RX6) (T := TX6) (N := 3) (ci := 5) (v := .ref li9) (ty := (tyX6 0)) hx hb hts in_X6 tyX6_ok nmX6 hown hK hH hS h_13 rfl 0 (by decide) (hts _ q648) (fun _ h9 => h9) rfl (hnm.trans rfl) rfl (by decide +kernel) rfl rfl (Nat.le_of_ble_eq_true rfl) dX6_init_18 (fun H locs f_14 ef_14 hH hS => ?_)
  have h_15 : f_14 li9 = some (xN G tl 9 h9) := by rw [ef_14, xset_ne (xne h_9 h_13 (by show tl ≠ 510; omega))]; exact h_9
  have h_16 : f_14 le = some (xR G 3 520 9 (fun k => some (la k))) := by rw [ef_14, xset_ne (xne h_10 h_13 (by decide))]; exact h_10
  have hkp_17 : xkeep 510 540 f f_14 := by rw [ef_14]; exact hkp_11.set h_13 (by decide)
  have hR_18 : ∀ k, k < 9 → f_14 (la k) = some (xN G (530 + k) 25 (fun _ => 0)) := fun k hk => by rw [ef_14, xset_ne (xne (hR_12 k hk) h_13 (by show 530 + k ≠ 510; omega))]; exact hR_12 k hk
  have h_19 : f_14 bt = some (xO 510 5 [.ref li9, .int (nI 0), .ref le]) := by rw [ef_14]; exact xset_eq
  refine lv_aload_n hx hb dX6_init_21 rfl (lv_at hl 0 rfl) ?_
  refine lv_iload_n hx hb dX6_init_22 rfl (lv_at hl 2 rfl) ?_
  refine x_putF (C := RX6) (T := TX6) (N := 3) (ci := 5) (v := .int (nI tol)) (ty := (tyX6 1)) hx hb hts in_X6 tyX6_ok nmX6 hown hK hH hS h_19 rfl 1 (by decide) (hts _ q649) (fun _ h9 => h9) rfl (hnm.trans rfl) rfl (by decide +kernel) rfl rfl (Nat.le_of_ble_eq_true rfl) dX6_init_23 (fun H locs f_20 ef_20 hH hS => ?_)
  have h_21 : f_20 li9 = some (xN G tl 9 h9) := by rw [ef_20, xset_ne (xne h_15 h_19 (by show tl ≠ 510; omega))]; exact h_15
  have h_22 : f_20 le = some (xR G 3 520 9 (fun k => some (la k))) := by rw [ef_20, xset_ne (xne h_16 h_19 (by decide))]; exact h_16
  have hkp_23 : xkeep 510 540 f f_20 := by rw [ef_20]; exact hkp_17.set h_19 (by decide)
  have hR_24 : ∀ k, k < 9 → f_20 (la k) = some (xN G (530 + k) 25 (fun _ => 0)) := fun k hk => by rw [ef_20, xset_ne (xne (hR_18 k hk) h_19 (by show 530 + k ≠ 510; omega))]; exact hR_18 k hk
  have h_25 : f_20 bt = some (xO 510 5 [.ref li9, .int (nI tol), .ref le]) := by rw [ef_20]; exact xset_eq
  have hT_26 : BT G f_20 bt li9 le la tl h9 tol (fun _ _ => 0) := ⟨⟨h_25, h_21, h_22, htl⟩, hR_24⟩
  refine lv_bipush (v := nI 6) hx hb dX6_init_26 rfl ?_
  refine lv_istore_n (lv' := [(3, .int (nI 6)), (0, .ref bt), (1, .ref li9), (2, .int (nI tol))]) hx hb dX6_init_28 rfl hl (by decide) rfl (fun ls hl => ?_)
  have hloop29 : ∀ (n : Nat) (t : Nat) (lwA : Nat → Nat → Nat) (fA : xF) (H : Heap) (locs : List Loc) (ls : Array Slot), t ≤ 7 → BT G fA bt li9 le la tl h9 tol lwA → xkeep 510 540 f fA → leP h9 tol (7 - t) lwA → (7 - t) < n → xH G A fA H → va_S A s.heap H locs → lv_has ls 5 [(3, .int (oI (6 - ((t : Nat) : Int)))), (0, .ref bt), (1, .ref li9), (2, .int (nI tol))] → W p l e rmX6_init s m ([.ref bt, .ref li9, .int (nI tol)] : List Value).toArray below meth c H locs 10 234 (MQ below (xQ G A (fun v f1 => v = none ∧ ∃ (le : Nat) (la : Nat → Nat) (lw : Nat → Nat → Nat), BT G f1 bt li9 le la tl h9 tol lw ∧ leP h9 tol 0 lw ∧ xkeep 510 540 f f1)) ([.ref bt, .ref li9, .int (nI tol)] : List Value).toArray s rmX6_init.cells rmX6_init.slots A) (F0 m 29 ls []) := by
    intro n
    induction n with
    | zero => intro t lwA fA H locs ls ht hTA hkA hLA hn; exact absurd hn (Nat.not_lt_zero _)
    | succ n ih29 =>
      intro t lwA fA H locs ls ht hTA hkA hLA hn hH hS hl
      refine lv_iload_n hx hb dX6_init_29 rfl (lv_at hl 0 rfl) ?_
      refine x_if_lt (tgt := 90) (P := 6 - ((t : Nat) : Int) < 0) hx hb dX6_init_30 (by decide) (oI_lt' rfl oI_0 ⟨by omega, by omega⟩ (by decide)) (fun c30 => ?_) (fun c30 => ?_)
      · skip
        rw [show 7 - t = 0 by omega] at hLA
        exact x_vret hx hb hr hlk hH hS ⟨rfl, le, la, _, hTA, hLA, hkA⟩ (Nat.le_of_ble_eq_true rfl) (Nat.le_of_ble_eq_true rfl) dX6_init_90
      · skip
        have e_28 : (oI (6 - ((t : Nat) : Int)) : Int32) = nI (6 - t) := oI_nI (by omega)
        have hl : lv_has ls 5 [(3, .int (nI (6 - t))), (0, .ref bt), (1, .ref li9), (2, .int (nI tol))] := xl_eq hl (xl_cons (congrArg (fun x => ((3 : Nat), Value.int x)) e_28) rfl)
        refine lv_iconst (v := nI 0) hx hb dX6_init_33 rfl ?_
        refine lv_istore (lv' := [(4, .int (nI 0)), (3, .int (nI (6 - t))), (0, .ref bt), (1, .ref li9), (2, .int (nI tol))]) hx hb dX6_init_34 hl (by decide) rfl (fun ls hl => ?_)
        have hloop36 : ∀ (n : Nat) (k2 : Nat) (lwB : Nat → Nat → Nat) (fB : xF) (H : Heap) (locs : List Loc) (ls : Array Slot), k2 ≤ 25 → BT G fB bt li9 le la tl h9 tol lwB → xkeep 510 540 f fB → leP h9 tol (6 - t + 1) lwB → leR h9 tol (6 - t) k2 (lwB (6 - t)) → (25 - k2) < n → xH G A fB H → va_S A s.heap H locs → lv_has ls 5 [(4, .int (nI k2)), (3, .int (nI (6 - t))), (0, .ref bt), (1, .ref li9), (2, .int (nI tol))] → W p l e rmX6_init s m ([.ref bt, .ref li9, .int (nI tol)] : List Value).toArray below meth c H locs 10 234 (MQ below (xQ G A (fun v f1 => v = none ∧ ∃ (le : Nat) (la : Nat → Nat) (lw : Nat → Nat → Nat), BT G f1 bt li9 le la tl h9 tol lw ∧ leP h9 tol 0 lw ∧ xkeep 510 540 f f1)) ([.ref bt, .ref li9, .int (nI tol)] : List Value).toArray s rmX6_init.cells rmX6_init.slots A) (F0 m 36 ls []) := by
          intro n
          induction n with
          | zero => intro k2 lwB fB H locs ls hk2 hTB hkB hLB hRB hn; exact absurd hn (Nat.not_lt_zero _)
          | succ n ih36 =>
            intro k2 lwB fB H locs ls hk2 hTB hkB hLB hRB hn hH hS hl
            refine lv_iload hx hb dX6_init_36 (lv_at hl 0 rfl) ?_
            refine lv_bipush (v := nI 25) hx hb dX6_init_38 rfl ?_
            refine x_icmp_ge (tgt := 84) (P := 25 ≤ k2) hx hb dX6_init_40 (by decide) (nI_le' (by decide) (by omega)) (fun c40 => ?_) (fun c40 => ?_)
            · skip
              rw [show k2 = 25 by omega] at hRB
              refine lv_iinc (v := oI (((6 - t : Nat) : Int) + (-1))) (lv' := [(3, .int (oI (((6 - t : Nat) : Int) + (-1)))), (4, .int (nI k2)), (0, .ref bt), (1, .ref li9), (2, .int (nI tol))]) hx hb dX6_init_84 hl (k := 1) rfl (oI_add' (nI_oI _) rfl) (by decide) rfl (fun ls hl => ?_)
              refine lv_goto (tgt := 29) hx hb dX6_init_87 (by decide) ?_
              have e_30 : (oI (((6 - t : Nat) : Int) + (-1)) : Int32) = oI (6 - (((t + 1) : Nat) : Int)) := by unfold oI; congr 1; omega
              have hl : lv_has ls 5 [(3, .int (oI (6 - (((t + 1) : Nat) : Int)))), (4, .int (nI k2)), (0, .ref bt), (1, .ref li9), (2, .int (nI tol))] := xl_eq hl (xl_cons (congrArg (fun x => ((3 : Nat), Value.int x)) e_30) rfl)
              exact ih29 (t + 1) lwB fB _ _ _ (by omega) hTB hkB (by rw [show 7 - (t + 1) = 6 - t by omega]; exact leP_step hLB hRB) (by omega) hH hS (lv_sub hl [0, 2, 3, 4] rfl)
            · skip
              have hch := (ch_found (tol := tol) hB9 (s := 6 - t + 1) (a := k2 / 5) (b := k2 % 5) (by omega) (by omega) (by omega) (by omega)).2.1
              refine lv_aload_n hx hb dX6_init_43 rfl (lv_at hl 2 rfl) ?_
              refine x_get (C := RX6) (T := TX6) (N := 3) (ci := 5) (v := .ref le) hx hb hts in_X6 hown hK hH hTB.1.1 rfl 2 (by decide) (hts _ q650) (fun _ h9 => h9) rfl dX6_init_44 ?_
              refine lv_iload_n hx hb dX6_init_47 rfl (lv_at hl 1 rfl) ?_
              refine x_aald (j := 6 - t) (k := 3) hx hb hK hH hTB.1.2.2.1 rfl rfl rfl (by omega) (by decide) dX6_init_48 ?_
              refine x_norm (g2 := F0 m 49 ls [.ref (la (6 - t))]) (Nat.le_refl _) (Nat.le_refl _) (congrArg (fun x9 => F0 m 49 ls (va_rf x9 :: [])) (show (fun k => some (la k)) (6 - t) = some (la (6 - t)) from rfl)) ?_
              refine lv_iload hx hb dX6_init_49 (lv_at hl 0 rfl) ?_
              refine lv_aload_n hx hb dX6_init_51 rfl (lv_at hl 2 rfl) ?_
              refine lv_iload_n hx hb dX6_init_52 rfl (lv_at hl 1 rfl) ?_
              refine lv_iload hx hb dX6_init_53 (lv_at hl 0 rfl) ?_
              refine lv_iconst (v := nI 5) hx hb dX6_init_55 rfl ?_
              refine x_idivN hx hb (by omega) (by decide) (by decide) dX6_init_56 ?_
              refine lv_iload hx hb dX6_init_57 (lv_at hl 0 rfl) ?_
              refine lv_iconst (v := nI 5) hx hb dX6_init_59 rfl ?_
              refine x_iremN hx hb (by omega) (by decide) (by decide) dX6_init_60 ?_
              refine lv_aload_n hx hb dX6_init_61 rfl (lv_at hl 2 rfl) ?_
              refine lv_iload_n hx hb dX6_init_62 rfl (lv_at hl 1 rfl) ?_
              refine lv_iload hx hb dX6_init_63 (lv_at hl 0 rfl) ?_
              refine lv_iconst (v := nI 5) hx hb dX6_init_65 rfl ?_
              refine x_idivN hx hb (by omega) (by decide) (by decide) dX6_init_66 ?_
              refine lv_iload hx hb dX6_init_67 (lv_at hl 0 rfl) ?_
              refine lv_iconst (v := nI 5) hx hb dX6_init_69 rfl ?_
              refine x_iremN hx hb (by omega) (by decide) (by decide) dX6_init_70 ?_
              refine x_V (n := 3) (As := [.int (nI (6 - t)), .int (nI (k2 / 5)), .int (nI (k2 % 5))]) (rest := [.int (nI (k2 % 5)), .int (nI (k2 / 5)), .int (nI (6 - t)), .ref bt, .int (nI k2), .ref (la (6 - t))]) ⟨hx, hb, hml, hown, hts⟩ hK hC hA hH hS (mX6_choice l G A fB hTB hB9 htol (6 - t) (k2 / 5) (k2 % 5) (by omega) (by omega) (by omega) (by assumption)) q631 q633 qs6 q47 q634 (by decide +kernel) ⟨Nat.le_of_ble_eq_true rfl, Nat.le_of_ble_eq_true rfl⟩ hTB.1.1 rfl rfl rfl hl.1 rfl (Nat.le_of_ble_eq_true rfl) dX6_init_71 (Nat.le_of_ble_eq_true rfl) (Nat.le_of_ble_eq_true rfl) (fun v f_31 H locs hp hH hS hz => ?_)
              obtain ⟨rfl, rfl⟩ := hp
              refine x_norm (g2 := F0 m 74 ls [.int (nI (ch h9 tol ((6 - t) + 1) (k2 / 5) (k2 % 5))), .int (nI (k2 % 5)), .int (nI (k2 / 5)), .int (nI (6 - t)), .ref bt, .int (nI k2), .ref (la (6 - t))]) (k := 10) (n := 234) (Nat.le_refl _) (Nat.le_refl _) rfl ?_
              refine x_V (n := 4) (As := [.int (nI (6 - t)), .int (nI (k2 / 5)), .int (nI (k2 % 5)), .int (nI (ch h9 tol ((6 - t) + 1) (k2 / 5) (k2 % 5)))]) (rest := [.int (nI k2), .ref (la (6 - t))]) ⟨hx, hb, hml, hown, hts⟩ hK hC hA hH hS (mX6_behind l G A fB hTB (6 - t) (k2 / 5) (k2 % 5) (ch h9 tol ((6 - t) + 1) (k2 / 5) (k2 % 5)) (by omega) (by omega) (by omega)) q644 q646 qs8 q47 q647 (by decide +kernel) ⟨Nat.le_of_ble_eq_true rfl, Nat.le_of_ble_eq_true rfl⟩ hTB.1.1 rfl rfl rfl hl.1 rfl (Nat.le_of_ble_eq_true rfl) dX6_init_74 (Nat.le_of_ble_eq_true rfl) (Nat.le_of_ble_eq_true rfl) (fun v f_32 H locs hp hH hS hz => ?_)
              obtain ⟨rfl, rfl⟩ := hp
              refine x_norm (g2 := F0 m 77 ls [.int (nI (bbN h9 (fun b c => lwB ((6 - t) + 1) (5 * b + c)) ((6 - t) + 1) (k2 / 5) (k2 % 5) (ch h9 tol ((6 - t) + 1) (k2 / 5) (k2 % 5)))), .int (nI k2), .ref (la (6 - t))]) (k := 10) (n := 234) (Nat.le_refl _) (Nat.le_refl _) rfl ?_
              refine x_iast (j := k2) (v := bbN h9 (fun b c => lwB ((6 - t) + 1) (5 * b + c)) ((6 - t) + 1) (k2 / 5) (k2 % 5) (ch h9 tol ((6 - t) + 1) (k2 / 5) (k2 % 5))) hx hb hK hH hS (hTB.2 (6 - t) (by omega)) rfl (by omega) (by decide) rfl dX6_init_77 (fun H locs f_33 ef_33 hH hS => ?_)
              have hT_34 : BT G f_33 bt li9 le la tl h9 tol (va_up lwB (6 - t) (va_up (lwB (6 - t)) k2 (bbN h9 (fun b c => lwB ((6 - t) + 1) (5 * b + c)) ((6 - t) + 1) (k2 / 5) (k2 % 5) (ch h9 tol ((6 - t) + 1) (k2 / 5) (k2 % 5))))) := by rw [ef_33]; exact hTB.row (by omega) _
              have hkp_35 : xkeep 510 540 f f_33 := by rw [ef_33]; exact hkB.set (hTB.2 (6 - t) (by omega)) (by omega)
              refine lv_iinc (v := nI (k2 + 1)) (lv' := [(4, .int (nI (k2 + 1))), (3, .int (nI (6 - t))), (0, .ref bt), (1, .ref li9), (2, .int (nI tol))]) hx hb dX6_init_78 hl (k := 0) rfl (nI_inc _) (by decide) rfl (fun ls hl => ?_)
              refine lv_goto (tgt := 36) hx hb dX6_init_81 (by decide) ?_
              exact ih36 (k2 + 1) (va_up lwB (6 - t) (va_up (lwB (6 - t)) k2 (bbN h9 (fun b c => lwB ((6 - t) + 1) (5 * b + c)) ((6 - t) + 1) (k2 / 5) (k2 % 5) (ch h9 tol ((6 - t) + 1) (k2 / 5) (k2 % 5))))) f_33 _ _ _ (by omega) hT_34 hkp_35 (leP_row hLB) (by rw [va_up_self]; exact leR_set hRB (leP_bb hB9 hLB (by omega) (by omega) (by omega))) (by omega) hH hS (lv_sub hl [0, 1, 2, 3, 4] rfl)
        exact hloop36 (25 - 0 + 1) 0 lwA fA _ _ _ (by omega) hTA hkA (by rw [show 6 - t + 1 = 7 - t by omega]; exact hLA) (fun j hj => absurd hj (Nat.not_lt_zero _)) (Nat.lt_succ_self _) hH hS (lv_sub hl [0, 1, 2, 3, 4] rfl)
  have e_36 : (nI 6 : Int32) = oI (6 - ((0 : Nat) : Int)) := by exact (by decide : nI 6 = oI (6 - ((0 : Nat) : Int)))
  have hl : lv_has ls 5 [(3, .int (oI (6 - ((0 : Nat) : Int)))), (0, .ref bt), (1, .ref li9), (2, .int (nI tol))] := xl_eq hl (xl_cons (congrArg (fun x => ((3 : Nat), Value.int x)) e_36) rfl)
  exact hloop29 (7 - 0 + 1) 0 (fun _ _ => 0) f_20 _ _ _ (by omega) hT_26 hkp_23 leP_0 (Nat.lt_succ_self _) hH hS (lv_sub hl [0, 1, 2, 3] rfl)

abbrev rmX2_init : Room := { frames := 2, cells := 7, slots := 60, locals := 80 }
set_option maxHeartbeats 4000000 in
set_option maxRecDepth 100000 in
theorem mX2_init (l : Launch) (G : xG) (A : Nat → Prop) (f : xF) {hu xx : Nat} (hq : f hu = some (xO 100 1 [.null, .null])) : xMet l yX2_init cX2_init 2 none rmX2_init G A f [.ref hu, .ref xx] (fun v f1 => v = none ∧ ∃ (hv : Nat) (ra : Nat → Nat), HU G f1 hu hv xx ra (fun _ _ => 0) ∧ xkeep 100 120 f f1) := by
  refine x_start (by decide) (Nat.le_of_ble_eq_true rfl) ?_
  intro p e s m below meth c ls X hH hS hl
  obtain ⟨hx, hb, hr, hlk, hml, hown, hts, hK, hC, hA, hnm, hmn⟩ := X
  have hl : lv_has ls 2 [(0, .ref hu), (1, .ref xx)] := hl
  refine lv_aload_n hx hb dX2_init_0 rfl (lv_at hl 0 rfl) ?_
  refine lv_aload_n hx hb dX2_init_1 rfl (lv_at hl 1 rfl) ?_
  refine x_putF (C := RX2) (T := TX2) (N := 2) (ci := 1) (v := .ref xx) (ty := (tyX2 1)) hx hb hts in_X2 tyX2_ok nmX2 hown hK hH hS hq rfl 1 (by decide) (hts _ q78) (fun _ h9 => h9) rfl (hnm.trans rfl) rfl (by decide +kernel) rfl rfl (Nat.le_of_ble_eq_true rfl) dX2_init_2 (fun H locs f_1 ef_1 hH hS => ?_)
  have hkp_2 : xkeep 100 120 f f_1 := by rw [ef_1]; exact xkeep.refl.set hq (by decide)
  have h_3 : f_1 hu = some (xO 100 1 [.null, .ref xx]) := by rw [ef_1]; exact xset_eq
  refine lv_aload_n hx hb dX2_init_5 rfl (lv_at hl 0 rfl) ?_
  refine W.objInit hx hb hown (hts _ q73) (hts _ q66) (hts _ q67) rfl (by rw [hml]; exact hl.1) rfl dX2_init_6 (Nat.le_of_ble_eq_true rfl) (Nat.le_of_ble_eq_true rfl) ?_
  refine W.eq (g2 := F0 m 9 ls []) rfl ?_
  refine lv_aload_n hx hb dX2_init_9 rfl (lv_at hl 0 rfl) ?_
  refine lv_bipush (v := nI 6) hx hb dX2_init_10 rfl ?_
  refine lv_bipush (v := nI 9) hx hb dX2_init_12 rfl ?_
  refine x_multi hx hb 101 110 hown (hts _ q74) (hK.use q75 rfl) (hts _ q84) hK hH hS hA (by decide) (by decide) (Nat.le_of_ble_eq_true rfl) (Nat.le_of_ble_eq_true rfl) dX2_init_14 (fun hv ra H f_4 hq_5 hR_6 hk_7 hH hS => ?_)
  have hkp_8 : xkeep 100 120 f f_4 := hkp_2.trans (fun a e ha _ => hk_7 a e ha (Or.inr (Nat.zero_le _)))
  have h_9 : f_4 hu = some (xO 100 1 [.null, .ref xx]) := hk_7 _ _ h_3 (Or.inr (Nat.zero_le _))
  refine x_norm (g2 := F0 m 18 ls [.ref hv, .ref hu]) (k := 7) (n := 60) (Nat.le_refl _) (Nat.le_refl _) rfl ?_
  refine x_putF (C := RX2) (T := TX2) (N := 2) (ci := 1) (v := .ref hv) (ty := (tyX2 0)) hx hb hts in_X2 tyX2_ok nmX2 hown hK hH hS h_9 rfl 0 (by decide) (hts _ q76) (fun _ h9 => h9) rfl (hnm.trans rfl) rfl (by decide +kernel) rfl rfl (Nat.le_of_ble_eq_true rfl) dX2_init_18 (fun H locs f_10 ef_10 hH hS => ?_)
  have h_11 : f_10 hv = some (xR G 3 101 6 (fun k => some (ra k))) := by rw [ef_10, xset_ne (xne hq_5 h_9 (by decide))]; exact hq_5
  have hkp_12 : xkeep 100 120 f f_10 := by rw [ef_10]; exact hkp_8.set h_9 (by decide)
  have hR_13 : ∀ k, k < 6 → f_10 (ra k) = some (xN G (110 + k) 9 (fun _ => 0)) := fun k hk => by rw [ef_10, xset_ne (xne (hR_6 k hk) h_9 (by show 110 + k ≠ 100; omega))]; exact hR_6 k hk
  have h_14 : f_10 hu = some (xO 100 1 [.ref hv, .ref xx]) := by rw [ef_10]; exact xset_eq
  exact x_vret hx hb hr hlk hH hS ⟨rfl, hv, ra, ⟨h_14, h_11, hR_13⟩, hkp_12⟩ (Nat.le_of_ble_eq_true rfl) (Nat.le_of_ble_eq_true rfl) dX2_init_21

abbrev rmX3_init : Room := { frames := 3, cells := 2, slots := 18, locals := 120 }
set_option maxHeartbeats 4000000 in
set_option maxRecDepth 100000 in
theorem mX3_init (l : Launch) (G : xG) (A : Nat → Prop) (f : xF) {ca : Nat} (hq : f ca = some (xO 200 2 [.null, .int (nI 0), .null])) : xMet l yX3_init cX3_init 1 none rmX3_init G A f [.ref ca] (fun v f1 => v = none ∧ ∃ (cw : Nat) (wa : Nat → Nat), CA G f1 ca cw wa 0 (fun _ => 4) (fun _ => 0) ∧ xkeep 200 240 f f1) := by
  refine x_start (by decide) (Nat.le_of_ble_eq_true rfl) ?_
  intro p e s m below meth c ls X hH hS hl
  obtain ⟨hx, hb, hr, hlk, hml, hown, hts, hK, hC, hA, hnm, hmn⟩ := X
  have hl : lv_has ls 1 [(0, .ref ca)] := hl
  refine lv_aload_n hx hb dX3_init_0 rfl (lv_at hl 0 rfl) ?_
  refine W.objInit hx hb hown (hts _ q90) (hts _ q66) (hts _ q67) rfl (by rw [hml]; exact hl.1) rfl dX3_init_1 (Nat.le_of_ble_eq_true rfl) (Nat.le_of_ble_eq_true rfl) ?_
  refine W.eq (g2 := F0 m 4 ls []) rfl ?_
  refine lv_aload_n hx hb dX3_init_4 rfl (lv_at hl 0 rfl) ?_
  refine lv_bipush (v := nI 16) hx hb dX3_init_5 rfl ?_
  refine x_newq hx hb 201 4 hown (hts _ q91) (hK.use q92 rfl) hK rfl hH hS hA rfl (by decide) (Nat.le_of_ble_eq_true rfl) (Nat.le_of_ble_eq_true rfl) dX3_init_7 (fun q_1 H f_2 ef_2 hn_3 hH hS => ?_)
  refine x_norm (g2 := F0 m 10 ls [.ref q_1, .ref ca]) (k := 1) (n := 16) (Nat.le_refl _) (Nat.le_refl _) rfl ?_
  have h_4 : f_2 ca = some (xO 200 2 [.null, .int (nI 0), .null]) := by rw [ef_2, xset_ne (xneN hq hn_3)]; exact hq
  have hkp_5 : xkeep 200 240 f f_2 := by rw [ef_2]; exact xkeep.refl.new hn_3
  have h_6 : f_2 q_1 = some (xR G 4 201 16 (fun _ => none)) := by rw [ef_2]; exact xset_eq
  refine x_putF (C := RX3) (T := TX3) (N := 3) (ci := 2) (v := .ref q_1) (ty := (tyX3 0)) hx hb hts in_X3 tyX3_ok nmX3 hown hK hH hS h_4 rfl 0 (by decide) (hts _ q109) (fun _ h9 => h9) rfl (hnm.trans rfl) rfl (by decide +kernel) rfl rfl (Nat.le_of_ble_eq_true rfl) dX3_init_10 (fun H locs f_7 ef_7 hH hS => ?_)
  have h_8 : f_7 q_1 = some (xR G 4 201 16 (fun _ => none)) := by rw [ef_7, xset_ne (xne h_6 h_4 (by decide))]; exact h_6
  have hkp_9 : xkeep 200 240 f f_7 := by rw [ef_7]; exact hkp_5.set h_4 (by decide)
  have h_10 : f_7 ca = some (xO 200 2 [.ref q_1, .int (nI 0), .null]) := by rw [ef_7]; exact xset_eq
  refine lv_aload_n hx hb dX3_init_13 rfl (lv_at hl 0 rfl) ?_
  refine x_new (C := RX4) (T := TX4) (N := 2) (ci := 3) (fs := [.int (nI 0), .int (nI 0)]) hx hb 226 hts in_X4 tyX4_ok hown (hts _ q91) (hts _ q93) (hts _ q35) hK hH hS hA rfl (fun j hj => by rcases (show j = 0 ∨ j = 1 by omega) with rfl | rfl <;> rfl) (Nat.le_of_ble_eq_true rfl) (Nat.le_of_ble_eq_true rfl) dX3_init_14 (fun q_11 H f_12 ef_12 hn_13 hH hS => ?_)
  refine x_norm (g2 := F0 m 17 ls [.ref q_11, .ref ca]) (k := 2) (n := 18) (Nat.le_refl _) (Nat.le_refl _) rfl ?_
  have h_14 : f_12 q_1 = some (xR G 4 201 16 (fun _ => none)) := by rw [ef_12, xset_ne (xneN h_8 hn_13)]; exact h_8
  have h_15 : f_12 ca = some (xO 200 2 [.ref q_1, .int (nI 0), .null]) := by rw [ef_12, xset_ne (xneN h_10 hn_13)]; exact h_10
  have hkp_16 : xkeep 200 240 f f_12 := by rw [ef_12]; exact hkp_9.new hn_13
  have h_17 : f_12 q_11 = some (xO 226 3 [.int (nI 0), .int (nI 0)]) := by rw [ef_12]; exact xset_eq
  refine lv_dup hx hb dX3_init_17 rfl ?_
  refine lv_iconst (v := nI 4) hx hb dX3_init_18 rfl ?_
  refine lv_iconst (v := nI 0) hx hb dX3_init_19 rfl ?_
  refine x_I (n := 2) (As := [.int (nI 4), .int (nI 0)]) (rest := [.ref q_11, .ref ca]) ⟨hx, hb, hml, hown, hts⟩ hK hC hA hH hS (mX4_init l G A f_12 4 0 h_17) q94 q95 q35 q96 rfl (by decide +kernel) ⟨Nat.le_of_ble_eq_true rfl, Nat.le_of_ble_eq_true rfl⟩ rfl hl.1 rfl (Nat.le_of_ble_eq_true rfl) dX3_init_20 (Nat.le_of_ble_eq_true rfl) (Nat.le_of_ble_eq_true rfl) (fun v f_18 H locs hp hH hS hz => ?_)
  obtain ⟨rfl, hwi⟩ := hp
  obtain ⟨g_19, eg_19⟩ : ∃ g, g = xset f_12 q_11 (xO 226 3 [.int (nI 4), .int (nI 0)]) := ⟨_, rfl⟩
  rw [← eg_19] at hwi
  have h_20 : g_19 q_1 = some (xR G 4 201 16 (fun _ => none)) := by rw [eg_19, xset_ne (xne h_14 h_17 (by decide))]; exact h_14
  have h_21 : g_19 ca = some (xO 200 2 [.ref q_1, .int (nI 0), .null]) := by rw [eg_19, xset_ne (xne h_15 h_17 (by decide))]; exact h_15
  have hkp_22 : xkeep 200 240 f g_19 := by rw [eg_19]; exact hkp_16.set h_17 (by decide)
  have h_23 : g_19 q_11 = some (xO 226 3 [.int (nI 4), .int (nI 0)]) := by rw [eg_19]; exact xset_eq
  have h_24 : f_18 q_1 = some (xR G 4 201 16 (fun _ => none)) := by rw [hwi, xset_ne (xne h_20 h_23 (by decide))]; exact h_20
  have h_25 : f_18 ca = some (xO 200 2 [.ref q_1, .int (nI 0), .null]) := by rw [hwi, xset_ne (xne h_21 h_23 (by decide))]; exact h_21
  have hkp_26 : xkeep 200 240 f f_18 := by rw [hwi]; exact hkp_22.set h_23 (by decide)
  have h_27 : f_18 q_11 = some (xO 226 3 [.int (nI 4), .int (nI 0)]) := by rw [hwi]; exact xset_eq
  refine x_norm (g2 := F0 m 23 ls [.ref q_11, .ref ca]) (k := 2) (n := 18) (Nat.le_refl _) (Nat.le_refl _) rfl ?_
  refine x_putF (C := RX3) (T := TX3) (N := 3) (ci := 2) (v := .ref q_11) (ty := (tyX3 2)) hx hb hts in_X3 tyX3_ok nmX3 hown hK hH hS h_25 rfl 2 (by decide) (hts _ q114) (fun _ h9 => h9) rfl (hnm.trans rfl) rfl (by decide +kernel) rfl rfl (Nat.le_of_ble_eq_true rfl) dX3_init_23 (fun H locs f_28 ef_28 hH hS => ?_)
  have h_29 : f_28 q_1 = some (xR G 4 201 16 (fun _ => none)) := by rw [ef_28, xset_ne (xne h_24 h_25 (by decide))]; exact h_24
  have h_30 : f_28 q_11 = some (xO 226 3 [.int (nI 4), .int (nI 0)]) := by rw [ef_28, xset_ne (xne h_27 h_25 (by decide))]; exact h_27
  have hkp_31 : xkeep 200 240 f f_28 := by rw [ef_28]; exact hkp_26.set h_25 (by decide)
  have h_32 : f_28 ca = some (xO 200 2 [.ref q_1, .int (nI 0), .ref q_11]) := by rw [ef_28]; exact xset_eq
  exact x_vret hx hb hr hlk hH hS ⟨rfl, q_1, (fun _ => q_11), ⟨h_32, by rw [h_29] <;> rfl, fun k hk => by rw [show k = 16 by omega]; exact h_30⟩, hkp_31⟩ (Nat.le_of_ble_eq_true rfl) (Nat.le_of_ble_eq_true rfl) dX3_init_26
