/-! THE MODEL, public methods (printed by genm.py) -/
set_option maxRecDepth 100000
abbrev rmX5_offset : Room := { frames := 3, cells := 0, slots := 0, locals := 120 }
set_option maxHeartbeats 4000000 in
set_option maxRecDepth 100000 in
theorem mX5_offset (l : Launch) (G : xG) (A : Nat → Prop) (f : xF) {mm : Nat} {ad : Nat → Nat} {th nw ln nt sl td la : Nat} {hf sa sw lf cf dd tt bh li : Nat → Nat} (hM : MM G f mm ad th nw ln nt sl td la hf sa sw lf cf dd tt bh li) (hla : la < 2) (z1 z2 z3 : Int) (hz1 : -2147483648 ≤ z1 ∧ z1 ≤ 2147483647) (hz2 : -2147483648 ≤ z2 ∧ z2 ≤ 2147483647) (hz3 : -2147483648 ≤ z3 ∧ z3 ≤ 2147483647) : xMet l yX5_offset cX5_offset 5 (some .int) rmX5_offset G A f [.ref mm, .int (oI z1), .int (oI z2), .int (oI z3)] (fun v f1 => v = some (.int (if cdOff z1 z2 z3 la = 0 then nI (h2 hf z2.toNat z1.toNat) else nI 0)) ∧ MM G f1 mm ad (cdOff z1 z2 z3 la) nw ln nt sl td la (if cdOff z1 z2 z3 la = 0 then va_up hf (9 * z2.toNat + z1.toNat) z3.toNat else hf) sa sw lf cf dd tt bh li ∧ xkeep 1000 1010 f f1) := by
  refine x_start (by decide) (Nat.le_of_ble_eq_true rfl) ?_
  intro p e s m below meth c ls X hH hS hl
  obtain ⟨hx, hb, hr, hlk, hml, hown, hts, hK, hC, hA, hnm, hmn⟩ := X
  have hl : lv_has ls 5 [(0, .ref mm), (1, .int (oI z1)), (2, .int (oI z2)), (3, .int (oI z3))] := hl
  have hkp0 : xkeep 1000 1010 f f := xkeep.refl
  have hj46 : ∀ (cd : Nat) (H : Heap) (locs : List Loc) (ls : Array Slot), cd = cdOff z1 z2 z3 la → xH G A f H → va_S A s.heap H locs → lv_has ls 5 [(0, .ref mm), (1, .int (oI z1)), (2, .int (oI z2)), (3, .int (oI z3))] → W p l e rmX5_offset s m ([.ref mm, .int (oI z1), .int (oI z2), .int (oI z3)] : List Value).toArray below meth c H locs 0 0 (MQ below (xQ G A (fun v f1 => v = some (.int (if cdOff z1 z2 z3 la = 0 then nI (h2 hf z2.toNat z1.toNat) else nI 0)) ∧ MM G f1 mm ad (cdOff z1 z2 z3 la) nw ln nt sl td la (if cdOff z1 z2 z3 la = 0 then va_up hf (9 * z2.toNat + z1.toNat) z3.toNat else hf) sa sw lf cf dd tt bh li ∧ xkeep 1000 1010 f f1)) ([.ref mm, .int (oI z1), .int (oI z2), .int (oI z3)] : List Value).toArray s rmX5_offset.cells rmX5_offset.slots A) (F0 m 46 ls [.int (nI cd), .ref mm]) := by
    intro cd H locs ls hcd hH hS hl
    refine x_put (C := RX5) (T := TX5) (N := 16) (ci := 4) (v := .int (nI cd)) (ty := (tyX5 0)) hx hb hts in_X5 tyX5_ok nmX5 hown hK hH hS hM.1 rfl 0 (by decide) (hts _ q977) (fun _ h9 => h9) rfl (by decide +kernel) rfl rfl (Nat.le_of_ble_eq_true rfl) dX5_offset_46 (fun H locs f_1 ef_1 hH hS => ?_)
    have hM_2 : MM G f_1 mm ad cd nw ln nt sl td la hf sa sw lf cf dd tt bh li := by rw [ef_1]; exact hM.put0 _
    have hkp_3 : xkeep 1000 1010 f f_1 := by rw [ef_1]; exact hkp0.set hM.1 (by decide)
    refine lv_aload_n hx hb dX5_offset_49 rfl (lv_at hl 0 rfl) ?_
    refine x_get (C := RX5) (T := TX5) (N := 16) (ci := 4) (v := .int (nI cd)) hx hb hts in_X5 hown hK hH hM_2.1 rfl 0 (by decide) (hts _ q977) (fun _ h9 => h9) rfl dX5_offset_50 ?_
    refine x_if_le (tgt := 58) (P := cd = 0) hx hb dX5_offset_53 (by decide) (nI_le0 (by rw [hcd]; unfold cdOff; split <;> first | omega | (split <;> first | omega | (split <;> omega)))) (fun c53 => ?_) (fun c53 => ?_)
    · skip
      have h9 : cdOff z1 z2 z3 la = 0 := by rw [← hcd]; exact c53
      have hok := cdOff_0 h9
      have e_4 : oI z1 = nI z1.toNat := oI_nI (by omega)
      have hl : lv_has ls 5 [(0, .ref mm), (1, .int (nI z1.toNat)), (2, .int (oI z2)), (3, .int (oI z3))] := xl_eq hl (xl_cons rfl (xl_cons (congrArg (fun x => ((1 : Nat), Value.int x)) e_4) rfl))
      have e_5 : oI z2 = nI z2.toNat := oI_nI (by omega)
      have hl : lv_has ls 5 [(0, .ref mm), (1, .int (nI z1.toNat)), (2, .int (nI z2.toNat)), (3, .int (oI z3))] := xl_eq hl (xl_cons rfl (xl_cons rfl (xl_cons (congrArg (fun x => ((2 : Nat), Value.int x)) e_5) rfl)))
      have e_6 : oI z3 = nI z3.toNat := oI_nI (by omega)
      have hl : lv_has ls 5 [(0, .ref mm), (1, .int (nI z1.toNat)), (2, .int (nI z2.toNat)), (3, .int (nI z3.toNat))] := xl_eq hl (xl_cons rfl (xl_cons rfl (xl_cons rfl (xl_cons (congrArg (fun x => ((3 : Nat), Value.int x)) e_6) rfl))))
      refine lv_aload_n hx hb dX5_offset_58 rfl (lv_at hl 0 rfl) ?_
      refine lv_iload_n hx hb dX5_offset_59 rfl (lv_at hl 1 rfl) ?_
      refine lv_iload_n hx hb dX5_offset_60 rfl (lv_at hl 2 rfl) ?_
      refine x_V (n := 2) (As := [.int (nI z1.toNat), .int (nI z2.toNat)]) (rest := []) ⟨hx, hb, hml, hown, hts⟩ hK hC hA hH hS (mX5_halfAt l G A f_1 hM_2 z1.toNat z2.toNat (by omega) (by omega)) q1043 q1045 qs12 q38 q1046 (by decide +kernel) ⟨Nat.le_of_ble_eq_true rfl, Nat.le_of_ble_eq_true rfl⟩ hM_2.1 rfl rfl rfl hl.1 rfl (Nat.le_of_ble_eq_true rfl) dX5_offset_61 (Nat.le_of_ble_eq_true rfl) (Nat.le_of_ble_eq_true rfl) (fun v f_7 H locs hp hH hS hz => ?_)
      obtain ⟨rfl, rfl⟩ := hp
      refine x_norm (g2 := F0 m 64 ls [.int (nI (h2 hf z2.toNat z1.toNat))]) (k := 0) (n := 0) (Nat.le_refl _) (Nat.le_refl _) rfl ?_
      refine lv_istore (lv' := [(4, .int (nI (h2 hf z2.toNat z1.toNat))), (0, .ref mm), (1, .int (nI z1.toNat)), (2, .int (nI z2.toNat)), (3, .int (nI z3.toNat))]) hx hb dX5_offset_64 hl (by decide) rfl (fun ls hl => ?_)
      refine lv_aload_n hx hb dX5_offset_66 rfl (lv_at hl 1 rfl) ?_
      refine x_get (C := RX5) (T := TX5) (N := 16) (ci := 4) (v := .ref (ad 0)) hx hb hts in_X5 hown hK hH hM_2.1 rfl 1 (by decide) (hts _ q978) (fun _ h9 => h9) rfl dX5_offset_67 ?_
      refine lv_bipush (v := nI 9) hx hb dX5_offset_70 rfl ?_
      refine lv_iload_n hx hb dX5_offset_72 rfl (lv_at hl 3 rfl) ?_
      refine x_imul (v := nI (9 * z2.toNat)) hx hb (pk_mul _ _) dX5_offset_73 ?_
      refine lv_iload_n hx hb dX5_offset_74 rfl (lv_at hl 2 rfl) ?_
      refine x_iadd (v := nI ((9 * z2.toNat) + z1.toNat)) hx hb (nI_add _ _) dX5_offset_75 ?_
      refine lv_iload_n hx hb dX5_offset_76 rfl (lv_at hl 4 rfl) ?_
      refine x_iast (j := (9 * z2.toNat) + z1.toNat) (v := z3.toNat) hx hb hK hH hS (show f_1 (ad 0) = some (xN G 1001 54 hf) from hM_2.2 0 (by decide)) rfl (by omega) (by decide) rfl dX5_offset_77 (fun H locs f_8 ef_8 hH hS => ?_)
      have hM_9 : MM G f_8 mm ad cd nw ln nt sl td la (va_up hf ((9 * z2.toNat) + z1.toNat) z3.toNat) sa sw lf cf dd tt bh li := by rw [ef_8]; exact hM_2.arr0 _
      have hkp_10 : xkeep 1000 1010 f f_8 := by rw [ef_8]; exact hkp_3.set (hM_2.2 0 (by decide)) (by decide)
      refine lv_iload hx hb dX5_offset_78 (lv_at hl 0 rfl) ?_
      exact x_iret hx hb hr hlk hH hS ⟨by simp only [if_pos h9], by simp only [if_pos h9]; rw [← hcd]; exact hM_9, hkp_10⟩ (Nat.le_of_ble_eq_true rfl) (Nat.le_of_ble_eq_true rfl) dX5_offset_80
    · skip
      have h9 : ¬ cdOff z1 z2 z3 la = 0 := by rw [← hcd]; exact c53
      refine lv_iconst (v := nI 0) hx hb dX5_offset_56 rfl ?_
      exact x_iret hx hb hr hlk hH hS ⟨by simp only [if_neg h9], by simp only [if_neg h9]; rw [← hcd]; exact hM_2, hkp_3⟩ (Nat.le_of_ble_eq_true rfl) (Nat.le_of_ble_eq_true rfl) dX5_offset_57
  refine lv_aload_n hx hb dX5_offset_0 rfl (lv_at hl 0 rfl) ?_
  refine lv_iload_n hx hb dX5_offset_1 rfl (lv_at hl 1 rfl) ?_
  refine x_S (n := 1) (As := [.int (oI z1)]) (rest := [.ref mm]) ⟨hx, hb, hml, hown, hts⟩ hK hC hA hH hS (mX5_isStation l G A f z1 hz1) q1034 q1035 q38 q1036 (by decide +kernel) ⟨Nat.le_of_ble_eq_true rfl, Nat.le_of_ble_eq_true rfl⟩ rfl hl.1 rfl (Nat.le_of_ble_eq_true rfl) dX5_offset_2 (Nat.le_of_ble_eq_true rfl) (Nat.le_of_ble_eq_true rfl) (fun v f_11 H locs hp hH hS hz => ?_)
  obtain ⟨rfl, rfl⟩ := hp
  refine x_norm (g2 := F0 m 5 ls [.int (nI (xb (0 ≤ z1 ∧ z1 ≤ 8))), .ref mm]) (k := 0) (n := 0) (Nat.le_refl _) (Nat.le_refl _) rfl ?_
  refine x_ifbeq (tgt := 15) (B := 0 ≤ z1 ∧ z1 ≤ 8) hx hb dX5_offset_5 (by decide) (fun c5 => ?_) (fun c5 => ?_)
  · skip
    refine lv_iconst (v := nI 1) hx hb dX5_offset_15 rfl ?_
    refine lv_goto (tgt := 46) hx hb dX5_offset_16 (by decide) ?_
    exact hj46 1 _ _ _ (by unfold cdOff; split <;> first | rfl | (exfalso; omega) | (split <;> first | rfl | (exfalso; omega) | (split <;> first | rfl | (exfalso; omega)))) hH hS (lv_sub hl [0, 1, 2, 3] rfl)
  · skip
    refine lv_iload_n hx hb dX5_offset_8 rfl (lv_at hl 2 rfl) ?_
    refine x_S (n := 1) (As := [.int (oI z2)]) (rest := [.ref mm]) ⟨hx, hb, hml, hown, hts⟩ hK hC hA hH hS (mX5_isWaterline l G A f z2 hz2) q1040 q1041 q38 q1042 (by decide +kernel) ⟨Nat.le_of_ble_eq_true rfl, Nat.le_of_ble_eq_true rfl⟩ rfl hl.1 rfl (Nat.le_of_ble_eq_true rfl) dX5_offset_9 (Nat.le_of_ble_eq_true rfl) (Nat.le_of_ble_eq_true rfl) (fun v f_12 H locs hp hH hS hz => ?_)
    obtain ⟨rfl, rfl⟩ := hp
    refine x_norm (g2 := F0 m 12 ls [.int (nI (xb (0 ≤ z2 ∧ z2 ≤ 5))), .ref mm]) (k := 0) (n := 0) (Nat.le_refl _) (Nat.le_refl _) rfl ?_
    refine x_ifbne (tgt := 19) (B := 0 ≤ z2 ∧ z2 ≤ 5) hx hb dX5_offset_12 (by decide) (fun c12 => ?_) (fun c12 => ?_)
    · skip
      refine lv_iload_n hx hb dX5_offset_19 rfl (lv_at hl 3 rfl) ?_
      refine lv_iconst (v := nI 0) hx hb dX5_offset_20 rfl ?_
      refine lv_sipush (v := nI 200) hx hb dX5_offset_21 rfl ?_
      refine x_S (n := 3) (As := [.int (oI z3), .int (nI 0), .int (nI 200)]) (rest := [.ref mm]) ⟨hx, hb, hml, hown, hts⟩ hK hC hA hH hS (mX5_in l G A f _ _ _ z3 ((0 : Nat) : Int) ((200 : Nat) : Int) rfl (nI_oI _) (nI_oI _) hz3 (by decide) (by decide)) q1037 q1038 q38 q1039 (by decide +kernel) ⟨Nat.le_of_ble_eq_true rfl, Nat.le_of_ble_eq_true rfl⟩ rfl hl.1 rfl (Nat.le_of_ble_eq_true rfl) dX5_offset_24 (Nat.le_of_ble_eq_true rfl) (Nat.le_of_ble_eq_true rfl) (fun v f_13 H locs hp hH hS hz => ?_)
      obtain ⟨rfl, rfl⟩ := hp
      refine x_norm (g2 := F0 m 27 ls [.int (nI (xb (((0 : Nat) : Int) ≤ z3 ∧ z3 ≤ ((200 : Nat) : Int)))), .ref mm]) (k := 0) (n := 0) (Nat.le_refl _) (Nat.le_refl _) rfl ?_
      refine x_ifbne (tgt := 34) (B := ((0 : Nat) : Int) ≤ z3 ∧ z3 ≤ ((200 : Nat) : Int)) hx hb dX5_offset_27 (by decide) (fun c27 => ?_) (fun c27 => ?_)
      · skip
        refine lv_aload_n hx hb dX5_offset_34 rfl (lv_at hl 0 rfl) ?_
        refine x_get (C := RX5) (T := TX5) (N := 16) (ci := 4) (v := .int (nI la)) hx hb hts in_X5 hown hK hH hM.1 rfl 13 (by decide) (hts _ q990) (fun _ h9 => h9) rfl dX5_offset_35 ?_
        refine x_if_eq (tgt := 45) (P := la = 0) hx hb dX5_offset_38 (by decide) (nI_eq0 (by omega)) (fun c38 => ?_) (fun c38 => ?_)
        · skip
          refine lv_iconst (v := nI 0) hx hb dX5_offset_45 rfl ?_
          exact hj46 0 _ _ _ (by unfold cdOff; split <;> first | rfl | (exfalso; omega) | (split <;> first | rfl | (exfalso; omega) | (split <;> first | rfl | (exfalso; omega)))) hH hS (lv_sub hl [0, 1, 2, 3] rfl)
        · skip
          refine lv_iconst (v := nI 3) hx hb dX5_offset_41 rfl ?_
          refine lv_goto (tgt := 46) hx hb dX5_offset_42 (by decide) ?_
          exact hj46 3 _ _ _ (by unfold cdOff; split <;> first | rfl | (exfalso; omega) | (split <;> first | rfl | (exfalso; omega) | (split <;> first | rfl | (exfalso; omega)))) hH hS (lv_sub hl [0, 1, 2, 3] rfl)
      · skip
        refine lv_iconst (v := nI 2) hx hb dX5_offset_30 rfl ?_
        refine lv_goto (tgt := 46) hx hb dX5_offset_31 (by decide) ?_
        exact hj46 2 _ _ _ (by unfold cdOff; split <;> first | rfl | (exfalso; omega) | (split <;> first | rfl | (exfalso; omega) | (split <;> first | rfl | (exfalso; omega)))) hH hS (lv_sub hl [0, 1, 2, 3] rfl)
    · skip
      refine lv_iconst (v := nI 1) hx hb dX5_offset_15 rfl ?_
      refine lv_goto (tgt := 46) hx hb dX5_offset_16 (by decide) ?_
      exact hj46 1 _ _ _ (by unfold cdOff; split <;> first | rfl | (exfalso; omega) | (split <;> first | rfl | (exfalso; omega) | (split <;> first | rfl | (exfalso; omega)))) hH hS (lv_sub hl [0, 1, 2, 3] rfl)

abbrev rmX5_half : Room := { frames := 3, cells := 0, slots := 0, locals := 120 }
set_option maxHeartbeats 4000000 in
set_option maxRecDepth 100000 in
theorem mX5_half (l : Launch) (G : xG) (A : Nat → Prop) (f : xF) {mm : Nat} {ad : Nat → Nat} {th nw ln nt sl td la : Nat} {hf sa sw lf cf dd tt bh li : Nat → Nat} (hM : MM G f mm ad th nw ln nt sl td la hf sa sw lf cf dd tt bh li)  (z1 z2 : Int) (hz1 : -2147483648 ≤ z1 ∧ z1 ≤ 2147483647) (hz2 : -2147483648 ≤ z2 ∧ z2 ≤ 2147483647) : xMet l yX5_half cX5_half 3 (some .int) rmX5_half G A f [.ref mm, .int (oI z1), .int (oI z2)] (fun v f1 => v = some (.int (if cdSt z1 z2 = 0 then nI (h2 hf z2.toNat z1.toNat) else nI 0)) ∧ MM G f1 mm ad (cdSt z1 z2) nw ln nt sl td la hf sa sw lf cf dd tt bh li ∧ xkeep 1000 1010 f f1) := by
  refine x_start (by decide) (Nat.le_of_ble_eq_true rfl) ?_
  intro p e s m below meth c ls X hH hS hl
  obtain ⟨hx, hb, hr, hlk, hml, hown, hts, hK, hC, hA, hnm, hmn⟩ := X
  have hl : lv_has ls 3 [(0, .ref mm), (1, .int (oI z1)), (2, .int (oI z2))] := hl
  have hkp0 : xkeep 1000 1010 f f := xkeep.refl
  have hj20 : ∀ (cd : Nat) (H : Heap) (locs : List Loc) (ls : Array Slot), cd = cdSt z1 z2 → xH G A f H → va_S A s.heap H locs → lv_has ls 3 [(0, .ref mm), (1, .int (oI z1)), (2, .int (oI z2))] → W p l e rmX5_half s m ([.ref mm, .int (oI z1), .int (oI z2)] : List Value).toArray below meth c H locs 0 0 (MQ below (xQ G A (fun v f1 => v = some (.int (if cdSt z1 z2 = 0 then nI (h2 hf z2.toNat z1.toNat) else nI 0)) ∧ MM G f1 mm ad (cdSt z1 z2) nw ln nt sl td la hf sa sw lf cf dd tt bh li ∧ xkeep 1000 1010 f f1)) ([.ref mm, .int (oI z1), .int (oI z2)] : List Value).toArray s rmX5_half.cells rmX5_half.slots A) (F0 m 20 ls [.int (nI cd), .ref mm]) := by
    intro cd H locs ls hcd hH hS hl
    refine x_put (C := RX5) (T := TX5) (N := 16) (ci := 4) (v := .int (nI cd)) (ty := (tyX5 0)) hx hb hts in_X5 tyX5_ok nmX5 hown hK hH hS hM.1 rfl 0 (by decide) (hts _ q977) (fun _ h9 => h9) rfl (by decide +kernel) rfl rfl (Nat.le_of_ble_eq_true rfl) dX5_half_20 (fun H locs f_1 ef_1 hH hS => ?_)
    have hM_2 : MM G f_1 mm ad cd nw ln nt sl td la hf sa sw lf cf dd tt bh li := by rw [ef_1]; exact hM.put0 _
    have hkp_3 : xkeep 1000 1010 f f_1 := by rw [ef_1]; exact hkp0.set hM.1 (by decide)
    refine lv_aload_n hx hb dX5_half_23 rfl (lv_at hl 0 rfl) ?_
    refine x_get (C := RX5) (T := TX5) (N := 16) (ci := 4) (v := .int (nI cd)) hx hb hts in_X5 hown hK hH hM_2.1 rfl 0 (by decide) (hts _ q977) (fun _ h9 => h9) rfl dX5_half_24 ?_
    refine x_if_le (tgt := 34) (P := cd = 0) hx hb dX5_half_27 (by decide) (nI_le0 (by rw [hcd]; unfold cdSt; split <;> first | omega | (split <;> first | omega | (split <;> omega)))) (fun c27 => ?_) (fun c27 => ?_)
    · skip
      have h9 : cdSt z1 z2 = 0 := by rw [← hcd]; exact c27
      have hok := cdSt_0 h9
      have e_4 : oI z1 = nI z1.toNat := oI_nI (by omega)
      have hl : lv_has ls 3 [(0, .ref mm), (1, .int (nI z1.toNat)), (2, .int (oI z2))] := xl_eq hl (xl_cons rfl (xl_cons (congrArg (fun x => ((1 : Nat), Value.int x)) e_4) rfl))
      have e_5 : oI z2 = nI z2.toNat := oI_nI (by omega)
      have hl : lv_has ls 3 [(0, .ref mm), (1, .int (nI z1.toNat)), (2, .int (nI z2.toNat))] := xl_eq hl (xl_cons rfl (xl_cons rfl (xl_cons (congrArg (fun x => ((2 : Nat), Value.int x)) e_5) rfl)))
      refine lv_aload_n hx hb dX5_half_34 rfl (lv_at hl 0 rfl) ?_
      refine lv_iload_n hx hb dX5_half_35 rfl (lv_at hl 1 rfl) ?_
      refine lv_iload_n hx hb dX5_half_36 rfl (lv_at hl 2 rfl) ?_
      refine x_V (n := 2) (As := [.int (nI z1.toNat), .int (nI z2.toNat)]) (rest := []) ⟨hx, hb, hml, hown, hts⟩ hK hC hA hH hS (mX5_halfAt l G A f_1 hM_2 z1.toNat z2.toNat (by omega) (by omega)) q1043 q1045 qs12 q38 q1046 (by decide +kernel) ⟨Nat.le_of_ble_eq_true rfl, Nat.le_of_ble_eq_true rfl⟩ hM_2.1 rfl rfl rfl hl.1 rfl (Nat.le_of_ble_eq_true rfl) dX5_half_37 (Nat.le_of_ble_eq_true rfl) (Nat.le_of_ble_eq_true rfl) (fun v f_6 H locs hp hH hS hz => ?_)
      obtain ⟨rfl, rfl⟩ := hp
      refine x_norm (g2 := F0 m 40 ls [.int (nI (h2 hf z2.toNat z1.toNat))]) (k := 0) (n := 0) (Nat.le_refl _) (Nat.le_refl _) rfl ?_
      exact x_iret hx hb hr hlk hH hS ⟨by simp only [if_pos h9], by rw [← hcd]; exact hM_2, hkp_3⟩ (Nat.le_of_ble_eq_true rfl) (Nat.le_of_ble_eq_true rfl) dX5_half_40
    · skip
      have h9 : ¬ cdSt z1 z2 = 0 := by rw [← hcd]; exact c27
      refine lv_iconst (v := nI 0) hx hb dX5_half_30 rfl ?_
      refine lv_goto (tgt := 40) hx hb dX5_half_31 (by decide) ?_
      exact x_iret hx hb hr hlk hH hS ⟨by simp only [if_neg h9], by rw [← hcd]; exact hM_2, hkp_3⟩ (Nat.le_of_ble_eq_true rfl) (Nat.le_of_ble_eq_true rfl) dX5_half_40
  refine lv_aload_n hx hb dX5_half_0 rfl (lv_at hl 0 rfl) ?_
  refine lv_iload_n hx hb dX5_half_1 rfl (lv_at hl 1 rfl) ?_
  refine x_S (n := 1) (As := [.int (oI z1)]) (rest := [.ref mm]) ⟨hx, hb, hml, hown, hts⟩ hK hC hA hH hS (mX5_isStation l G A f z1 hz1) q1034 q1035 q38 q1036 (by decide +kernel) ⟨Nat.le_of_ble_eq_true rfl, Nat.le_of_ble_eq_true rfl⟩ rfl hl.1 rfl (Nat.le_of_ble_eq_true rfl) dX5_half_2 (Nat.le_of_ble_eq_true rfl) (Nat.le_of_ble_eq_true rfl) (fun v f_7 H locs hp hH hS hz => ?_)
  obtain ⟨rfl, rfl⟩ := hp
  refine x_norm (g2 := F0 m 5 ls [.int (nI (xb (0 ≤ z1 ∧ z1 ≤ 8))), .ref mm]) (k := 0) (n := 0) (Nat.le_refl _) (Nat.le_refl _) rfl ?_
  refine x_ifbeq (tgt := 19) (B := 0 ≤ z1 ∧ z1 ≤ 8) hx hb dX5_half_5 (by decide) (fun c5 => ?_) (fun c5 => ?_)
  · skip
    refine lv_iconst (v := nI 1) hx hb dX5_half_19 rfl ?_
    exact hj20 1 _ _ _ (by unfold cdSt; split <;> first | rfl | (exfalso; omega)) hH hS (lv_sub hl [0, 1, 2] rfl)
  · skip
    refine lv_iload_n hx hb dX5_half_8 rfl (lv_at hl 2 rfl) ?_
    refine x_S (n := 1) (As := [.int (oI z2)]) (rest := [.ref mm]) ⟨hx, hb, hml, hown, hts⟩ hK hC hA hH hS (mX5_isWaterline l G A f z2 hz2) q1040 q1041 q38 q1042 (by decide +kernel) ⟨Nat.le_of_ble_eq_true rfl, Nat.le_of_ble_eq_true rfl⟩ rfl hl.1 rfl (Nat.le_of_ble_eq_true rfl) dX5_half_9 (Nat.le_of_ble_eq_true rfl) (Nat.le_of_ble_eq_true rfl) (fun v f_8 H locs hp hH hS hz => ?_)
    obtain ⟨rfl, rfl⟩ := hp
    refine x_norm (g2 := F0 m 12 ls [.int (nI (xb (0 ≤ z2 ∧ z2 ≤ 5))), .ref mm]) (k := 0) (n := 0) (Nat.le_refl _) (Nat.le_refl _) rfl ?_
    refine x_ifbeq (tgt := 19) (B := 0 ≤ z2 ∧ z2 ≤ 5) hx hb dX5_half_12 (by decide) (fun c12 => ?_) (fun c12 => ?_)
    · skip
      refine lv_iconst (v := nI 1) hx hb dX5_half_19 rfl ?_
      exact hj20 1 _ _ _ (by unfold cdSt; split <;> first | rfl | (exfalso; omega)) hH hS (lv_sub hl [0, 1, 2] rfl)
    · skip
      refine lv_iconst (v := nI 0) hx hb dX5_half_15 rfl ?_
      refine lv_goto (tgt := 20) hx hb dX5_half_16 (by decide) ?_
      exact hj20 0 _ _ _ (by unfold cdSt; split <;> first | rfl | (exfalso; omega)) hH hS (lv_sub hl [0, 1, 2] rfl)

abbrev rmX5_bend : Room := { frames := 3, cells := 0, slots := 0, locals := 120 }
set_option maxHeartbeats 4000000 in
set_option maxRecDepth 100000 in
theorem mX5_bend (l : Launch) (G : xG) (A : Nat → Prop) (f : xF) {mm : Nat} {ad : Nat → Nat} {th nw ln nt sl td la : Nat} {hf sa sw lf cf dd tt bh li : Nat → Nat} (hM : MM G f mm ad th nw ln nt sl td la hf sa sw lf cf dd tt bh li)  (z1 : Int) (hz1 : -2147483648 ≤ z1 ∧ z1 ≤ 2147483647) : xMet l yX5_bend cX5_bend 2 (some .int) rmX5_bend G A f [.ref mm, .int (oI z1)] (fun v f1 => v = some (.int (if cdIn z1 0 5 = 0 then oI (bendM hf z1.toNat) else nI 0)) ∧ MM G f1 mm ad (cdIn z1 0 5) nw ln nt sl td la hf sa sw lf cf dd tt bh li ∧ xkeep 1000 1010 f f1) := by
  refine x_start (by decide) (Nat.le_of_ble_eq_true rfl) ?_
  intro p e s m below meth c ls X hH hS hl
  obtain ⟨hx, hb, hr, hlk, hml, hown, hts, hK, hC, hA, hnm, hmn⟩ := X
  have hl : lv_has ls 2 [(0, .ref mm), (1, .int (oI z1))] := hl
  have hkp0 : xkeep 1000 1010 f f := xkeep.refl
  have hj13 : ∀ (cd : Nat) (H : Heap) (locs : List Loc) (ls : Array Slot), cd = cdIn z1 0 5 → xH G A f H → va_S A s.heap H locs → lv_has ls 2 [(0, .ref mm), (1, .int (oI z1))] → W p l e rmX5_bend s m ([.ref mm, .int (oI z1)] : List Value).toArray below meth c H locs 0 0 (MQ below (xQ G A (fun v f1 => v = some (.int (if cdIn z1 0 5 = 0 then oI (bendM hf z1.toNat) else nI 0)) ∧ MM G f1 mm ad (cdIn z1 0 5) nw ln nt sl td la hf sa sw lf cf dd tt bh li ∧ xkeep 1000 1010 f f1)) ([.ref mm, .int (oI z1)] : List Value).toArray s rmX5_bend.cells rmX5_bend.slots A) (F0 m 13 ls [.int (nI cd), .ref mm]) := by
    intro cd H locs ls hcd hH hS hl
    refine x_put (C := RX5) (T := TX5) (N := 16) (ci := 4) (v := .int (nI cd)) (ty := (tyX5 0)) hx hb hts in_X5 tyX5_ok nmX5 hown hK hH hS hM.1 rfl 0 (by decide) (hts _ q977) (fun _ h9 => h9) rfl (by decide +kernel) rfl rfl (Nat.le_of_ble_eq_true rfl) dX5_bend_13 (fun H locs f_1 ef_1 hH hS => ?_)
    have hM_2 : MM G f_1 mm ad cd nw ln nt sl td la hf sa sw lf cf dd tt bh li := by rw [ef_1]; exact hM.put0 _
    have hkp_3 : xkeep 1000 1010 f f_1 := by rw [ef_1]; exact hkp0.set hM.1 (by decide)
    refine lv_aload_n hx hb dX5_bend_16 rfl (lv_at hl 0 rfl) ?_
    refine x_get (C := RX5) (T := TX5) (N := 16) (ci := 4) (v := .int (nI cd)) hx hb hts in_X5 hown hK hH hM_2.1 rfl 0 (by decide) (hts _ q977) (fun _ h9 => h9) rfl dX5_bend_17 ?_
    refine x_if_le (tgt := 27) (P := cd = 0) hx hb dX5_bend_20 (by decide) (nI_le0 (by rw [hcd]; unfold cdIn; split <;> first | omega | (split <;> first | omega | (split <;> omega)))) (fun c20 => ?_) (fun c20 => ?_)
    · skip
      have h9 : cdIn z1 0 5 = 0 := by rw [← hcd]; exact c20
      have hok := cdIn_0 h9
      have e_4 : oI z1 = nI z1.toNat := oI_nI (by omega)
      have hl : lv_has ls 2 [(0, .ref mm), (1, .int (nI z1.toNat))] := xl_eq hl (xl_cons rfl (xl_cons (congrArg (fun x => ((1 : Nat), Value.int x)) e_4) rfl))
      refine lv_aload_n hx hb dX5_bend_27 rfl (lv_at hl 0 rfl) ?_
      refine lv_iload_n hx hb dX5_bend_28 rfl (lv_at hl 1 rfl) ?_
      refine x_V (n := 1) (As := [.int (nI z1.toNat)]) (rest := []) ⟨hx, hb, hml, hown, hts⟩ hK hC hA hH hS (mX5_bendOf l G A f_1 hM_2 z1.toNat (by omega)) q1055 q1057 qs13 q38 q1058 (by decide +kernel) ⟨Nat.le_of_ble_eq_true rfl, Nat.le_of_ble_eq_true rfl⟩ hM_2.1 rfl rfl rfl hl.1 rfl (Nat.le_of_ble_eq_true rfl) dX5_bend_29 (Nat.le_of_ble_eq_true rfl) (Nat.le_of_ble_eq_true rfl) (fun v f_5 H locs hp hH hS hz => ?_)
      obtain ⟨rfl, rfl⟩ := hp
      refine x_norm (g2 := F0 m 32 ls [.int (oI (bendM hf z1.toNat))]) (k := 0) (n := 0) (Nat.le_refl _) (Nat.le_refl _) rfl ?_
      exact x_iret hx hb hr hlk hH hS ⟨by simp only [if_pos h9], by rw [← hcd]; exact hM_2, hkp_3⟩ (Nat.le_of_ble_eq_true rfl) (Nat.le_of_ble_eq_true rfl) dX5_bend_32
    · skip
      have h9 : ¬ cdIn z1 0 5 = 0 := by rw [← hcd]; exact c20
      refine lv_iconst (v := nI 0) hx hb dX5_bend_23 rfl ?_
      refine lv_goto (tgt := 32) hx hb dX5_bend_24 (by decide) ?_
      exact x_iret hx hb hr hlk hH hS ⟨by simp only [if_neg h9], by rw [← hcd]; exact hM_2, hkp_3⟩ (Nat.le_of_ble_eq_true rfl) (Nat.le_of_ble_eq_true rfl) dX5_bend_32
  refine lv_aload_n hx hb dX5_bend_0 rfl (lv_at hl 0 rfl) ?_
  refine lv_iload_n hx hb dX5_bend_1 rfl (lv_at hl 1 rfl) ?_
  refine x_S (n := 1) (As := [.int (oI z1)]) (rest := [.ref mm]) ⟨hx, hb, hml, hown, hts⟩ hK hC hA hH hS (mX5_isWaterline l G A f z1 hz1) q1040 q1041 q38 q1042 (by decide +kernel) ⟨Nat.le_of_ble_eq_true rfl, Nat.le_of_ble_eq_true rfl⟩ rfl hl.1 rfl (Nat.le_of_ble_eq_true rfl) dX5_bend_2 (Nat.le_of_ble_eq_true rfl) (Nat.le_of_ble_eq_true rfl) (fun v f_6 H locs hp hH hS hz => ?_)
  obtain ⟨rfl, rfl⟩ := hp
  refine x_norm (g2 := F0 m 5 ls [.int (nI (xb (0 ≤ z1 ∧ z1 ≤ 5))), .ref mm]) (k := 0) (n := 0) (Nat.le_refl _) (Nat.le_refl _) rfl ?_
  refine x_ifbeq (tgt := 12) (B := 0 ≤ z1 ∧ z1 ≤ 5) hx hb dX5_bend_5 (by decide) (fun c5 => ?_) (fun c5 => ?_)
  · skip
    refine lv_iconst (v := nI 1) hx hb dX5_bend_12 rfl ?_
    exact hj13 1 _ _ _ (by unfold cdIn; split <;> first | rfl | (exfalso; omega)) hH hS (lv_sub hl [0, 1] rfl)
  · skip
    refine lv_iconst (v := nI 0) hx hb dX5_bend_8 rfl ?_
    refine lv_goto (tgt := 13) hx hb dX5_bend_9 (by decide) ?_
    exact hj13 0 _ _ _ (by unfold cdIn; split <;> first | rfl | (exfalso; omega)) hH hS (lv_sub hl [0, 1] rfl)

abbrev rmX5_area : Room := { frames := 3, cells := 0, slots := 0, locals := 120 }
set_option maxHeartbeats 4000000 in
set_option maxRecDepth 100000 in
theorem mX5_area (l : Launch) (G : xG) (A : Nat → Prop) (f : xF) {mm : Nat} {ad : Nat → Nat} {th nw ln nt sl td la : Nat} {hf sa sw lf cf dd tt bh li : Nat → Nat} (hM : MM G f mm ad th nw ln nt sl td la hf sa sw lf cf dd tt bh li)  (z1 z2 : Int) (hz1 : -2147483648 ≤ z1 ∧ z1 ≤ 2147483647) (hz2 : -2147483648 ≤ z2 ∧ z2 ≤ 2147483647) : xMet l yX5_area cX5_area 3 (some .int) rmX5_area G A f [.ref mm, .int (oI z1), .int (oI z2)] (fun v f1 => v = some (.int (if cdSt z1 z2 = 0 then nI (areaN (h2 hf) z1.toNat z2.toNat) else nI 0)) ∧ MM G f1 mm ad (cdSt z1 z2) nw ln nt sl td la hf sa sw lf cf dd tt bh li ∧ xkeep 1000 1010 f f1) := by
  refine x_start (by decide) (Nat.le_of_ble_eq_true rfl) ?_
  intro p e s m below meth c ls X hH hS hl
  obtain ⟨hx, hb, hr, hlk, hml, hown, hts, hK, hC, hA, hnm, hmn⟩ := X
  have hl : lv_has ls 3 [(0, .ref mm), (1, .int (oI z1)), (2, .int (oI z2))] := hl
  have hkp0 : xkeep 1000 1010 f f := xkeep.refl
  have hj20 : ∀ (cd : Nat) (H : Heap) (locs : List Loc) (ls : Array Slot), cd = cdSt z1 z2 → xH G A f H → va_S A s.heap H locs → lv_has ls 3 [(0, .ref mm), (1, .int (oI z1)), (2, .int (oI z2))] → W p l e rmX5_area s m ([.ref mm, .int (oI z1), .int (oI z2)] : List Value).toArray below meth c H locs 0 0 (MQ below (xQ G A (fun v f1 => v = some (.int (if cdSt z1 z2 = 0 then nI (areaN (h2 hf) z1.toNat z2.toNat) else nI 0)) ∧ MM G f1 mm ad (cdSt z1 z2) nw ln nt sl td la hf sa sw lf cf dd tt bh li ∧ xkeep 1000 1010 f f1)) ([.ref mm, .int (oI z1), .int (oI z2)] : List Value).toArray s rmX5_area.cells rmX5_area.slots A) (F0 m 20 ls [.int (nI cd), .ref mm]) := by
    intro cd H locs ls hcd hH hS hl
    refine x_put (C := RX5) (T := TX5) (N := 16) (ci := 4) (v := .int (nI cd)) (ty := (tyX5 0)) hx hb hts in_X5 tyX5_ok nmX5 hown hK hH hS hM.1 rfl 0 (by decide) (hts _ q977) (fun _ h9 => h9) rfl (by decide +kernel) rfl rfl (Nat.le_of_ble_eq_true rfl) dX5_area_20 (fun H locs f_1 ef_1 hH hS => ?_)
    have hM_2 : MM G f_1 mm ad cd nw ln nt sl td la hf sa sw lf cf dd tt bh li := by rw [ef_1]; exact hM.put0 _
    have hkp_3 : xkeep 1000 1010 f f_1 := by rw [ef_1]; exact hkp0.set hM.1 (by decide)
    refine lv_aload_n hx hb dX5_area_23 rfl (lv_at hl 0 rfl) ?_
    refine x_get (C := RX5) (T := TX5) (N := 16) (ci := 4) (v := .int (nI cd)) hx hb hts in_X5 hown hK hH hM_2.1 rfl 0 (by decide) (hts _ q977) (fun _ h9 => h9) rfl dX5_area_24 ?_
    refine x_if_le (tgt := 34) (P := cd = 0) hx hb dX5_area_27 (by decide) (nI_le0 (by rw [hcd]; unfold cdSt; split <;> first | omega | (split <;> first | omega | (split <;> omega)))) (fun c27 => ?_) (fun c27 => ?_)
    · skip
      have h9 : cdSt z1 z2 = 0 := by rw [← hcd]; exact c27
      have hok := cdSt_0 h9
      have e_4 : oI z1 = nI z1.toNat := oI_nI (by omega)
      have hl : lv_has ls 3 [(0, .ref mm), (1, .int (nI z1.toNat)), (2, .int (oI z2))] := xl_eq hl (xl_cons rfl (xl_cons (congrArg (fun x => ((1 : Nat), Value.int x)) e_4) rfl))
      have e_5 : oI z2 = nI z2.toNat := oI_nI (by omega)
      have hl : lv_has ls 3 [(0, .ref mm), (1, .int (nI z1.toNat)), (2, .int (nI z2.toNat))] := xl_eq hl (xl_cons rfl (xl_cons rfl (xl_cons (congrArg (fun x => ((2 : Nat), Value.int x)) e_5) rfl)))
      refine lv_aload_n hx hb dX5_area_34 rfl (lv_at hl 0 rfl) ?_
      refine lv_iload_n hx hb dX5_area_35 rfl (lv_at hl 1 rfl) ?_
      refine lv_iload_n hx hb dX5_area_36 rfl (lv_at hl 2 rfl) ?_
      refine x_V (n := 2) (As := [.int (nI z1.toNat), .int (nI z2.toNat)]) (rest := []) ⟨hx, hb, hml, hown, hts⟩ hK hC hA hH hS (mX5_areaOf l G A f_1 hM_2 z1.toNat z2.toNat (by omega) (by omega)) q1097 q1099 qs19 q38 q1100 (by decide +kernel) ⟨Nat.le_of_ble_eq_true rfl, Nat.le_of_ble_eq_true rfl⟩ hM_2.1 rfl rfl rfl hl.1 rfl (Nat.le_of_ble_eq_true rfl) dX5_area_37 (Nat.le_of_ble_eq_true rfl) (Nat.le_of_ble_eq_true rfl) (fun v f_6 H locs hp hH hS hz => ?_)
      obtain ⟨rfl, rfl⟩ := hp
      refine x_norm (g2 := F0 m 40 ls [.int (nI (areaN (h2 hf) z1.toNat z2.toNat))]) (k := 0) (n := 0) (Nat.le_refl _) (Nat.le_refl _) rfl ?_
      exact x_iret hx hb hr hlk hH hS ⟨by simp only [if_pos h9], by rw [← hcd]; exact hM_2, hkp_3⟩ (Nat.le_of_ble_eq_true rfl) (Nat.le_of_ble_eq_true rfl) dX5_area_40
    · skip
      have h9 : ¬ cdSt z1 z2 = 0 := by rw [← hcd]; exact c27
      refine lv_iconst (v := nI 0) hx hb dX5_area_30 rfl ?_
      refine lv_goto (tgt := 40) hx hb dX5_area_31 (by decide) ?_
      exact x_iret hx hb hr hlk hH hS ⟨by simp only [if_neg h9], by rw [← hcd]; exact hM_2, hkp_3⟩ (Nat.le_of_ble_eq_true rfl) (Nat.le_of_ble_eq_true rfl) dX5_area_40
  refine lv_aload_n hx hb dX5_area_0 rfl (lv_at hl 0 rfl) ?_
  refine lv_iload_n hx hb dX5_area_1 rfl (lv_at hl 1 rfl) ?_
  refine x_S (n := 1) (As := [.int (oI z1)]) (rest := [.ref mm]) ⟨hx, hb, hml, hown, hts⟩ hK hC hA hH hS (mX5_isStation l G A f z1 hz1) q1034 q1035 q38 q1036 (by decide +kernel) ⟨Nat.le_of_ble_eq_true rfl, Nat.le_of_ble_eq_true rfl⟩ rfl hl.1 rfl (Nat.le_of_ble_eq_true rfl) dX5_area_2 (Nat.le_of_ble_eq_true rfl) (Nat.le_of_ble_eq_true rfl) (fun v f_7 H locs hp hH hS hz => ?_)
  obtain ⟨rfl, rfl⟩ := hp
  refine x_norm (g2 := F0 m 5 ls [.int (nI (xb (0 ≤ z1 ∧ z1 ≤ 8))), .ref mm]) (k := 0) (n := 0) (Nat.le_refl _) (Nat.le_refl _) rfl ?_
  refine x_ifbeq (tgt := 19) (B := 0 ≤ z1 ∧ z1 ≤ 8) hx hb dX5_area_5 (by decide) (fun c5 => ?_) (fun c5 => ?_)
  · skip
    refine lv_iconst (v := nI 1) hx hb dX5_area_19 rfl ?_
    exact hj20 1 _ _ _ (by unfold cdSt; split <;> first | rfl | (exfalso; omega)) hH hS (lv_sub hl [0, 1, 2] rfl)
  · skip
    refine lv_iload_n hx hb dX5_area_8 rfl (lv_at hl 2 rfl) ?_
    refine x_S (n := 1) (As := [.int (oI z2)]) (rest := [.ref mm]) ⟨hx, hb, hml, hown, hts⟩ hK hC hA hH hS (mX5_isWaterline l G A f z2 hz2) q1040 q1041 q38 q1042 (by decide +kernel) ⟨Nat.le_of_ble_eq_true rfl, Nat.le_of_ble_eq_true rfl⟩ rfl hl.1 rfl (Nat.le_of_ble_eq_true rfl) dX5_area_9 (Nat.le_of_ble_eq_true rfl) (Nat.le_of_ble_eq_true rfl) (fun v f_8 H locs hp hH hS hz => ?_)
    obtain ⟨rfl, rfl⟩ := hp
    refine x_norm (g2 := F0 m 12 ls [.int (nI (xb (0 ≤ z2 ∧ z2 ≤ 5))), .ref mm]) (k := 0) (n := 0) (Nat.le_refl _) (Nat.le_refl _) rfl ?_
    refine x_ifbeq (tgt := 19) (B := 0 ≤ z2 ∧ z2 ≤ 5) hx hb dX5_area_12 (by decide) (fun c12 => ?_) (fun c12 => ?_)
    · skip
      refine lv_iconst (v := nI 1) hx hb dX5_area_19 rfl ?_
      exact hj20 1 _ _ _ (by unfold cdSt; split <;> first | rfl | (exfalso; omega)) hH hS (lv_sub hl [0, 1, 2] rfl)
    · skip
      refine lv_iconst (v := nI 0) hx hb dX5_area_15 rfl ?_
      refine lv_goto (tgt := 20) hx hb dX5_area_16 (by decide) ?_
      exact hj20 0 _ _ _ (by unfold cdSt; split <;> first | rfl | (exfalso; omega)) hH hS (lv_sub hl [0, 1, 2] rfl)

abbrev rmX5_volume : Room := { frames := 4, cells := 0, slots := 0, locals := 160 }
set_option maxHeartbeats 4000000 in
set_option maxRecDepth 100000 in
theorem mX5_volume (l : Launch) (G : xG) (A : Nat → Prop) (f : xF) {mm : Nat} {ad : Nat → Nat} {th nw ln nt sl td la : Nat} {hf sa sw lf cf dd tt bh li : Nat → Nat} (hM : MM G f mm ad th nw ln nt sl td la hf sa sw lf cf dd tt bh li)  (z1 : Int) (hz1 : -2147483648 ≤ z1 ∧ z1 ≤ 2147483647) : xMet l yX5_volume cX5_volume 2 (some .int) rmX5_volume G A f [.ref mm, .int (oI z1)] (fun v f1 => v = some (.int (if cdIn z1 0 5 = 0 then nI (volN (h2 hf) z1.toNat) else nI 0)) ∧ MM G f1 mm ad (cdIn z1 0 5) nw ln nt sl td la hf sa sw lf cf dd tt bh li ∧ xkeep 1000 1010 f f1) := by
  refine x_start (by decide) (Nat.le_of_ble_eq_true rfl) ?_
  intro p e s m below meth c ls X hH hS hl
  obtain ⟨hx, hb, hr, hlk, hml, hown, hts, hK, hC, hA, hnm, hmn⟩ := X
  have hl : lv_has ls 2 [(0, .ref mm), (1, .int (oI z1))] := hl
  have hkp0 : xkeep 1000 1010 f f := xkeep.refl
  have hj13 : ∀ (cd : Nat) (H : Heap) (locs : List Loc) (ls : Array Slot), cd = cdIn z1 0 5 → xH G A f H → va_S A s.heap H locs → lv_has ls 2 [(0, .ref mm), (1, .int (oI z1))] → W p l e rmX5_volume s m ([.ref mm, .int (oI z1)] : List Value).toArray below meth c H locs 0 0 (MQ below (xQ G A (fun v f1 => v = some (.int (if cdIn z1 0 5 = 0 then nI (volN (h2 hf) z1.toNat) else nI 0)) ∧ MM G f1 mm ad (cdIn z1 0 5) nw ln nt sl td la hf sa sw lf cf dd tt bh li ∧ xkeep 1000 1010 f f1)) ([.ref mm, .int (oI z1)] : List Value).toArray s rmX5_volume.cells rmX5_volume.slots A) (F0 m 13 ls [.int (nI cd), .ref mm]) := by
    intro cd H locs ls hcd hH hS hl
    refine x_put (C := RX5) (T := TX5) (N := 16) (ci := 4) (v := .int (nI cd)) (ty := (tyX5 0)) hx hb hts in_X5 tyX5_ok nmX5 hown hK hH hS hM.1 rfl 0 (by decide) (hts _ q977) (fun _ h9 => h9) rfl (by decide +kernel) rfl rfl (Nat.le_of_ble_eq_true rfl) dX5_volume_13 (fun H locs f_1 ef_1 hH hS => ?_)
    have hM_2 : MM G f_1 mm ad cd nw ln nt sl td la hf sa sw lf cf dd tt bh li := by rw [ef_1]; exact hM.put0 _
    have hkp_3 : xkeep 1000 1010 f f_1 := by rw [ef_1]; exact hkp0.set hM.1 (by decide)
    refine lv_aload_n hx hb dX5_volume_16 rfl (lv_at hl 0 rfl) ?_
    refine x_get (C := RX5) (T := TX5) (N := 16) (ci := 4) (v := .int (nI cd)) hx hb hts in_X5 hown hK hH hM_2.1 rfl 0 (by decide) (hts _ q977) (fun _ h9 => h9) rfl dX5_volume_17 ?_
    refine x_if_le (tgt := 27) (P := cd = 0) hx hb dX5_volume_20 (by decide) (nI_le0 (by rw [hcd]; unfold cdIn; split <;> first | omega | (split <;> first | omega | (split <;> omega)))) (fun c20 => ?_) (fun c20 => ?_)
    · skip
      have h9 : cdIn z1 0 5 = 0 := by rw [← hcd]; exact c20
      have hok := cdIn_0 h9
      have e_4 : oI z1 = nI z1.toNat := oI_nI (by omega)
      have hl : lv_has ls 2 [(0, .ref mm), (1, .int (nI z1.toNat))] := xl_eq hl (xl_cons rfl (xl_cons (congrArg (fun x => ((1 : Nat), Value.int x)) e_4) rfl))
      refine lv_aload_n hx hb dX5_volume_27 rfl (lv_at hl 0 rfl) ?_
      refine lv_iload_n hx hb dX5_volume_28 rfl (lv_at hl 1 rfl) ?_
      refine x_V (n := 1) (As := [.int (nI z1.toNat)]) (rest := []) ⟨hx, hb, hml, hown, hts⟩ hK hC hA hH hS (mX5_volumeOf l G A f_1 hM_2 z1.toNat (by omega)) q1105 q1107 qs20 q38 q1108 (by decide +kernel) ⟨Nat.le_of_ble_eq_true rfl, Nat.le_of_ble_eq_true rfl⟩ hM_2.1 rfl rfl rfl hl.1 rfl (Nat.le_of_ble_eq_true rfl) dX5_volume_29 (Nat.le_of_ble_eq_true rfl) (Nat.le_of_ble_eq_true rfl) (fun v f_5 H locs hp hH hS hz => ?_)
      obtain ⟨rfl, rfl⟩ := hp
      refine x_norm (g2 := F0 m 32 ls [.int (nI (volN (h2 hf) z1.toNat))]) (k := 0) (n := 0) (Nat.le_refl _) (Nat.le_refl _) rfl ?_
      exact x_iret hx hb hr hlk hH hS ⟨by simp only [if_pos h9], by rw [← hcd]; exact hM_2, hkp_3⟩ (Nat.le_of_ble_eq_true rfl) (Nat.le_of_ble_eq_true rfl) dX5_volume_32
    · skip
      have h9 : ¬ cdIn z1 0 5 = 0 := by rw [← hcd]; exact c20
      refine lv_iconst (v := nI 0) hx hb dX5_volume_23 rfl ?_
      refine lv_goto (tgt := 32) hx hb dX5_volume_24 (by decide) ?_
      exact x_iret hx hb hr hlk hH hS ⟨by simp only [if_neg h9], by rw [← hcd]; exact hM_2, hkp_3⟩ (Nat.le_of_ble_eq_true rfl) (Nat.le_of_ble_eq_true rfl) dX5_volume_32
  refine lv_aload_n hx hb dX5_volume_0 rfl (lv_at hl 0 rfl) ?_
  refine lv_iload_n hx hb dX5_volume_1 rfl (lv_at hl 1 rfl) ?_
  refine x_S (n := 1) (As := [.int (oI z1)]) (rest := [.ref mm]) ⟨hx, hb, hml, hown, hts⟩ hK hC hA hH hS (mX5_isWaterline l G A f z1 hz1) q1040 q1041 q38 q1042 (by decide +kernel) ⟨Nat.le_of_ble_eq_true rfl, Nat.le_of_ble_eq_true rfl⟩ rfl hl.1 rfl (Nat.le_of_ble_eq_true rfl) dX5_volume_2 (Nat.le_of_ble_eq_true rfl) (Nat.le_of_ble_eq_true rfl) (fun v f_6 H locs hp hH hS hz => ?_)
  obtain ⟨rfl, rfl⟩ := hp
  refine x_norm (g2 := F0 m 5 ls [.int (nI (xb (0 ≤ z1 ∧ z1 ≤ 5))), .ref mm]) (k := 0) (n := 0) (Nat.le_refl _) (Nat.le_refl _) rfl ?_
  refine x_ifbeq (tgt := 12) (B := 0 ≤ z1 ∧ z1 ≤ 5) hx hb dX5_volume_5 (by decide) (fun c5 => ?_) (fun c5 => ?_)
  · skip
    refine lv_iconst (v := nI 1) hx hb dX5_volume_12 rfl ?_
    exact hj13 1 _ _ _ (by unfold cdIn; split <;> first | rfl | (exfalso; omega)) hH hS (lv_sub hl [0, 1] rfl)
  · skip
    refine lv_iconst (v := nI 0) hx hb dX5_volume_8 rfl ?_
    refine lv_goto (tgt := 13) hx hb dX5_volume_9 (by decide) ?_
    exact hj13 0 _ _ _ (by unfold cdIn; split <;> first | rfl | (exfalso; omega)) hH hS (lv_sub hl [0, 1] rfl)

abbrev rmX5_volumeAnew : Room := { frames := 5, cells := 0, slots := 0, locals := 200 }
set_option maxHeartbeats 4000000 in
set_option maxRecDepth 100000 in
theorem mX5_volumeAnew (l : Launch) (G : xG) (A : Nat → Prop) (f : xF) {mm : Nat} {ad : Nat → Nat} {th nw ln nt sl td la : Nat} {hf sa sw lf cf dd tt bh li : Nat → Nat} (hM : MM G f mm ad th nw ln nt sl td la hf sa sw lf cf dd tt bh li) (z1 : Int) (hz1 : -2147483648 ≤ z1 ∧ z1 ≤ 2147483647) : xMet l yX5_volumeAnew cX5_volumeAnew 2 (some .int) rmX5_volumeAnew G A f [.ref mm, .int (oI z1)] (fun v f1 => v = some (.int (if cdIn z1 0 5 = 0 then nI (volN (h2 hf) z1.toNat) else nI 0)) ∧ MM G f1 mm ad (cdIn z1 0 5) nw ln nt sl td la hf sa sw lf cf dd tt bh li ∧ xkeep 1000 1010 f f1) := by
  refine x_start (by decide) (Nat.le_of_ble_eq_true rfl) ?_
  intro p e s m below meth c ls X hH hS hl
  obtain ⟨hx, hb, hr, hlk, hml, hown, hts, hK, hC, hA, hnm, hmn⟩ := X
  have hl : lv_has ls 2 [(0, .ref mm), (1, .int (oI z1))] := hl
  refine lv_aload_n hx hb dX5_volumeAnew_0 rfl (lv_at hl 0 rfl) ?_
  refine lv_iload_n hx hb dX5_volumeAnew_1 rfl (lv_at hl 1 rfl) ?_
  refine x_V (n := 1) (As := [.int (oI z1)]) (rest := []) ⟨hx, hb, hml, hown, hts⟩ hK hC hA hH hS (mX5_volume l G A f hM z1 hz1) q1113 q1102 q1103 q38 q1104 (by decide +kernel) ⟨Nat.le_of_ble_eq_true rfl, Nat.le_of_ble_eq_true rfl⟩ hM.1 rfl rfl rfl hl.1 rfl (Nat.le_of_ble_eq_true rfl) dX5_volumeAnew_2 (Nat.le_of_ble_eq_true rfl) (Nat.le_of_ble_eq_true rfl) (fun v f_1 H locs hp hH hS hz => ?_)
  obtain ⟨rfl, hM_2, hkp_3⟩ := hp
  refine x_norm (g2 := F0 m 5 ls [.int (if cdIn z1 0 5 = 0 then nI (volN (h2 hf) (z1).toNat) else nI 0)]) (k := 0) (n := 0) (Nat.le_refl _) (Nat.le_refl _) rfl ?_
  exact x_iret hx hb hr hlk hH hS ⟨rfl, hM_2, hkp_3⟩ (Nat.le_of_ble_eq_true rfl) (Nat.le_of_ble_eq_true rfl) dX5_volumeAnew_5

abbrev rmX5_weigh : Room := { frames := 3, cells := 0, slots := 0, locals := 120 }
set_option maxHeartbeats 4000000 in
set_option maxRecDepth 100000 in
theorem mX5_weigh (l : Launch) (G : xG) (A : Nat → Prop) (f : xF) {mm : Nat} {ad : Nat → Nat} {th nw ln nt sl td la : Nat} {hf sa sw lf cf dd tt bh li : Nat → Nat} (hM : MM G f mm ad th nw ln nt sl td la hf sa sw lf cf dd tt bh li) (hnw : nw ≤ 16) (z1 z2 : Int) (hz1 : -2147483648 ≤ z1 ∧ z1 ≤ 2147483647) (hz2 : -2147483648 ≤ z2 ∧ z2 ≤ 2147483647) : xMet l yX5_weigh cX5_weigh 3 (some .int) rmX5_weigh G A f [.ref mm, .int (oI z1), .int (oI z2)] (fun v f1 => v = some (.int (if cdW z1 z2 nw = 0 then nI nw else nI 0)) ∧ MM G f1 mm ad (cdW z1 z2 nw) (if cdW z1 z2 nw = 0 then nw + 1 else nw) ln nt sl td la hf (if cdW z1 z2 nw = 0 then va_up sa nw z1.toNat else sa) (if cdW z1 z2 nw = 0 then va_up sw nw z2.toNat else sw) lf cf dd tt bh li ∧ xkeep 1000 1010 f f1) := by
  refine x_start (by decide) (Nat.le_of_ble_eq_true rfl) ?_
  intro p e s m below meth c ls X hH hS hl
  obtain ⟨hx, hb, hr, hlk, hml, hown, hts, hK, hC, hA, hnm, hmn⟩ := X
  have hl : lv_has ls 3 [(0, .ref mm), (1, .int (oI z1)), (2, .int (oI z2))] := hl
  have hkp0 : xkeep 1000 1010 f f := xkeep.refl
  have hj41 : ∀ (cd : Nat) (H : Heap) (locs : List Loc) (ls : Array Slot), cd = cdW z1 z2 nw → xH G A f H → va_S A s.heap H locs → lv_has ls 3 [(0, .ref mm), (1, .int (oI z1)), (2, .int (oI z2))] → W p l e rmX5_weigh s m ([.ref mm, .int (oI z1), .int (oI z2)] : List Value).toArray below meth c H locs 0 0 (MQ below (xQ G A (fun v f1 => v = some (.int (if cdW z1 z2 nw = 0 then nI nw else nI 0)) ∧ MM G f1 mm ad (cdW z1 z2 nw) (if cdW z1 z2 nw = 0 then nw + 1 else nw) ln nt sl td la hf (if cdW z1 z2 nw = 0 then va_up sa nw z1.toNat else sa) (if cdW z1 z2 nw = 0 then va_up sw nw z2.toNat else sw) lf cf dd tt bh li ∧ xkeep 1000 1010 f f1)) ([.ref mm, .int (oI z1), .int (oI z2)] : List Value).toArray s rmX5_weigh.cells rmX5_weigh.slots A) (F0 m 41 ls [.int (nI cd), .ref mm]) := by
    intro cd H locs ls hcd hH hS hl
    refine x_put (C := RX5) (T := TX5) (N := 16) (ci := 4) (v := .int (nI cd)) (ty := (tyX5 0)) hx hb hts in_X5 tyX5_ok nmX5 hown hK hH hS hM.1 rfl 0 (by decide) (hts _ q977) (fun _ h9 => h9) rfl (by decide +kernel) rfl rfl (Nat.le_of_ble_eq_true rfl) dX5_weigh_41 (fun H locs f_1 ef_1 hH hS => ?_)
    have hM_2 : MM G f_1 mm ad cd nw ln nt sl td la hf sa sw lf cf dd tt bh li := by rw [ef_1]; exact hM.put0 _
    have hkp_3 : xkeep 1000 1010 f f_1 := by rw [ef_1]; exact hkp0.set hM.1 (by decide)
    refine lv_aload_n hx hb dX5_weigh_44 rfl (lv_at hl 0 rfl) ?_
    refine x_get (C := RX5) (T := TX5) (N := 16) (ci := 4) (v := .int (nI cd)) hx hb hts in_X5 hown hK hH hM_2.1 rfl 0 (by decide) (hts _ q977) (fun _ h9 => h9) rfl dX5_weigh_45 ?_
    refine x_if_le (tgt := 53) (P := cd = 0) hx hb dX5_weigh_48 (by decide) (nI_le0 (by rw [hcd]; unfold cdW; split <;> first | omega | (split <;> first | omega | (split <;> omega)))) (fun c48 => ?_) (fun c48 => ?_)
    · skip
      have h9 : cdW z1 z2 nw = 0 := by rw [← hcd]; exact c48
      have hok := cdW_0 h9
      have e_4 : oI z1 = nI z1.toNat := oI_nI (by omega)
      have hl : lv_has ls 3 [(0, .ref mm), (1, .int (nI z1.toNat)), (2, .int (oI z2))] := xl_eq hl (xl_cons rfl (xl_cons (congrArg (fun x => ((1 : Nat), Value.int x)) e_4) rfl))
      have e_5 : oI z2 = nI z2.toNat := oI_nI (by omega)
      have hl : lv_has ls 3 [(0, .ref mm), (1, .int (nI z1.toNat)), (2, .int (nI z2.toNat))] := xl_eq hl (xl_cons rfl (xl_cons rfl (xl_cons (congrArg (fun x => ((2 : Nat), Value.int x)) e_5) rfl)))
      refine lv_aload_n hx hb dX5_weigh_53 rfl (lv_at hl 0 rfl) ?_
      refine x_get (C := RX5) (T := TX5) (N := 16) (ci := 4) (v := .ref (ad 1)) hx hb hts in_X5 hown hK hH hM_2.1 rfl 3 (by decide) (hts _ q980) (fun _ h9 => h9) rfl dX5_weigh_54 ?_
      refine lv_aload_n hx hb dX5_weigh_57 rfl (lv_at hl 0 rfl) ?_
      refine x_get (C := RX5) (T := TX5) (N := 16) (ci := 4) (v := .int (nI nw)) hx hb hts in_X5 hown hK hH hM_2.1 rfl 2 (by decide) (hts _ q979) (fun _ h9 => h9) rfl dX5_weigh_58 ?_
      refine lv_iload_n hx hb dX5_weigh_61 rfl (lv_at hl 1 rfl) ?_
      refine x_iast (j := nw) (v := z1.toNat) hx hb hK hH hS (show f_1 (ad 1) = some (xN G 1002 17 sa) from hM_2.2 1 (by decide)) rfl (by omega) (by decide) rfl dX5_weigh_62 (fun H locs f_6 ef_6 hH hS => ?_)
      have hM_7 : MM G f_6 mm ad cd nw ln nt sl td la hf (va_up sa nw z1.toNat) sw lf cf dd tt bh li := by rw [ef_6]; exact hM_2.arr1 _
      have hkp_8 : xkeep 1000 1010 f f_6 := by rw [ef_6]; exact hkp_3.set (hM_2.2 1 (by decide)) (by decide)
      refine lv_aload_n hx hb dX5_weigh_63 rfl (lv_at hl 0 rfl) ?_
      refine x_get (C := RX5) (T := TX5) (N := 16) (ci := 4) (v := .ref (ad 2)) hx hb hts in_X5 hown hK hH hM_7.1 rfl 4 (by decide) (hts _ q981) (fun _ h9 => h9) rfl dX5_weigh_64 ?_
      refine lv_aload_n hx hb dX5_weigh_67 rfl (lv_at hl 0 rfl) ?_
      refine x_get (C := RX5) (T := TX5) (N := 16) (ci := 4) (v := .int (nI nw)) hx hb hts in_X5 hown hK hH hM_7.1 rfl 2 (by decide) (hts _ q979) (fun _ h9 => h9) rfl dX5_weigh_68 ?_
      refine lv_iload_n hx hb dX5_weigh_71 rfl (lv_at hl 2 rfl) ?_
      refine x_iast (j := nw) (v := z2.toNat) hx hb hK hH hS (show f_6 (ad 2) = some (xN G 1003 17 sw) from hM_7.2 2 (by decide)) rfl (by omega) (by decide) rfl dX5_weigh_72 (fun H locs f_9 ef_9 hH hS => ?_)
      have hM_10 : MM G f_9 mm ad cd nw ln nt sl td la hf (va_up sa nw z1.toNat) (va_up sw nw z2.toNat) lf cf dd tt bh li := by rw [ef_9]; exact hM_7.arr2 _
      have hkp_11 : xkeep 1000 1010 f f_9 := by rw [ef_9]; exact hkp_8.set (hM_7.2 2 (by decide)) (by decide)
      refine lv_aload_n hx hb dX5_weigh_73 rfl (lv_at hl 0 rfl) ?_
      refine lv_dup hx hb dX5_weigh_74 rfl ?_
      refine x_get (C := RX5) (T := TX5) (N := 16) (ci := 4) (v := .int (nI nw)) hx hb hts in_X5 hown hK hH hM_10.1 rfl 2 (by decide) (hts _ q979) (fun _ h9 => h9) rfl dX5_weigh_75 ?_
      refine lv_iconst (v := nI 1) hx hb dX5_weigh_78 rfl ?_
      refine x_iadd (v := nI (nw + 1)) hx hb (nI_add _ _) dX5_weigh_79 ?_
      refine x_put (C := RX5) (T := TX5) (N := 16) (ci := 4) (v := .int (nI (nw + 1))) (ty := (tyX5 2)) hx hb hts in_X5 tyX5_ok nmX5 hown hK hH hS hM_10.1 rfl 2 (by decide) (hts _ q979) (fun _ h9 => h9) rfl (by decide +kernel) rfl rfl (Nat.le_of_ble_eq_true rfl) dX5_weigh_80 (fun H locs f_12 ef_12 hH hS => ?_)
      have hM_13 : MM G f_12 mm ad cd (nw + 1) ln nt sl td la hf (va_up sa nw z1.toNat) (va_up sw nw z2.toNat) lf cf dd tt bh li := by rw [ef_12]; exact hM_10.put1 _
      have hkp_14 : xkeep 1000 1010 f f_12 := by rw [ef_12]; exact hkp_11.set hM_10.1 (by decide)
      refine lv_aload_n hx hb dX5_weigh_83 rfl (lv_at hl 0 rfl) ?_
      refine x_get (C := RX5) (T := TX5) (N := 16) (ci := 4) (v := .int (nI (nw + 1))) hx hb hts in_X5 hown hK hH hM_13.1 rfl 2 (by decide) (hts _ q979) (fun _ h9 => h9) rfl dX5_weigh_84 ?_
      refine lv_iconst (v := nI 1) hx hb dX5_weigh_87 rfl ?_
      refine x_isub (v := nI ((nw + 1) - 1)) hx hb (pk_sub (by omega)) dX5_weigh_88 ?_
      exact x_iret hx hb hr hlk hH hS ⟨by simp only [if_pos h9] <;> rfl, by simp only [if_pos h9]; rw [← hcd]; exact hM_13, hkp_14⟩ (Nat.le_of_ble_eq_true rfl) (Nat.le_of_ble_eq_true rfl) dX5_weigh_89
    · skip
      have h9 : ¬ cdW z1 z2 nw = 0 := by rw [← hcd]; exact c48
      refine lv_iconst (v := nI 0) hx hb dX5_weigh_51 rfl ?_
      exact x_iret hx hb hr hlk hH hS ⟨by simp only [if_neg h9], by simp only [if_neg h9]; rw [← hcd]; exact hM_2, hkp_3⟩ (Nat.le_of_ble_eq_true rfl) (Nat.le_of_ble_eq_true rfl) dX5_weigh_52
  refine lv_aload_n hx hb dX5_weigh_0 rfl (lv_at hl 0 rfl) ?_
  refine lv_iload_n hx hb dX5_weigh_1 rfl (lv_at hl 1 rfl) ?_
  refine x_S (n := 1) (As := [.int (oI z1)]) (rest := [.ref mm]) ⟨hx, hb, hml, hown, hts⟩ hK hC hA hH hS (mX5_isStation l G A f z1 hz1) q1034 q1035 q38 q1036 (by decide +kernel) ⟨Nat.le_of_ble_eq_true rfl, Nat.le_of_ble_eq_true rfl⟩ rfl hl.1 rfl (Nat.le_of_ble_eq_true rfl) dX5_weigh_2 (Nat.le_of_ble_eq_true rfl) (Nat.le_of_ble_eq_true rfl) (fun v f_15 H locs hp hH hS hz => ?_)
  obtain ⟨rfl, rfl⟩ := hp
  refine x_norm (g2 := F0 m 5 ls [.int (nI (xb (0 ≤ z1 ∧ z1 ≤ 8))), .ref mm]) (k := 0) (n := 0) (Nat.le_refl _) (Nat.le_refl _) rfl ?_
  refine x_ifbne (tgt := 12) (B := 0 ≤ z1 ∧ z1 ≤ 8) hx hb dX5_weigh_5 (by decide) (fun c5 => ?_) (fun c5 => ?_)
  · skip
    refine lv_iload_n hx hb dX5_weigh_12 rfl (lv_at hl 2 rfl) ?_
    refine lv_iconst (v := nI 0) hx hb dX5_weigh_13 rfl ?_
    refine lv_sipush (v := nI 999) hx hb dX5_weigh_14 rfl ?_
    refine x_S (n := 3) (As := [.int (oI z2), .int (nI 0), .int (nI 999)]) (rest := [.ref mm]) ⟨hx, hb, hml, hown, hts⟩ hK hC hA hH hS (mX5_in l G A f _ _ _ z2 ((0 : Nat) : Int) ((999 : Nat) : Int) rfl (nI_oI _) (nI_oI _) hz2 (by decide) (by decide)) q1037 q1038 q38 q1039 (by decide +kernel) ⟨Nat.le_of_ble_eq_true rfl, Nat.le_of_ble_eq_true rfl⟩ rfl hl.1 rfl (Nat.le_of_ble_eq_true rfl) dX5_weigh_17 (Nat.le_of_ble_eq_true rfl) (Nat.le_of_ble_eq_true rfl) (fun v f_16 H locs hp hH hS hz => ?_)
    obtain ⟨rfl, rfl⟩ := hp
    refine x_norm (g2 := F0 m 20 ls [.int (nI (xb (((0 : Nat) : Int) ≤ z2 ∧ z2 ≤ ((999 : Nat) : Int)))), .ref mm]) (k := 0) (n := 0) (Nat.le_refl _) (Nat.le_refl _) rfl ?_
    refine x_ifbne (tgt := 27) (B := ((0 : Nat) : Int) ≤ z2 ∧ z2 ≤ ((999 : Nat) : Int)) hx hb dX5_weigh_20 (by decide) (fun c20 => ?_) (fun c20 => ?_)
    · skip
      refine lv_aload_n hx hb dX5_weigh_27 rfl (lv_at hl 0 rfl) ?_
      refine x_get (C := RX5) (T := TX5) (N := 16) (ci := 4) (v := .int (nI nw)) hx hb hts in_X5 hown hK hH hM.1 rfl 2 (by decide) (hts _ q979) (fun _ h9 => h9) rfl dX5_weigh_28 ?_
      refine lv_bipush (v := nI 16) hx hb dX5_weigh_31 rfl ?_
      refine x_icmp_ne (tgt := 40) (P := nw = 16) hx hb dX5_weigh_33 (by decide) (nI_eq' (by omega) (by decide)) (fun c33 => ?_) (fun c33 => ?_)
      · skip
        refine lv_iconst (v := nI 0) hx hb dX5_weigh_40 rfl ?_
        exact hj41 0 _ _ _ (by unfold cdW; split <;> first | rfl | (exfalso; omega) | (split <;> first | rfl | (exfalso; omega) | (split <;> first | rfl | (exfalso; omega)))) hH hS (lv_sub hl [0, 1, 2] rfl)
      · skip
        refine lv_iconst (v := nI 3) hx hb dX5_weigh_36 rfl ?_
        refine lv_goto (tgt := 41) hx hb dX5_weigh_37 (by decide) ?_
        exact hj41 3 _ _ _ (by unfold cdW; split <;> first | rfl | (exfalso; omega) | (split <;> first | rfl | (exfalso; omega) | (split <;> first | rfl | (exfalso; omega)))) hH hS (lv_sub hl [0, 1, 2] rfl)
    · skip
      refine lv_iconst (v := nI 2) hx hb dX5_weigh_23 rfl ?_
      refine lv_goto (tgt := 41) hx hb dX5_weigh_24 (by decide) ?_
      exact hj41 2 _ _ _ (by unfold cdW; split <;> first | rfl | (exfalso; omega) | (split <;> first | rfl | (exfalso; omega) | (split <;> first | rfl | (exfalso; omega)))) hH hS (lv_sub hl [0, 1, 2] rfl)
  · skip
    refine lv_iconst (v := nI 1) hx hb dX5_weigh_8 rfl ?_
    refine lv_goto (tgt := 41) hx hb dX5_weigh_9 (by decide) ?_
    exact hj41 1 _ _ _ (by unfold cdW; split <;> first | rfl | (exfalso; omega) | (split <;> first | rfl | (exfalso; omega) | (split <;> first | rfl | (exfalso; omega)))) hH hS (lv_sub hl [0, 1, 2] rfl)

abbrev rmX5_change : Room := { frames := 3, cells := 0, slots := 0, locals := 120 }
set_option maxHeartbeats 4000000 in
set_option maxRecDepth 100000 in
theorem mX5_change (l : Launch) (G : xG) (A : Nat → Prop) (f : xF) {mm : Nat} {ad : Nat → Nat} {th nw ln nt sl td la : Nat} {hf sa sw lf cf dd tt bh li : Nat → Nat} (hM : MM G f mm ad th nw ln nt sl td la hf sa sw lf cf dd tt bh li) (hnw : nw ≤ 16) (z1 z2 z3 : Int) (hz1 : -2147483648 ≤ z1 ∧ z1 ≤ 2147483647) (hz2 : -2147483648 ≤ z2 ∧ z2 ≤ 2147483647) (hz3 : -2147483648 ≤ z3 ∧ z3 ≤ 2147483647) : xMet l yX5_change cX5_change 5 (some .int) rmX5_change G A f [.ref mm, .int (oI z1), .int (oI z2), .int (oI z3)] (fun v f1 => v = some (.int (if cdC z1 z2 z3 nw = 0 then nI (10 * sw z1.toNat + sa z1.toNat) else nI 0)) ∧ MM G f1 mm ad (cdC z1 z2 z3 nw) nw ln nt sl td la hf (if cdC z1 z2 z3 nw = 0 then va_up sa z1.toNat z2.toNat else sa) (if cdC z1 z2 z3 nw = 0 then va_up sw z1.toNat z3.toNat else sw) lf cf dd tt bh li ∧ xkeep 1000 1010 f f1) := by
  refine x_start (by decide) (Nat.le_of_ble_eq_true rfl) ?_
  intro p e s m below meth c ls X hH hS hl
  obtain ⟨hx, hb, hr, hlk, hml, hown, hts, hK, hC, hA, hnm, hmn⟩ := X
  have hl : lv_has ls 5 [(0, .ref mm), (1, .int (oI z1)), (2, .int (oI z2)), (3, .int (oI z3))] := hl
  have hkp0 : xkeep 1000 1010 f f := xkeep.refl
  have hj42 : ∀ (cd : Nat) (H : Heap) (locs : List Loc) (ls : Array Slot), cd = cdC z1 z2 z3 nw → xH G A f H → va_S A s.heap H locs → lv_has ls 5 [(0, .ref mm), (1, .int (oI z1)), (2, .int (oI z2)), (3, .int (oI z3))] → W p l e rmX5_change s m ([.ref mm, .int (oI z1), .int (oI z2), .int (oI z3)] : List Value).toArray below meth c H locs 0 0 (MQ below (xQ G A (fun v f1 => v = some (.int (if cdC z1 z2 z3 nw = 0 then nI (10 * sw z1.toNat + sa z1.toNat) else nI 0)) ∧ MM G f1 mm ad (cdC z1 z2 z3 nw) nw ln nt sl td la hf (if cdC z1 z2 z3 nw = 0 then va_up sa z1.toNat z2.toNat else sa) (if cdC z1 z2 z3 nw = 0 then va_up sw z1.toNat z3.toNat else sw) lf cf dd tt bh li ∧ xkeep 1000 1010 f f1)) ([.ref mm, .int (oI z1), .int (oI z2), .int (oI z3)] : List Value).toArray s rmX5_change.cells rmX5_change.slots A) (F0 m 42 ls [.int (nI cd), .ref mm]) := by
    intro cd H locs ls hcd hH hS hl
    refine x_put (C := RX5) (T := TX5) (N := 16) (ci := 4) (v := .int (nI cd)) (ty := (tyX5 0)) hx hb hts in_X5 tyX5_ok nmX5 hown hK hH hS hM.1 rfl 0 (by decide) (hts _ q977) (fun _ h9 => h9) rfl (by decide +kernel) rfl rfl (Nat.le_of_ble_eq_true rfl) dX5_change_42 (fun H locs f_1 ef_1 hH hS => ?_)
    have hM_2 : MM G f_1 mm ad cd nw ln nt sl td la hf sa sw lf cf dd tt bh li := by rw [ef_1]; exact hM.put0 _
    have hkp_3 : xkeep 1000 1010 f f_1 := by rw [ef_1]; exact hkp0.set hM.1 (by decide)
    refine lv_aload_n hx hb dX5_change_45 rfl (lv_at hl 0 rfl) ?_
    refine x_get (C := RX5) (T := TX5) (N := 16) (ci := 4) (v := .int (nI cd)) hx hb hts in_X5 hown hK hH hM_2.1 rfl 0 (by decide) (hts _ q977) (fun _ h9 => h9) rfl dX5_change_46 ?_
    refine x_if_le (tgt := 54) (P := cd = 0) hx hb dX5_change_49 (by decide) (nI_le0 (by rw [hcd]; unfold cdC; split <;> first | omega | (split <;> first | omega | (split <;> omega)))) (fun c49 => ?_) (fun c49 => ?_)
    · skip
      have h9 : cdC z1 z2 z3 nw = 0 := by rw [← hcd]; exact c49
      have hok := cdC_0 h9
      have e_4 : oI z1 = nI z1.toNat := oI_nI (by omega)
      have hl : lv_has ls 5 [(0, .ref mm), (1, .int (nI z1.toNat)), (2, .int (oI z2)), (3, .int (oI z3))] := xl_eq hl (xl_cons rfl (xl_cons (congrArg (fun x => ((1 : Nat), Value.int x)) e_4) rfl))
      have e_5 : oI z2 = nI z2.toNat := oI_nI (by omega)
      have hl : lv_has ls 5 [(0, .ref mm), (1, .int (nI z1.toNat)), (2, .int (nI z2.toNat)), (3, .int (oI z3))] := xl_eq hl (xl_cons rfl (xl_cons rfl (xl_cons (congrArg (fun x => ((2 : Nat), Value.int x)) e_5) rfl)))
      have e_6 : oI z3 = nI z3.toNat := oI_nI (by omega)
      have hl : lv_has ls 5 [(0, .ref mm), (1, .int (nI z1.toNat)), (2, .int (nI z2.toNat)), (3, .int (nI z3.toNat))] := xl_eq hl (xl_cons rfl (xl_cons rfl (xl_cons rfl (xl_cons (congrArg (fun x => ((3 : Nat), Value.int x)) e_6) rfl))))
      refine lv_bipush (v := nI 10) hx hb dX5_change_54 rfl ?_
      refine lv_aload_n hx hb dX5_change_56 rfl (lv_at hl 0 rfl) ?_
      refine x_get (C := RX5) (T := TX5) (N := 16) (ci := 4) (v := .ref (ad 2)) hx hb hts in_X5 hown hK hH hM_2.1 rfl 4 (by decide) (hts _ q981) (fun _ h9 => h9) rfl dX5_change_57 ?_
      refine lv_iload_n hx hb dX5_change_60 rfl (lv_at hl 1 rfl) ?_
      refine x_iald (j := z1.toNat) hx hb hK hH (show f_1 (ad 2) = some (xN G 1003 17 sw) from hM_2.2 2 (by decide)) rfl (by omega) (by decide) dX5_change_61 ?_
      refine x_imul (v := nI (10 * (sw z1.toNat))) hx hb (pk_mul _ _) dX5_change_62 ?_
      refine lv_aload_n hx hb dX5_change_63 rfl (lv_at hl 0 rfl) ?_
      refine x_get (C := RX5) (T := TX5) (N := 16) (ci := 4) (v := .ref (ad 1)) hx hb hts in_X5 hown hK hH hM_2.1 rfl 3 (by decide) (hts _ q980) (fun _ h9 => h9) rfl dX5_change_64 ?_
      refine lv_iload_n hx hb dX5_change_67 rfl (lv_at hl 1 rfl) ?_
      refine x_iald (j := z1.toNat) hx hb hK hH (show f_1 (ad 1) = some (xN G 1002 17 sa) from hM_2.2 1 (by decide)) rfl (by omega) (by decide) dX5_change_68 ?_
      refine x_iadd (v := nI ((10 * (sw z1.toNat)) + (sa z1.toNat))) hx hb (nI_add _ _) dX5_change_69 ?_
      refine lv_istore (lv' := [(4, .int (nI ((10 * (sw z1.toNat)) + (sa z1.toNat)))), (0, .ref mm), (1, .int (nI z1.toNat)), (2, .int (nI z2.toNat)), (3, .int (nI z3.toNat))]) hx hb dX5_change_70 hl (by decide) rfl (fun ls hl => ?_)
      refine lv_aload_n hx hb dX5_change_72 rfl (lv_at hl 1 rfl) ?_
      refine x_get (C := RX5) (T := TX5) (N := 16) (ci := 4) (v := .ref (ad 1)) hx hb hts in_X5 hown hK hH hM_2.1 rfl 3 (by decide) (hts _ q980) (fun _ h9 => h9) rfl dX5_change_73 ?_
      refine lv_iload_n hx hb dX5_change_76 rfl (lv_at hl 2 rfl) ?_
      refine lv_iload_n hx hb dX5_change_77 rfl (lv_at hl 3 rfl) ?_
      refine x_iast (j := z1.toNat) (v := z2.toNat) hx hb hK hH hS (show f_1 (ad 1) = some (xN G 1002 17 sa) from hM_2.2 1 (by decide)) rfl (by omega) (by decide) rfl dX5_change_78 (fun H locs f_7 ef_7 hH hS => ?_)
      have hM_8 : MM G f_7 mm ad cd nw ln nt sl td la hf (va_up sa z1.toNat z2.toNat) sw lf cf dd tt bh li := by rw [ef_7]; exact hM_2.arr1 _
      have hkp_9 : xkeep 1000 1010 f f_7 := by rw [ef_7]; exact hkp_3.set (hM_2.2 1 (by decide)) (by decide)
      refine lv_aload_n hx hb dX5_change_79 rfl (lv_at hl 1 rfl) ?_
      refine x_get (C := RX5) (T := TX5) (N := 16) (ci := 4) (v := .ref (ad 2)) hx hb hts in_X5 hown hK hH hM_8.1 rfl 4 (by decide) (hts _ q981) (fun _ h9 => h9) rfl dX5_change_80 ?_
      refine lv_iload_n hx hb dX5_change_83 rfl (lv_at hl 2 rfl) ?_
      refine lv_iload_n hx hb dX5_change_84 rfl (lv_at hl 4 rfl) ?_
      refine x_iast (j := z1.toNat) (v := z3.toNat) hx hb hK hH hS (show f_7 (ad 2) = some (xN G 1003 17 sw) from hM_8.2 2 (by decide)) rfl (by omega) (by decide) rfl dX5_change_85 (fun H locs f_10 ef_10 hH hS => ?_)
      have hM_11 : MM G f_10 mm ad cd nw ln nt sl td la hf (va_up sa z1.toNat z2.toNat) (va_up sw z1.toNat z3.toNat) lf cf dd tt bh li := by rw [ef_10]; exact hM_8.arr2 _
      have hkp_12 : xkeep 1000 1010 f f_10 := by rw [ef_10]; exact hkp_9.set (hM_8.2 2 (by decide)) (by decide)
      refine lv_iload hx hb dX5_change_86 (lv_at hl 0 rfl) ?_
      exact x_iret hx hb hr hlk hH hS ⟨by simp only [if_pos h9], by simp only [if_pos h9]; rw [← hcd]; exact hM_11, hkp_12⟩ (Nat.le_of_ble_eq_true rfl) (Nat.le_of_ble_eq_true rfl) dX5_change_88
    · skip
      have h9 : ¬ cdC z1 z2 z3 nw = 0 := by rw [← hcd]; exact c49
      refine lv_iconst (v := nI 0) hx hb dX5_change_52 rfl ?_
      exact x_iret hx hb hr hlk hH hS ⟨by simp only [if_neg h9], by simp only [if_neg h9]; rw [← hcd]; exact hM_2, hkp_3⟩ (Nat.le_of_ble_eq_true rfl) (Nat.le_of_ble_eq_true rfl) dX5_change_53
  refine lv_aload_n hx hb dX5_change_0 rfl (lv_at hl 0 rfl) ?_
  refine lv_iload_n hx hb dX5_change_1 rfl (lv_at hl 1 rfl) ?_
  refine lv_iconst (v := nI 0) hx hb dX5_change_2 rfl ?_
  refine lv_aload_n hx hb dX5_change_3 rfl (lv_at hl 0 rfl) ?_
  refine x_get (C := RX5) (T := TX5) (N := 16) (ci := 4) (v := .int (nI nw)) hx hb hts in_X5 hown hK hH hM.1 rfl 2 (by decide) (hts _ q979) (fun _ h9 => h9) rfl dX5_change_4 ?_
  refine lv_iconst (v := nI 1) hx hb dX5_change_7 rfl ?_
  refine x_isub (v := oI (((nw : Nat) : Int) - ((1 : Nat) : Int))) hx hb (oI_sub' (nI_oI _) (nI_oI _)) dX5_change_8 ?_
  refine x_S (n := 3) (As := [.int (oI z1), .int (nI 0), .int (oI (((nw : Nat) : Int) - ((1 : Nat) : Int)))]) (rest := [.ref mm]) ⟨hx, hb, hml, hown, hts⟩ hK hC hA hH hS (mX5_in l G A f _ _ _ z1 ((0 : Nat) : Int) (((nw : Nat) : Int) - ((1 : Nat) : Int)) rfl (nI_oI _) rfl hz1 (by decide) ⟨by omega, by omega⟩) q1037 q1038 q38 q1039 (by decide +kernel) ⟨Nat.le_of_ble_eq_true rfl, Nat.le_of_ble_eq_true rfl⟩ rfl hl.1 rfl (Nat.le_of_ble_eq_true rfl) dX5_change_9 (Nat.le_of_ble_eq_true rfl) (Nat.le_of_ble_eq_true rfl) (fun v f_13 H locs hp hH hS hz => ?_)
  obtain ⟨rfl, rfl⟩ := hp
  refine x_norm (g2 := F0 m 12 ls [.int (nI (xb (((0 : Nat) : Int) ≤ z1 ∧ z1 ≤ ((nw : Nat) : Int) - ((1 : Nat) : Int)))), .ref mm]) (k := 0) (n := 0) (Nat.le_refl _) (Nat.le_refl _) rfl ?_
  refine x_ifbeq (tgt := 22) (B := ((0 : Nat) : Int) ≤ z1 ∧ z1 ≤ ((nw : Nat) : Int) - ((1 : Nat) : Int)) hx hb dX5_change_12 (by decide) (fun c12 => ?_) (fun c12 => ?_)
  · skip
    refine lv_iconst (v := nI 1) hx hb dX5_change_22 rfl ?_
    refine lv_goto (tgt := 42) hx hb dX5_change_23 (by decide) ?_
    exact hj42 1 _ _ _ (by unfold cdC; split <;> first | rfl | (exfalso; omega) | (split <;> first | rfl | (exfalso; omega) | (split <;> first | rfl | (exfalso; omega)))) hH hS (lv_sub hl [0, 1, 2, 3] rfl)
  · skip
    refine lv_iload_n hx hb dX5_change_15 rfl (lv_at hl 2 rfl) ?_
    refine x_S (n := 1) (As := [.int (oI z2)]) (rest := [.ref mm]) ⟨hx, hb, hml, hown, hts⟩ hK hC hA hH hS (mX5_isStation l G A f z2 hz2) q1034 q1035 q38 q1036 (by decide +kernel) ⟨Nat.le_of_ble_eq_true rfl, Nat.le_of_ble_eq_true rfl⟩ rfl hl.1 rfl (Nat.le_of_ble_eq_true rfl) dX5_change_16 (Nat.le_of_ble_eq_true rfl) (Nat.le_of_ble_eq_true rfl) (fun v f_14 H locs hp hH hS hz => ?_)
    obtain ⟨rfl, rfl⟩ := hp
    refine x_norm (g2 := F0 m 19 ls [.int (nI (xb (0 ≤ z2 ∧ z2 ≤ 8))), .ref mm]) (k := 0) (n := 0) (Nat.le_refl _) (Nat.le_refl _) rfl ?_
    refine x_ifbne (tgt := 26) (B := 0 ≤ z2 ∧ z2 ≤ 8) hx hb dX5_change_19 (by decide) (fun c19 => ?_) (fun c19 => ?_)
    · skip
      refine lv_iload_n hx hb dX5_change_26 rfl (lv_at hl 3 rfl) ?_
      refine lv_iconst (v := nI 0) hx hb dX5_change_27 rfl ?_
      refine lv_sipush (v := nI 999) hx hb dX5_change_28 rfl ?_
      refine x_S (n := 3) (As := [.int (oI z3), .int (nI 0), .int (nI 999)]) (rest := [.ref mm]) ⟨hx, hb, hml, hown, hts⟩ hK hC hA hH hS (mX5_in l G A f _ _ _ z3 ((0 : Nat) : Int) ((999 : Nat) : Int) rfl (nI_oI _) (nI_oI _) hz3 (by decide) (by decide)) q1037 q1038 q38 q1039 (by decide +kernel) ⟨Nat.le_of_ble_eq_true rfl, Nat.le_of_ble_eq_true rfl⟩ rfl hl.1 rfl (Nat.le_of_ble_eq_true rfl) dX5_change_31 (Nat.le_of_ble_eq_true rfl) (Nat.le_of_ble_eq_true rfl) (fun v f_15 H locs hp hH hS hz => ?_)
      obtain ⟨rfl, rfl⟩ := hp
      refine x_norm (g2 := F0 m 34 ls [.int (nI (xb (((0 : Nat) : Int) ≤ z3 ∧ z3 ≤ ((999 : Nat) : Int)))), .ref mm]) (k := 0) (n := 0) (Nat.le_refl _) (Nat.le_refl _) rfl ?_
      refine x_ifbeq (tgt := 41) (B := ((0 : Nat) : Int) ≤ z3 ∧ z3 ≤ ((999 : Nat) : Int)) hx hb dX5_change_34 (by decide) (fun c34 => ?_) (fun c34 => ?_)
      · skip
        refine lv_iconst (v := nI 2) hx hb dX5_change_41 rfl ?_
        exact hj42 2 _ _ _ (by unfold cdC; split <;> first | rfl | (exfalso; omega) | (split <;> first | rfl | (exfalso; omega) | (split <;> first | rfl | (exfalso; omega)))) hH hS (lv_sub hl [0, 1, 2, 3] rfl)
      · skip
        refine lv_iconst (v := nI 0) hx hb dX5_change_37 rfl ?_
        refine lv_goto (tgt := 42) hx hb dX5_change_38 (by decide) ?_
        exact hj42 0 _ _ _ (by unfold cdC; split <;> first | rfl | (exfalso; omega) | (split <;> first | rfl | (exfalso; omega) | (split <;> first | rfl | (exfalso; omega)))) hH hS (lv_sub hl [0, 1, 2, 3] rfl)
    · skip
      refine lv_iconst (v := nI 1) hx hb dX5_change_22 rfl ?_
      refine lv_goto (tgt := 42) hx hb dX5_change_23 (by decide) ?_
      exact hj42 1 _ _ _ (by unfold cdC; split <;> first | rfl | (exfalso; omega) | (split <;> first | rfl | (exfalso; omega) | (split <;> first | rfl | (exfalso; omega)))) hH hS (lv_sub hl [0, 1, 2, 3] rfl)

abbrev rmX5_loadNow : Room := { frames := 1, cells := 0, slots := 0, locals := 40 }
set_option maxHeartbeats 4000000 in
set_option maxRecDepth 100000 in
theorem mX5_loadNow (l : Launch) (G : xG) (A : Nat → Prop) (f : xF) {mm : Nat} {ad : Nat → Nat} {th nw ln nt sl td la : Nat} {hf sa sw lf cf dd tt bh li : Nat → Nat} (hM : MM G f mm ad th nw ln nt sl td la hf sa sw lf cf dd tt bh li) : xMet l yX5_loadNow cX5_loadNow 3 (some .int) rmX5_loadNow G A f [.ref mm] (fun v f1 => v = some (.int (nI (loadN sw))) ∧ f = f1) := by
  refine x_start (by decide) (Nat.le_of_ble_eq_true rfl) ?_
  intro p e s m below meth c ls X hH hS hl
  obtain ⟨hx, hb, hr, hlk, hml, hown, hts, hK, hC, hA, hnm, hmn⟩ := X
  have hl : lv_has ls 3 [(0, .ref mm)] := hl
  refine lv_iconst (v := nI 0) hx hb dX5_loadNow_0 rfl ?_
  refine lv_istore_n (lv' := [(1, .int (nI 0)), (0, .ref mm)]) hx hb dX5_loadNow_1 rfl hl (by decide) rfl (fun ls hl => ?_)
  refine lv_iconst (v := nI 0) hx hb dX5_loadNow_2 rfl ?_
  refine lv_istore_n (lv' := [(2, .int (nI 0)), (1, .int (nI 0)), (0, .ref mm)]) hx hb dX5_loadNow_3 rfl hl (by decide) rfl (fun ls hl => ?_)
  have hloop4 : ∀ (n : Nat) (k : Nat) (H : Heap) (locs : List Loc) (ls : Array Slot), k ≤ 17 → (17 - k) < n → xH G A f H → va_S A s.heap H locs → lv_has ls 3 [(2, .int (nI k)), (1, .int (nI (sumN (fun i => 10 * sw i) k))), (0, .ref mm)] → W p l e rmX5_loadNow s m ([.ref mm] : List Value).toArray below meth c H locs 0 0 (MQ below (xQ G A (fun v f1 => v = some (.int (nI (loadN sw))) ∧ f = f1)) ([.ref mm] : List Value).toArray s rmX5_loadNow.cells rmX5_loadNow.slots A) (F0 m 4 ls []) := by
    intro n
    induction n with
    | zero => intro k H locs ls hk hn; exact absurd hn (Nat.not_lt_zero _)
    | succ n ih4 =>
      intro k H locs ls hk hn hH hS hl
      refine lv_iload_n hx hb dX5_loadNow_4 rfl (lv_at hl 0 rfl) ?_
      refine lv_bipush (v := nI 16) hx hb dX5_loadNow_5 rfl ?_
      refine x_icmp_gt (tgt := 28) (P := 16 < k) hx hb dX5_loadNow_7 (by decide) (nI_lt' (by decide) (by omega)) (fun c7 => ?_) (fun c7 => ?_)
      · skip
        refine lv_iload_n hx hb dX5_loadNow_28 rfl (lv_at hl 1 rfl) ?_
        exact x_iret hx hb hr hlk hH hS ⟨by rw [show k = 17 by omega]; rfl, rfl⟩ (Nat.le_of_ble_eq_true rfl) (Nat.le_of_ble_eq_true rfl) dX5_loadNow_29
      · skip
        refine lv_iload_n hx hb dX5_loadNow_10 rfl (lv_at hl 1 rfl) ?_
        refine lv_bipush (v := nI 10) hx hb dX5_loadNow_11 rfl ?_
        refine lv_aload_n hx hb dX5_loadNow_13 rfl (lv_at hl 2 rfl) ?_
        refine x_get (C := RX5) (T := TX5) (N := 16) (ci := 4) (v := .ref (ad 2)) hx hb hts in_X5 hown hK hH hM.1 rfl 4 (by decide) (hts _ q981) (fun _ h9 => h9) rfl dX5_loadNow_14 ?_
        refine lv_iload_n hx hb dX5_loadNow_17 rfl (lv_at hl 0 rfl) ?_
        refine x_iald (j := k) hx hb hK hH (show f (ad 2) = some (xN G 1003 17 sw) from hM.2 2 (by decide)) rfl (by omega) (by decide) dX5_loadNow_18 ?_
        refine x_imul (v := nI (10 * (sw k))) hx hb (pk_mul _ _) dX5_loadNow_19 ?_
        refine x_iadd (v := nI ((sumN (fun i => 10 * sw i) k) + (10 * (sw k)))) hx hb (nI_add _ _) dX5_loadNow_20 ?_
        refine lv_istore_n (lv' := [(1, .int (nI ((sumN (fun i => 10 * sw i) k) + (10 * (sw k))))), (2, .int (nI k)), (0, .ref mm)]) hx hb dX5_loadNow_21 rfl hl (by decide) rfl (fun ls hl => ?_)
        refine lv_iinc (v := nI (k + 1)) (lv' := [(2, .int (nI (k + 1))), (1, .int (nI ((sumN (fun i => 10 * sw i) k) + (10 * (sw k))))), (0, .ref mm)]) hx hb dX5_loadNow_22 hl (k := 1) rfl (nI_inc _) (by decide) rfl (fun ls hl => ?_)
        refine lv_goto (tgt := 4) hx hb dX5_loadNow_25 (by decide) ?_
        have e_2 : (nI ((sumN (fun i => 10 * sw i) k) + (10 * (sw k))) : Int32) = nI (sumN (fun i => 10 * sw i) (k + 1)) := by rfl
        have hl : lv_has ls 3 [(2, .int (nI (k + 1))), (1, .int (nI (sumN (fun i => 10 * sw i) (k + 1)))), (0, .ref mm)] := xl_eq hl (xl_cons rfl (xl_cons (congrArg (fun x => ((1 : Nat), Value.int x)) e_2) rfl))
        exact ih4 (k + 1) _ _ _ (by omega) (by omega) hH hS (lv_sub hl [0, 1, 2] rfl)
  have e_3 : (nI 0 : Int32) = nI (sumN (fun i => 10 * sw i) 0) := by rfl
  have hl : lv_has ls 3 [(2, .int (nI 0)), (1, .int (nI (sumN (fun i => 10 * sw i) 0))), (0, .ref mm)] := xl_eq hl (xl_cons rfl (xl_cons (congrArg (fun x => ((1 : Nat), Value.int x)) e_3) rfl))
  exact hloop4 (17 - 0 + 1) 0 _ _ _ (by omega) (Nat.lt_succ_self _) hH hS (lv_sub hl [0, 1, 2] rfl)

abbrev rmX5_loadMoment : Room := { frames := 1, cells := 0, slots := 0, locals := 40 }
set_option maxHeartbeats 4000000 in
set_option maxRecDepth 100000 in
theorem mX5_loadMoment (l : Launch) (G : xG) (A : Nat → Prop) (f : xF) {mm : Nat} {ad : Nat → Nat} {th nw ln nt sl td la : Nat} {hf sa sw lf cf dd tt bh li : Nat → Nat} (hM : MM G f mm ad th nw ln nt sl td la hf sa sw lf cf dd tt bh li) : xMet l yX5_loadMoment cX5_loadMoment 3 (some .int) rmX5_loadMoment G A f [.ref mm] (fun v f1 => v = some (.int (nI (lmomN sa sw))) ∧ f = f1) := by
  refine x_start (by decide) (Nat.le_of_ble_eq_true rfl) ?_
  intro p e s m below meth c ls X hH hS hl
  obtain ⟨hx, hb, hr, hlk, hml, hown, hts, hK, hC, hA, hnm, hmn⟩ := X
  have hl : lv_has ls 3 [(0, .ref mm)] := hl
  refine lv_iconst (v := nI 0) hx hb dX5_loadMoment_0 rfl ?_
  refine lv_istore_n (lv' := [(1, .int (nI 0)), (0, .ref mm)]) hx hb dX5_loadMoment_1 rfl hl (by decide) rfl (fun ls hl => ?_)
  refine lv_iconst (v := nI 0) hx hb dX5_loadMoment_2 rfl ?_
  refine lv_istore_n (lv' := [(2, .int (nI 0)), (1, .int (nI 0)), (0, .ref mm)]) hx hb dX5_loadMoment_3 rfl hl (by decide) rfl (fun ls hl => ?_)
  have hloop4 : ∀ (n : Nat) (k : Nat) (H : Heap) (locs : List Loc) (ls : Array Slot), k ≤ 17 → (17 - k) < n → xH G A f H → va_S A s.heap H locs → lv_has ls 3 [(2, .int (nI k)), (1, .int (nI (sumN (fun i => sw i * 20 * sa i) k))), (0, .ref mm)] → W p l e rmX5_loadMoment s m ([.ref mm] : List Value).toArray below meth c H locs 0 0 (MQ below (xQ G A (fun v f1 => v = some (.int (nI (lmomN sa sw))) ∧ f = f1)) ([.ref mm] : List Value).toArray s rmX5_loadMoment.cells rmX5_loadMoment.slots A) (F0 m 4 ls []) := by
    intro n
    induction n with
    | zero => intro k H locs ls hk hn; exact absurd hn (Nat.not_lt_zero _)
    | succ n ih4 =>
      intro k H locs ls hk hn hH hS hl
      refine lv_iload_n hx hb dX5_loadMoment_4 rfl (lv_at hl 0 rfl) ?_
      refine lv_bipush (v := nI 16) hx hb dX5_loadMoment_5 rfl ?_
      refine x_icmp_gt (tgt := 35) (P := 16 < k) hx hb dX5_loadMoment_7 (by decide) (nI_lt' (by decide) (by omega)) (fun c7 => ?_) (fun c7 => ?_)
      · skip
        refine lv_iload_n hx hb dX5_loadMoment_35 rfl (lv_at hl 1 rfl) ?_
        exact x_iret hx hb hr hlk hH hS ⟨by rw [show k = 17 by omega]; rfl, rfl⟩ (Nat.le_of_ble_eq_true rfl) (Nat.le_of_ble_eq_true rfl) dX5_loadMoment_36
      · skip
        refine lv_iload_n hx hb dX5_loadMoment_10 rfl (lv_at hl 1 rfl) ?_
        refine lv_aload_n hx hb dX5_loadMoment_11 rfl (lv_at hl 2 rfl) ?_
        refine x_get (C := RX5) (T := TX5) (N := 16) (ci := 4) (v := .ref (ad 2)) hx hb hts in_X5 hown hK hH hM.1 rfl 4 (by decide) (hts _ q981) (fun _ h9 => h9) rfl dX5_loadMoment_12 ?_
        refine lv_iload_n hx hb dX5_loadMoment_15 rfl (lv_at hl 0 rfl) ?_
        refine x_iald (j := k) hx hb hK hH (show f (ad 2) = some (xN G 1003 17 sw) from hM.2 2 (by decide)) rfl (by omega) (by decide) dX5_loadMoment_16 ?_
        refine lv_bipush (v := nI 20) hx hb dX5_loadMoment_17 rfl ?_
        refine x_imul (v := nI ((sw k) * 20)) hx hb (pk_mul _ _) dX5_loadMoment_19 ?_
        refine lv_aload_n hx hb dX5_loadMoment_20 rfl (lv_at hl 2 rfl) ?_
        refine x_get (C := RX5) (T := TX5) (N := 16) (ci := 4) (v := .ref (ad 1)) hx hb hts in_X5 hown hK hH hM.1 rfl 3 (by decide) (hts _ q980) (fun _ h9 => h9) rfl dX5_loadMoment_21 ?_
        refine lv_iload_n hx hb dX5_loadMoment_24 rfl (lv_at hl 0 rfl) ?_
        refine x_iald (j := k) hx hb hK hH (show f (ad 1) = some (xN G 1002 17 sa) from hM.2 1 (by decide)) rfl (by omega) (by decide) dX5_loadMoment_25 ?_
        refine x_imul (v := nI (((sw k) * 20) * (sa k))) hx hb (pk_mul _ _) dX5_loadMoment_26 ?_
        refine x_iadd (v := nI ((sumN (fun i => sw i * 20 * sa i) k) + (((sw k) * 20) * (sa k)))) hx hb (nI_add _ _) dX5_loadMoment_27 ?_
        refine lv_istore_n (lv' := [(1, .int (nI ((sumN (fun i => sw i * 20 * sa i) k) + (((sw k) * 20) * (sa k))))), (2, .int (nI k)), (0, .ref mm)]) hx hb dX5_loadMoment_28 rfl hl (by decide) rfl (fun ls hl => ?_)
        refine lv_iinc (v := nI (k + 1)) (lv' := [(2, .int (nI (k + 1))), (1, .int (nI ((sumN (fun i => sw i * 20 * sa i) k) + (((sw k) * 20) * (sa k))))), (0, .ref mm)]) hx hb dX5_loadMoment_29 hl (k := 1) rfl (nI_inc _) (by decide) rfl (fun ls hl => ?_)
        refine lv_goto (tgt := 4) hx hb dX5_loadMoment_32 (by decide) ?_
        have e_2 : (nI ((sumN (fun i => sw i * 20 * sa i) k) + (((sw k) * 20) * (sa k))) : Int32) = nI (sumN (fun i => sw i * 20 * sa i) (k + 1)) := by rfl
        have hl : lv_has ls 3 [(2, .int (nI (k + 1))), (1, .int (nI (sumN (fun i => sw i * 20 * sa i) (k + 1)))), (0, .ref mm)] := xl_eq hl (xl_cons rfl (xl_cons (congrArg (fun x => ((1 : Nat), Value.int x)) e_2) rfl))
        exact ih4 (k + 1) _ _ _ (by omega) (by omega) hH hS (lv_sub hl [0, 1, 2] rfl)
  have e_3 : (nI 0 : Int32) = nI (sumN (fun i => sw i * 20 * sa i) 0) := by rfl
  have hl : lv_has ls 3 [(2, .int (nI 0)), (1, .int (nI (sumN (fun i => sw i * 20 * sa i) 0))), (0, .ref mm)] := xl_eq hl (xl_cons rfl (xl_cons (congrArg (fun x => ((1 : Nat), Value.int x)) e_3) rfl))
  exact hloop4 (17 - 0 + 1) 0 _ _ _ (by omega) (Nat.lt_succ_self _) hH hS (lv_sub hl [0, 1, 2] rfl)

abbrev rmX5_draughtNow : Room := { frames := 4, cells := 0, slots := 0, locals := 160 }
set_option maxHeartbeats 4000000 in
set_option maxRecDepth 100000 in
theorem mX5_draughtNow (l : Launch) (G : xG) (A : Nat → Prop) (f : xF) {mm : Nat} {ad : Nat → Nat} {th nw ln nt sl td la : Nat} {hf sa sw lf cf dd tt bh li : Nat → Nat} (hM : MM G f mm ad th nw ln nt sl td la hf sa sw lf cf dd tt bh li) (hB : ∀ w s, w < 6 → s < 9 → h2 hf w s ≤ 200) (hW : ∀ k, k < 17 → sw k ≤ 999) : xMet l yX5_draughtNow cX5_draughtNow 4 (some .int) rmX5_draughtNow G A f [.ref mm] (fun v f1 => v = some (.int (oI (drZ (volN (h2 hf)) (loadN sw)))) ∧ f = f1) := by
  refine x_start (by decide) (Nat.le_of_ble_eq_true rfl) ?_
  intro p e s m below meth c ls X hH hS hl
  obtain ⟨hx, hb, hr, hlk, hml, hown, hts, hK, hC, hA, hnm, hmn⟩ := X
  have hl : lv_has ls 4 [(0, .ref mm)] := hl
  have hL9 := loadN_le hW
  refine lv_iconst (v := oI (-1)) hx hb dX5_draughtNow_0 rfl ?_
  refine lv_istore_n (lv' := [(1, .int (oI (-1))), (0, .ref mm)]) hx hb dX5_draughtNow_1 rfl hl (by decide) rfl (fun ls hl => ?_)
  refine lv_aload_n hx hb dX5_draughtNow_2 rfl (lv_at hl 1 rfl) ?_
  refine x_V (n := 0) (As := []) (rest := []) ⟨hx, hb, hml, hown, hts⟩ hK hC hA hH hS (mX5_loadNow l G A f hM  ) q1130 q1132 qs22 q38 q1133 (by decide +kernel) ⟨Nat.le_of_ble_eq_true rfl, Nat.le_of_ble_eq_true rfl⟩ hM.1 rfl rfl rfl hl.1 rfl (Nat.le_of_ble_eq_true rfl) dX5_draughtNow_3 (Nat.le_of_ble_eq_true rfl) (Nat.le_of_ble_eq_true rfl) (fun v f_1 H locs hp hH hS hz => ?_)
  obtain ⟨rfl, rfl⟩ := hp
  refine x_norm (g2 := F0 m 6 ls [.int (nI (loadN sw))]) (k := 0) (n := 0) (Nat.le_refl _) (Nat.le_refl _) rfl ?_
  refine lv_istore_n (lv' := [(2, .int (nI (loadN sw))), (1, .int (oI (-1))), (0, .ref mm)]) hx hb dX5_draughtNow_6 rfl hl (by decide) rfl (fun ls hl => ?_)
  refine lv_iconst (v := nI 5) hx hb dX5_draughtNow_7 rfl ?_
  refine lv_istore_n (lv' := [(3, .int (nI 5)), (2, .int (nI (loadN sw))), (1, .int (oI (-1))), (0, .ref mm)]) hx hb dX5_draughtNow_8 rfl hl (by decide) rfl (fun ls hl => ?_)
  have hloop9 : ∀ (n : Nat) (t : Nat) (H : Heap) (locs : List Loc) (ls : Array Slot), t ≤ 6 → (6 - t) < n → xH G A f H → va_S A s.heap H locs → lv_has ls 4 [(3, .int (oI (5 - ((t : Nat) : Int)))), (2, .int (nI (loadN sw))), (1, .int (oI (frst (fun k => decide (loadN sw ≤ volN (h2 hf) k)) (6 - t) t))), (0, .ref mm)] → W p l e rmX5_draughtNow s m ([.ref mm] : List Value).toArray below meth c H locs 0 0 (MQ below (xQ G A (fun v f1 => v = some (.int (oI (drZ (volN (h2 hf)) (loadN sw)))) ∧ f = f1)) ([.ref mm] : List Value).toArray s rmX5_draughtNow.cells rmX5_draughtNow.slots A) (F0 m 9 ls []) := by
    intro n
    induction n with
    | zero => intro t H locs ls ht hn; exact absurd hn (Nat.not_lt_zero _)
    | succ n ih9 =>
      intro t H locs ls ht hn hH hS hl
      refine lv_iload_n hx hb dX5_draughtNow_9 rfl (lv_at hl 0 rfl) ?_
      refine x_if_lt (tgt := 34) (P := 5 - ((t : Nat) : Int) < 0) hx hb dX5_draughtNow_10 (by decide) (oI_lt' rfl oI_0 ⟨by omega, by omega⟩ (by decide)) (fun c10 => ?_) (fun c10 => ?_)
      · skip
        refine lv_iload_n hx hb dX5_draughtNow_34 rfl (lv_at hl 2 rfl) ?_
        exact x_iret hx hb hr hlk hH hS ⟨by rw [show t = 6 by omega]; rfl, rfl⟩ (Nat.le_of_ble_eq_true rfl) (Nat.le_of_ble_eq_true rfl) dX5_draughtNow_35
      · skip
        have hv9 := volN_le hB (show 5 - t < 6 by omega)
        have e_3 : (oI (5 - ((t : Nat) : Int)) : Int32) = nI (5 - t) := oI_nI (by omega)
        have hl : lv_has ls 4 [(3, .int (nI (5 - t))), (2, .int (nI (loadN sw))), (1, .int (oI (frst (fun k => decide (loadN sw ≤ volN (h2 hf) k)) (6 - t) t))), (0, .ref mm)] := xl_eq hl (xl_cons (congrArg (fun x => ((3 : Nat), Value.int x)) e_3) rfl)
        refine lv_aload_n hx hb dX5_draughtNow_13 rfl (lv_at hl 3 rfl) ?_
        refine lv_iload_n hx hb dX5_draughtNow_14 rfl (lv_at hl 0 rfl) ?_
        refine x_V (n := 1) (As := [.int (nI (5 - t))]) (rest := []) ⟨hx, hb, hml, hown, hts⟩ hK hC hA hH hS (mX5_volumeOf l G A f hM (5 - t) (by omega)) q1105 q1107 qs20 q38 q1108 (by decide +kernel) ⟨Nat.le_of_ble_eq_true rfl, Nat.le_of_ble_eq_true rfl⟩ hM.1 rfl rfl rfl hl.1 rfl (Nat.le_of_ble_eq_true rfl) dX5_draughtNow_15 (Nat.le_of_ble_eq_true rfl) (Nat.le_of_ble_eq_true rfl) (fun v f_4 H locs hp hH hS hz => ?_)
        obtain ⟨rfl, rfl⟩ := hp
        refine x_norm (g2 := F0 m 18 ls [.int (nI (volN (h2 hf) (5 - t)))]) (k := 0) (n := 0) (Nat.le_refl _) (Nat.le_refl _) rfl ?_
        refine lv_iload_n hx hb dX5_draughtNow_18 rfl (lv_at hl 1 rfl) ?_
        refine x_icmp_lt (tgt := 26) (P := (volN (h2 hf) (5 - t)) < (loadN sw)) hx hb dX5_draughtNow_19 (by decide) (nI_lt' (by omega) (by omega)) (fun c19 => ?_) (fun c19 => ?_)
        · skip
          refine lv_iload_n hx hb dX5_draughtNow_26 rfl (lv_at hl 2 rfl) ?_
          refine lv_istore_n (lv' := [(1, .int (oI (frst (fun k => decide (loadN sw ≤ volN (h2 hf) k)) (6 - t) t))), (3, .int (nI (5 - t))), (2, .int (nI (loadN sw))), (0, .ref mm)]) hx hb dX5_draughtNow_27 rfl hl (by decide) rfl (fun ls hl => ?_)
          refine lv_iinc (v := oI (((5 - t : Nat) : Int) + (-1))) (lv' := [(3, .int (oI (((5 - t : Nat) : Int) + (-1)))), (1, .int (oI (frst (fun k => decide (loadN sw ≤ volN (h2 hf) k)) (6 - t) t))), (2, .int (nI (loadN sw))), (0, .ref mm)]) hx hb dX5_draughtNow_28 hl (k := 1) rfl (oI_add' (nI_oI _) rfl) (by decide) rfl (fun ls hl => ?_)
          refine lv_goto (tgt := 9) hx hb dX5_draughtNow_31 (by decide) ?_
          have e_5 : (oI (((5 - t : Nat) : Int) + (-1)) : Int32) = oI (5 - (((t + 1) : Nat) : Int)) := by unfold oI; congr 1; omega
          have e_6 : (oI (frst (fun k => decide (loadN sw ≤ volN (h2 hf) k)) (6 - t) t) : Int32) = oI (frst (fun k => decide (loadN sw ≤ volN (h2 hf) k)) (6 - (t + 1)) (t + 1)) := by rw [frst_down (by omega)]; first | (rw [if_pos (by show decide (loadN sw ≤ volN (h2 hf) (5 - t)) = true; simp; omega)]; exact nI_oI _) | (rw [if_neg (by show ¬ decide (loadN sw ≤ volN (h2 hf) (5 - t)) = true; simp; omega)])
          have hl : lv_has ls 4 [(3, .int (oI (5 - (((t + 1) : Nat) : Int)))), (1, .int (oI (frst (fun k => decide (loadN sw ≤ volN (h2 hf) k)) (6 - (t + 1)) (t + 1)))), (2, .int (nI (loadN sw))), (0, .ref mm)] := xl_eq hl (xl_cons (congrArg (fun x => ((3 : Nat), Value.int x)) e_5) (xl_cons (congrArg (fun x => ((1 : Nat), Value.int x)) e_6) rfl))
          exact ih9 (t + 1) _ _ _ (by omega) (by omega) hH hS (lv_sub hl [0, 2, 1, 3] rfl)
        · skip
          refine lv_iload_n hx hb dX5_draughtNow_22 rfl (lv_at hl 0 rfl) ?_
          refine lv_goto (tgt := 27) hx hb dX5_draughtNow_23 (by decide) ?_
          refine lv_istore_n (lv' := [(1, .int (nI (5 - t))), (3, .int (nI (5 - t))), (2, .int (nI (loadN sw))), (0, .ref mm)]) hx hb dX5_draughtNow_27 rfl hl (by decide) rfl (fun ls hl => ?_)
          refine lv_iinc (v := oI (((5 - t : Nat) : Int) + (-1))) (lv' := [(3, .int (oI (((5 - t : Nat) : Int) + (-1)))), (1, .int (nI (5 - t))), (2, .int (nI (loadN sw))), (0, .ref mm)]) hx hb dX5_draughtNow_28 hl (k := 1) rfl (oI_add' (nI_oI _) rfl) (by decide) rfl (fun ls hl => ?_)
          refine lv_goto (tgt := 9) hx hb dX5_draughtNow_31 (by decide) ?_
          have e_7 : (oI (((5 - t : Nat) : Int) + (-1)) : Int32) = oI (5 - (((t + 1) : Nat) : Int)) := by unfold oI; congr 1; omega
          have e_8 : (nI (5 - t) : Int32) = oI (frst (fun k => decide (loadN sw ≤ volN (h2 hf) k)) (6 - (t + 1)) (t + 1)) := by rw [frst_down (by omega)]; first | (rw [if_pos (by show decide (loadN sw ≤ volN (h2 hf) (5 - t)) = true; simp; omega)]; exact nI_oI _) | (rw [if_neg (by show ¬ decide (loadN sw ≤ volN (h2 hf) (5 - t)) = true; simp; omega)])
          have hl : lv_has ls 4 [(3, .int (oI (5 - (((t + 1) : Nat) : Int)))), (1, .int (oI (frst (fun k => decide (loadN sw ≤ volN (h2 hf) k)) (6 - (t + 1)) (t + 1)))), (2, .int (nI (loadN sw))), (0, .ref mm)] := xl_eq hl (xl_cons (congrArg (fun x => ((3 : Nat), Value.int x)) e_7) (xl_cons (congrArg (fun x => ((1 : Nat), Value.int x)) e_8) rfl))
          exact ih9 (t + 1) _ _ _ (by omega) (by omega) hH hS (lv_sub hl [0, 2, 1, 3] rfl)
  have e_9 : (nI 5 : Int32) = oI (5 - ((0 : Nat) : Int)) := by exact (by decide : nI 5 = oI (5 - ((0 : Nat) : Int)))
  have e_10 : (oI (-1) : Int32) = oI (frst (fun k => decide (loadN sw ≤ volN (h2 hf) k)) (6 - 0) 0) := by rfl
  have hl : lv_has ls 4 [(3, .int (oI (5 - ((0 : Nat) : Int)))), (2, .int (nI (loadN sw))), (1, .int (oI (frst (fun k => decide (loadN sw ≤ volN (h2 hf) k)) (6 - 0) 0))), (0, .ref mm)] := xl_eq hl (xl_cons (congrArg (fun x => ((3 : Nat), Value.int x)) e_9) (xl_cons rfl (xl_cons (congrArg (fun x => ((1 : Nat), Value.int x)) e_10) rfl)))
  exact hloop9 (6 - 0 + 1) 0 _ _ _ (by omega) (Nat.lt_succ_self _) hH hS (lv_sub hl [0, 1, 2, 3] rfl)

abbrev rmX5_mean : Room := { frames := 1, cells := 0, slots := 0, locals := 40 }
set_option maxHeartbeats 4000000 in
set_option maxRecDepth 100000 in
theorem mX5_mean (l : Launch) (G : xG) (A : Nat → Prop) (f : xF) (a b9 : Nat) (ha : 100 * a < 2147483648) (hb9 : b9 < 2147483648) : xMet l yX5_mean cX5_mean 2 (some .int) rmX5_mean G A f [.int (nI a), .int (nI b9)] (fun v f1 => v = some (.int (nI (meanN a b9))) ∧ f = f1) := by
  refine x_start (by decide) (Nat.le_of_ble_eq_true rfl) ?_
  intro p e s m below meth c ls X hH hS hl
  obtain ⟨hx, hb, hr, hlk, hml, hown, hts, hK, hC, hA, hnm, hmn⟩ := X
  have hl : lv_has ls 2 [(0, .int (nI a)), (1, .int (nI b9))] := hl
  refine lv_iload_n hx hb dX5_mean_0 rfl (lv_at hl 1 rfl) ?_
  refine x_if_ne (tgt := 8) (P := b9 = 0) hx hb dX5_mean_1 (by decide) (nI_eq0 (by omega)) (fun c1 => ?_) (fun c1 => ?_)
  · skip
    refine lv_bipush (v := nI 100) hx hb dX5_mean_8 rfl ?_
    refine lv_iload_n hx hb dX5_mean_10 rfl (lv_at hl 0 rfl) ?_
    refine x_imul (v := nI (100 * a)) hx hb (pk_mul _ _) dX5_mean_11 ?_
    refine lv_iload_n hx hb dX5_mean_12 rfl (lv_at hl 1 rfl) ?_
    refine x_idivN hx hb (by omega) (by omega) (by omega) dX5_mean_13 ?_
    exact x_iret hx hb hr hlk hH hS ⟨by unfold meanN; first | rw [if_pos (by omega)] | rw [if_neg (by omega)], rfl⟩ (Nat.le_of_ble_eq_true rfl) (Nat.le_of_ble_eq_true rfl) dX5_mean_14
  · skip
    refine lv_iconst (v := nI 0) hx hb dX5_mean_4 rfl ?_
    refine lv_goto (tgt := 14) hx hb dX5_mean_5 (by decide) ?_
    exact x_iret hx hb hr hlk hH hS ⟨by unfold meanN; first | rw [if_pos (by omega)] | rw [if_neg (by omega)], rfl⟩ (Nat.le_of_ble_eq_true rfl) (Nat.le_of_ble_eq_true rfl) dX5_mean_14

abbrev rmX5_trimNow : Room := { frames := 5, cells := 0, slots := 0, locals := 200 }
set_option maxHeartbeats 4000000 in
set_option maxRecDepth 100000 in
theorem mX5_trimNow (l : Launch) (G : xG) (A : Nat → Prop) (f : xF) {mm : Nat} {ad : Nat → Nat} {th nw ln nt sl td la : Nat} {hf sa sw lf cf dd tt bh li : Nat → Nat} (hM : MM G f mm ad th nw ln nt sl td la hf sa sw lf cf dd tt bh li) (hB : ∀ w s, w < 6 → s < 9 → h2 hf w s ≤ 200) (hW : ∀ k, k < 17 → sw k ≤ 999) (hS9 : ∀ k, k < 17 → sa k ≤ 8) : xMet l yX5_trimNow cX5_trimNow 2 (some .int) rmX5_trimNow G A f [.ref mm] (fun v f1 => v = some (.int (oI (trZ (volN (h2 hf)) (momN (h2 hf)) (loadN sw) (lmomN sa sw)))) ∧ f = f1) := by
  refine x_start (by decide) (Nat.le_of_ble_eq_true rfl) ?_
  intro p e s m below meth c ls X hH hS hl
  obtain ⟨hx, hb, hr, hlk, hml, hown, hts, hK, hC, hA, hnm, hmn⟩ := X
  have hl : lv_has ls 2 [(0, .ref mm)] := hl
  have hL9 := loadN_le hW
  have hL8 := lmomN_le hW hS9
  have hd9 := drZ_bd (volN (h2 hf)) (loadN sw)
  refine lv_aload_n hx hb dX5_trimNow_0 rfl (lv_at hl 0 rfl) ?_
  refine x_V (n := 0) (As := []) (rest := []) ⟨hx, hb, hml, hown, hts⟩ hK hC hA hH hS (mX5_draughtNow l G A f hM  hB hW) q1126 q1128 qs21 q38 q1129 (by decide +kernel) ⟨Nat.le_of_ble_eq_true rfl, Nat.le_of_ble_eq_true rfl⟩ hM.1 rfl rfl rfl hl.1 rfl (Nat.le_of_ble_eq_true rfl) dX5_trimNow_1 (Nat.le_of_ble_eq_true rfl) (Nat.le_of_ble_eq_true rfl) (fun v f_1 H locs hp hH hS hz => ?_)
  obtain ⟨rfl, rfl⟩ := hp
  refine x_norm (g2 := F0 m 4 ls [.int (oI (drZ (volN (h2 hf)) (loadN sw)))]) (k := 0) (n := 0) (Nat.le_refl _) (Nat.le_refl _) rfl ?_
  refine lv_istore_n (lv' := [(1, .int (oI (drZ (volN (h2 hf)) (loadN sw)))), (0, .ref mm)]) hx hb dX5_trimNow_4 rfl hl (by decide) rfl (fun ls hl => ?_)
  refine lv_iload_n hx hb dX5_trimNow_5 rfl (lv_at hl 0 rfl) ?_
  refine lv_iconst (v := oI (-1)) hx hb dX5_trimNow_6 rfl ?_
  refine x_icmp_ne (tgt := 14) (P := (drZ (volN (h2 hf)) (loadN sw)) = (-1)) hx hb dX5_trimNow_7 (by decide) (oI_eq' rfl rfl ⟨by omega, by omega⟩ ⟨by omega, by omega⟩) (fun c7 => ?_) (fun c7 => ?_)
  · skip
    have hd8 := drZ_nat (show ¬ drZ (volN (h2 hf)) (loadN sw) = -1 from c7)
    have e_2 : (oI (drZ (volN (h2 hf)) (loadN sw)) : Int32) = nI ((drZ (volN (h2 hf)) (loadN sw)).toNat) := oI_nI (by omega)
    have hl : lv_has ls 2 [(1, .int (nI ((drZ (volN (h2 hf)) (loadN sw)).toNat))), (0, .ref mm)] := xl_eq hl (xl_cons (congrArg (fun x => ((1 : Nat), Value.int x)) e_2) rfl)
    have hv9 := volN_le hB (show (drZ (volN (h2 hf)) (loadN sw)).toNat < 6 by omega)
    have hm9 := momN_le hB (show (drZ (volN (h2 hf)) (loadN sw)).toNat < 6 by omega)
    refine lv_aload_n hx hb dX5_trimNow_14 rfl (lv_at hl 1 rfl) ?_
    refine x_V (n := 0) (As := []) (rest := []) ⟨hx, hb, hml, hown, hts⟩ hK hC hA hH hS (mX5_loadMoment l G A f hM  ) q1138 q1140 qs24 q38 q1141 (by decide +kernel) ⟨Nat.le_of_ble_eq_true rfl, Nat.le_of_ble_eq_true rfl⟩ hM.1 rfl rfl rfl hl.1 rfl (Nat.le_of_ble_eq_true rfl) dX5_trimNow_15 (Nat.le_of_ble_eq_true rfl) (Nat.le_of_ble_eq_true rfl) (fun v f_3 H locs hp hH hS hz => ?_)
    obtain ⟨rfl, rfl⟩ := hp
    refine x_norm (g2 := F0 m 18 ls [.int (nI (lmomN sa sw))]) (k := 0) (n := 0) (Nat.le_refl _) (Nat.le_refl _) rfl ?_
    refine lv_aload_n hx hb dX5_trimNow_18 rfl (lv_at hl 1 rfl) ?_
    refine x_V (n := 0) (As := []) (rest := [.int (nI (lmomN sa sw))]) ⟨hx, hb, hml, hown, hts⟩ hK hC hA hH hS (mX5_loadNow l G A f hM  ) q1130 q1132 qs22 q38 q1133 (by decide +kernel) ⟨Nat.le_of_ble_eq_true rfl, Nat.le_of_ble_eq_true rfl⟩ hM.1 rfl rfl rfl hl.1 rfl (Nat.le_of_ble_eq_true rfl) dX5_trimNow_19 (Nat.le_of_ble_eq_true rfl) (Nat.le_of_ble_eq_true rfl) (fun v f_4 H locs hp hH hS hz => ?_)
    obtain ⟨rfl, rfl⟩ := hp
    refine x_norm (g2 := F0 m 22 ls [.int (nI (loadN sw)), .int (nI (lmomN sa sw))]) (k := 0) (n := 0) (Nat.le_refl _) (Nat.le_refl _) rfl ?_
    refine x_S (n := 2) (As := [.int (nI (lmomN sa sw)), .int (nI (loadN sw))]) (rest := []) ⟨hx, hb, hml, hown, hts⟩ hK hC hA hH hS (mX5_mean l G A f (lmomN sa sw) (loadN sw) (by omega) (by omega)) q1142 q1143 q38 q1144 (by decide +kernel) ⟨Nat.le_of_ble_eq_true rfl, Nat.le_of_ble_eq_true rfl⟩ rfl hl.1 rfl (Nat.le_of_ble_eq_true rfl) dX5_trimNow_22 (Nat.le_of_ble_eq_true rfl) (Nat.le_of_ble_eq_true rfl) (fun v f_5 H locs hp hH hS hz => ?_)
    obtain ⟨rfl, rfl⟩ := hp
    refine x_norm (g2 := F0 m 25 ls [.int (nI (meanN (lmomN sa sw) (loadN sw)))]) (k := 0) (n := 0) (Nat.le_refl _) (Nat.le_refl _) rfl ?_
    refine lv_aload_n hx hb dX5_trimNow_25 rfl (lv_at hl 1 rfl) ?_
    refine lv_iload_n hx hb dX5_trimNow_26 rfl (lv_at hl 0 rfl) ?_
    refine x_V (n := 1) (As := [.int (nI ((drZ (volN (h2 hf)) (loadN sw)).toNat))]) (rest := [.int (nI (meanN (lmomN sa sw) (loadN sw)))]) ⟨hx, hb, hml, hown, hts⟩ hK hC hA hH hS (mX5_momentOf l G A f hM ((drZ (volN (h2 hf)) (loadN sw)).toNat) (by omega)) q1145 q1147 qs25 q38 q1148 (by decide +kernel) ⟨Nat.le_of_ble_eq_true rfl, Nat.le_of_ble_eq_true rfl⟩ hM.1 rfl rfl rfl hl.1 rfl (Nat.le_of_ble_eq_true rfl) dX5_trimNow_27 (Nat.le_of_ble_eq_true rfl) (Nat.le_of_ble_eq_true rfl) (fun v f_6 H locs hp hH hS hz => ?_)
    obtain ⟨rfl, rfl⟩ := hp
    refine x_norm (g2 := F0 m 30 ls [.int (nI (momN (h2 hf) ((drZ (volN (h2 hf)) (loadN sw)).toNat))), .int (nI (meanN (lmomN sa sw) (loadN sw)))]) (k := 0) (n := 0) (Nat.le_refl _) (Nat.le_refl _) rfl ?_
    refine lv_aload_n hx hb dX5_trimNow_30 rfl (lv_at hl 1 rfl) ?_
    refine lv_iload_n hx hb dX5_trimNow_31 rfl (lv_at hl 0 rfl) ?_
    refine x_V (n := 1) (As := [.int (nI ((drZ (volN (h2 hf)) (loadN sw)).toNat))]) (rest := [.int (nI (momN (h2 hf) ((drZ (volN (h2 hf)) (loadN sw)).toNat))), .int (nI (meanN (lmomN sa sw) (loadN sw)))]) ⟨hx, hb, hml, hown, hts⟩ hK hC hA hH hS (mX5_volumeOf l G A f hM ((drZ (volN (h2 hf)) (loadN sw)).toNat) (by omega)) q1105 q1107 qs20 q38 q1108 (by decide +kernel) ⟨Nat.le_of_ble_eq_true rfl, Nat.le_of_ble_eq_true rfl⟩ hM.1 rfl rfl rfl hl.1 rfl (Nat.le_of_ble_eq_true rfl) dX5_trimNow_32 (Nat.le_of_ble_eq_true rfl) (Nat.le_of_ble_eq_true rfl) (fun v f_7 H locs hp hH hS hz => ?_)
    obtain ⟨rfl, rfl⟩ := hp
    refine x_norm (g2 := F0 m 35 ls [.int (nI (volN (h2 hf) ((drZ (volN (h2 hf)) (loadN sw)).toNat))), .int (nI (momN (h2 hf) ((drZ (volN (h2 hf)) (loadN sw)).toNat))), .int (nI (meanN (lmomN sa sw) (loadN sw)))]) (k := 0) (n := 0) (Nat.le_refl _) (Nat.le_refl _) rfl ?_
    refine x_S (n := 2) (As := [.int (nI (momN (h2 hf) ((drZ (volN (h2 hf)) (loadN sw)).toNat))), .int (nI (volN (h2 hf) ((drZ (volN (h2 hf)) (loadN sw)).toNat)))]) (rest := [.int (nI (meanN (lmomN sa sw) (loadN sw)))]) ⟨hx, hb, hml, hown, hts⟩ hK hC hA hH hS (mX5_mean l G A f (momN (h2 hf) ((drZ (volN (h2 hf)) (loadN sw)).toNat)) (volN (h2 hf) ((drZ (volN (h2 hf)) (loadN sw)).toNat)) (by omega) (by omega)) q1142 q1143 q38 q1144 (by decide +kernel) ⟨Nat.le_of_ble_eq_true rfl, Nat.le_of_ble_eq_true rfl⟩ rfl hl.1 rfl (Nat.le_of_ble_eq_true rfl) dX5_trimNow_35 (Nat.le_of_ble_eq_true rfl) (Nat.le_of_ble_eq_true rfl) (fun v f_8 H locs hp hH hS hz => ?_)
    obtain ⟨rfl, rfl⟩ := hp
    refine x_norm (g2 := F0 m 38 ls [.int (nI (meanN (momN (h2 hf) ((drZ (volN (h2 hf)) (loadN sw)).toNat)) (volN (h2 hf) ((drZ (volN (h2 hf)) (loadN sw)).toNat)))), .int (nI (meanN (lmomN sa sw) (loadN sw)))]) (k := 0) (n := 0) (Nat.le_refl _) (Nat.le_refl _) rfl ?_
    refine x_isub (v := oI (((meanN (lmomN sa sw) (loadN sw) : Nat) : Int) - ((meanN (momN (h2 hf) ((drZ (volN (h2 hf)) (loadN sw)).toNat)) (volN (h2 hf) ((drZ (volN (h2 hf)) (loadN sw)).toNat)) : Nat) : Int))) hx hb (oI_sub' (nI_oI _) (nI_oI _)) dX5_trimNow_38 ?_
    exact x_iret hx hb hr hlk hH hS ⟨by unfold trZ; rw [if_neg c7], rfl⟩ (Nat.le_of_ble_eq_true rfl) (Nat.le_of_ble_eq_true rfl) dX5_trimNow_39
  · skip
    refine lv_iconst (v := nI 0) hx hb dX5_trimNow_10 rfl ?_
    refine lv_goto (tgt := 39) hx hb dX5_trimNow_11 (by decide) ?_
    exact x_iret hx hb hr hlk hH hS ⟨by unfold trZ; rw [if_pos c7]; rfl, rfl⟩ (Nat.le_of_ble_eq_true rfl) (Nat.le_of_ble_eq_true rfl) dX5_trimNow_39

abbrev rmX5_draught : Room := { frames := 5, cells := 0, slots := 0, locals := 200 }
set_option maxHeartbeats 4000000 in
set_option maxRecDepth 100000 in
theorem mX5_draught (l : Launch) (G : xG) (A : Nat → Prop) (f : xF) {mm : Nat} {ad : Nat → Nat} {th nw ln nt sl td la : Nat} {hf sa sw lf cf dd tt bh li : Nat → Nat} (hM : MM G f mm ad th nw ln nt sl td la hf sa sw lf cf dd tt bh li) (hB : ∀ w s, w < 6 → s < 9 → h2 hf w s ≤ 200) (hW : ∀ k, k < 17 → sw k ≤ 999) : xMet l yX5_draught cX5_draught 1 (some .int) rmX5_draught G A f [.ref mm] (fun v f1 => v = some (.int (oI (drZ (volN (h2 hf)) (loadN sw)))) ∧ MM G f1 mm ad 0 nw ln nt sl td la hf sa sw lf cf dd tt bh li ∧ xkeep 1000 1010 f f1) := by
  refine x_start (by decide) (Nat.le_of_ble_eq_true rfl) ?_
  intro p e s m below meth c ls X hH hS hl
  obtain ⟨hx, hb, hr, hlk, hml, hown, hts, hK, hC, hA, hnm, hmn⟩ := X
  have hl : lv_has ls 1 [(0, .ref mm)] := hl
  have hkp0 : xkeep 1000 1010 f f := xkeep.refl
  refine lv_aload_n hx hb dX5_draught_0 rfl (lv_at hl 0 rfl) ?_
  refine lv_iconst (v := nI 0) hx hb dX5_draught_1 rfl ?_
  refine x_put (C := RX5) (T := TX5) (N := 16) (ci := 4) (v := .int (nI 0)) (ty := (tyX5 0)) hx hb hts in_X5 tyX5_ok nmX5 hown hK hH hS hM.1 rfl 0 (by decide) (hts _ q977) (fun _ h9 => h9) rfl (by decide +kernel) rfl rfl (Nat.le_of_ble_eq_true rfl) dX5_draught_2 (fun H locs f_1 ef_1 hH hS => ?_)
  have hM_2 : MM G f_1 mm ad 0 nw ln nt sl td la hf sa sw lf cf dd tt bh li := by rw [ef_1]; exact hM.put0 _
  have hkp_3 : xkeep 1000 1010 f f_1 := by rw [ef_1]; exact hkp0.set hM.1 (by decide)
  refine lv_aload_n hx hb dX5_draught_5 rfl (lv_at hl 0 rfl) ?_
  refine x_V (n := 0) (As := []) (rest := []) ⟨hx, hb, hml, hown, hts⟩ hK hC hA hH hS (mX5_draughtNow l G A f_1 hM_2  hB hW) q1126 q1128 qs21 q38 q1129 (by decide +kernel) ⟨Nat.le_of_ble_eq_true rfl, Nat.le_of_ble_eq_true rfl⟩ hM_2.1 rfl rfl rfl hl.1 rfl (Nat.le_of_ble_eq_true rfl) dX5_draught_6 (Nat.le_of_ble_eq_true rfl) (Nat.le_of_ble_eq_true rfl) (fun v f_4 H locs hp hH hS hz => ?_)
  obtain ⟨rfl, rfl⟩ := hp
  refine x_norm (g2 := F0 m 9 ls [.int (oI (drZ (volN (h2 hf)) (loadN sw)))]) (k := 0) (n := 0) (Nat.le_refl _) (Nat.le_refl _) rfl ?_
  exact x_iret hx hb hr hlk hH hS ⟨rfl, hM_2, hkp_3⟩ (Nat.le_of_ble_eq_true rfl) (Nat.le_of_ble_eq_true rfl) dX5_draught_9

abbrev rmX5_trim : Room := { frames := 6, cells := 0, slots := 0, locals := 240 }
set_option maxHeartbeats 4000000 in
set_option maxRecDepth 100000 in
theorem mX5_trim (l : Launch) (G : xG) (A : Nat → Prop) (f : xF) {mm : Nat} {ad : Nat → Nat} {th nw ln nt sl td la : Nat} {hf sa sw lf cf dd tt bh li : Nat → Nat} (hM : MM G f mm ad th nw ln nt sl td la hf sa sw lf cf dd tt bh li) (hB : ∀ w s, w < 6 → s < 9 → h2 hf w s ≤ 200) (hW : ∀ k, k < 17 → sw k ≤ 999) (hS9 : ∀ k, k < 17 → sa k ≤ 8) : xMet l yX5_trim cX5_trim 1 (some .int) rmX5_trim G A f [.ref mm] (fun v f1 => v = some (.int (oI (trZ (volN (h2 hf)) (momN (h2 hf)) (loadN sw) (lmomN sa sw)))) ∧ MM G f1 mm ad 0 nw ln nt sl td la hf sa sw lf cf dd tt bh li ∧ xkeep 1000 1010 f f1) := by
  refine x_start (by decide) (Nat.le_of_ble_eq_true rfl) ?_
  intro p e s m below meth c ls X hH hS hl
  obtain ⟨hx, hb, hr, hlk, hml, hown, hts, hK, hC, hA, hnm, hmn⟩ := X
  have hl : lv_has ls 1 [(0, .ref mm)] := hl
  have hkp0 : xkeep 1000 1010 f f := xkeep.refl
  refine lv_aload_n hx hb dX5_trim_0 rfl (lv_at hl 0 rfl) ?_
  refine lv_iconst (v := nI 0) hx hb dX5_trim_1 rfl ?_
  refine x_put (C := RX5) (T := TX5) (N := 16) (ci := 4) (v := .int (nI 0)) (ty := (tyX5 0)) hx hb hts in_X5 tyX5_ok nmX5 hown hK hH hS hM.1 rfl 0 (by decide) (hts _ q977) (fun _ h9 => h9) rfl (by decide +kernel) rfl rfl (Nat.le_of_ble_eq_true rfl) dX5_trim_2 (fun H locs f_1 ef_1 hH hS => ?_)
  have hM_2 : MM G f_1 mm ad 0 nw ln nt sl td la hf sa sw lf cf dd tt bh li := by rw [ef_1]; exact hM.put0 _
  have hkp_3 : xkeep 1000 1010 f f_1 := by rw [ef_1]; exact hkp0.set hM.1 (by decide)
  refine lv_aload_n hx hb dX5_trim_5 rfl (lv_at hl 0 rfl) ?_
  refine x_V (n := 0) (As := []) (rest := []) ⟨hx, hb, hml, hown, hts⟩ hK hC hA hH hS (mX5_trimNow l G A f_1 hM_2  hB hW hS9) q1134 q1136 qs23 q38 q1137 (by decide +kernel) ⟨Nat.le_of_ble_eq_true rfl, Nat.le_of_ble_eq_true rfl⟩ hM_2.1 rfl rfl rfl hl.1 rfl (Nat.le_of_ble_eq_true rfl) dX5_trim_6 (Nat.le_of_ble_eq_true rfl) (Nat.le_of_ble_eq_true rfl) (fun v f_4 H locs hp hH hS hz => ?_)
  obtain ⟨rfl, rfl⟩ := hp
  refine x_norm (g2 := F0 m 9 ls [.int (oI (trZ (volN (h2 hf)) (momN (h2 hf)) (loadN sw) (lmomN sa sw)))]) (k := 0) (n := 0) (Nat.le_refl _) (Nat.le_refl _) rfl ?_
  exact x_iret hx hb hr hlk hH hS ⟨rfl, hM_2, hkp_3⟩ (Nat.le_of_ble_eq_true rfl) (Nat.le_of_ble_eq_true rfl) dX5_trim_9

abbrev rmX5_strake : Room := { frames := 3, cells := 0, slots := 0, locals := 120 }
set_option maxHeartbeats 4000000 in
set_option maxRecDepth 100000 in
theorem mX5_strake (l : Launch) (G : xG) (A : Nat → Prop) (f : xF) {mm : Nat} {ad : Nat → Nat} {th nw ln nt sl td la : Nat} {hf sa sw lf cf dd tt bh li : Nat → Nat} (hM : MM G f mm ad th nw ln nt sl td la hf sa sw lf cf dd tt bh li)  (hB : ∀ w s, w < 6 → s < 9 → h2 hf w s ≤ 200) (z1 : Int) (hz1 : -2147483648 ≤ z1 ∧ z1 ≤ 2147483647) : xMet l yX5_strake cX5_strake 2 (some .int) rmX5_strake G A f [.ref mm, .int (oI z1)] (fun v f1 => v = some (.int (if cdIn z1 0 4 = 0 then nI (strN (h2 hf) z1.toNat) else nI 0)) ∧ MM G f1 mm ad (cdIn z1 0 4) nw ln nt sl td la hf sa sw lf cf dd tt bh li ∧ xkeep 1000 1010 f f1) := by
  refine x_start (by decide) (Nat.le_of_ble_eq_true rfl) ?_
  intro p e s m below meth c ls X hH hS hl
  obtain ⟨hx, hb, hr, hlk, hml, hown, hts, hK, hC, hA, hnm, hmn⟩ := X
  have hl : lv_has ls 2 [(0, .ref mm), (1, .int (oI z1))] := hl
  have hkp0 : xkeep 1000 1010 f f := xkeep.refl
  have hj15 : ∀ (cd : Nat) (H : Heap) (locs : List Loc) (ls : Array Slot), cd = cdIn z1 0 4 → xH G A f H → va_S A s.heap H locs → lv_has ls 2 [(0, .ref mm), (1, .int (oI z1))] → W p l e rmX5_strake s m ([.ref mm, .int (oI z1)] : List Value).toArray below meth c H locs 0 0 (MQ below (xQ G A (fun v f1 => v = some (.int (if cdIn z1 0 4 = 0 then nI (strN (h2 hf) z1.toNat) else nI 0)) ∧ MM G f1 mm ad (cdIn z1 0 4) nw ln nt sl td la hf sa sw lf cf dd tt bh li ∧ xkeep 1000 1010 f f1)) ([.ref mm, .int (oI z1)] : List Value).toArray s rmX5_strake.cells rmX5_strake.slots A) (F0 m 15 ls [.int (nI cd), .ref mm]) := by
    intro cd H locs ls hcd hH hS hl
    refine x_put (C := RX5) (T := TX5) (N := 16) (ci := 4) (v := .int (nI cd)) (ty := (tyX5 0)) hx hb hts in_X5 tyX5_ok nmX5 hown hK hH hS hM.1 rfl 0 (by decide) (hts _ q977) (fun _ h9 => h9) rfl (by decide +kernel) rfl rfl (Nat.le_of_ble_eq_true rfl) dX5_strake_15 (fun H locs f_1 ef_1 hH hS => ?_)
    have hM_2 : MM G f_1 mm ad cd nw ln nt sl td la hf sa sw lf cf dd tt bh li := by rw [ef_1]; exact hM.put0 _
    have hkp_3 : xkeep 1000 1010 f f_1 := by rw [ef_1]; exact hkp0.set hM.1 (by decide)
    refine lv_aload_n hx hb dX5_strake_18 rfl (lv_at hl 0 rfl) ?_
    refine x_get (C := RX5) (T := TX5) (N := 16) (ci := 4) (v := .int (nI cd)) hx hb hts in_X5 hown hK hH hM_2.1 rfl 0 (by decide) (hts _ q977) (fun _ h9 => h9) rfl dX5_strake_19 ?_
    refine x_if_le (tgt := 29) (P := cd = 0) hx hb dX5_strake_22 (by decide) (nI_le0 (by rw [hcd]; unfold cdIn; split <;> first | omega | (split <;> first | omega | (split <;> omega)))) (fun c22 => ?_) (fun c22 => ?_)
    · skip
      have h9 : cdIn z1 0 4 = 0 := by rw [← hcd]; exact c22
      have hok := cdIn_0 h9
      have e_4 : oI z1 = nI z1.toNat := oI_nI (by omega)
      have hl : lv_has ls 2 [(0, .ref mm), (1, .int (nI z1.toNat))] := xl_eq hl (xl_cons rfl (xl_cons (congrArg (fun x => ((1 : Nat), Value.int x)) e_4) rfl))
      refine lv_aload_n hx hb dX5_strake_29 rfl (lv_at hl 0 rfl) ?_
      refine lv_iload_n hx hb dX5_strake_30 rfl (lv_at hl 1 rfl) ?_
      refine x_V (n := 1) (As := [.int (nI z1.toNat)]) (rest := []) ⟨hx, hb, hml, hown, hts⟩ hK hC hA hH hS (mX5_strakeOf l G A f_1 hM_2 hB z1.toNat (by omega)) q1161 q1163 qs26 q38 q1164 (by decide +kernel) ⟨Nat.le_of_ble_eq_true rfl, Nat.le_of_ble_eq_true rfl⟩ hM_2.1 rfl rfl rfl hl.1 rfl (Nat.le_of_ble_eq_true rfl) dX5_strake_31 (Nat.le_of_ble_eq_true rfl) (Nat.le_of_ble_eq_true rfl) (fun v f_5 H locs hp hH hS hz => ?_)
      obtain ⟨rfl, rfl⟩ := hp
      refine x_norm (g2 := F0 m 34 ls [.int (nI (strN (h2 hf) z1.toNat))]) (k := 0) (n := 0) (Nat.le_refl _) (Nat.le_refl _) rfl ?_
      exact x_iret hx hb hr hlk hH hS ⟨by simp only [if_pos h9], by rw [← hcd]; exact hM_2, hkp_3⟩ (Nat.le_of_ble_eq_true rfl) (Nat.le_of_ble_eq_true rfl) dX5_strake_34
    · skip
      have h9 : ¬ cdIn z1 0 4 = 0 := by rw [← hcd]; exact c22
      refine lv_iconst (v := nI 0) hx hb dX5_strake_25 rfl ?_
      refine lv_goto (tgt := 34) hx hb dX5_strake_26 (by decide) ?_
      exact x_iret hx hb hr hlk hH hS ⟨by simp only [if_neg h9], by rw [← hcd]; exact hM_2, hkp_3⟩ (Nat.le_of_ble_eq_true rfl) (Nat.le_of_ble_eq_true rfl) dX5_strake_34
  refine lv_aload_n hx hb dX5_strake_0 rfl (lv_at hl 0 rfl) ?_
  refine lv_iload_n hx hb dX5_strake_1 rfl (lv_at hl 1 rfl) ?_
  refine lv_iconst (v := nI 0) hx hb dX5_strake_2 rfl ?_
  refine lv_iconst (v := nI 4) hx hb dX5_strake_3 rfl ?_
  refine x_S (n := 3) (As := [.int (oI z1), .int (nI 0), .int (nI 4)]) (rest := [.ref mm]) ⟨hx, hb, hml, hown, hts⟩ hK hC hA hH hS (mX5_in l G A f _ _ _ z1 ((0 : Nat) : Int) ((4 : Nat) : Int) rfl (nI_oI _) (nI_oI _) hz1 (by decide) (by decide)) q1037 q1038 q38 q1039 (by decide +kernel) ⟨Nat.le_of_ble_eq_true rfl, Nat.le_of_ble_eq_true rfl⟩ rfl hl.1 rfl (Nat.le_of_ble_eq_true rfl) dX5_strake_4 (Nat.le_of_ble_eq_true rfl) (Nat.le_of_ble_eq_true rfl) (fun v f_6 H locs hp hH hS hz => ?_)
  obtain ⟨rfl, rfl⟩ := hp
  refine x_norm (g2 := F0 m 7 ls [.int (nI (xb (((0 : Nat) : Int) ≤ z1 ∧ z1 ≤ ((4 : Nat) : Int)))), .ref mm]) (k := 0) (n := 0) (Nat.le_refl _) (Nat.le_refl _) rfl ?_
  refine x_ifbeq (tgt := 14) (B := ((0 : Nat) : Int) ≤ z1 ∧ z1 ≤ ((4 : Nat) : Int)) hx hb dX5_strake_7 (by decide) (fun c7 => ?_) (fun c7 => ?_)
  · skip
    refine lv_iconst (v := nI 1) hx hb dX5_strake_14 rfl ?_
    exact hj15 1 _ _ _ (by unfold cdIn; split <;> first | rfl | (exfalso; omega)) hH hS (lv_sub hl [0, 1] rfl)
  · skip
    refine lv_iconst (v := nI 0) hx hb dX5_strake_10 rfl ?_
    refine lv_goto (tgt := 15) hx hb dX5_strake_11 (by decide) ?_
    exact hj15 0 _ _ _ (by unfold cdIn; split <;> first | rfl | (exfalso; omega)) hH hS (lv_sub hl [0, 1] rfl)
