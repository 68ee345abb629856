/-! THE MODEL, tides and days (printed by genm.py) -/
set_option maxRecDepth 100000
abbrev rmX5_tideOn : Room := { frames := 1, cells := 0, slots := 0, locals := 40 }
set_option maxHeartbeats 4000000 in
set_option maxRecDepth 100000 in
theorem mX5_tideOn (l : Launch) (G : xG) (A : Nat → Prop) (f : xF) {mm : Nat} {ad : Nat → Nat} {th nw ln nt sl td la : Nat} {hf sa sw lf cf dd tt bh li : Nat → Nat} (hM : MM G f mm ad th nw ln nt sl td la hf sa sw lf cf dd tt bh li) (hnt : nt ≤ 40) (hD : ∀ k, k < nt → dd k ≤ 9999) (d9 : Nat) (hd9 : d9 ≤ 100000) : xMet l yX5_tideOn cX5_tideOn 4 (some .int) rmX5_tideOn G A f [.ref mm, .int (nI d9)] (fun v f1 => v = some (.int (nI (tdN dd tt d9 nt))) ∧ f = f1) := by
  refine x_start (by decide) (Nat.le_of_ble_eq_true rfl) ?_
  intro p e s m below meth c ls X hH hS hl
  obtain ⟨hx, hb, hr, hlk, hml, hown, hts, hK, hC, hA, hnm, hmn⟩ := X
  have hl : lv_has ls 4 [(0, .ref mm), (1, .int (nI d9))] := hl
  refine lv_bipush (v := nI 7) hx hb dX5_tideOn_0 rfl ?_
  refine lv_iload_n hx hb dX5_tideOn_2 rfl (lv_at hl 1 rfl) ?_
  refine x_imul (v := nI (7 * d9)) hx hb (pk_mul _ _) dX5_tideOn_3 ?_
  refine lv_iconst (v := nI 3) hx hb dX5_tideOn_4 rfl ?_
  refine x_iadd (v := nI ((7 * d9) + 3)) hx hb (nI_add _ _) dX5_tideOn_5 ?_
  refine lv_bipush (v := nI 19) hx hb dX5_tideOn_6 rfl ?_
  refine x_iremN hx hb (by omega) (by decide) (by decide) dX5_tideOn_8 ?_
  refine lv_istore_n (lv' := [(2, .int (nI (((7 * d9) + 3) % 19))), (0, .ref mm), (1, .int (nI d9))]) hx hb dX5_tideOn_9 rfl hl (by decide) rfl (fun ls hl => ?_)
  refine lv_iconst (v := nI 0) hx hb dX5_tideOn_10 rfl ?_
  refine lv_istore_n (lv' := [(3, .int (nI 0)), (2, .int (nI (((7 * d9) + 3) % 19))), (0, .ref mm), (1, .int (nI d9))]) hx hb dX5_tideOn_11 rfl hl (by decide) rfl (fun ls hl => ?_)
  have hloop12 : ∀ (n : Nat) (k : Nat) (H : Heap) (locs : List Loc) (ls : Array Slot), k ≤ nt → (nt - k) < n → xH G A f H → va_S A s.heap H locs → lv_has ls 4 [(3, .int (nI k)), (2, .int (nI (tdN dd tt d9 k))), (0, .ref mm), (1, .int (nI d9))] → W p l e rmX5_tideOn s m ([.ref mm, .int (nI d9)] : List Value).toArray below meth c H locs 0 0 (MQ below (xQ G A (fun v f1 => v = some (.int (nI (tdN dd tt d9 nt))) ∧ f = f1)) ([.ref mm, .int (nI d9)] : List Value).toArray s rmX5_tideOn.cells rmX5_tideOn.slots A) (F0 m 12 ls []) := by
    intro n
    induction n with
    | zero => intro k H locs ls hk hn; exact absurd hn (Nat.not_lt_zero _)
    | succ n ih12 =>
      intro k H locs ls hk hn hH hS hl
      refine lv_iload_n hx hb dX5_tideOn_12 rfl (lv_at hl 0 rfl) ?_
      refine lv_aload_n hx hb dX5_tideOn_13 rfl (lv_at hl 2 rfl) ?_
      refine x_get (C := RX5) (T := TX5) (N := 16) (ci := 4) (v := .int (nI nt)) hx hb hts in_X5 hown hK hH hM.1 rfl 8 (by decide) (hts _ q985) (fun _ h9 => h9) rfl dX5_tideOn_14 ?_
      refine x_icmp_ge (tgt := 47) (P := nt ≤ k) hx hb dX5_tideOn_17 (by decide) (nI_le' (by omega) (by omega)) (fun c17 => ?_) (fun c17 => ?_)
      · skip
        refine lv_iload_n hx hb dX5_tideOn_47 rfl (lv_at hl 1 rfl) ?_
        exact x_iret hx hb hr hlk hH hS ⟨by rw [show k = nt by omega], rfl⟩ (Nat.le_of_ble_eq_true rfl) (Nat.le_of_ble_eq_true rfl) dX5_tideOn_48
      · skip
        have hk9 := hD k (by omega)
        refine lv_aload_n hx hb dX5_tideOn_20 rfl (lv_at hl 2 rfl) ?_
        refine x_get (C := RX5) (T := TX5) (N := 16) (ci := 4) (v := .ref (ad 5)) hx hb hts in_X5 hown hK hH hM.1 rfl 9 (by decide) (hts _ q986) (fun _ h9 => h9) rfl dX5_tideOn_21 ?_
        refine lv_iload_n hx hb dX5_tideOn_24 rfl (lv_at hl 0 rfl) ?_
        refine x_iald (j := k) hx hb hK hH (show f (ad 5) = some (xN G 1006 40 dd) from hM.2 5 (by decide)) rfl (by omega) (by decide) dX5_tideOn_25 ?_
        refine lv_iload_n hx hb dX5_tideOn_26 rfl (lv_at hl 3 rfl) ?_
        refine x_icmp_ne (tgt := 39) (P := (dd k) = d9) hx hb dX5_tideOn_27 (by decide) (nI_eq' (by omega) (by omega)) (fun c27 => ?_) (fun c27 => ?_)
        · skip
          refine lv_iload_n hx hb dX5_tideOn_39 rfl (lv_at hl 1 rfl) ?_
          refine lv_istore_n (lv' := [(2, .int (nI (tdN dd tt d9 k))), (3, .int (nI k)), (0, .ref mm), (1, .int (nI d9))]) hx hb dX5_tideOn_40 rfl hl (by decide) rfl (fun ls hl => ?_)
          refine lv_iinc (v := nI (k + 1)) (lv' := [(3, .int (nI (k + 1))), (2, .int (nI (tdN dd tt d9 k))), (0, .ref mm), (1, .int (nI d9))]) hx hb dX5_tideOn_41 hl (k := 1) rfl (nI_inc _) (by decide) rfl (fun ls hl => ?_)
          refine lv_goto (tgt := 12) hx hb dX5_tideOn_44 (by decide) ?_
          have e_2 : (nI (tdN dd tt d9 k) : Int32) = nI (tdN dd tt d9 (k + 1)) := by congr 1; rw [tdN_succ]; split <;> first | rfl | (exfalso; omega) | contradiction
          have hl : lv_has ls 4 [(3, .int (nI (k + 1))), (2, .int (nI (tdN dd tt d9 (k + 1)))), (0, .ref mm), (1, .int (nI d9))] := xl_eq hl (xl_cons rfl (xl_cons (congrArg (fun x => ((2 : Nat), Value.int x)) e_2) rfl))
          exact ih12 (k + 1) _ _ _ (by omega) (by omega) hH hS (lv_sub hl [0, 1, 2, 3] rfl)
        · skip
          refine lv_aload_n hx hb dX5_tideOn_30 rfl (lv_at hl 2 rfl) ?_
          refine x_get (C := RX5) (T := TX5) (N := 16) (ci := 4) (v := .ref (ad 6)) hx hb hts in_X5 hown hK hH hM.1 rfl 10 (by decide) (hts _ q987) (fun _ h9 => h9) rfl dX5_tideOn_31 ?_
          refine lv_iload_n hx hb dX5_tideOn_34 rfl (lv_at hl 0 rfl) ?_
          refine x_iald (j := k) hx hb hK hH (show f (ad 6) = some (xN G 1007 40 tt) from hM.2 6 (by decide)) rfl (by omega) (by decide) dX5_tideOn_35 ?_
          refine lv_goto (tgt := 40) hx hb dX5_tideOn_36 (by decide) ?_
          refine lv_istore_n (lv' := [(2, .int (nI (tt k))), (3, .int (nI k)), (0, .ref mm), (1, .int (nI d9))]) hx hb dX5_tideOn_40 rfl hl (by decide) rfl (fun ls hl => ?_)
          refine lv_iinc (v := nI (k + 1)) (lv' := [(3, .int (nI (k + 1))), (2, .int (nI (tt k))), (0, .ref mm), (1, .int (nI d9))]) hx hb dX5_tideOn_41 hl (k := 1) rfl (nI_inc _) (by decide) rfl (fun ls hl => ?_)
          refine lv_goto (tgt := 12) hx hb dX5_tideOn_44 (by decide) ?_
          have e_3 : (nI (tt k) : Int32) = nI (tdN dd tt d9 (k + 1)) := by congr 1; rw [tdN_succ]; split <;> first | rfl | (exfalso; omega) | contradiction
          have hl : lv_has ls 4 [(3, .int (nI (k + 1))), (2, .int (nI (tdN dd tt d9 (k + 1)))), (0, .ref mm), (1, .int (nI d9))] := xl_eq hl (xl_cons rfl (xl_cons (congrArg (fun x => ((2 : Nat), Value.int x)) e_3) rfl))
          exact ih12 (k + 1) _ _ _ (by omega) (by omega) hH hS (lv_sub hl [0, 1, 2, 3] rfl)
  have e_4 : (nI (((7 * d9) + 3) % 19) : Int32) = nI (tdN dd tt d9 0) := by rfl
  have hl : lv_has ls 4 [(3, .int (nI 0)), (2, .int (nI (tdN dd tt d9 0))), (0, .ref mm), (1, .int (nI d9))] := xl_eq hl (xl_cons rfl (xl_cons (congrArg (fun x => ((2 : Nat), Value.int x)) e_4) rfl))
  exact hloop12 (nt - 0 + 1) 0 _ _ _ (by omega) (Nat.lt_succ_self _) hH hS (lv_sub hl [0, 1, 2, 3] rfl)

abbrev rmX5_sill : Room := { frames := 2, cells := 0, slots := 0, locals := 80 }
set_option maxHeartbeats 4000000 in
set_option maxRecDepth 100000 in
theorem mX5_sill (l : Launch) (G : xG) (A : Nat → Prop) (f : xF) {mm : Nat} {ad : Nat → Nat} {th nw ln nt sl td la : Nat} {hf sa sw lf cf dd tt bh li : Nat → Nat} (hM : MM G f mm ad th nw ln nt sl td la hf sa sw lf cf dd tt bh li)  (z1 : Int) (hz1 : -2147483648 ≤ z1 ∧ z1 ≤ 2147483647) : xMet l yX5_sill cX5_sill 3 (some .int) rmX5_sill G A f [.ref mm, .int (oI z1)] (fun v f1 => v = some (.int (if cdIn z1 0 50 = 0 then nI sl else nI 0)) ∧ MM G f1 mm ad (cdIn z1 0 50) nw ln nt (if cdIn z1 0 50 = 0 then z1.toNat else sl) td la hf sa sw lf cf dd tt bh li ∧ xkeep 1000 1010 f f1) := by
  refine x_start (by decide) (Nat.le_of_ble_eq_true rfl) ?_
  intro p e s m below meth c ls X hH hS hl
  obtain ⟨hx, hb, hr, hlk, hml, hown, hts, hK, hC, hA, hnm, hmn⟩ := X
  have hl : lv_has ls 3 [(0, .ref mm), (1, .int (oI z1))] := hl
  have hkp0 : xkeep 1000 1010 f f := xkeep.refl
  have hj16 : ∀ (cd : Nat) (H : Heap) (locs : List Loc) (ls : Array Slot), cd = cdIn z1 0 50 → xH G A f H → va_S A s.heap H locs → lv_has ls 3 [(0, .ref mm), (1, .int (oI z1))] → W p l e rmX5_sill s m ([.ref mm, .int (oI z1)] : List Value).toArray below meth c H locs 0 0 (MQ below (xQ G A (fun v f1 => v = some (.int (if cdIn z1 0 50 = 0 then nI sl else nI 0)) ∧ MM G f1 mm ad (cdIn z1 0 50) nw ln nt (if cdIn z1 0 50 = 0 then z1.toNat else sl) td la hf sa sw lf cf dd tt bh li ∧ xkeep 1000 1010 f f1)) ([.ref mm, .int (oI z1)] : List Value).toArray s rmX5_sill.cells rmX5_sill.slots A) (F0 m 16 ls [.int (nI cd), .ref mm]) := by
    intro cd H locs ls hcd hH hS hl
    refine x_put (C := RX5) (T := TX5) (N := 16) (ci := 4) (v := .int (nI cd)) (ty := (tyX5 0)) hx hb hts in_X5 tyX5_ok nmX5 hown hK hH hS hM.1 rfl 0 (by decide) (hts _ q977) (fun _ h9 => h9) rfl (by decide +kernel) rfl rfl (Nat.le_of_ble_eq_true rfl) dX5_sill_16 (fun H locs f_1 ef_1 hH hS => ?_)
    have hM_2 : MM G f_1 mm ad cd nw ln nt sl td la hf sa sw lf cf dd tt bh li := by rw [ef_1]; exact hM.put0 _
    have hkp_3 : xkeep 1000 1010 f f_1 := by rw [ef_1]; exact hkp0.set hM.1 (by decide)
    refine lv_aload_n hx hb dX5_sill_19 rfl (lv_at hl 0 rfl) ?_
    refine x_get (C := RX5) (T := TX5) (N := 16) (ci := 4) (v := .int (nI cd)) hx hb hts in_X5 hown hK hH hM_2.1 rfl 0 (by decide) (hts _ q977) (fun _ h9 => h9) rfl dX5_sill_20 ?_
    refine x_if_le (tgt := 28) (P := cd = 0) hx hb dX5_sill_23 (by decide) (nI_le0 (by rw [hcd]; unfold cdIn; split <;> first | omega | (split <;> first | omega | (split <;> omega)))) (fun c23 => ?_) (fun c23 => ?_)
    · skip
      have h9 : cdIn z1 0 50 = 0 := by rw [← hcd]; exact c23
      have hok := cdIn_0 h9
      have e_4 : oI z1 = nI z1.toNat := oI_nI (by omega)
      have hl : lv_has ls 3 [(0, .ref mm), (1, .int (nI z1.toNat))] := xl_eq hl (xl_cons rfl (xl_cons (congrArg (fun x => ((1 : Nat), Value.int x)) e_4) rfl))
      refine lv_aload_n hx hb dX5_sill_28 rfl (lv_at hl 0 rfl) ?_
      refine x_get (C := RX5) (T := TX5) (N := 16) (ci := 4) (v := .int (nI sl)) hx hb hts in_X5 hown hK hH hM_2.1 rfl 11 (by decide) (hts _ q988) (fun _ h9 => h9) rfl dX5_sill_29 ?_
      refine lv_istore_n (lv' := [(2, .int (nI sl)), (0, .ref mm), (1, .int (nI z1.toNat))]) hx hb dX5_sill_32 rfl hl (by decide) rfl (fun ls hl => ?_)
      refine lv_aload_n hx hb dX5_sill_33 rfl (lv_at hl 1 rfl) ?_
      refine lv_iload_n hx hb dX5_sill_34 rfl (lv_at hl 2 rfl) ?_
      refine x_put (C := RX5) (T := TX5) (N := 16) (ci := 4) (v := .int (nI z1.toNat)) (ty := (tyX5 11)) hx hb hts in_X5 tyX5_ok nmX5 hown hK hH hS hM_2.1 rfl 11 (by decide) (hts _ q988) (fun _ h9 => h9) rfl (by decide +kernel) rfl rfl (Nat.le_of_ble_eq_true rfl) dX5_sill_35 (fun H locs f_5 ef_5 hH hS => ?_)
      have hM_6 : MM G f_5 mm ad cd nw ln nt z1.toNat td la hf sa sw lf cf dd tt bh li := by rw [ef_5]; exact hM_2.put4 _
      have hkp_7 : xkeep 1000 1010 f f_5 := by rw [ef_5]; exact hkp_3.set hM_2.1 (by decide)
      refine lv_iload_n hx hb dX5_sill_38 rfl (lv_at hl 0 rfl) ?_
      exact x_iret hx hb hr hlk hH hS ⟨by simp only [if_pos h9], by simp only [if_pos h9]; rw [← hcd]; exact hM_6, hkp_7⟩ (Nat.le_of_ble_eq_true rfl) (Nat.le_of_ble_eq_true rfl) dX5_sill_39
    · skip
      have h9 : ¬ cdIn z1 0 50 = 0 := by rw [← hcd]; exact c23
      refine lv_iconst (v := nI 0) hx hb dX5_sill_26 rfl ?_
      exact x_iret hx hb hr hlk hH hS ⟨by simp only [if_neg h9], by simp only [if_neg h9]; rw [← hcd]; exact hM_2, hkp_3⟩ (Nat.le_of_ble_eq_true rfl) (Nat.le_of_ble_eq_true rfl) dX5_sill_27
  refine lv_aload_n hx hb dX5_sill_0 rfl (lv_at hl 0 rfl) ?_
  refine lv_iload_n hx hb dX5_sill_1 rfl (lv_at hl 1 rfl) ?_
  refine lv_iconst (v := nI 0) hx hb dX5_sill_2 rfl ?_
  refine lv_bipush (v := nI 50) hx hb dX5_sill_3 rfl ?_
  refine x_S (n := 3) (As := [.int (oI z1), .int (nI 0), .int (nI 50)]) (rest := [.ref mm]) ⟨hx, hb, hml, hown, hts⟩ hK hC hA hH hS (mX5_in l G A f _ _ _ z1 ((0 : Nat) : Int) ((50 : Nat) : Int) rfl (nI_oI _) (nI_oI _) hz1 (by decide) (by decide)) q1037 q1038 q38 q1039 (by decide +kernel) ⟨Nat.le_of_ble_eq_true rfl, Nat.le_of_ble_eq_true rfl⟩ rfl hl.1 rfl (Nat.le_of_ble_eq_true rfl) dX5_sill_5 (Nat.le_of_ble_eq_true rfl) (Nat.le_of_ble_eq_true rfl) (fun v f_8 H locs hp hH hS hz => ?_)
  obtain ⟨rfl, rfl⟩ := hp
  refine x_norm (g2 := F0 m 8 ls [.int (nI (xb (((0 : Nat) : Int) ≤ z1 ∧ z1 ≤ ((50 : Nat) : Int)))), .ref mm]) (k := 0) (n := 0) (Nat.le_refl _) (Nat.le_refl _) rfl ?_
  refine x_ifbeq (tgt := 15) (B := ((0 : Nat) : Int) ≤ z1 ∧ z1 ≤ ((50 : Nat) : Int)) hx hb dX5_sill_8 (by decide) (fun c8 => ?_) (fun c8 => ?_)
  · skip
    refine lv_iconst (v := nI 1) hx hb dX5_sill_15 rfl ?_
    exact hj16 1 _ _ _ (by unfold cdIn; split <;> first | rfl | (exfalso; omega)) hH hS (lv_sub hl [0, 1] rfl)
  · skip
    refine lv_iconst (v := nI 0) hx hb dX5_sill_11 rfl ?_
    refine lv_goto (tgt := 16) hx hb dX5_sill_12 (by decide) ?_
    exact hj16 0 _ _ _ (by unfold cdIn; split <;> first | rfl | (exfalso; omega)) hH hS (lv_sub hl [0, 1] rfl)

abbrev rmX5_neededNow : Room := { frames := 6, cells := 0, slots := 0, locals := 240 }
set_option maxHeartbeats 4000000 in
set_option maxRecDepth 100000 in
theorem mX5_neededNow (l : Launch) (G : xG) (A : Nat → Prop) (f : xF) {mm : Nat} {ad : Nat → Nat} {th nw ln nt sl td la : Nat} {hf sa sw lf cf dd tt bh li : Nat → Nat} (hM : MM G f mm ad th nw ln nt sl td la hf sa sw lf cf dd tt bh li) (hB : ∀ w s, w < 6 → s < 9 → h2 hf w s ≤ 200) (hW : ∀ k, k < 17 → sw k ≤ 999) (hS9 : ∀ k, k < 17 → sa k ≤ 8) : xMet l yX5_neededNow cX5_neededNow 2 (some .int) rmX5_neededNow G A f [.ref mm] (fun v f1 => v = some (.int (oI (needZ (volN (h2 hf)) (momN (h2 hf)) (loadN sw) (lmomN sa sw) sl))) ∧ f = f1) := by
  refine x_start (by decide) (Nat.le_of_ble_eq_true rfl) ?_
  intro p e s m below meth c ls X hH hS hl
  obtain ⟨hx, hb, hr, hlk, hml, hown, hts, hK, hC, hA, hnm, hmn⟩ := X
  have hl : lv_has ls 2 [(0, .ref mm)] := hl
  have hd9 := drZ_bd (volN (h2 hf)) (loadN sw)
  have ht9 := trZ_bd (h := h2 hf) hB hW hS9
  refine lv_aload_n hx hb dX5_neededNow_0 rfl (lv_at hl 0 rfl) ?_
  refine x_V (n := 0) (As := []) (rest := []) ⟨hx, hb, hml, hown, hts⟩ hK hC hA hH hS (mX5_draughtNow l G A f hM  hB hW) q1126 q1128 qs21 q38 q1129 (by decide +kernel) ⟨Nat.le_of_ble_eq_true rfl, Nat.le_of_ble_eq_true rfl⟩ hM.1 rfl rfl rfl hl.1 rfl (Nat.le_of_ble_eq_true rfl) dX5_neededNow_1 (Nat.le_of_ble_eq_true rfl) (Nat.le_of_ble_eq_true rfl) (fun v f_1 H locs hp hH hS hz => ?_)
  obtain ⟨rfl, rfl⟩ := hp
  refine x_norm (g2 := F0 m 4 ls [.int (oI (drZ (volN (h2 hf)) (loadN sw)))]) (k := 0) (n := 0) (Nat.le_refl _) (Nat.le_refl _) rfl ?_
  refine lv_istore_n (lv' := [(1, .int (oI (drZ (volN (h2 hf)) (loadN sw)))), (0, .ref mm)]) hx hb dX5_neededNow_4 rfl hl (by decide) rfl (fun ls hl => ?_)
  refine lv_iload_n hx hb dX5_neededNow_5 rfl (lv_at hl 0 rfl) ?_
  refine lv_iconst (v := oI (-1)) hx hb dX5_neededNow_6 rfl ?_
  refine x_icmp_ne (tgt := 14) (P := (drZ (volN (h2 hf)) (loadN sw)) = (-1)) hx hb dX5_neededNow_7 (by decide) (oI_eq' rfl rfl ⟨by omega, by omega⟩ ⟨by omega, by omega⟩) (fun c7 => ?_) (fun c7 => ?_)
  · skip
    have hd8 := drZ_nat (show ¬ drZ (volN (h2 hf)) (loadN sw) = -1 from c7)
    have e_2 : (oI (drZ (volN (h2 hf)) (loadN sw)) : Int32) = nI ((drZ (volN (h2 hf)) (loadN sw)).toNat) := oI_nI (by omega)
    have hl : lv_has ls 2 [(1, .int (nI ((drZ (volN (h2 hf)) (loadN sw)).toNat))), (0, .ref mm)] := xl_eq hl (xl_cons (congrArg (fun x => ((1 : Nat), Value.int x)) e_2) rfl)
    refine lv_bipush (v := nI 10) hx hb dX5_neededNow_14 rfl ?_
    refine lv_iload_n hx hb dX5_neededNow_16 rfl (lv_at hl 0 rfl) ?_
    refine x_imul (v := nI (10 * ((drZ (volN (h2 hf)) (loadN sw)).toNat))) hx hb (pk_mul _ _) dX5_neededNow_17 ?_
    refine lv_aload_n hx hb dX5_neededNow_18 rfl (lv_at hl 1 rfl) ?_
    refine x_get (C := RX5) (T := TX5) (N := 16) (ci := 4) (v := .int (nI sl)) hx hb hts in_X5 hown hK hH hM.1 rfl 11 (by decide) (hts _ q988) (fun _ h9 => h9) rfl dX5_neededNow_19 ?_
    refine x_iadd (v := nI ((10 * ((drZ (volN (h2 hf)) (loadN sw)).toNat)) + sl)) hx hb (nI_add _ _) dX5_neededNow_22 ?_
    refine lv_aload_n hx hb dX5_neededNow_23 rfl (lv_at hl 1 rfl) ?_
    refine x_V (n := 0) (As := []) (rest := [.int (nI ((10 * ((drZ (volN (h2 hf)) (loadN sw)).toNat)) + sl))]) ⟨hx, hb, hml, hown, hts⟩ hK hC hA hH hS (mX5_trimNow l G A f hM  hB hW hS9) q1134 q1136 qs23 q38 q1137 (by decide +kernel) ⟨Nat.le_of_ble_eq_true rfl, Nat.le_of_ble_eq_true rfl⟩ hM.1 rfl rfl rfl hl.1 rfl (Nat.le_of_ble_eq_true rfl) dX5_neededNow_24 (Nat.le_of_ble_eq_true rfl) (Nat.le_of_ble_eq_true rfl) (fun v f_3 H locs hp hH hS hz => ?_)
    obtain ⟨rfl, rfl⟩ := hp
    refine x_norm (g2 := F0 m 27 ls [.int (oI (trZ (volN (h2 hf)) (momN (h2 hf)) (loadN sw) (lmomN sa sw))), .int (nI ((10 * ((drZ (volN (h2 hf)) (loadN sw)).toNat)) + sl))]) (k := 0) (n := 0) (Nat.le_refl _) (Nat.le_refl _) rfl ?_
    refine x_S (n := 1) (As := [.int (oI (trZ (volN (h2 hf)) (momN (h2 hf)) (loadN sw) (lmomN sa sw)))]) (rest := [.int (nI ((10 * ((drZ (volN (h2 hf)) (loadN sw)).toNat)) + sl))]) ⟨hx, hb, hml, hown, hts⟩ hK hC hA hH hS (mX5_size l G A f (trZ (volN (h2 hf)) (momN (h2 hf)) (loadN sw) (lmomN sa sw)) ⟨by omega, by omega⟩) q1082 q1083 q38 q1084 (by decide +kernel) ⟨Nat.le_of_ble_eq_true rfl, Nat.le_of_ble_eq_true rfl⟩ rfl hl.1 rfl (Nat.le_of_ble_eq_true rfl) dX5_neededNow_27 (Nat.le_of_ble_eq_true rfl) (Nat.le_of_ble_eq_true rfl) (fun v f_4 H locs hp hH hS hz => ?_)
    obtain ⟨rfl, rfl⟩ := hp
    refine x_norm (g2 := F0 m 30 ls [.int (nI ((trZ (volN (h2 hf)) (momN (h2 hf)) (loadN sw) (lmomN sa sw)).natAbs)), .int (nI ((10 * ((drZ (volN (h2 hf)) (loadN sw)).toNat)) + sl))]) (k := 0) (n := 0) (Nat.le_refl _) (Nat.le_refl _) rfl ?_
    refine lv_bipush (v := nI 10) hx hb dX5_neededNow_30 rfl ?_
    refine x_idivN hx hb (by omega) (by decide) (by decide) dX5_neededNow_32 ?_
    refine x_iadd (v := nI (((10 * ((drZ (volN (h2 hf)) (loadN sw)).toNat)) + sl) + (((trZ (volN (h2 hf)) (momN (h2 hf)) (loadN sw) (lmomN sa sw)).natAbs) / 10))) hx hb (nI_add _ _) dX5_neededNow_33 ?_
    exact x_iret hx hb hr hlk hH hS ⟨by unfold needZ; rw [if_neg c7, ← nI_oI], rfl⟩ (Nat.le_of_ble_eq_true rfl) (Nat.le_of_ble_eq_true rfl) dX5_neededNow_34
  · skip
    refine lv_iconst (v := oI (-1)) hx hb dX5_neededNow_10 rfl ?_
    refine lv_goto (tgt := 34) hx hb dX5_neededNow_11 (by decide) ?_
    exact x_iret hx hb hr hlk hH hS ⟨by unfold needZ; rw [if_pos c7] <;> rfl, rfl⟩ (Nat.le_of_ble_eq_true rfl) (Nat.le_of_ble_eq_true rfl) dX5_neededNow_34

abbrev rmX5_needed : Room := { frames := 7, cells := 0, slots := 0, locals := 280 }
set_option maxHeartbeats 4000000 in
set_option maxRecDepth 100000 in
theorem mX5_needed (l : Launch) (G : xG) (A : Nat → Prop) (f : xF) {mm : Nat} {ad : Nat → Nat} {th nw ln nt sl td la : Nat} {hf sa sw lf cf dd tt bh li : Nat → Nat} (hM : MM G f mm ad th nw ln nt sl td la hf sa sw lf cf dd tt bh li) (hB : ∀ w s, w < 6 → s < 9 → h2 hf w s ≤ 200) (hW : ∀ k, k < 17 → sw k ≤ 999) (hS9 : ∀ k, k < 17 → sa k ≤ 8) : xMet l yX5_needed cX5_needed 1 (some .int) rmX5_needed G A f [.ref mm] (fun v f1 => v = some (.int (oI (needZ (volN (h2 hf)) (momN (h2 hf)) (loadN sw) (lmomN sa sw) sl))) ∧ MM G f1 mm ad 0 nw ln nt sl td la hf sa sw lf cf dd tt bh li ∧ xkeep 1000 1010 f f1) := by
  refine x_start (by decide) (Nat.le_of_ble_eq_true rfl) ?_
  intro p e s m below meth c ls X hH hS hl
  obtain ⟨hx, hb, hr, hlk, hml, hown, hts, hK, hC, hA, hnm, hmn⟩ := X
  have hl : lv_has ls 1 [(0, .ref mm)] := hl
  have hkp0 : xkeep 1000 1010 f f := xkeep.refl
  refine lv_aload_n hx hb dX5_needed_0 rfl (lv_at hl 0 rfl) ?_
  refine lv_iconst (v := nI 0) hx hb dX5_needed_1 rfl ?_
  refine x_put (C := RX5) (T := TX5) (N := 16) (ci := 4) (v := .int (nI 0)) (ty := (tyX5 0)) hx hb hts in_X5 tyX5_ok nmX5 hown hK hH hS hM.1 rfl 0 (by decide) (hts _ q977) (fun _ h9 => h9) rfl (by decide +kernel) rfl rfl (Nat.le_of_ble_eq_true rfl) dX5_needed_2 (fun H locs f_1 ef_1 hH hS => ?_)
  have hM_2 : MM G f_1 mm ad 0 nw ln nt sl td la hf sa sw lf cf dd tt bh li := by rw [ef_1]; exact hM.put0 _
  have hkp_3 : xkeep 1000 1010 f f_1 := by rw [ef_1]; exact hkp0.set hM.1 (by decide)
  refine lv_aload_n hx hb dX5_needed_5 rfl (lv_at hl 0 rfl) ?_
  refine x_V (n := 0) (As := []) (rest := []) ⟨hx, hb, hml, hown, hts⟩ hK hC hA hH hS (mX5_neededNow l G A f_1 hM_2 hB hW hS9) q1197 q1199 qs30 q38 q1200 (by decide +kernel) ⟨Nat.le_of_ble_eq_true rfl, Nat.le_of_ble_eq_true rfl⟩ hM_2.1 rfl rfl rfl hl.1 rfl (Nat.le_of_ble_eq_true rfl) dX5_needed_6 (Nat.le_of_ble_eq_true rfl) (Nat.le_of_ble_eq_true rfl) (fun v f_4 H locs hp hH hS hz => ?_)
  obtain ⟨rfl, rfl⟩ := hp
  refine x_norm (g2 := F0 m 9 ls [.int (oI (needZ (volN (h2 hf)) (momN (h2 hf)) (loadN sw) (lmomN sa sw) sl))]) (k := 0) (n := 0) (Nat.le_refl _) (Nat.le_refl _) rfl ?_
  exact x_iret hx hb hr hlk hH hS ⟨rfl, hM_2, hkp_3⟩ (Nat.le_of_ble_eq_true rfl) (Nat.le_of_ble_eq_true rfl) dX5_needed_9

abbrev rmX5_pass : Room := { frames := 2, cells := 0, slots := 0, locals := 80 }
set_option maxHeartbeats 4000000 in
set_option maxRecDepth 100000 in
theorem mX5_pass (l : Launch) (G : xG) (A : Nat → Prop) (f : xF) {mm : Nat} {ad : Nat → Nat} {th nw ln nt sl td la : Nat} {hf sa sw lf cf dd tt bh li : Nat → Nat} (hM : MM G f mm ad th nw ln nt sl td la hf sa sw lf cf dd tt bh li) (htd : td ≤ 9000) (z1 : Int) (hz1 : -2147483648 ≤ z1 ∧ z1 ≤ 2147483647) : xMet l yX5_pass cX5_pass 2 (some .int) rmX5_pass G A f [.ref mm, .int (oI z1)] (fun v f1 => v = some (.int (if cdPass z1 td = 0 then nI (td + z1.toNat) else nI 0)) ∧ MM G f1 mm ad (cdPass z1 td) nw ln nt sl (if cdPass z1 td = 0 then td + z1.toNat else td) la hf sa sw lf cf dd tt bh li ∧ xkeep 1000 1010 f f1) := by
  refine x_start (by decide) (Nat.le_of_ble_eq_true rfl) ?_
  intro p e s m below meth c ls X hH hS hl
  obtain ⟨hx, hb, hr, hlk, hml, hown, hts, hK, hC, hA, hnm, hmn⟩ := X
  have hl : lv_has ls 2 [(0, .ref mm), (1, .int (oI z1))] := hl
  have hkp0 : xkeep 1000 1010 f f := xkeep.refl
  have hj32 : ∀ (cd : Nat) (H : Heap) (locs : List Loc) (ls : Array Slot), cd = cdPass z1 td → xH G A f H → va_S A s.heap H locs → lv_has ls 2 [(0, .ref mm), (1, .int (oI z1))] → W p l e rmX5_pass s m ([.ref mm, .int (oI z1)] : List Value).toArray below meth c H locs 0 0 (MQ below (xQ G A (fun v f1 => v = some (.int (if cdPass z1 td = 0 then nI (td + z1.toNat) else nI 0)) ∧ MM G f1 mm ad (cdPass z1 td) nw ln nt sl (if cdPass z1 td = 0 then td + z1.toNat else td) la hf sa sw lf cf dd tt bh li ∧ xkeep 1000 1010 f f1)) ([.ref mm, .int (oI z1)] : List Value).toArray s rmX5_pass.cells rmX5_pass.slots A) (F0 m 32 ls [.int (nI cd), .ref mm]) := by
    intro cd H locs ls hcd hH hS hl
    refine x_put (C := RX5) (T := TX5) (N := 16) (ci := 4) (v := .int (nI cd)) (ty := (tyX5 0)) hx hb hts in_X5 tyX5_ok nmX5 hown hK hH hS hM.1 rfl 0 (by decide) (hts _ q977) (fun _ h9 => h9) rfl (by decide +kernel) rfl rfl (Nat.le_of_ble_eq_true rfl) dX5_pass_32 (fun H locs f_1 ef_1 hH hS => ?_)
    have hM_2 : MM G f_1 mm ad cd nw ln nt sl td la hf sa sw lf cf dd tt bh li := by rw [ef_1]; exact hM.put0 _
    have hkp_3 : xkeep 1000 1010 f f_1 := by rw [ef_1]; exact hkp0.set hM.1 (by decide)
    refine lv_aload_n hx hb dX5_pass_35 rfl (lv_at hl 0 rfl) ?_
    refine x_get (C := RX5) (T := TX5) (N := 16) (ci := 4) (v := .int (nI cd)) hx hb hts in_X5 hown hK hH hM_2.1 rfl 0 (by decide) (hts _ q977) (fun _ h9 => h9) rfl dX5_pass_36 ?_
    refine x_if_le (tgt := 44) (P := cd = 0) hx hb dX5_pass_39 (by decide) (nI_le0 (by rw [hcd]; unfold cdPass; split <;> first | omega | (split <;> first | omega | (split <;> omega)))) (fun c39 => ?_) (fun c39 => ?_)
    · skip
      have h9 : cdPass z1 td = 0 := by rw [← hcd]; exact c39
      have hok := cdPass_0 h9
      have e_4 : oI z1 = nI z1.toNat := oI_nI (by omega)
      have hl : lv_has ls 2 [(0, .ref mm), (1, .int (nI z1.toNat))] := xl_eq hl (xl_cons rfl (xl_cons (congrArg (fun x => ((1 : Nat), Value.int x)) e_4) rfl))
      refine lv_aload_n hx hb dX5_pass_44 rfl (lv_at hl 0 rfl) ?_
      refine lv_dup hx hb dX5_pass_45 rfl ?_
      refine x_get (C := RX5) (T := TX5) (N := 16) (ci := 4) (v := .int (nI td)) hx hb hts in_X5 hown hK hH hM_2.1 rfl 12 (by decide) (hts _ q989) (fun _ h9 => h9) rfl dX5_pass_46 ?_
      refine lv_iload_n hx hb dX5_pass_49 rfl (lv_at hl 1 rfl) ?_
      refine x_iadd (v := nI (td + z1.toNat)) hx hb (nI_add _ _) dX5_pass_50 ?_
      refine x_put (C := RX5) (T := TX5) (N := 16) (ci := 4) (v := .int (nI (td + z1.toNat))) (ty := (tyX5 12)) hx hb hts in_X5 tyX5_ok nmX5 hown hK hH hS hM_2.1 rfl 12 (by decide) (hts _ q989) (fun _ h9 => h9) rfl (by decide +kernel) rfl rfl (Nat.le_of_ble_eq_true rfl) dX5_pass_51 (fun H locs f_5 ef_5 hH hS => ?_)
      have hM_6 : MM G f_5 mm ad cd nw ln nt sl (td + z1.toNat) la hf sa sw lf cf dd tt bh li := by rw [ef_5]; exact hM_2.put5 _
      have hkp_7 : xkeep 1000 1010 f f_5 := by rw [ef_5]; exact hkp_3.set hM_2.1 (by decide)
      refine lv_aload_n hx hb dX5_pass_54 rfl (lv_at hl 0 rfl) ?_
      refine x_get (C := RX5) (T := TX5) (N := 16) (ci := 4) (v := .int (nI (td + z1.toNat))) hx hb hts in_X5 hown hK hH hM_6.1 rfl 12 (by decide) (hts _ q989) (fun _ h9 => h9) rfl dX5_pass_55 ?_
      exact x_iret hx hb hr hlk hH hS ⟨by simp only [if_pos h9], by simp only [if_pos h9]; rw [← hcd]; exact hM_6, hkp_7⟩ (Nat.le_of_ble_eq_true rfl) (Nat.le_of_ble_eq_true rfl) dX5_pass_58
    · skip
      have h9 : ¬ cdPass z1 td = 0 := by rw [← hcd]; exact c39
      refine lv_iconst (v := nI 0) hx hb dX5_pass_42 rfl ?_
      exact x_iret hx hb hr hlk hH hS ⟨by simp only [if_neg h9], by simp only [if_neg h9]; rw [← hcd]; exact hM_2, hkp_3⟩ (Nat.le_of_ble_eq_true rfl) (Nat.le_of_ble_eq_true rfl) dX5_pass_43
  refine lv_aload_n hx hb dX5_pass_0 rfl (lv_at hl 0 rfl) ?_
  refine lv_iload_n hx hb dX5_pass_1 rfl (lv_at hl 1 rfl) ?_
  refine lv_iconst (v := nI 1) hx hb dX5_pass_2 rfl ?_
  refine lv_bipush (v := nI 99) hx hb dX5_pass_3 rfl ?_
  refine x_S (n := 3) (As := [.int (oI z1), .int (nI 1), .int (nI 99)]) (rest := [.ref mm]) ⟨hx, hb, hml, hown, hts⟩ hK hC hA hH hS (mX5_in l G A f _ _ _ z1 ((1 : Nat) : Int) ((99 : Nat) : Int) rfl (nI_oI _) (nI_oI _) hz1 (by decide) (by decide)) q1037 q1038 q38 q1039 (by decide +kernel) ⟨Nat.le_of_ble_eq_true rfl, Nat.le_of_ble_eq_true rfl⟩ rfl hl.1 rfl (Nat.le_of_ble_eq_true rfl) dX5_pass_5 (Nat.le_of_ble_eq_true rfl) (Nat.le_of_ble_eq_true rfl) (fun v f_8 H locs hp hH hS hz => ?_)
  obtain ⟨rfl, rfl⟩ := hp
  refine x_norm (g2 := F0 m 8 ls [.int (nI (xb (((1 : Nat) : Int) ≤ z1 ∧ z1 ≤ ((99 : Nat) : Int)))), .ref mm]) (k := 0) (n := 0) (Nat.le_refl _) (Nat.le_refl _) rfl ?_
  refine x_ifbne (tgt := 15) (B := ((1 : Nat) : Int) ≤ z1 ∧ z1 ≤ ((99 : Nat) : Int)) hx hb dX5_pass_8 (by decide) (fun c8 => ?_) (fun c8 => ?_)
  · skip
    refine lv_aload_n hx hb dX5_pass_15 rfl (lv_at hl 0 rfl) ?_
    refine x_get (C := RX5) (T := TX5) (N := 16) (ci := 4) (v := .int (nI td)) hx hb hts in_X5 hown hK hH hM.1 rfl 12 (by decide) (hts _ q989) (fun _ h9 => h9) rfl dX5_pass_16 ?_
    refine lv_iload_n hx hb dX5_pass_19 rfl (lv_at hl 1 rfl) ?_
    refine x_iadd (v := oI (((td : Nat) : Int) + z1)) hx hb (oI_add' (nI_oI _) rfl) dX5_pass_20 ?_
    refine lv_sipush (v := nI 9000) hx hb dX5_pass_21 rfl ?_
    refine x_icmp_le (tgt := 31) (P := (((td : Nat) : Int) + z1) ≤ ((9000 : Nat) : Int)) hx hb dX5_pass_24 (by decide) (oI_le' rfl (nI_oI _) ⟨by omega, by omega⟩ ⟨by omega, by omega⟩) (fun c24 => ?_) (fun c24 => ?_)
    · skip
      refine lv_iconst (v := nI 0) hx hb dX5_pass_31 rfl ?_
      exact hj32 0 _ _ _ (by unfold cdPass; split <;> first | rfl | (exfalso; omega) | (split <;> first | rfl | (exfalso; omega))) hH hS (lv_sub hl [0, 1] rfl)
    · skip
      refine lv_iconst (v := nI 2) hx hb dX5_pass_27 rfl ?_
      refine lv_goto (tgt := 32) hx hb dX5_pass_28 (by decide) ?_
      exact hj32 2 _ _ _ (by unfold cdPass; split <;> first | rfl | (exfalso; omega) | (split <;> first | rfl | (exfalso; omega))) hH hS (lv_sub hl [0, 1] rfl)
  · skip
    refine lv_iconst (v := nI 1) hx hb dX5_pass_11 rfl ?_
    refine lv_goto (tgt := 32) hx hb dX5_pass_12 (by decide) ?_
    exact hj32 1 _ _ _ (by unfold cdPass; split <;> first | rfl | (exfalso; omega) | (split <;> first | rfl | (exfalso; omega))) hH hS (lv_sub hl [0, 1] rfl)

abbrev rmX5_day : Room := { frames := 7, cells := 0, slots := 0, locals := 280 }
set_option maxHeartbeats 4000000 in
set_option maxRecDepth 100000 in
theorem mX5_day (l : Launch) (G : xG) (A : Nat → Prop) (f : xF) {mm : Nat} {ad : Nat → Nat} {th nw ln nt sl td la : Nat} {hf sa sw lf cf dd tt bh li : Nat → Nat} (hM : MM G f mm ad th nw ln nt sl td la hf sa sw lf cf dd tt bh li) (hB : ∀ w s, w < 6 → s < 9 → h2 hf w s ≤ 200) (hW : ∀ k, k < 17 → sw k ≤ 999) (hS9 : ∀ k, k < 17 → sa k ≤ 8) (hnt : nt ≤ 40) (hD : ∀ k, k < nt → dd k ≤ 9999) (hT : ∀ k, k < nt → tt k ≤ 99) (hsl : sl ≤ 50) (htd : td ≤ 9000) (hla : la < 2) : xMet l yX5_day cX5_day 4 (some .int) rmX5_day G A f [.ref mm] (fun v f1 => v = some (.int (oI (dayZ dd tt nt td la (needZ (volN (h2 hf)) (momN (h2 hf)) (loadN sw) (lmomN sa sw) sl)))) ∧ MM G f1 mm ad 0 nw ln nt sl td la hf sa sw lf cf dd tt bh li ∧ xkeep 1000 1010 f f1) := by
  refine x_start (by decide) (Nat.le_of_ble_eq_true rfl) ?_
  intro p e s m below meth c ls X hH hS hl
  obtain ⟨hx, hb, hr, hlk, hml, hown, hts, hK, hC, hA, hnm, hmn⟩ := X
  have hl : lv_has ls 4 [(0, .ref mm)] := hl
  have hkp0 : xkeep 1000 1010 f f := xkeep.refl
  have hn9 := needZ_bd (h := h2 hf) (sl := sl) hB hW hS9 hsl
  refine lv_aload_n hx hb dX5_day_0 rfl (lv_at hl 0 rfl) ?_
  refine lv_iconst (v := nI 0) hx hb dX5_day_1 rfl ?_
  refine x_put (C := RX5) (T := TX5) (N := 16) (ci := 4) (v := .int (nI 0)) (ty := (tyX5 0)) hx hb hts in_X5 tyX5_ok nmX5 hown hK hH hS hM.1 rfl 0 (by decide) (hts _ q977) (fun _ h9 => h9) rfl (by decide +kernel) rfl rfl (Nat.le_of_ble_eq_true rfl) dX5_day_2 (fun H locs f_1 ef_1 hH hS => ?_)
  have hM_2 : MM G f_1 mm ad 0 nw ln nt sl td la hf sa sw lf cf dd tt bh li := by rw [ef_1]; exact hM.put0 _
  have hkp_3 : xkeep 1000 1010 f f_1 := by rw [ef_1]; exact hkp0.set hM.1 (by decide)
  refine lv_aload_n hx hb dX5_day_5 rfl (lv_at hl 0 rfl) ?_
  refine x_V (n := 0) (As := []) (rest := []) ⟨hx, hb, hml, hown, hts⟩ hK hC hA hH hS (mX5_neededNow l G A f_1 hM_2 hB hW hS9) q1197 q1199 qs30 q38 q1200 (by decide +kernel) ⟨Nat.le_of_ble_eq_true rfl, Nat.le_of_ble_eq_true rfl⟩ hM_2.1 rfl rfl rfl hl.1 rfl (Nat.le_of_ble_eq_true rfl) dX5_day_6 (Nat.le_of_ble_eq_true rfl) (Nat.le_of_ble_eq_true rfl) (fun v f_4 H locs hp hH hS hz => ?_)
  obtain ⟨rfl, rfl⟩ := hp
  refine x_norm (g2 := F0 m 9 ls [.int (oI (needZ (volN (h2 hf)) (momN (h2 hf)) (loadN sw) (lmomN sa sw) sl))]) (k := 0) (n := 0) (Nat.le_refl _) (Nat.le_refl _) rfl ?_
  refine lv_istore_n (lv' := [(1, .int (oI (needZ (volN (h2 hf)) (momN (h2 hf)) (loadN sw) (lmomN sa sw) sl))), (0, .ref mm)]) hx hb dX5_day_9 rfl hl (by decide) rfl (fun ls hl => ?_)
  refine lv_iconst (v := oI (-1)) hx hb dX5_day_10 rfl ?_
  refine lv_istore_n (lv' := [(2, .int (oI (-1))), (1, .int (oI (needZ (volN (h2 hf)) (momN (h2 hf)) (loadN sw) (lmomN sa sw) sl))), (0, .ref mm)]) hx hb dX5_day_11 rfl hl (by decide) rfl (fun ls hl => ?_)
  refine lv_aload_n hx hb dX5_day_12 rfl (lv_at hl 2 rfl) ?_
  refine x_get (C := RX5) (T := TX5) (N := 16) (ci := 4) (v := .int (nI td)) hx hb hts in_X5 hown hK hH hM_2.1 rfl 12 (by decide) (hts _ q989) (fun _ h9 => h9) rfl dX5_day_13 ?_
  refine lv_bipush (v := nI 99) hx hb dX5_day_16 rfl ?_
  refine x_iadd (v := nI (td + 99)) hx hb (nI_add _ _) dX5_day_18 ?_
  refine lv_istore_n (lv' := [(3, .int (nI (td + 99))), (2, .int (oI (-1))), (1, .int (oI (needZ (volN (h2 hf)) (momN (h2 hf)) (loadN sw) (lmomN sa sw) sl))), (0, .ref mm)]) hx hb dX5_day_19 rfl hl (by decide) rfl (fun ls hl => ?_)
  have hloop20 : ∀ (n : Nat) (t : Nat) (H : Heap) (locs : List Loc) (ls : Array Slot), t ≤ 100 → (0 < t → needZ (volN (h2 hf)) (momN (h2 hf)) (loadN sw) (lmomN sa sw) sl ≠ -1 ∧ la = 0) → (100 - t) < n → xH G A f_1 H → va_S A s.heap H locs → lv_has ls 4 [(3, .int (oI (((td + 99 : Nat) : Int) - ((t : Nat) : Int)))), (2, .int (oI (frst (fun k => decide (needZ (volN (h2 hf)) (momN (h2 hf)) (loadN sw) (lmomN sa sw) sl ≤ (tdN dd tt k nt : Int))) (td + 100 - t) t))), (1, .int (oI (needZ (volN (h2 hf)) (momN (h2 hf)) (loadN sw) (lmomN sa sw) sl))), (0, .ref mm)] → W p l e rmX5_day s m ([.ref mm] : List Value).toArray below meth c H locs 0 0 (MQ below (xQ G A (fun v f1 => v = some (.int (oI (dayZ dd tt nt td la (needZ (volN (h2 hf)) (momN (h2 hf)) (loadN sw) (lmomN sa sw) sl)))) ∧ MM G f1 mm ad 0 nw ln nt sl td la hf sa sw lf cf dd tt bh li ∧ xkeep 1000 1010 f f1)) ([.ref mm] : List Value).toArray s rmX5_day.cells rmX5_day.slots A) (F0 m 20 ls []) := by
    intro n
    induction n with
    | zero => intro t H locs ls ht htn hn; exact absurd hn (Nat.not_lt_zero _)
    | succ n ih20 =>
      intro t H locs ls ht htn hn hH hS hl
      refine lv_iload_n hx hb dX5_day_20 rfl (lv_at hl 0 rfl) ?_
      refine lv_aload_n hx hb dX5_day_21 rfl (lv_at hl 3 rfl) ?_
      refine x_get (C := RX5) (T := TX5) (N := 16) (ci := 4) (v := .int (nI td)) hx hb hts in_X5 hown hK hH hM_2.1 rfl 12 (by decide) (hts _ q989) (fun _ h9 => h9) rfl dX5_day_22 ?_
      refine x_icmp_lt (tgt := 61) (P := (((td + 99 : Nat) : Int) - ((t : Nat) : Int)) < ((td : Nat) : Int)) hx hb dX5_day_25 (by decide) (oI_lt' rfl (nI_oI _) ⟨by omega, by omega⟩ ⟨by omega, by omega⟩) (fun c25 => ?_) (fun c25 => ?_)
      · skip
        refine lv_iload_n hx hb dX5_day_61 rfl (lv_at hl 1 rfl) ?_
        exact x_iret hx hb hr hlk hH hS ⟨by rw [show t = 100 by omega, dayZ, if_neg (by omega), show td + 100 - 100 = td by omega], hM_2, hkp_3⟩ (Nat.le_of_ble_eq_true rfl) (Nat.le_of_ble_eq_true rfl) dX5_day_62
      · skip
        have e_6 : (oI (((td + 99 : Nat) : Int) - ((t : Nat) : Int)) : Int32) = nI (td + 99 - t) := oI_nI (by omega)
        have hl : lv_has ls 4 [(3, .int (nI (td + 99 - t))), (2, .int (oI (frst (fun k => decide (needZ (volN (h2 hf)) (momN (h2 hf)) (loadN sw) (lmomN sa sw) sl ≤ (tdN dd tt k nt : Int))) (td + 100 - t) t))), (1, .int (oI (needZ (volN (h2 hf)) (momN (h2 hf)) (loadN sw) (lmomN sa sw) sl))), (0, .ref mm)] := xl_eq hl (xl_cons (congrArg (fun x => ((3 : Nat), Value.int x)) e_6) rfl)
        have ht99 := tdN_le (dd := dd) (d := td + 99 - t) hT
        refine lv_iload_n hx hb dX5_day_28 rfl (lv_at hl 2 rfl) ?_
        refine lv_iconst (v := oI (-1)) hx hb dX5_day_29 rfl ?_
        refine x_icmp_eq (tgt := 61) (P := (needZ (volN (h2 hf)) (momN (h2 hf)) (loadN sw) (lmomN sa sw) sl) = (-1)) hx hb dX5_day_30 (by decide) (oI_eq' rfl rfl ⟨by omega, by omega⟩ ⟨by omega, by omega⟩) (fun c30 => ?_) (fun c30 => ?_)
        · skip
          have ht0 : t = 0 := by omega
          refine lv_iload_n hx hb dX5_day_61 rfl (lv_at hl 1 rfl) ?_
          exact x_iret hx hb hr hlk hH hS ⟨by subst ht0; rw [dayZ, if_pos (Or.inl c30)] <;> rfl, hM_2, hkp_3⟩ (Nat.le_of_ble_eq_true rfl) (Nat.le_of_ble_eq_true rfl) dX5_day_62
        · skip
          refine lv_aload_n hx hb dX5_day_33 rfl (lv_at hl 3 rfl) ?_
          refine x_get (C := RX5) (T := TX5) (N := 16) (ci := 4) (v := .int (nI la)) hx hb hts in_X5 hown hK hH hM_2.1 rfl 13 (by decide) (hts _ q990) (fun _ h9 => h9) rfl dX5_day_34 ?_
          refine x_if_ne (tgt := 61) (P := la = 0) hx hb dX5_day_37 (by decide) (nI_eq0 (by omega)) (fun c37 => ?_) (fun c37 => ?_)
          · skip
            have ht0 : t = 0 := by omega
            refine lv_iload_n hx hb dX5_day_61 rfl (lv_at hl 1 rfl) ?_
            exact x_iret hx hb hr hlk hH hS ⟨by subst ht0; rw [dayZ, if_pos (Or.inr c37)] <;> rfl, hM_2, hkp_3⟩ (Nat.le_of_ble_eq_true rfl) (Nat.le_of_ble_eq_true rfl) dX5_day_62
          · skip
            refine lv_aload_n hx hb dX5_day_40 rfl (lv_at hl 3 rfl) ?_
            refine lv_iload_n hx hb dX5_day_41 rfl (lv_at hl 0 rfl) ?_
            refine x_V (n := 1) (As := [.int (nI (td + 99 - t))]) (rest := []) ⟨hx, hb, hml, hown, hts⟩ hK hC hA hH hS (mX5_tideOn l G A f_1 hM_2 hnt hD (td + 99 - t) (by omega)) q1185 q1187 qs29 q38 q1188 (by decide +kernel) ⟨Nat.le_of_ble_eq_true rfl, Nat.le_of_ble_eq_true rfl⟩ hM_2.1 rfl rfl rfl hl.1 rfl (Nat.le_of_ble_eq_true rfl) dX5_day_42 (Nat.le_of_ble_eq_true rfl) (Nat.le_of_ble_eq_true rfl) (fun v f_7 H locs hp hH hS hz => ?_)
            obtain ⟨rfl, rfl⟩ := hp
            refine x_norm (g2 := F0 m 45 ls [.int (nI (tdN dd tt (td + 99 - t) nt))]) (k := 0) (n := 0) (Nat.le_refl _) (Nat.le_refl _) rfl ?_
            refine lv_iload_n hx hb dX5_day_45 rfl (lv_at hl 2 rfl) ?_
            refine x_icmp_lt (tgt := 53) (P := ((tdN dd tt (td + 99 - t) nt : Nat) : Int) < (needZ (volN (h2 hf)) (momN (h2 hf)) (loadN sw) (lmomN sa sw) sl)) hx hb dX5_day_46 (by decide) (oI_lt' (nI_oI _) rfl ⟨by omega, by omega⟩ ⟨by omega, by omega⟩) (fun c46 => ?_) (fun c46 => ?_)
            · skip
              refine lv_iload_n hx hb dX5_day_53 rfl (lv_at hl 1 rfl) ?_
              refine lv_istore_n (lv' := [(2, .int (oI (frst (fun k => decide (needZ (volN (h2 hf)) (momN (h2 hf)) (loadN sw) (lmomN sa sw) sl ≤ (tdN dd tt k nt : Int))) (td + 100 - t) t))), (3, .int (nI (td + 99 - t))), (1, .int (oI (needZ (volN (h2 hf)) (momN (h2 hf)) (loadN sw) (lmomN sa sw) sl))), (0, .ref mm)]) hx hb dX5_day_54 rfl hl (by decide) rfl (fun ls hl => ?_)
              refine lv_iinc (v := oI (((td + 99 - t : Nat) : Int) + (-1))) (lv' := [(3, .int (oI (((td + 99 - t : Nat) : Int) + (-1)))), (2, .int (oI (frst (fun k => decide (needZ (volN (h2 hf)) (momN (h2 hf)) (loadN sw) (lmomN sa sw) sl ≤ (tdN dd tt k nt : Int))) (td + 100 - t) t))), (1, .int (oI (needZ (volN (h2 hf)) (momN (h2 hf)) (loadN sw) (lmomN sa sw) sl))), (0, .ref mm)]) hx hb dX5_day_55 hl (k := 1) rfl (oI_add' (nI_oI _) rfl) (by decide) rfl (fun ls hl => ?_)
              refine lv_goto (tgt := 20) hx hb dX5_day_58 (by decide) ?_
              have e_8 : (oI (((td + 99 - t : Nat) : Int) + (-1)) : Int32) = oI (((td + 99 : Nat) : Int) - (((t + 1) : Nat) : Int)) := by unfold oI; congr 1; omega
              have e_9 : (oI (frst (fun k => decide (needZ (volN (h2 hf)) (momN (h2 hf)) (loadN sw) (lmomN sa sw) sl ≤ (tdN dd tt k nt : Int))) (td + 100 - t) t) : Int32) = oI (frst (fun k => decide (needZ (volN (h2 hf)) (momN (h2 hf)) (loadN sw) (lmomN sa sw) sl ≤ (tdN dd tt k nt : Int))) (td + 100 - (t + 1)) (t + 1)) := by rw [frst_dayd (by omega)]; first | (rw [if_pos (by show decide (_ ≤ _) = true; simp; omega)]; exact nI_oI _) | (rw [if_neg (by show ¬ decide (_ ≤ _) = true; simp; omega)])
              have hl : lv_has ls 4 [(3, .int (oI (((td + 99 : Nat) : Int) - (((t + 1) : Nat) : Int)))), (2, .int (oI (frst (fun k => decide (needZ (volN (h2 hf)) (momN (h2 hf)) (loadN sw) (lmomN sa sw) sl ≤ (tdN dd tt k nt : Int))) (td + 100 - (t + 1)) (t + 1)))), (1, .int (oI (needZ (volN (h2 hf)) (momN (h2 hf)) (loadN sw) (lmomN sa sw) sl))), (0, .ref mm)] := xl_eq hl (xl_cons (congrArg (fun x => ((3 : Nat), Value.int x)) e_8) (xl_cons (congrArg (fun x => ((2 : Nat), Value.int x)) e_9) rfl))
              exact ih20 (t + 1) _ _ _ (by omega) (by omega) (by omega) hH hS (lv_sub hl [0, 1, 2, 3] rfl)
            · skip
              refine lv_iload_n hx hb dX5_day_49 rfl (lv_at hl 0 rfl) ?_
              refine lv_goto (tgt := 54) hx hb dX5_day_50 (by decide) ?_
              refine lv_istore_n (lv' := [(2, .int (nI (td + 99 - t))), (3, .int (nI (td + 99 - t))), (1, .int (oI (needZ (volN (h2 hf)) (momN (h2 hf)) (loadN sw) (lmomN sa sw) sl))), (0, .ref mm)]) hx hb dX5_day_54 rfl hl (by decide) rfl (fun ls hl => ?_)
              refine lv_iinc (v := oI (((td + 99 - t : Nat) : Int) + (-1))) (lv' := [(3, .int (oI (((td + 99 - t : Nat) : Int) + (-1)))), (2, .int (nI (td + 99 - t))), (1, .int (oI (needZ (volN (h2 hf)) (momN (h2 hf)) (loadN sw) (lmomN sa sw) sl))), (0, .ref mm)]) hx hb dX5_day_55 hl (k := 1) rfl (oI_add' (nI_oI _) rfl) (by decide) rfl (fun ls hl => ?_)
              refine lv_goto (tgt := 20) hx hb dX5_day_58 (by decide) ?_
              have e_10 : (oI (((td + 99 - t : Nat) : Int) + (-1)) : Int32) = oI (((td + 99 : Nat) : Int) - (((t + 1) : Nat) : Int)) := by unfold oI; congr 1; omega
              have e_11 : (nI (td + 99 - t) : Int32) = oI (frst (fun k => decide (needZ (volN (h2 hf)) (momN (h2 hf)) (loadN sw) (lmomN sa sw) sl ≤ (tdN dd tt k nt : Int))) (td + 100 - (t + 1)) (t + 1)) := by rw [frst_dayd (by omega)]; first | (rw [if_pos (by show decide (_ ≤ _) = true; simp; omega)]; exact nI_oI _) | (rw [if_neg (by show ¬ decide (_ ≤ _) = true; simp; omega)])
              have hl : lv_has ls 4 [(3, .int (oI (((td + 99 : Nat) : Int) - (((t + 1) : Nat) : Int)))), (2, .int (oI (frst (fun k => decide (needZ (volN (h2 hf)) (momN (h2 hf)) (loadN sw) (lmomN sa sw) sl ≤ (tdN dd tt k nt : Int))) (td + 100 - (t + 1)) (t + 1)))), (1, .int (oI (needZ (volN (h2 hf)) (momN (h2 hf)) (loadN sw) (lmomN sa sw) sl))), (0, .ref mm)] := xl_eq hl (xl_cons (congrArg (fun x => ((3 : Nat), Value.int x)) e_10) (xl_cons (congrArg (fun x => ((2 : Nat), Value.int x)) e_11) rfl))
              exact ih20 (t + 1) _ _ _ (by omega) (by omega) (by omega) hH hS (lv_sub hl [0, 1, 2, 3] rfl)
  have e_12 : (nI (td + 99) : Int32) = oI (((td + 99 : Nat) : Int) - ((0 : Nat) : Int)) := by rw [nI_oI]; congr 1 <;> omega
  have e_13 : (oI (-1) : Int32) = oI (frst (fun k => decide (needZ (volN (h2 hf)) (momN (h2 hf)) (loadN sw) (lmomN sa sw) sl ≤ (tdN dd tt k nt : Int))) (td + 100 - 0) 0) := by rfl
  have hl : lv_has ls 4 [(3, .int (oI (((td + 99 : Nat) : Int) - ((0 : Nat) : Int)))), (2, .int (oI (frst (fun k => decide (needZ (volN (h2 hf)) (momN (h2 hf)) (loadN sw) (lmomN sa sw) sl ≤ (tdN dd tt k nt : Int))) (td + 100 - 0) 0))), (1, .int (oI (needZ (volN (h2 hf)) (momN (h2 hf)) (loadN sw) (lmomN sa sw) sl))), (0, .ref mm)] := xl_eq hl (xl_cons (congrArg (fun x => ((3 : Nat), Value.int x)) e_12) (xl_cons (congrArg (fun x => ((2 : Nat), Value.int x)) e_13) rfl))
  exact hloop20 (100 - 0 + 1) 0 _ _ _ (by omega) (by omega) (Nat.lt_succ_self _) hH hS (lv_sub hl [0, 1, 2, 3] rfl)

abbrev rmX5_launch : Room := { frames := 7, cells := 0, slots := 0, locals := 280 }
set_option maxHeartbeats 4000000 in
set_option maxRecDepth 100000 in
theorem mX5_launch (l : Launch) (G : xG) (A : Nat → Prop) (f : xF) {mm : Nat} {ad : Nat → Nat} {th nw ln nt sl td la : Nat} {hf sa sw lf cf dd tt bh li : Nat → Nat} (hM : MM G f mm ad th nw ln nt sl td la hf sa sw lf cf dd tt bh li) (hB : ∀ w s, w < 6 → s < 9 → h2 hf w s ≤ 200) (hW : ∀ k, k < 17 → sw k ≤ 999) (hS9 : ∀ k, k < 17 → sa k ≤ 8) (hnt : nt ≤ 40) (hD : ∀ k, k < nt → dd k ≤ 9999) (hT : ∀ k, k < nt → tt k ≤ 99) (hsl : sl ≤ 50) (htd : td ≤ 9000) (hla : la < 2) : xMet l yX5_launch cX5_launch 2 (some .int) rmX5_launch G A f [.ref mm] (fun v f1 => v = some (.int (if (cdLaunch dd tt nt td la ((needZ (volN (h2 hf)) (momN (h2 hf)) (loadN sw) (lmomN sa sw) sl))) = 0 then oI ((tdN dd tt td nt : Int) - (needZ (volN (h2 hf)) (momN (h2 hf)) (loadN sw) (lmomN sa sw) sl)) else nI 0)) ∧ MM G f1 mm ad (cdLaunch dd tt nt td la ((needZ (volN (h2 hf)) (momN (h2 hf)) (loadN sw) (lmomN sa sw) sl))) nw ln nt sl td (if (cdLaunch dd tt nt td la ((needZ (volN (h2 hf)) (momN (h2 hf)) (loadN sw) (lmomN sa sw) sl))) = 0 then 1 else la) hf sa sw lf cf dd tt bh li ∧ xkeep 1000 1010 f f1) := by
  refine x_start (by decide) (Nat.le_of_ble_eq_true rfl) ?_
  intro p e s m below meth c ls X hH hS hl
  obtain ⟨hx, hb, hr, hlk, hml, hown, hts, hK, hC, hA, hnm, hmn⟩ := X
  have hl : lv_has ls 2 [(0, .ref mm)] := hl
  have hkp0 : xkeep 1000 1010 f f := xkeep.refl
  have hn9 := needZ_bd (h := h2 hf) (sl := sl) hB hW hS9 hsl
  have ht99 := tdN_le (dd := dd) (d := td) hT
  refine lv_aload_n hx hb dX5_launch_0 rfl (lv_at hl 0 rfl) ?_
  refine x_V (n := 0) (As := []) (rest := []) ⟨hx, hb, hml, hown, hts⟩ hK hC hA hH hS (mX5_neededNow l G A f hM hB hW hS9) q1197 q1199 qs30 q38 q1200 (by decide +kernel) ⟨Nat.le_of_ble_eq_true rfl, Nat.le_of_ble_eq_true rfl⟩ hM.1 rfl rfl rfl hl.1 rfl (Nat.le_of_ble_eq_true rfl) dX5_launch_1 (Nat.le_of_ble_eq_true rfl) (Nat.le_of_ble_eq_true rfl) (fun v f_1 H locs hp hH hS hz => ?_)
  obtain ⟨rfl, rfl⟩ := hp
  refine x_norm (g2 := F0 m 4 ls [.int (oI (needZ (volN (h2 hf)) (momN (h2 hf)) (loadN sw) (lmomN sa sw) sl))]) (k := 0) (n := 0) (Nat.le_refl _) (Nat.le_refl _) rfl ?_
  refine lv_istore_n (lv' := [(1, .int (oI (needZ (volN (h2 hf)) (momN (h2 hf)) (loadN sw) (lmomN sa sw) sl))), (0, .ref mm)]) hx hb dX5_launch_4 rfl hl (by decide) rfl (fun ls hl => ?_)
  have hj35 : ∀ (cd : Nat) (H : Heap) (locs : List Loc) (ls : Array Slot), cd = cdLaunch dd tt nt td la (needZ (volN (h2 hf)) (momN (h2 hf)) (loadN sw) (lmomN sa sw) sl) → xH G A f H → va_S A s.heap H locs → lv_has ls 2 [(1, .int (oI (needZ (volN (h2 hf)) (momN (h2 hf)) (loadN sw) (lmomN sa sw) sl))), (0, .ref mm)] → W p l e rmX5_launch s m ([.ref mm] : List Value).toArray below meth c H locs 0 0 (MQ below (xQ G A (fun v f1 => v = some (.int (if (cdLaunch dd tt nt td la ((needZ (volN (h2 hf)) (momN (h2 hf)) (loadN sw) (lmomN sa sw) sl))) = 0 then oI ((tdN dd tt td nt : Int) - (needZ (volN (h2 hf)) (momN (h2 hf)) (loadN sw) (lmomN sa sw) sl)) else nI 0)) ∧ MM G f1 mm ad (cdLaunch dd tt nt td la ((needZ (volN (h2 hf)) (momN (h2 hf)) (loadN sw) (lmomN sa sw) sl))) nw ln nt sl td (if (cdLaunch dd tt nt td la ((needZ (volN (h2 hf)) (momN (h2 hf)) (loadN sw) (lmomN sa sw) sl))) = 0 then 1 else la) hf sa sw lf cf dd tt bh li ∧ xkeep 1000 1010 f f1)) ([.ref mm] : List Value).toArray s rmX5_launch.cells rmX5_launch.slots A) (F0 m 35 ls [.int (nI cd), .ref mm]) := by
    intro cd H locs ls hcd hH hS hl
    refine x_put (C := RX5) (T := TX5) (N := 16) (ci := 4) (v := .int (nI cd)) (ty := (tyX5 0)) hx hb hts in_X5 tyX5_ok nmX5 hown hK hH hS hM.1 rfl 0 (by decide) (hts _ q977) (fun _ h9 => h9) rfl (by decide +kernel) rfl rfl (Nat.le_of_ble_eq_true rfl) dX5_launch_35 (fun H locs f_2 ef_2 hH hS => ?_)
    have hM_3 : MM G f_2 mm ad cd nw ln nt sl td la hf sa sw lf cf dd tt bh li := by rw [ef_2]; exact hM.put0 _
    have hkp_4 : xkeep 1000 1010 f f_2 := by rw [ef_2]; exact hkp0.set hM.1 (by decide)
    refine lv_aload_n hx hb dX5_launch_38 rfl (lv_at hl 1 rfl) ?_
    refine x_get (C := RX5) (T := TX5) (N := 16) (ci := 4) (v := .int (nI cd)) hx hb hts in_X5 hown hK hH hM_3.1 rfl 0 (by decide) (hts _ q977) (fun _ h9 => h9) rfl dX5_launch_39 ?_
    refine x_if_le (tgt := 47) (P := cd = 0) hx hb dX5_launch_42 (by decide) (nI_le0 (by rw [hcd]; unfold cdLaunch; split <;> omega)) (fun c42 => ?_) (fun c42 => ?_)
    · skip
      have h9 : cdLaunch dd tt nt td la (needZ (volN (h2 hf)) (momN (h2 hf)) (loadN sw) (lmomN sa sw) sl) = 0 := by rw [← hcd]; exact c42
      have hok := cdLaunch_0 h9
      refine lv_aload_n hx hb dX5_launch_47 rfl (lv_at hl 1 rfl) ?_
      refine lv_iconst (v := nI 1) hx hb dX5_launch_48 rfl ?_
      refine x_put (C := RX5) (T := TX5) (N := 16) (ci := 4) (v := .int (nI 1)) (ty := (tyX5 13)) hx hb hts in_X5 tyX5_ok nmX5 hown hK hH hS hM_3.1 rfl 13 (by decide) (hts _ q990) (fun _ h9 => h9) rfl (by decide +kernel) rfl rfl (Nat.le_of_ble_eq_true rfl) dX5_launch_49 (fun H locs f_5 ef_5 hH hS => ?_)
      have hM_6 : MM G f_5 mm ad cd nw ln nt sl td 1 hf sa sw lf cf dd tt bh li := by rw [ef_5]; exact hM_3.put6 _
      have hkp_7 : xkeep 1000 1010 f f_5 := by rw [ef_5]; exact hkp_4.set hM_3.1 (by decide)
      refine lv_aload_n hx hb dX5_launch_52 rfl (lv_at hl 1 rfl) ?_
      refine lv_aload_n hx hb dX5_launch_53 rfl (lv_at hl 1 rfl) ?_
      refine x_get (C := RX5) (T := TX5) (N := 16) (ci := 4) (v := .int (nI td)) hx hb hts in_X5 hown hK hH hM_6.1 rfl 12 (by decide) (hts _ q989) (fun _ h9 => h9) rfl dX5_launch_54 ?_
      refine x_V (n := 1) (As := [.int (nI td)]) (rest := []) ⟨hx, hb, hml, hown, hts⟩ hK hC hA hH hS (mX5_tideOn l G A f_5 hM_6 hnt hD td (by omega)) q1185 q1187 qs29 q38 q1188 (by decide +kernel) ⟨Nat.le_of_ble_eq_true rfl, Nat.le_of_ble_eq_true rfl⟩ hM_6.1 rfl rfl rfl hl.1 rfl (Nat.le_of_ble_eq_true rfl) dX5_launch_57 (Nat.le_of_ble_eq_true rfl) (Nat.le_of_ble_eq_true rfl) (fun v f_8 H locs hp hH hS hz => ?_)
      obtain ⟨rfl, rfl⟩ := hp
      refine x_norm (g2 := F0 m 60 ls [.int (nI (tdN dd tt td nt))]) (k := 0) (n := 0) (Nat.le_refl _) (Nat.le_refl _) rfl ?_
      refine lv_iload_n hx hb dX5_launch_60 rfl (lv_at hl 0 rfl) ?_
      refine x_isub (v := oI (((tdN dd tt td nt : Nat) : Int) - (needZ (volN (h2 hf)) (momN (h2 hf)) (loadN sw) (lmomN sa sw) sl))) hx hb (oI_sub' (nI_oI _) rfl) dX5_launch_61 ?_
      exact x_iret hx hb hr hlk hH hS ⟨by simp only [if_pos h9], by simp only [if_pos h9]; rw [← hcd]; exact hM_6, hkp_7⟩ (Nat.le_of_ble_eq_true rfl) (Nat.le_of_ble_eq_true rfl) dX5_launch_62
    · skip
      have h9 : ¬ cdLaunch dd tt nt td la (needZ (volN (h2 hf)) (momN (h2 hf)) (loadN sw) (lmomN sa sw) sl) = 0 := by rw [← hcd]; exact c42
      refine lv_iconst (v := nI 0) hx hb dX5_launch_45 rfl ?_
      exact x_iret hx hb hr hlk hH hS ⟨by simp only [if_neg h9], by simp only [if_neg h9]; rw [← hcd]; exact hM_3, hkp_4⟩ (Nat.le_of_ble_eq_true rfl) (Nat.le_of_ble_eq_true rfl) dX5_launch_46
  refine lv_aload_n hx hb dX5_launch_5 rfl (lv_at hl 1 rfl) ?_
  refine lv_aload_n hx hb dX5_launch_6 rfl (lv_at hl 1 rfl) ?_
  refine x_get (C := RX5) (T := TX5) (N := 16) (ci := 4) (v := .int (nI la)) hx hb hts in_X5 hown hK hH hM.1 rfl 13 (by decide) (hts _ q990) (fun _ h9 => h9) rfl dX5_launch_7 ?_
  refine x_if_ne (tgt := 30) (P := la = 0) hx hb dX5_launch_10 (by decide) (nI_eq0 (by omega)) (fun c10 => ?_) (fun c10 => ?_)
  · skip
    refine lv_iconst (v := nI 1) hx hb dX5_launch_30 rfl ?_
    refine lv_goto (tgt := 35) hx hb dX5_launch_31 (by decide) ?_
    exact hj35 1 _ _ _ (by unfold cdLaunch; split <;> first | rfl | (exfalso; omega)) hH hS (lv_sub hl [0, 1] rfl)
  · skip
    refine lv_iload_n hx hb dX5_launch_13 rfl (lv_at hl 0 rfl) ?_
    refine lv_iconst (v := oI (-1)) hx hb dX5_launch_14 rfl ?_
    refine x_icmp_eq (tgt := 30) (P := (needZ (volN (h2 hf)) (momN (h2 hf)) (loadN sw) (lmomN sa sw) sl) = (-1)) hx hb dX5_launch_15 (by decide) (oI_eq' rfl rfl ⟨by omega, by omega⟩ ⟨by omega, by omega⟩) (fun c15 => ?_) (fun c15 => ?_)
    · skip
      refine lv_iconst (v := nI 1) hx hb dX5_launch_30 rfl ?_
      refine lv_goto (tgt := 35) hx hb dX5_launch_31 (by decide) ?_
      exact hj35 1 _ _ _ (by unfold cdLaunch; split <;> first | rfl | (exfalso; omega)) hH hS (lv_sub hl [0, 1] rfl)
    · skip
      refine lv_aload_n hx hb dX5_launch_18 rfl (lv_at hl 1 rfl) ?_
      refine lv_aload_n hx hb dX5_launch_19 rfl (lv_at hl 1 rfl) ?_
      refine x_get (C := RX5) (T := TX5) (N := 16) (ci := 4) (v := .int (nI td)) hx hb hts in_X5 hown hK hH hM.1 rfl 12 (by decide) (hts _ q989) (fun _ h9 => h9) rfl dX5_launch_20 ?_
      refine x_V (n := 1) (As := [.int (nI td)]) (rest := [.ref mm]) ⟨hx, hb, hml, hown, hts⟩ hK hC hA hH hS (mX5_tideOn l G A f hM hnt hD td (by omega)) q1185 q1187 qs29 q38 q1188 (by decide +kernel) ⟨Nat.le_of_ble_eq_true rfl, Nat.le_of_ble_eq_true rfl⟩ hM.1 rfl rfl rfl hl.1 rfl (Nat.le_of_ble_eq_true rfl) dX5_launch_23 (Nat.le_of_ble_eq_true rfl) (Nat.le_of_ble_eq_true rfl) (fun v f_9 H locs hp hH hS hz => ?_)
      obtain ⟨rfl, rfl⟩ := hp
      refine x_norm (g2 := F0 m 26 ls [.int (nI (tdN dd tt td nt)), .ref mm]) (k := 0) (n := 0) (Nat.le_refl _) (Nat.le_refl _) rfl ?_
      refine lv_iload_n hx hb dX5_launch_26 rfl (lv_at hl 0 rfl) ?_
      refine x_icmp_ge (tgt := 34) (P := (needZ (volN (h2 hf)) (momN (h2 hf)) (loadN sw) (lmomN sa sw) sl) ≤ ((tdN dd tt td nt : Nat) : Int)) hx hb dX5_launch_27 (by decide) (oI_le' rfl (nI_oI _) ⟨by omega, by omega⟩ ⟨by omega, by omega⟩) (fun c27 => ?_) (fun c27 => ?_)
      · skip
        refine lv_iconst (v := nI 0) hx hb dX5_launch_34 rfl ?_
        exact hj35 0 _ _ _ (by unfold cdLaunch; split <;> first | rfl | (exfalso; omega)) hH hS (lv_sub hl [0, 1] rfl)
      · skip
        refine lv_iconst (v := nI 1) hx hb dX5_launch_30 rfl ?_
        refine lv_goto (tgt := 35) hx hb dX5_launch_31 (by decide) ?_
        exact hj35 1 _ _ _ (by unfold cdLaunch; split <;> first | rfl | (exfalso; omega)) hH hS (lv_sub hl [0, 1] rfl)

abbrev rmX5_tide : Room := { frames := 2, cells := 0, slots := 0, locals := 80 }
set_option maxHeartbeats 4000000 in
set_option maxRecDepth 100000 in
theorem mX5_tide (l : Launch) (G : xG) (A : Nat → Prop) (f : xF) {mm : Nat} {ad : Nat → Nat} {th nw ln nt sl td la : Nat} {hf sa sw lf cf dd tt bh li : Nat → Nat} (hM : MM G f mm ad th nw ln nt sl td la hf sa sw lf cf dd tt bh li) (hnt : nt ≤ 40) (hD : ∀ k, k < nt → dd k ≤ 9999) (hT : ∀ k, k < nt → tt k ≤ 99) (z1 z2 : Int) (hz1 : -2147483648 ≤ z1 ∧ z1 ≤ 2147483647)(hz2 : -2147483648 ≤ z2 ∧ z2 ≤ 2147483647) : xMet l yX5_tide cX5_tide 5 (some .int) rmX5_tide G A f [.ref mm, .int (oI z1), .int (oI z2)] (fun v f1 => v = some (.int (if cdTide z1 z2 dd nt = 0 then nI (tdN dd tt z1.toNat nt) else nI 0)) ∧ MM G f1 mm ad (cdTide z1 z2 dd nt) nw ln (if cdTide z1 z2 dd nt = 0 then (if plN dd z1.toNat nt nt = nt then nt + 1 else nt) else nt) sl td la hf sa sw lf cf (if cdTide z1 z2 dd nt = 0 then va_up dd (plN dd z1.toNat nt nt) z1.toNat else dd) (if cdTide z1 z2 dd nt = 0 then va_up tt (plN dd z1.toNat nt nt) z2.toNat else tt) bh li ∧ xkeep 1000 1010 f f1) := by
  refine x_start (by decide) (Nat.le_of_ble_eq_true rfl) ?_
  intro p e s m below meth c ls X hH hS hl
  obtain ⟨hx, hb, hr, hlk, hml, hown, hts, hK, hC, hA, hnm, hmn⟩ := X
  have hl : lv_has ls 5 [(0, .ref mm), (1, .int (oI z1)), (2, .int (oI z2))] := hl
  have hkp0 : xkeep 1000 1010 f f := xkeep.refl
  have hj27 : ∀ (cd : Nat) (H : Heap) (locs : List Loc) (ls : Array Slot), cd = cdT1 z1 z2 → xH G A f H → va_S A s.heap H locs → lv_has ls 5 [(0, .ref mm), (1, .int (oI z1)), (2, .int (oI z2))] → W p l e rmX5_tide s m ([.ref mm, .int (oI z1), .int (oI z2)] : List Value).toArray below meth c H locs 0 0 (MQ below (xQ G A (fun v f1 => v = some (.int (if cdTide z1 z2 dd nt = 0 then nI (tdN dd tt z1.toNat nt) else nI 0)) ∧ MM G f1 mm ad (cdTide z1 z2 dd nt) nw ln (if cdTide z1 z2 dd nt = 0 then (if plN dd z1.toNat nt nt = nt then nt + 1 else nt) else nt) sl td la hf sa sw lf cf (if cdTide z1 z2 dd nt = 0 then va_up dd (plN dd z1.toNat nt nt) z1.toNat else dd) (if cdTide z1 z2 dd nt = 0 then va_up tt (plN dd z1.toNat nt nt) z2.toNat else tt) bh li ∧ xkeep 1000 1010 f f1)) ([.ref mm, .int (oI z1), .int (oI z2)] : List Value).toArray s rmX5_tide.cells rmX5_tide.slots A) (F0 m 27 ls [.int (nI cd), .ref mm]) := by
    intro cd H locs ls hcd hH hS hl
    refine x_put (C := RX5) (T := TX5) (N := 16) (ci := 4) (v := .int (nI cd)) (ty := (tyX5 0)) hx hb hts in_X5 tyX5_ok nmX5 hown hK hH hS hM.1 rfl 0 (by decide) (hts _ q977) (fun _ h9 => h9) rfl (by decide +kernel) rfl rfl (Nat.le_of_ble_eq_true rfl) dX5_tide_27 (fun H locs f_1 ef_1 hH hS => ?_)
    have hM_2 : MM G f_1 mm ad cd nw ln nt sl td la hf sa sw lf cf dd tt bh li := by rw [ef_1]; exact hM.put0 _
    have hkp_3 : xkeep 1000 1010 f f_1 := by rw [ef_1]; exact hkp0.set hM.1 (by decide)
    refine lv_aload_n hx hb dX5_tide_30 rfl (lv_at hl 0 rfl) ?_
    refine x_get (C := RX5) (T := TX5) (N := 16) (ci := 4) (v := .int (nI cd)) hx hb hts in_X5 hown hK hH hM_2.1 rfl 0 (by decide) (hts _ q977) (fun _ h9 => h9) rfl dX5_tide_31 ?_
    refine x_if_le (tgt := 39) (P := cd = 0) hx hb dX5_tide_34 (by decide) (nI_le0 (by rw [hcd]; unfold cdT1; split <;> omega)) (fun c34 => ?_) (fun c34 => ?_)
    · skip
      have hok := cdT1_0 (show cdT1 z1 z2 = 0 by rw [← hcd]; exact c34)
      have e_4 : (oI z1 : Int32) = nI z1.toNat := oI_nI (by omega)
      have hl : lv_has ls 5 [(0, .ref mm), (1, .int (nI z1.toNat)), (2, .int (oI z2))] := xl_eq hl (xl_cons rfl (xl_cons (congrArg (fun x => ((1 : Nat), Value.int x)) e_4) rfl))
      have e_5 : (oI z2 : Int32) = nI z2.toNat := oI_nI (by omega)
      have hl : lv_has ls 5 [(0, .ref mm), (1, .int (nI z1.toNat)), (2, .int (nI z2.toNat))] := xl_eq hl (xl_cons rfl (xl_cons rfl (xl_cons (congrArg (fun x => ((2 : Nat), Value.int x)) e_5) rfl)))
      refine lv_aload_n hx hb dX5_tide_39 rfl (lv_at hl 0 rfl) ?_
      refine x_get (C := RX5) (T := TX5) (N := 16) (ci := 4) (v := .int (nI nt)) hx hb hts in_X5 hown hK hH hM_2.1 rfl 8 (by decide) (hts _ q985) (fun _ h9 => h9) rfl dX5_tide_40 ?_
      refine lv_istore_n (lv' := [(3, .int (nI nt)), (0, .ref mm), (1, .int (nI z1.toNat)), (2, .int (nI z2.toNat))]) hx hb dX5_tide_43 rfl hl (by decide) rfl (fun ls hl => ?_)
      refine lv_iconst (v := nI 0) hx hb dX5_tide_44 rfl ?_
      refine lv_istore (lv' := [(4, .int (nI 0)), (3, .int (nI nt)), (0, .ref mm), (1, .int (nI z1.toNat)), (2, .int (nI z2.toNat))]) hx hb dX5_tide_45 hl (by decide) rfl (fun ls hl => ?_)
      have hloop47 : ∀ (n : Nat) (k : Nat) (H : Heap) (locs : List Loc) (ls : Array Slot), k ≤ nt → (nt - k) < n → xH G A f_1 H → va_S A s.heap H locs → lv_has ls 5 [(4, .int (nI k)), (3, .int (nI (plN dd z1.toNat nt k))), (0, .ref mm), (1, .int (nI z1.toNat)), (2, .int (nI z2.toNat))] → W p l e rmX5_tide s m ([.ref mm, .int (oI z1), .int (oI z2)] : List Value).toArray below meth c H locs 0 0 (MQ below (xQ G A (fun v f1 => v = some (.int (if cdTide z1 z2 dd nt = 0 then nI (tdN dd tt z1.toNat nt) else nI 0)) ∧ MM G f1 mm ad (cdTide z1 z2 dd nt) nw ln (if cdTide z1 z2 dd nt = 0 then (if plN dd z1.toNat nt nt = nt then nt + 1 else nt) else nt) sl td la hf sa sw lf cf (if cdTide z1 z2 dd nt = 0 then va_up dd (plN dd z1.toNat nt nt) z1.toNat else dd) (if cdTide z1 z2 dd nt = 0 then va_up tt (plN dd z1.toNat nt nt) z2.toNat else tt) bh li ∧ xkeep 1000 1010 f f1)) ([.ref mm, .int (oI z1), .int (oI z2)] : List Value).toArray s rmX5_tide.cells rmX5_tide.slots A) (F0 m 47 ls []) := by
        intro n
        induction n with
        | zero => intro k H locs ls hk hn; exact absurd hn (Nat.not_lt_zero _)
        | succ n ih47 =>
          intro k H locs ls hk hn hH hS hl
          refine lv_iload hx hb dX5_tide_47 (lv_at hl 0 rfl) ?_
          refine lv_aload_n hx hb dX5_tide_49 rfl (lv_at hl 2 rfl) ?_
          refine x_get (C := RX5) (T := TX5) (N := 16) (ci := 4) (v := .int (nI nt)) hx hb hts in_X5 hown hK hH hM_2.1 rfl 8 (by decide) (hts _ q985) (fun _ h9 => h9) rfl dX5_tide_50 ?_
          refine x_icmp_ge (tgt := 80) (P := nt ≤ k) hx hb dX5_tide_53 (by decide) (nI_le' (by omega) (by omega)) (fun c53 => ?_) (fun c53 => ?_)
          · skip
            have hkn : k = nt := by omega
            have e_7 : (nI (plN dd z1.toNat nt k) : Int32) = nI (plN dd z1.toNat nt nt) := by rw [hkn]
            have hl : lv_has ls 5 [(4, .int (nI k)), (3, .int (nI (plN dd z1.toNat nt nt))), (0, .ref mm), (1, .int (nI z1.toNat)), (2, .int (nI z2.toNat))] := xl_eq hl (xl_cons rfl (xl_cons (congrArg (fun x => ((3 : Nat), Value.int x)) e_7) rfl))
            have hj92 : ∀ (cd2 : Nat) (H : Heap) (locs : List Loc) (ls : Array Slot), (cd2 = if plN dd z1.toNat nt nt = 40 then 2 else 0) → xH G A f_1 H → va_S A s.heap H locs → lv_has ls 5 [(4, .int (nI k)), (3, .int (nI (plN dd z1.toNat nt nt))), (0, .ref mm), (1, .int (nI z1.toNat)), (2, .int (nI z2.toNat))] → W p l e rmX5_tide s m ([.ref mm, .int (oI z1), .int (oI z2)] : List Value).toArray below meth c H locs 0 0 (MQ below (xQ G A (fun v f1 => v = some (.int (if cdTide z1 z2 dd nt = 0 then nI (tdN dd tt z1.toNat nt) else nI 0)) ∧ MM G f1 mm ad (cdTide z1 z2 dd nt) nw ln (if cdTide z1 z2 dd nt = 0 then (if plN dd z1.toNat nt nt = nt then nt + 1 else nt) else nt) sl td la hf sa sw lf cf (if cdTide z1 z2 dd nt = 0 then va_up dd (plN dd z1.toNat nt nt) z1.toNat else dd) (if cdTide z1 z2 dd nt = 0 then va_up tt (plN dd z1.toNat nt nt) z2.toNat else tt) bh li ∧ xkeep 1000 1010 f f1)) ([.ref mm, .int (oI z1), .int (oI z2)] : List Value).toArray s rmX5_tide.cells rmX5_tide.slots A) (F0 m 92 ls [.int (nI cd2), .ref mm]) := by
              intro cd2 H locs ls hcd2 hH hS hl
              refine x_put (C := RX5) (T := TX5) (N := 16) (ci := 4) (v := .int (nI cd2)) (ty := (tyX5 0)) hx hb hts in_X5 tyX5_ok nmX5 hown hK hH hS hM_2.1 rfl 0 (by decide) (hts _ q977) (fun _ h9 => h9) rfl (by decide +kernel) rfl rfl (Nat.le_of_ble_eq_true rfl) dX5_tide_92 (fun H locs f_8 ef_8 hH hS => ?_)
              have hM_9 : MM G f_8 mm ad cd2 nw ln nt sl td la hf sa sw lf cf dd tt bh li := by rw [ef_8]; exact hM_2.put0 _
              have hkp_10 : xkeep 1000 1010 f f_8 := by rw [ef_8]; exact hkp_3.set hM_2.1 (by decide)
              refine lv_aload_n hx hb dX5_tide_95 rfl (lv_at hl 2 rfl) ?_
              refine x_get (C := RX5) (T := TX5) (N := 16) (ci := 4) (v := .int (nI cd2)) hx hb hts in_X5 hown hK hH hM_9.1 rfl 0 (by decide) (hts _ q977) (fun _ h9 => h9) rfl dX5_tide_96 ?_
              refine x_if_le (tgt := 104) (P := cd2 = 0) hx hb dX5_tide_99 (by decide) (nI_le0 (by rw [hcd2]; split <;> omega)) (fun c99 => ?_) (fun c99 => ?_)
              · skip
                have h7 : ¬ plN dd z1.toNat nt nt = 40 := by intro h6; rw [if_pos h6] at hcd2; omega
                have h6 := plN_le (dd := dd) (d := z1.toNat) (nt := nt) nt (Nat.le_refl _)
                have h9 : cdTide z1 z2 dd nt = 0 := by unfold cdTide; rw [← hcd, if_pos c34, if_neg h7]
                refine lv_aload_n hx hb dX5_tide_104 rfl (lv_at hl 2 rfl) ?_
                refine lv_iload_n hx hb dX5_tide_105 rfl (lv_at hl 3 rfl) ?_
                refine x_V (n := 1) (As := [.int (nI z1.toNat)]) (rest := []) ⟨hx, hb, hml, hown, hts⟩ hK hC hA hH hS (mX5_tideOn l G A f_8 hM_9 hnt hD z1.toNat (by omega)) q1185 q1187 qs29 q38 q1188 (by decide +kernel) ⟨Nat.le_of_ble_eq_true rfl, Nat.le_of_ble_eq_true rfl⟩ hM_9.1 rfl rfl rfl hl.1 rfl (Nat.le_of_ble_eq_true rfl) dX5_tide_106 (Nat.le_of_ble_eq_true rfl) (Nat.le_of_ble_eq_true rfl) (fun v f_11 H locs hp hH hS hz => ?_)
                obtain ⟨rfl, rfl⟩ := hp
                refine x_norm (g2 := F0 m 109 ls [.int (nI (tdN dd tt z1.toNat nt))]) (k := 0) (n := 0) (Nat.le_refl _) (Nat.le_refl _) rfl ?_
                refine lv_istore (lv' := [(4, .int (nI (tdN dd tt z1.toNat nt))), (3, .int (nI (plN dd z1.toNat nt nt))), (0, .ref mm), (1, .int (nI z1.toNat)), (2, .int (nI z2.toNat))]) hx hb dX5_tide_109 hl (by decide) rfl (fun ls hl => ?_)
                refine lv_aload_n hx hb dX5_tide_111 rfl (lv_at hl 2 rfl) ?_
                refine x_get (C := RX5) (T := TX5) (N := 16) (ci := 4) (v := .ref (ad 5)) hx hb hts in_X5 hown hK hH hM_9.1 rfl 9 (by decide) (hts _ q986) (fun _ h9 => h9) rfl dX5_tide_112 ?_
                refine lv_iload_n hx hb dX5_tide_115 rfl (lv_at hl 1 rfl) ?_
                refine lv_iload_n hx hb dX5_tide_116 rfl (lv_at hl 3 rfl) ?_
                refine x_iast (j := plN dd z1.toNat nt nt) (v := z1.toNat) hx hb hK hH hS (show f_8 (ad 5) = some (xN G 1006 40 dd) from hM_9.2 5 (by decide)) rfl (by omega) (by decide) rfl dX5_tide_117 (fun H locs f_12 ef_12 hH hS => ?_)
                have hM_13 : MM G f_12 mm ad cd2 nw ln nt sl td la hf sa sw lf cf (va_up dd (plN dd z1.toNat nt nt) z1.toNat) tt bh li := by rw [ef_12]; exact hM_9.arr5 _
                have hkp_14 : xkeep 1000 1010 f f_12 := by rw [ef_12]; exact hkp_10.set (hM_9.2 5 (by decide)) (by decide)
                refine lv_aload_n hx hb dX5_tide_118 rfl (lv_at hl 2 rfl) ?_
                refine x_get (C := RX5) (T := TX5) (N := 16) (ci := 4) (v := .ref (ad 6)) hx hb hts in_X5 hown hK hH hM_13.1 rfl 10 (by decide) (hts _ q987) (fun _ h9 => h9) rfl dX5_tide_119 ?_
                refine lv_iload_n hx hb dX5_tide_122 rfl (lv_at hl 1 rfl) ?_
                refine lv_iload_n hx hb dX5_tide_123 rfl (lv_at hl 4 rfl) ?_
                refine x_iast (j := plN dd z1.toNat nt nt) (v := z2.toNat) hx hb hK hH hS (show f_12 (ad 6) = some (xN G 1007 40 tt) from hM_13.2 6 (by decide)) rfl (by omega) (by decide) rfl dX5_tide_124 (fun H locs f_15 ef_15 hH hS => ?_)
                have hM_16 : MM G f_15 mm ad cd2 nw ln nt sl td la hf sa sw lf cf (va_up dd (plN dd z1.toNat nt nt) z1.toNat) (va_up tt (plN dd z1.toNat nt nt) z2.toNat) bh li := by rw [ef_15]; exact hM_13.arr6 _
                have hkp_17 : xkeep 1000 1010 f f_15 := by rw [ef_15]; exact hkp_14.set (hM_13.2 6 (by decide)) (by decide)
                refine lv_aload_n hx hb dX5_tide_125 rfl (lv_at hl 2 rfl) ?_
                refine lv_dup hx hb dX5_tide_126 rfl ?_
                refine x_get (C := RX5) (T := TX5) (N := 16) (ci := 4) (v := .int (nI nt)) hx hb hts in_X5 hown hK hH hM_16.1 rfl 8 (by decide) (hts _ q985) (fun _ h9 => h9) rfl dX5_tide_127 ?_
                refine lv_iload_n hx hb dX5_tide_130 rfl (lv_at hl 1 rfl) ?_
                refine lv_aload_n hx hb dX5_tide_131 rfl (lv_at hl 2 rfl) ?_
                refine x_get (C := RX5) (T := TX5) (N := 16) (ci := 4) (v := .int (nI nt)) hx hb hts in_X5 hown hK hH hM_16.1 rfl 8 (by decide) (hts _ q985) (fun _ h9 => h9) rfl dX5_tide_132 ?_
                refine x_icmp_ne (tgt := 142) (P := (plN dd z1.toNat nt nt) = nt) hx hb dX5_tide_135 (by decide) (nI_eq' (by omega) (by omega)) (fun c135 => ?_) (fun c135 => ?_)
                · skip
                  refine lv_iconst (v := nI 0) hx hb dX5_tide_142 rfl ?_
                  refine x_iadd (v := nI (nt + 0)) hx hb (nI_add _ _) dX5_tide_143 ?_
                  refine x_put (C := RX5) (T := TX5) (N := 16) (ci := 4) (v := .int (nI (nt + 0))) (ty := (tyX5 8)) hx hb hts in_X5 tyX5_ok nmX5 hown hK hH hS hM_16.1 rfl 8 (by decide) (hts _ q985) (fun _ h9 => h9) rfl (by decide +kernel) rfl rfl (Nat.le_of_ble_eq_true rfl) dX5_tide_144 (fun H locs f_18 ef_18 hH hS => ?_)
                  have hM_19 : MM G f_18 mm ad cd2 nw ln (nt + 0) sl td la hf sa sw lf cf (va_up dd (plN dd z1.toNat nt nt) z1.toNat) (va_up tt (plN dd z1.toNat nt nt) z2.toNat) bh li := by rw [ef_18]; exact hM_16.put3 _
                  have hkp_20 : xkeep 1000 1010 f f_18 := by rw [ef_18]; exact hkp_17.set hM_16.1 (by decide)
                  refine lv_iload hx hb dX5_tide_147 (lv_at hl 0 rfl) ?_
                  exact x_iret hx hb hr hlk hH hS ⟨by simp only [if_pos h9], by simp only [if_pos h9, if_neg c135]; rw [h9]; have h5 := hM_19; rw [c99] at h5; exact h5, hkp_20⟩ (Nat.le_of_ble_eq_true rfl) (Nat.le_of_ble_eq_true rfl) dX5_tide_149
                · skip
                  refine lv_iconst (v := nI 1) hx hb dX5_tide_138 rfl ?_
                  refine lv_goto (tgt := 143) hx hb dX5_tide_139 (by decide) ?_
                  refine x_iadd (v := nI (nt + 1)) hx hb (nI_add _ _) dX5_tide_143 ?_
                  refine x_put (C := RX5) (T := TX5) (N := 16) (ci := 4) (v := .int (nI (nt + 1))) (ty := (tyX5 8)) hx hb hts in_X5 tyX5_ok nmX5 hown hK hH hS hM_16.1 rfl 8 (by decide) (hts _ q985) (fun _ h9 => h9) rfl (by decide +kernel) rfl rfl (Nat.le_of_ble_eq_true rfl) dX5_tide_144 (fun H locs f_21 ef_21 hH hS => ?_)
                  have hM_22 : MM G f_21 mm ad cd2 nw ln (nt + 1) sl td la hf sa sw lf cf (va_up dd (plN dd z1.toNat nt nt) z1.toNat) (va_up tt (plN dd z1.toNat nt nt) z2.toNat) bh li := by rw [ef_21]; exact hM_16.put3 _
                  have hkp_23 : xkeep 1000 1010 f f_21 := by rw [ef_21]; exact hkp_17.set hM_16.1 (by decide)
                  refine lv_iload hx hb dX5_tide_147 (lv_at hl 0 rfl) ?_
                  exact x_iret hx hb hr hlk hH hS ⟨by simp only [if_pos h9], by simp only [if_pos h9, if_pos c135]; rw [h9]; have h5 := hM_22; rw [c99] at h5; exact h5, hkp_23⟩ (Nat.le_of_ble_eq_true rfl) (Nat.le_of_ble_eq_true rfl) dX5_tide_149
              · skip
                have h8 : cdTide z1 z2 dd nt = cd2 := by unfold cdTide; rw [← hcd, if_pos c34, hcd2]
                have h9 : ¬ cdTide z1 z2 dd nt = 0 := by rw [h8]; exact c99
                refine lv_iconst (v := nI 0) hx hb dX5_tide_102 rfl ?_
                exact x_iret hx hb hr hlk hH hS ⟨by simp only [if_neg h9], by simp only [if_neg h9]; rw [h8]; exact hM_9, hkp_10⟩ (Nat.le_of_ble_eq_true rfl) (Nat.le_of_ble_eq_true rfl) dX5_tide_103
            refine lv_aload_n hx hb dX5_tide_80 rfl (lv_at hl 2 rfl) ?_
            refine lv_iload_n hx hb dX5_tide_81 rfl (lv_at hl 1 rfl) ?_
            refine lv_bipush (v := nI 40) hx hb dX5_tide_82 rfl ?_
            refine x_icmp_ne (tgt := 91) (P := (plN dd z1.toNat nt nt) = 40) hx hb dX5_tide_84 (by decide) (nI_eq' (by have := plN_le (dd := dd) (d := z1.toNat) (nt := nt) nt (Nat.le_refl _); omega) (by decide)) (fun c84 => ?_) (fun c84 => ?_)
            · skip
              refine lv_iconst (v := nI 0) hx hb dX5_tide_91 rfl ?_
              exact hj92 0 _ _ _ (by rw [if_neg c84]) hH hS (lv_sub hl [0, 1, 2, 3, 4] rfl)
            · skip
              refine lv_iconst (v := nI 2) hx hb dX5_tide_87 rfl ?_
              refine lv_goto (tgt := 92) hx hb dX5_tide_88 (by decide) ?_
              exact hj92 2 _ _ _ (by rw [if_pos c84]) hH hS (lv_sub hl [0, 1, 2, 3, 4] rfl)
          · skip
            have hk9 := hD k (by omega)
            refine lv_aload_n hx hb dX5_tide_56 rfl (lv_at hl 2 rfl) ?_
            refine x_get (C := RX5) (T := TX5) (N := 16) (ci := 4) (v := .ref (ad 5)) hx hb hts in_X5 hown hK hH hM_2.1 rfl 9 (by decide) (hts _ q986) (fun _ h9 => h9) rfl dX5_tide_57 ?_
            refine lv_iload hx hb dX5_tide_60 (lv_at hl 0 rfl) ?_
            refine x_iald (j := k) hx hb hK hH (show f_1 (ad 5) = some (xN G 1006 40 dd) from hM_2.2 5 (by decide)) rfl (by omega) (by decide) dX5_tide_62 ?_
            refine lv_iload_n hx hb dX5_tide_63 rfl (lv_at hl 3 rfl) ?_
            refine x_icmp_ne (tgt := 72) (P := (dd k) = z1.toNat) hx hb dX5_tide_64 (by decide) (nI_eq' (by omega) (by omega)) (fun c64 => ?_) (fun c64 => ?_)
            · skip
              refine lv_iload_n hx hb dX5_tide_72 rfl (lv_at hl 1 rfl) ?_
              refine lv_istore_n (lv' := [(3, .int (nI (plN dd z1.toNat nt k))), (4, .int (nI k)), (0, .ref mm), (1, .int (nI z1.toNat)), (2, .int (nI z2.toNat))]) hx hb dX5_tide_73 rfl hl (by decide) rfl (fun ls hl => ?_)
              refine lv_iinc (v := nI (k + 1)) (lv' := [(4, .int (nI (k + 1))), (3, .int (nI (plN dd z1.toNat nt k))), (0, .ref mm), (1, .int (nI z1.toNat)), (2, .int (nI z2.toNat))]) hx hb dX5_tide_74 hl (k := 1) rfl (nI_inc _) (by decide) rfl (fun ls hl => ?_)
              refine lv_goto (tgt := 47) hx hb dX5_tide_77 (by decide) ?_
              have e_24 : (nI (plN dd z1.toNat nt k) : Int32) = nI (plN dd z1.toNat nt (k + 1)) := by congr 1; rw [plN_succ]; split <;> first | rfl | (exfalso; omega) | contradiction
              have hl : lv_has ls 5 [(4, .int (nI (k + 1))), (3, .int (nI (plN dd z1.toNat nt (k + 1)))), (0, .ref mm), (1, .int (nI z1.toNat)), (2, .int (nI z2.toNat))] := xl_eq hl (xl_cons rfl (xl_cons (congrArg (fun x => ((3 : Nat), Value.int x)) e_24) rfl))
              exact ih47 (k + 1) _ _ _ (by omega) (by omega) hH hS (lv_sub hl [0, 1, 2, 3, 4] rfl)
            · skip
              refine lv_iload hx hb dX5_tide_67 (lv_at hl 0 rfl) ?_
              refine lv_goto (tgt := 73) hx hb dX5_tide_69 (by decide) ?_
              refine lv_istore_n (lv' := [(3, .int (nI k)), (4, .int (nI k)), (0, .ref mm), (1, .int (nI z1.toNat)), (2, .int (nI z2.toNat))]) hx hb dX5_tide_73 rfl hl (by decide) rfl (fun ls hl => ?_)
              refine lv_iinc (v := nI (k + 1)) (lv' := [(4, .int (nI (k + 1))), (3, .int (nI k)), (0, .ref mm), (1, .int (nI z1.toNat)), (2, .int (nI z2.toNat))]) hx hb dX5_tide_74 hl (k := 1) rfl (nI_inc _) (by decide) rfl (fun ls hl => ?_)
              refine lv_goto (tgt := 47) hx hb dX5_tide_77 (by decide) ?_
              have e_25 : (nI k : Int32) = nI (plN dd z1.toNat nt (k + 1)) := by congr 1; rw [plN_succ]; split <;> first | rfl | (exfalso; omega) | contradiction
              have hl : lv_has ls 5 [(4, .int (nI (k + 1))), (3, .int (nI (plN dd z1.toNat nt (k + 1)))), (0, .ref mm), (1, .int (nI z1.toNat)), (2, .int (nI z2.toNat))] := xl_eq hl (xl_cons rfl (xl_cons (congrArg (fun x => ((3 : Nat), Value.int x)) e_25) rfl))
              exact ih47 (k + 1) _ _ _ (by omega) (by omega) hH hS (lv_sub hl [0, 1, 2, 3, 4] rfl)
      have e_26 : (nI nt : Int32) = nI (plN dd z1.toNat nt 0) := by rfl
      have hl : lv_has ls 5 [(4, .int (nI 0)), (3, .int (nI (plN dd z1.toNat nt 0))), (0, .ref mm), (1, .int (nI z1.toNat)), (2, .int (nI z2.toNat))] := xl_eq hl (xl_cons rfl (xl_cons (congrArg (fun x => ((3 : Nat), Value.int x)) e_26) rfl))
      exact hloop47 (nt - 0 + 1) 0 _ _ _ (by omega) (Nat.lt_succ_self _) hH hS (lv_sub hl [0, 1, 2, 3, 4] rfl)
    · skip
      have h8 : cdTide z1 z2 dd nt = cd := by unfold cdTide; rw [← hcd, if_neg c34, hcd]; rw [hcd] at c34; unfold cdT1 at *; split at c34 <;> first | (exfalso; omega) | (rw [if_neg (by assumption)])
      have h9 : ¬ cdTide z1 z2 dd nt = 0 := by rw [h8]; exact c34
      refine lv_iconst (v := nI 0) hx hb dX5_tide_37 rfl ?_
      exact x_iret hx hb hr hlk hH hS ⟨by simp only [if_neg h9], by simp only [if_neg h9]; rw [h8]; exact hM_2, hkp_3⟩ (Nat.le_of_ble_eq_true rfl) (Nat.le_of_ble_eq_true rfl) dX5_tide_38
  refine lv_aload_n hx hb dX5_tide_0 rfl (lv_at hl 0 rfl) ?_
  refine lv_iload_n hx hb dX5_tide_1 rfl (lv_at hl 1 rfl) ?_
  refine lv_iconst (v := nI 0) hx hb dX5_tide_2 rfl ?_
  refine lv_sipush (v := nI 9999) hx hb dX5_tide_3 rfl ?_
  refine x_S (n := 3) (As := [.int (oI z1), .int (nI 0), .int (nI 9999)]) (rest := [.ref mm]) ⟨hx, hb, hml, hown, hts⟩ hK hC hA hH hS (mX5_in l G A f _ _ _ z1 ((0 : Nat) : Int) ((9999 : Nat) : Int) rfl (nI_oI _) (nI_oI _) hz1 (by decide) (by decide)) q1037 q1038 q38 q1039 (by decide +kernel) ⟨Nat.le_of_ble_eq_true rfl, Nat.le_of_ble_eq_true rfl⟩ rfl hl.1 rfl (Nat.le_of_ble_eq_true rfl) dX5_tide_6 (Nat.le_of_ble_eq_true rfl) (Nat.le_of_ble_eq_true rfl) (fun v f_27 H locs hp hH hS hz => ?_)
  obtain ⟨rfl, rfl⟩ := hp
  refine x_norm (g2 := F0 m 9 ls [.int (nI (xb (((0 : Nat) : Int) ≤ z1 ∧ z1 ≤ ((9999 : Nat) : Int)))), .ref mm]) (k := 0) (n := 0) (Nat.le_refl _) (Nat.le_refl _) rfl ?_
  refine x_ifbeq (tgt := 26) (B := ((0 : Nat) : Int) ≤ z1 ∧ z1 ≤ ((9999 : Nat) : Int)) hx hb dX5_tide_9 (by decide) (fun c9 => ?_) (fun c9 => ?_)
  · skip
    refine lv_iconst (v := nI 1) hx hb dX5_tide_26 rfl ?_
    exact hj27 1 _ _ _ (by unfold cdT1; split <;> first | rfl | (exfalso; omega)) hH hS (lv_sub hl [0, 1, 2] rfl)
  · skip
    refine lv_iload_n hx hb dX5_tide_12 rfl (lv_at hl 2 rfl) ?_
    refine lv_iconst (v := nI 0) hx hb dX5_tide_13 rfl ?_
    refine lv_bipush (v := nI 99) hx hb dX5_tide_14 rfl ?_
    refine x_S (n := 3) (As := [.int (oI z2), .int (nI 0), .int (nI 99)]) (rest := [.ref mm]) ⟨hx, hb, hml, hown, hts⟩ hK hC hA hH hS (mX5_in l G A f _ _ _ z2 ((0 : Nat) : Int) ((99 : Nat) : Int) rfl (nI_oI _) (nI_oI _) hz2 (by decide) (by decide)) q1037 q1038 q38 q1039 (by decide +kernel) ⟨Nat.le_of_ble_eq_true rfl, Nat.le_of_ble_eq_true rfl⟩ rfl hl.1 rfl (Nat.le_of_ble_eq_true rfl) dX5_tide_16 (Nat.le_of_ble_eq_true rfl) (Nat.le_of_ble_eq_true rfl) (fun v f_28 H locs hp hH hS hz => ?_)
    obtain ⟨rfl, rfl⟩ := hp
    refine x_norm (g2 := F0 m 19 ls [.int (nI (xb (((0 : Nat) : Int) ≤ z2 ∧ z2 ≤ ((99 : Nat) : Int)))), .ref mm]) (k := 0) (n := 0) (Nat.le_refl _) (Nat.le_refl _) rfl ?_
    refine x_ifbeq (tgt := 26) (B := ((0 : Nat) : Int) ≤ z2 ∧ z2 ≤ ((99 : Nat) : Int)) hx hb dX5_tide_19 (by decide) (fun c19 => ?_) (fun c19 => ?_)
    · skip
      refine lv_iconst (v := nI 1) hx hb dX5_tide_26 rfl ?_
      exact hj27 1 _ _ _ (by unfold cdT1; split <;> first | rfl | (exfalso; omega)) hH hS (lv_sub hl [0, 1, 2] rfl)
    · skip
      refine lv_iconst (v := nI 0) hx hb dX5_tide_22 rfl ?_
      refine lv_goto (tgt := 27) hx hb dX5_tide_23 (by decide) ?_
      exact hj27 0 _ _ _ (by unfold cdT1; split <;> first | rfl | (exfalso; omega)) hH hS (lv_sub hl [0, 1, 2] rfl)

abbrev rmX5_strakeBehind : Room := { frames := 3, cells := 0, slots := 0, locals := 120 }
set_option maxHeartbeats 4000000 in
set_option maxRecDepth 100000 in
theorem mX5_strakeBehind (l : Launch) (G : xG) (A : Nat → Prop) (f : xF) {mm : Nat} {ad : Nat → Nat} {th nw ln nt sl td la : Nat} {hf sa sw lf cf dd tt bh li : Nat → Nat} (hM : MM G f mm ad th nw ln nt sl td la hf sa sw lf cf dd tt bh li) (hB : ∀ w s, w < 6 → s < 9 → h2 hf w s ≤ 200) (q9 : Nat) (hq : q9 < 5) : xMet l yX5_strakeBehind cX5_strakeBehind 6 (some .int) rmX5_strakeBehind G A f [.ref mm, .int (nI q9)] (fun v f1 => v = some (.int (oI (sbZ (strN (h2 hf)) q9 5))) ∧ f = f1) := by
  refine x_start (by decide) (Nat.le_of_ble_eq_true rfl) ?_
  intro p e s m below meth c ls X hH hS hl
  obtain ⟨hx, hb, hr, hlk, hml, hown, hts, hK, hC, hA, hnm, hmn⟩ := X
  have hl : lv_has ls 6 [(0, .ref mm), (1, .int (nI q9))] := hl
  refine lv_iconst (v := oI (-1)) hx hb dX5_strakeBehind_0 rfl ?_
  refine lv_istore_n (lv' := [(2, .int (oI (-1))), (0, .ref mm), (1, .int (nI q9))]) hx hb dX5_strakeBehind_1 rfl hl (by decide) rfl (fun ls hl => ?_)
  refine lv_iconst (v := nI 0) hx hb dX5_strakeBehind_2 rfl ?_
  refine lv_istore_n (lv' := [(3, .int (nI 0)), (2, .int (oI (-1))), (0, .ref mm), (1, .int (nI q9))]) hx hb dX5_strakeBehind_3 rfl hl (by decide) rfl (fun ls hl => ?_)
  have hloop4 : ∀ (n : Nat) (k : Nat) (H : Heap) (locs : List Loc) (ls : Array Slot), k ≤ 5 → (5 - k) < n → xH G A f H → va_S A s.heap H locs → lv_has ls 6 [(3, .int (nI k)), (2, .int (oI (sbZ (strN (h2 hf)) q9 k))), (0, .ref mm), (1, .int (nI q9))] → W p l e rmX5_strakeBehind s m ([.ref mm, .int (nI q9)] : List Value).toArray below meth c H locs 0 0 (MQ below (xQ G A (fun v f1 => v = some (.int (oI (sbZ (strN (h2 hf)) q9 5))) ∧ f = f1)) ([.ref mm, .int (nI q9)] : List Value).toArray s rmX5_strakeBehind.cells rmX5_strakeBehind.slots A) (F0 m 4 ls []) := by
    intro n
    induction n with
    | zero => intro k H locs ls hk hn; exact absurd hn (Nat.not_lt_zero _)
    | succ n ih4 =>
      intro k H locs ls hk hn hH hS hl
      refine lv_iload_n hx hb dX5_strakeBehind_4 rfl (lv_at hl 0 rfl) ?_
      refine lv_iconst (v := nI 5) hx hb dX5_strakeBehind_5 rfl ?_
      refine x_icmp_ge (tgt := 89) (P := 5 ≤ k) hx hb dX5_strakeBehind_6 (by decide) (nI_le' (by decide) (by omega)) (fun c6 => ?_) (fun c6 => ?_)
      · skip
        refine lv_iload_n hx hb dX5_strakeBehind_89 rfl (lv_at hl 1 rfl) ?_
        exact x_iret hx hb hr hlk hH hS ⟨by rw [show k = 5 by omega], rfl⟩ (Nat.le_of_ble_eq_true rfl) (Nat.le_of_ble_eq_true rfl) dX5_strakeBehind_90
      · skip
        have hs1 := strN_le hB (show k < 6 by omega)
        refine lv_iconst (v := nI 0) hx hb dX5_strakeBehind_9 rfl ?_
        refine lv_istore (lv' := [(4, .int (nI 0)), (3, .int (nI k)), (2, .int (oI (sbZ (strN (h2 hf)) q9 k))), (0, .ref mm), (1, .int (nI q9))]) hx hb dX5_strakeBehind_10 hl (by decide) rfl (fun ls hl => ?_)
        refine lv_iconst (v := nI 0) hx hb dX5_strakeBehind_12 rfl ?_
        refine lv_istore (lv' := [(5, .int (nI 0)), (4, .int (nI 0)), (3, .int (nI k)), (2, .int (oI (sbZ (strN (h2 hf)) q9 k))), (0, .ref mm), (1, .int (nI q9))]) hx hb dX5_strakeBehind_13 hl (by decide) rfl (fun ls hl => ?_)
        have hloop15 : ∀ (n : Nat) (o : Nat) (H : Heap) (locs : List Loc) (ls : Array Slot), o ≤ 5 → (5 - o) < n → xH G A f H → va_S A s.heap H locs → lv_has ls 6 [(5, .int (nI o)), (4, .int (nI (ahN (strN (h2 hf)) k o))), (3, .int (nI k)), (2, .int (oI (sbZ (strN (h2 hf)) q9 k))), (0, .ref mm), (1, .int (nI q9))] → W p l e rmX5_strakeBehind s m ([.ref mm, .int (nI q9)] : List Value).toArray below meth c H locs 0 0 (MQ below (xQ G A (fun v f1 => v = some (.int (oI (sbZ (strN (h2 hf)) q9 5))) ∧ f = f1)) ([.ref mm, .int (nI q9)] : List Value).toArray s rmX5_strakeBehind.cells rmX5_strakeBehind.slots A) (F0 m 15 ls []) := by
          intro n
          induction n with
          | zero => intro o H locs ls ho hn; exact absurd hn (Nat.not_lt_zero _)
          | succ n ih15 =>
            intro o H locs ls ho hn hH hS hl
            have hah := ahN_le (st := (strN (h2 hf))) (k := k) (n := o)
            refine lv_iload hx hb dX5_strakeBehind_15 (lv_at hl 0 rfl) ?_
            refine lv_iconst (v := nI 5) hx hb dX5_strakeBehind_17 rfl ?_
            refine x_icmp_ge (tgt := 71) (P := 5 ≤ o) hx hb dX5_strakeBehind_18 (by decide) (nI_le' (by decide) (by omega)) (fun c18 => ?_) (fun c18 => ?_)
            · skip
              have ho5 : o = 5 := by omega
              have hah5 := ahN_le (st := (strN (h2 hf))) (k := k) (n := 5)
              have e_3 : (nI (ahN (strN (h2 hf)) k o) : Int32) = nI (ahN (strN (h2 hf)) k 5) := by rw [ho5]
              have hl : lv_has ls 6 [(5, .int (nI o)), (4, .int (nI (ahN (strN (h2 hf)) k 5))), (3, .int (nI k)), (2, .int (oI (sbZ (strN (h2 hf)) q9 k))), (0, .ref mm), (1, .int (nI q9))] := xl_eq hl (xl_cons rfl (xl_cons (congrArg (fun x => ((4 : Nat), Value.int x)) e_3) rfl))
              refine lv_iload hx hb dX5_strakeBehind_71 (lv_at hl 1 rfl) ?_
              refine lv_iload_n hx hb dX5_strakeBehind_73 rfl (lv_at hl 5 rfl) ?_
              refine x_icmp_ne (tgt := 81) (P := (ahN (strN (h2 hf)) k 5) = q9) hx hb dX5_strakeBehind_74 (by decide) (nI_eq' (by omega) (by omega)) (fun c74 => ?_) (fun c74 => ?_)
              · skip
                refine lv_iload_n hx hb dX5_strakeBehind_81 rfl (lv_at hl 3 rfl) ?_
                refine lv_istore_n (lv' := [(2, .int (oI (sbZ (strN (h2 hf)) q9 k))), (5, .int (nI o)), (4, .int (nI (ahN (strN (h2 hf)) k 5))), (3, .int (nI k)), (0, .ref mm), (1, .int (nI q9))]) hx hb dX5_strakeBehind_82 rfl hl (by decide) rfl (fun ls hl => ?_)
                refine lv_iinc (v := nI (k + 1)) (lv' := [(3, .int (nI (k + 1))), (2, .int (oI (sbZ (strN (h2 hf)) q9 k))), (5, .int (nI o)), (4, .int (nI (ahN (strN (h2 hf)) k 5))), (0, .ref mm), (1, .int (nI q9))]) hx hb dX5_strakeBehind_83 hl (k := 3) rfl (nI_inc _) (by decide) rfl (fun ls hl => ?_)
                refine lv_goto (tgt := 4) hx hb dX5_strakeBehind_86 (by decide) ?_
                have e_4 : (oI (sbZ (strN (h2 hf)) q9 k) : Int32) = oI (sbZ (strN (h2 hf)) q9 (k + 1)) := by rw [sbZ_succ]; first | (rw [if_pos (by assumption)]; exact nI_oI _) | rw [if_neg (by assumption)]
                have hl : lv_has ls 6 [(3, .int (nI (k + 1))), (2, .int (oI (sbZ (strN (h2 hf)) q9 (k + 1)))), (5, .int (nI o)), (4, .int (nI (ahN (strN (h2 hf)) k 5))), (0, .ref mm), (1, .int (nI q9))] := xl_eq hl (xl_cons rfl (xl_cons (congrArg (fun x => ((2 : Nat), Value.int x)) e_4) rfl))
                exact ih4 (k + 1) _ _ _ (by omega) (by omega) hH hS (lv_sub hl [0, 1, 4, 5] rfl)
              · skip
                refine lv_iload_n hx hb dX5_strakeBehind_77 rfl (lv_at hl 2 rfl) ?_
                refine lv_goto (tgt := 82) hx hb dX5_strakeBehind_78 (by decide) ?_
                refine lv_istore_n (lv' := [(2, .int (nI k)), (5, .int (nI o)), (4, .int (nI (ahN (strN (h2 hf)) k 5))), (3, .int (nI k)), (0, .ref mm), (1, .int (nI q9))]) hx hb dX5_strakeBehind_82 rfl hl (by decide) rfl (fun ls hl => ?_)
                refine lv_iinc (v := nI (k + 1)) (lv' := [(3, .int (nI (k + 1))), (2, .int (nI k)), (5, .int (nI o)), (4, .int (nI (ahN (strN (h2 hf)) k 5))), (0, .ref mm), (1, .int (nI q9))]) hx hb dX5_strakeBehind_83 hl (k := 3) rfl (nI_inc _) (by decide) rfl (fun ls hl => ?_)
                refine lv_goto (tgt := 4) hx hb dX5_strakeBehind_86 (by decide) ?_
                have e_5 : (nI k : Int32) = oI (sbZ (strN (h2 hf)) q9 (k + 1)) := by rw [sbZ_succ]; first | (rw [if_pos (by assumption)]; exact nI_oI _) | rw [if_neg (by assumption)]
                have hl : lv_has ls 6 [(3, .int (nI (k + 1))), (2, .int (oI (sbZ (strN (h2 hf)) q9 (k + 1)))), (5, .int (nI o)), (4, .int (nI (ahN (strN (h2 hf)) k 5))), (0, .ref mm), (1, .int (nI q9))] := xl_eq hl (xl_cons rfl (xl_cons (congrArg (fun x => ((2 : Nat), Value.int x)) e_5) rfl))
                exact ih4 (k + 1) _ _ _ (by omega) (by omega) hH hS (lv_sub hl [0, 1, 4, 5] rfl)
            · skip
              have hs2 := strN_le hB (show o < 6 by omega)
              refine lv_iload hx hb dX5_strakeBehind_21 (lv_at hl 1 rfl) ?_
              refine lv_aload_n hx hb dX5_strakeBehind_23 rfl (lv_at hl 4 rfl) ?_
              refine lv_iload hx hb dX5_strakeBehind_24 (lv_at hl 0 rfl) ?_
              refine x_V (n := 1) (As := [.int (nI o)]) (rest := [.int (nI (ahN (strN (h2 hf)) k o))]) ⟨hx, hb, hml, hown, hts⟩ hK hC hA hH hS (mX5_strakeOf l G A f hM hB o (by omega)) q1161 q1163 qs26 q38 q1164 (by decide +kernel) ⟨Nat.le_of_ble_eq_true rfl, Nat.le_of_ble_eq_true rfl⟩ hM.1 rfl rfl rfl hl.1 rfl (Nat.le_of_ble_eq_true rfl) dX5_strakeBehind_26 (Nat.le_of_ble_eq_true rfl) (Nat.le_of_ble_eq_true rfl) (fun v f_6 H locs hp hH hS hz => ?_)
              obtain ⟨rfl, rfl⟩ := hp
              refine x_norm (g2 := F0 m 29 ls [.int (nI (strN (h2 hf) o)), .int (nI (ahN (strN (h2 hf)) k o))]) (k := 0) (n := 0) (Nat.le_refl _) (Nat.le_refl _) rfl ?_
              refine lv_aload_n hx hb dX5_strakeBehind_29 rfl (lv_at hl 4 rfl) ?_
              refine lv_iload_n hx hb dX5_strakeBehind_30 rfl (lv_at hl 2 rfl) ?_
              refine x_V (n := 1) (As := [.int (nI k)]) (rest := [.int (nI (strN (h2 hf) o)), .int (nI (ahN (strN (h2 hf)) k o))]) ⟨hx, hb, hml, hown, hts⟩ hK hC hA hH hS (mX5_strakeOf l G A f hM hB k (by omega)) q1161 q1163 qs26 q38 q1164 (by decide +kernel) ⟨Nat.le_of_ble_eq_true rfl, Nat.le_of_ble_eq_true rfl⟩ hM.1 rfl rfl rfl hl.1 rfl (Nat.le_of_ble_eq_true rfl) dX5_strakeBehind_31 (Nat.le_of_ble_eq_true rfl) (Nat.le_of_ble_eq_true rfl) (fun v f_7 H locs hp hH hS hz => ?_)
              obtain ⟨rfl, rfl⟩ := hp
              refine x_norm (g2 := F0 m 34 ls [.int (nI (strN (h2 hf) k)), .int (nI (strN (h2 hf) o)), .int (nI (ahN (strN (h2 hf)) k o))]) (k := 0) (n := 0) (Nat.le_refl _) (Nat.le_refl _) rfl ?_
              refine x_icmp_gt (tgt := 57) (P := (strN (h2 hf) k) < (strN (h2 hf) o)) hx hb dX5_strakeBehind_34 (by decide) (nI_lt' (by omega) (by omega)) (fun c34 => ?_) (fun c34 => ?_)
              · skip
                refine lv_iconst (v := nI 1) hx hb dX5_strakeBehind_57 rfl ?_
                refine lv_goto (tgt := 62) hx hb dX5_strakeBehind_58 (by decide) ?_
                refine x_iadd (v := nI ((ahN (strN (h2 hf)) k o) + 1)) hx hb (nI_add _ _) dX5_strakeBehind_62 ?_
                refine lv_istore (lv' := [(4, .int (nI ((ahN (strN (h2 hf)) k o) + 1))), (5, .int (nI o)), (3, .int (nI k)), (2, .int (oI (sbZ (strN (h2 hf)) q9 k))), (0, .ref mm), (1, .int (nI q9))]) hx hb dX5_strakeBehind_63 hl (by decide) rfl (fun ls hl => ?_)
                refine lv_iinc (v := nI (o + 1)) (lv' := [(5, .int (nI (o + 1))), (4, .int (nI ((ahN (strN (h2 hf)) k o) + 1))), (3, .int (nI k)), (2, .int (oI (sbZ (strN (h2 hf)) q9 k))), (0, .ref mm), (1, .int (nI q9))]) hx hb dX5_strakeBehind_65 hl (k := 1) rfl (nI_inc _) (by decide) rfl (fun ls hl => ?_)
                refine lv_goto (tgt := 15) hx hb dX5_strakeBehind_68 (by decide) ?_
                have e_8 : (nI ((ahN (strN (h2 hf)) k o) + 1) : Int32) = nI (ahN (strN (h2 hf)) k (o + 1)) := by rw [ahN_succ]; first | rw [if_pos (by omega)] | rw [if_neg (by omega)]
                have hl : lv_has ls 6 [(5, .int (nI (o + 1))), (4, .int (nI (ahN (strN (h2 hf)) k (o + 1)))), (3, .int (nI k)), (2, .int (oI (sbZ (strN (h2 hf)) q9 k))), (0, .ref mm), (1, .int (nI q9))] := xl_eq hl (xl_cons rfl (xl_cons (congrArg (fun x => ((4 : Nat), Value.int x)) e_8) rfl))
                exact ih15 (o + 1) _ _ _ (by omega) (by omega) hH hS (lv_sub hl [0, 1, 2, 3, 4, 5] rfl)
              · skip
                refine lv_aload_n hx hb dX5_strakeBehind_37 rfl (lv_at hl 4 rfl) ?_
                refine lv_iload hx hb dX5_strakeBehind_38 (lv_at hl 0 rfl) ?_
                refine x_V (n := 1) (As := [.int (nI o)]) (rest := [.int (nI (ahN (strN (h2 hf)) k o))]) ⟨hx, hb, hml, hown, hts⟩ hK hC hA hH hS (mX5_strakeOf l G A f hM hB o (by omega)) q1161 q1163 qs26 q38 q1164 (by decide +kernel) ⟨Nat.le_of_ble_eq_true rfl, Nat.le_of_ble_eq_true rfl⟩ hM.1 rfl rfl rfl hl.1 rfl (Nat.le_of_ble_eq_true rfl) dX5_strakeBehind_40 (Nat.le_of_ble_eq_true rfl) (Nat.le_of_ble_eq_true rfl) (fun v f_9 H locs hp hH hS hz => ?_)
                obtain ⟨rfl, rfl⟩ := hp
                refine x_norm (g2 := F0 m 43 ls [.int (nI (strN (h2 hf) o)), .int (nI (ahN (strN (h2 hf)) k o))]) (k := 0) (n := 0) (Nat.le_refl _) (Nat.le_refl _) rfl ?_
                refine lv_aload_n hx hb dX5_strakeBehind_43 rfl (lv_at hl 4 rfl) ?_
                refine lv_iload_n hx hb dX5_strakeBehind_44 rfl (lv_at hl 2 rfl) ?_
                refine x_V (n := 1) (As := [.int (nI k)]) (rest := [.int (nI (strN (h2 hf) o)), .int (nI (ahN (strN (h2 hf)) k o))]) ⟨hx, hb, hml, hown, hts⟩ hK hC hA hH hS (mX5_strakeOf l G A f hM hB k (by omega)) q1161 q1163 qs26 q38 q1164 (by decide +kernel) ⟨Nat.le_of_ble_eq_true rfl, Nat.le_of_ble_eq_true rfl⟩ hM.1 rfl rfl rfl hl.1 rfl (Nat.le_of_ble_eq_true rfl) dX5_strakeBehind_45 (Nat.le_of_ble_eq_true rfl) (Nat.le_of_ble_eq_true rfl) (fun v f_10 H locs hp hH hS hz => ?_)
                obtain ⟨rfl, rfl⟩ := hp
                refine x_norm (g2 := F0 m 48 ls [.int (nI (strN (h2 hf) k)), .int (nI (strN (h2 hf) o)), .int (nI (ahN (strN (h2 hf)) k o))]) (k := 0) (n := 0) (Nat.le_refl _) (Nat.le_refl _) rfl ?_
                refine x_icmp_ne (tgt := 61) (P := (strN (h2 hf) o) = (strN (h2 hf) k)) hx hb dX5_strakeBehind_48 (by decide) (nI_eq' (by omega) (by omega)) (fun c48 => ?_) (fun c48 => ?_)
                · skip
                  refine lv_iconst (v := nI 0) hx hb dX5_strakeBehind_61 rfl ?_
                  refine x_iadd (v := nI ((ahN (strN (h2 hf)) k o) + 0)) hx hb (nI_add _ _) dX5_strakeBehind_62 ?_
                  refine lv_istore (lv' := [(4, .int (nI ((ahN (strN (h2 hf)) k o) + 0))), (5, .int (nI o)), (3, .int (nI k)), (2, .int (oI (sbZ (strN (h2 hf)) q9 k))), (0, .ref mm), (1, .int (nI q9))]) hx hb dX5_strakeBehind_63 hl (by decide) rfl (fun ls hl => ?_)
                  refine lv_iinc (v := nI (o + 1)) (lv' := [(5, .int (nI (o + 1))), (4, .int (nI ((ahN (strN (h2 hf)) k o) + 0))), (3, .int (nI k)), (2, .int (oI (sbZ (strN (h2 hf)) q9 k))), (0, .ref mm), (1, .int (nI q9))]) hx hb dX5_strakeBehind_65 hl (k := 1) rfl (nI_inc _) (by decide) rfl (fun ls hl => ?_)
                  refine lv_goto (tgt := 15) hx hb dX5_strakeBehind_68 (by decide) ?_
                  have e_11 : (nI ((ahN (strN (h2 hf)) k o) + 0) : Int32) = nI (ahN (strN (h2 hf)) k (o + 1)) := by rw [ahN_succ]; first | rw [if_pos (by omega)] | rw [if_neg (by omega)]
                  have hl : lv_has ls 6 [(5, .int (nI (o + 1))), (4, .int (nI (ahN (strN (h2 hf)) k (o + 1)))), (3, .int (nI k)), (2, .int (oI (sbZ (strN (h2 hf)) q9 k))), (0, .ref mm), (1, .int (nI q9))] := xl_eq hl (xl_cons rfl (xl_cons (congrArg (fun x => ((4 : Nat), Value.int x)) e_11) rfl))
                  exact ih15 (o + 1) _ _ _ (by omega) (by omega) hH hS (lv_sub hl [0, 1, 2, 3, 4, 5] rfl)
                · skip
                  refine lv_iload hx hb dX5_strakeBehind_51 (lv_at hl 0 rfl) ?_
                  refine lv_iload_n hx hb dX5_strakeBehind_53 rfl (lv_at hl 2 rfl) ?_
                  refine x_icmp_ge (tgt := 61) (P := k ≤ o) hx hb dX5_strakeBehind_54 (by decide) (nI_le' (by omega) (by omega)) (fun c54 => ?_) (fun c54 => ?_)
                  · skip
                    refine lv_iconst (v := nI 0) hx hb dX5_strakeBehind_61 rfl ?_
                    refine x_iadd (v := nI ((ahN (strN (h2 hf)) k o) + 0)) hx hb (nI_add _ _) dX5_strakeBehind_62 ?_
                    refine lv_istore (lv' := [(4, .int (nI ((ahN (strN (h2 hf)) k o) + 0))), (5, .int (nI o)), (3, .int (nI k)), (2, .int (oI (sbZ (strN (h2 hf)) q9 k))), (0, .ref mm), (1, .int (nI q9))]) hx hb dX5_strakeBehind_63 hl (by decide) rfl (fun ls hl => ?_)
                    refine lv_iinc (v := nI (o + 1)) (lv' := [(5, .int (nI (o + 1))), (4, .int (nI ((ahN (strN (h2 hf)) k o) + 0))), (3, .int (nI k)), (2, .int (oI (sbZ (strN (h2 hf)) q9 k))), (0, .ref mm), (1, .int (nI q9))]) hx hb dX5_strakeBehind_65 hl (k := 1) rfl (nI_inc _) (by decide) rfl (fun ls hl => ?_)
                    refine lv_goto (tgt := 15) hx hb dX5_strakeBehind_68 (by decide) ?_
                    have e_12 : (nI ((ahN (strN (h2 hf)) k o) + 0) : Int32) = nI (ahN (strN (h2 hf)) k (o + 1)) := by rw [ahN_succ]; first | rw [if_pos (by omega)] | rw [if_neg (by omega)]
                    have hl : lv_has ls 6 [(5, .int (nI (o + 1))), (4, .int (nI (ahN (strN (h2 hf)) k (o + 1)))), (3, .int (nI k)), (2, .int (oI (sbZ (strN (h2 hf)) q9 k))), (0, .ref mm), (1, .int (nI q9))] := xl_eq hl (xl_cons rfl (xl_cons (congrArg (fun x => ((4 : Nat), Value.int x)) e_12) rfl))
                    exact ih15 (o + 1) _ _ _ (by omega) (by omega) hH hS (lv_sub hl [0, 1, 2, 3, 4, 5] rfl)
                  · skip
                    refine lv_iconst (v := nI 1) hx hb dX5_strakeBehind_57 rfl ?_
                    refine lv_goto (tgt := 62) hx hb dX5_strakeBehind_58 (by decide) ?_
                    refine x_iadd (v := nI ((ahN (strN (h2 hf)) k o) + 1)) hx hb (nI_add _ _) dX5_strakeBehind_62 ?_
                    refine lv_istore (lv' := [(4, .int (nI ((ahN (strN (h2 hf)) k o) + 1))), (5, .int (nI o)), (3, .int (nI k)), (2, .int (oI (sbZ (strN (h2 hf)) q9 k))), (0, .ref mm), (1, .int (nI q9))]) hx hb dX5_strakeBehind_63 hl (by decide) rfl (fun ls hl => ?_)
                    refine lv_iinc (v := nI (o + 1)) (lv' := [(5, .int (nI (o + 1))), (4, .int (nI ((ahN (strN (h2 hf)) k o) + 1))), (3, .int (nI k)), (2, .int (oI (sbZ (strN (h2 hf)) q9 k))), (0, .ref mm), (1, .int (nI q9))]) hx hb dX5_strakeBehind_65 hl (k := 1) rfl (nI_inc _) (by decide) rfl (fun ls hl => ?_)
                    refine lv_goto (tgt := 15) hx hb dX5_strakeBehind_68 (by decide) ?_
                    have e_13 : (nI ((ahN (strN (h2 hf)) k o) + 1) : Int32) = nI (ahN (strN (h2 hf)) k (o + 1)) := by rw [ahN_succ]; first | rw [if_pos (by omega)] | rw [if_neg (by omega)]
                    have hl : lv_has ls 6 [(5, .int (nI (o + 1))), (4, .int (nI (ahN (strN (h2 hf)) k (o + 1)))), (3, .int (nI k)), (2, .int (oI (sbZ (strN (h2 hf)) q9 k))), (0, .ref mm), (1, .int (nI q9))] := xl_eq hl (xl_cons rfl (xl_cons (congrArg (fun x => ((4 : Nat), Value.int x)) e_13) rfl))
                    exact ih15 (o + 1) _ _ _ (by omega) (by omega) hH hS (lv_sub hl [0, 1, 2, 3, 4, 5] rfl)
        have e_14 : (nI 0 : Int32) = nI (ahN (strN (h2 hf)) k 0) := by rfl
        have hl : lv_has ls 6 [(5, .int (nI 0)), (4, .int (nI (ahN (strN (h2 hf)) k 0))), (3, .int (nI k)), (2, .int (oI (sbZ (strN (h2 hf)) q9 k))), (0, .ref mm), (1, .int (nI q9))] := xl_eq hl (xl_cons rfl (xl_cons (congrArg (fun x => ((4 : Nat), Value.int x)) e_14) rfl))
        exact hloop15 (5 - 0 + 1) 0 _ _ _ (by omega) (Nat.lt_succ_self _) hH hS (lv_sub hl [0, 1, 2, 3, 4, 5] rfl)
  have e_15 : (oI (-1) : Int32) = oI (sbZ (strN (h2 hf)) q9 0) := by rfl
  have hl : lv_has ls 6 [(3, .int (nI 0)), (2, .int (oI (sbZ (strN (h2 hf)) q9 0))), (0, .ref mm), (1, .int (nI q9))] := xl_eq hl (xl_cons rfl (xl_cons (congrArg (fun x => ((2 : Nat), Value.int x)) e_15) rfl))
  exact hloop4 (5 - 0 + 1) 0 _ _ _ (by omega) (Nat.lt_succ_self _) hH hS (lv_sub hl [0, 1, 2, 3] rfl)

abbrev rmX5_ballast : Room := { frames := 6, cells := 0, slots := 0, locals := 240 }
set_option maxHeartbeats 4000000 in
set_option maxRecDepth 100000 in
theorem mX5_ballast (l : Launch) (G : xG) (A : Nat → Prop) (f : xF) {mm : Nat} {ad : Nat → Nat} {th nw ln nt sl td la : Nat} {hf sa sw lf cf dd tt bh li : Nat → Nat} (hM : MM G f mm ad th nw ln nt sl td la hf sa sw lf cf dd tt bh li) (hB : ∀ w s, w < 6 → s < 9 → h2 hf w s ≤ 200) (hW : ∀ k, k < 17 → sw k ≤ 999) (hS9 : ∀ k, k < 17 → sa k ≤ 8) (z1 : Int) (hz1 : -2147483648 ≤ z1 ∧ z1 ≤ 2147483647) : xMet l yX5_ballast cX5_ballast 8 (some .int) rmX5_ballast G A f [.ref mm, .int (oI z1)] (fun v f1 => v = some (.int (if cdIn z1 0 99 = 0 then nI (10 * (balF (balI (volN (h2 hf)) (momN (h2 hf)) sa sw) (sa 16) (sw 16) (9 * (z1.toNat + 1))).2.1 + (balF (balI (volN (h2 hf)) (momN (h2 hf)) sa sw) (sa 16) (sw 16) (9 * (z1.toNat + 1))).1) else nI 0)) ∧ MM G f1 mm ad (cdIn z1 0 99) nw ln nt sl td la hf (if cdIn z1 0 99 = 0 then va_up sa 16 (balF (balI (volN (h2 hf)) (momN (h2 hf)) sa sw) (sa 16) (sw 16) (9 * (z1.toNat + 1))).1 else sa) (if cdIn z1 0 99 = 0 then va_up sw 16 (balF (balI (volN (h2 hf)) (momN (h2 hf)) sa sw) (sa 16) (sw 16) (9 * (z1.toNat + 1))).2.1 else sw) lf cf dd tt bh li ∧ xkeep 1000 1010 f f1) := by
  refine x_start (by decide) (Nat.le_of_ble_eq_true rfl) ?_
  intro p e s m below meth c ls X hH hS hl
  obtain ⟨hx, hb, hr, hlk, hml, hown, hts, hK, hC, hA, hnm, hmn⟩ := X
  have hl : lv_has ls 8 [(0, .ref mm), (1, .int (oI z1))] := hl
  have hkp0 : xkeep 1000 1010 f f := xkeep.refl
  have hj16 : ∀ (cd : Nat) (H : Heap) (locs : List Loc) (ls : Array Slot), cd = cdIn z1 0 99 → xH G A f H → va_S A s.heap H locs → lv_has ls 8 [(0, .ref mm), (1, .int (oI z1))] → W p l e rmX5_ballast s m ([.ref mm, .int (oI z1)] : List Value).toArray below meth c H locs 0 0 (MQ below (xQ G A (fun v f1 => v = some (.int (if cdIn z1 0 99 = 0 then nI (10 * (balF (balI (volN (h2 hf)) (momN (h2 hf)) sa sw) (sa 16) (sw 16) (9 * (z1.toNat + 1))).2.1 + (balF (balI (volN (h2 hf)) (momN (h2 hf)) sa sw) (sa 16) (sw 16) (9 * (z1.toNat + 1))).1) else nI 0)) ∧ MM G f1 mm ad (cdIn z1 0 99) nw ln nt sl td la hf (if cdIn z1 0 99 = 0 then va_up sa 16 (balF (balI (volN (h2 hf)) (momN (h2 hf)) sa sw) (sa 16) (sw 16) (9 * (z1.toNat + 1))).1 else sa) (if cdIn z1 0 99 = 0 then va_up sw 16 (balF (balI (volN (h2 hf)) (momN (h2 hf)) sa sw) (sa 16) (sw 16) (9 * (z1.toNat + 1))).2.1 else sw) lf cf dd tt bh li ∧ xkeep 1000 1010 f f1)) ([.ref mm, .int (oI z1)] : List Value).toArray s rmX5_ballast.cells rmX5_ballast.slots A) (F0 m 16 ls [.int (nI cd), .ref mm]) := by
    intro cd H locs ls hcd hH hS hl
    refine x_put (C := RX5) (T := TX5) (N := 16) (ci := 4) (v := .int (nI cd)) (ty := (tyX5 0)) hx hb hts in_X5 tyX5_ok nmX5 hown hK hH hS hM.1 rfl 0 (by decide) (hts _ q977) (fun _ h9 => h9) rfl (by decide +kernel) rfl rfl (Nat.le_of_ble_eq_true rfl) dX5_ballast_16 (fun H locs f_1 ef_1 hH hS => ?_)
    have hM_2 : MM G f_1 mm ad cd nw ln nt sl td la hf sa sw lf cf dd tt bh li := by rw [ef_1]; exact hM.put0 _
    have hkp_3 : xkeep 1000 1010 f f_1 := by rw [ef_1]; exact hkp0.set hM.1 (by decide)
    refine lv_aload_n hx hb dX5_ballast_19 rfl (lv_at hl 0 rfl) ?_
    refine x_get (C := RX5) (T := TX5) (N := 16) (ci := 4) (v := .int (nI cd)) hx hb hts in_X5 hown hK hH hM_2.1 rfl 0 (by decide) (hts _ q977) (fun _ h9 => h9) rfl dX5_ballast_20 ?_
    refine x_if_le (tgt := 28) (P := cd = 0) hx hb dX5_ballast_23 (by decide) (nI_le0 (by rw [hcd]; unfold cdIn; split <;> omega)) (fun c23 => ?_) (fun c23 => ?_)
    · skip
      have h9 : cdIn z1 0 99 = 0 := by rw [← hcd]; exact c23
      have hok := cdIn_0 h9
      have e_4 : (oI z1 : Int32) = nI z1.toNat := oI_nI (by omega)
      have hl : lv_has ls 8 [(0, .ref mm), (1, .int (nI z1.toNat))] := xl_eq hl (xl_cons rfl (xl_cons (congrArg (fun x => ((1 : Nat), Value.int x)) e_4) rfl))
      refine lv_aload_n hx hb dX5_ballast_28 rfl (lv_at hl 0 rfl) ?_
      refine x_get (C := RX5) (T := TX5) (N := 16) (ci := 4) (v := .ref (ad 1)) hx hb hts in_X5 hown hK hH hM_2.1 rfl 3 (by decide) (hts _ q980) (fun _ h9 => h9) rfl dX5_ballast_29 ?_
      refine lv_bipush (v := nI 16) hx hb dX5_ballast_32 rfl ?_
      refine x_iald (j := 16) hx hb hK hH (show f_1 (ad 1) = some (xN G 1002 17 sa) from hM_2.2 1 (by decide)) rfl (by omega) (by decide) dX5_ballast_34 ?_
      refine lv_istore_n (lv' := [(2, .int (nI (sa 16))), (0, .ref mm), (1, .int (nI z1.toNat))]) hx hb dX5_ballast_35 rfl hl (by decide) rfl (fun ls hl => ?_)
      refine lv_aload_n hx hb dX5_ballast_36 rfl (lv_at hl 1 rfl) ?_
      refine x_get (C := RX5) (T := TX5) (N := 16) (ci := 4) (v := .ref (ad 2)) hx hb hts in_X5 hown hK hH hM_2.1 rfl 4 (by decide) (hts _ q981) (fun _ h9 => h9) rfl dX5_ballast_37 ?_
      refine lv_bipush (v := nI 16) hx hb dX5_ballast_40 rfl ?_
      refine x_iald (j := 16) hx hb hK hH (show f_1 (ad 2) = some (xN G 1003 17 sw) from hM_2.2 2 (by decide)) rfl (by omega) (by decide) dX5_ballast_42 ?_
      refine lv_istore_n (lv' := [(3, .int (nI (sw 16))), (2, .int (nI (sa 16))), (0, .ref mm), (1, .int (nI z1.toNat))]) hx hb dX5_ballast_43 rfl hl (by decide) rfl (fun ls hl => ?_)
      refine lv_ldc (v := nI 100000000) hx hb hown (show (Cond.constant _ _ (nI 100000000)).before _ _ = true from (show (100000000 : Int32) = nI 100000000 from by decide) ▸ hts _ q1077) dX5_ballast_44 ?_
      refine lv_istore (lv' := [(4, .int (nI 100000000)), (3, .int (nI (sw 16))), (2, .int (nI (sa 16))), (0, .ref mm), (1, .int (nI z1.toNat))]) hx hb dX5_ballast_46 hl (by decide) rfl (fun ls hl => ?_)
      refine lv_iconst (v := nI 0) hx hb dX5_ballast_48 rfl ?_
      refine lv_istore (lv' := [(5, .int (nI 0)), (4, .int (nI 100000000)), (3, .int (nI (sw 16))), (2, .int (nI (sa 16))), (0, .ref mm), (1, .int (nI z1.toNat))]) hx hb dX5_ballast_49 hl (by decide) rfl (fun ls hl => ?_)
      have hloop51 : ∀ (n : Nat) (k : Nat) (saL : Nat → Nat) (swL : Nat → Nat) (fL51 : xF) (H : Heap) (locs : List Loc) (ls : Array Slot), k ≤ z1.toNat + 1 → MM G fL51 mm ad cd nw ln nt sl td la hf saL swL lf cf dd tt bh li → xkeep 1000 1010 f fL51 → (∀ v : Nat, va_up saL 16 v = va_up sa 16 v) → (∀ v : Nat, va_up swL 16 v = va_up sw 16 v) → (z1.toNat + 1 - k) < n → xH G A fL51 H → va_S A s.heap H locs → lv_has ls 8 [(5, .int (nI k)), (4, .int (nI ((balF (balI (volN (h2 hf)) (momN (h2 hf)) sa sw) (sa 16) (sw 16) (9 * k)).2.2))), (3, .int (nI ((balF (balI (volN (h2 hf)) (momN (h2 hf)) sa sw) (sa 16) (sw 16) (9 * k)).2.1))), (2, .int (nI ((balF (balI (volN (h2 hf)) (momN (h2 hf)) sa sw) (sa 16) (sw 16) (9 * k)).1))), (0, .ref mm), (1, .int (nI z1.toNat))] → W p l e rmX5_ballast s m ([.ref mm, .int (oI z1)] : List Value).toArray below meth c H locs 0 0 (MQ below (xQ G A (fun v f1 => v = some (.int (if cdIn z1 0 99 = 0 then nI (10 * (balF (balI (volN (h2 hf)) (momN (h2 hf)) sa sw) (sa 16) (sw 16) (9 * (z1.toNat + 1))).2.1 + (balF (balI (volN (h2 hf)) (momN (h2 hf)) sa sw) (sa 16) (sw 16) (9 * (z1.toNat + 1))).1) else nI 0)) ∧ MM G f1 mm ad (cdIn z1 0 99) nw ln nt sl td la hf (if cdIn z1 0 99 = 0 then va_up sa 16 (balF (balI (volN (h2 hf)) (momN (h2 hf)) sa sw) (sa 16) (sw 16) (9 * (z1.toNat + 1))).1 else sa) (if cdIn z1 0 99 = 0 then va_up sw 16 (balF (balI (volN (h2 hf)) (momN (h2 hf)) sa sw) (sa 16) (sw 16) (9 * (z1.toNat + 1))).2.1 else sw) lf cf dd tt bh li ∧ xkeep 1000 1010 f f1)) ([.ref mm, .int (oI z1)] : List Value).toArray s rmX5_ballast.cells rmX5_ballast.slots A) (F0 m 51 ls []) := by
        intro n
        induction n with
        | zero => intro k saL swL fL51 H locs ls hk hML51 hkL51 hsaL hswL hn; exact absurd hn (Nat.not_lt_zero _)
        | succ n ih51 =>
          intro k saL swL fL51 H locs ls hk hML51 hkL51 hsaL hswL hn hH hS hl
          refine lv_iload hx hb dX5_ballast_51 (lv_at hl 0 rfl) ?_
          refine lv_iload_n hx hb dX5_ballast_53 rfl (lv_at hl 5 rfl) ?_
          refine x_icmp_gt (tgt := 136) (P := z1.toNat < k) hx hb dX5_ballast_54 (by decide) (nI_lt' (by omega) (by omega)) (fun c54 => ?_) (fun c54 => ?_)
          · skip
            have hkk : k = z1.toNat + 1 := by omega
            subst hkk
            have hbf := balF_bd (it := (balI (volN (h2 hf)) (momN (h2 hf)) sa sw)) (i := 9 * (z1.toNat + 1)) (hS9 16 (by decide)) (hW 16 (by decide)) (by omega)
            have hl : lv_has ls 8 [(5, .int (nI (z1.toNat + 1))), (4, .int (nI ((balF (balI (volN (h2 hf)) (momN (h2 hf)) sa sw) (sa 16) (sw 16) (9 * (z1.toNat + 1))).2.2))), (3, .int (nI ((balF (balI (volN (h2 hf)) (momN (h2 hf)) sa sw) (sa 16) (sw 16) (9 * (z1.toNat + 1))).2.1))), (2, .int (nI ((balF (balI (volN (h2 hf)) (momN (h2 hf)) sa sw) (sa 16) (sw 16) (9 * (z1.toNat + 1))).1))), (0, .ref mm), (1, .int (nI z1.toNat))] := hl
            refine lv_aload_n hx hb dX5_ballast_136 rfl (lv_at hl 4 rfl) ?_
            refine x_get (C := RX5) (T := TX5) (N := 16) (ci := 4) (v := .ref (ad 1)) hx hb hts in_X5 hown hK hH hML51.1 rfl 3 (by decide) (hts _ q980) (fun _ h9 => h9) rfl dX5_ballast_137 ?_
            refine lv_bipush (v := nI 16) hx hb dX5_ballast_140 rfl ?_
            refine lv_iload_n hx hb dX5_ballast_142 rfl (lv_at hl 3 rfl) ?_
            refine x_iast (j := 16) (v := (balF (balI (volN (h2 hf)) (momN (h2 hf)) sa sw) (sa 16) (sw 16) (9 * (z1.toNat + 1))).1) hx hb hK hH hS (show fL51 (ad 1) = some (xN G 1002 17 saL) from hML51.2 1 (by decide)) rfl (by omega) (by decide) rfl dX5_ballast_143 (fun H locs f_6 ef_6 hH hS => ?_)
            have hM_7 : MM G f_6 mm ad cd nw ln nt sl td la hf (va_up saL 16 ((balF (balI (volN (h2 hf)) (momN (h2 hf)) sa sw) (sa 16) (sw 16) (9 * (z1.toNat + 1))).1)) swL lf cf dd tt bh li := by rw [ef_6]; exact hML51.arr1 _
            have hkp_8 : xkeep 1000 1010 f f_6 := by rw [ef_6]; exact hkL51.set (hML51.2 1 (by decide)) (by decide)
            refine lv_aload_n hx hb dX5_ballast_144 rfl (lv_at hl 4 rfl) ?_
            refine x_get (C := RX5) (T := TX5) (N := 16) (ci := 4) (v := .ref (ad 2)) hx hb hts in_X5 hown hK hH hM_7.1 rfl 4 (by decide) (hts _ q981) (fun _ h9 => h9) rfl dX5_ballast_145 ?_
            refine lv_bipush (v := nI 16) hx hb dX5_ballast_148 rfl ?_
            refine lv_iload_n hx hb dX5_ballast_150 rfl (lv_at hl 2 rfl) ?_
            refine x_iast (j := 16) (v := (balF (balI (volN (h2 hf)) (momN (h2 hf)) sa sw) (sa 16) (sw 16) (9 * (z1.toNat + 1))).2.1) hx hb hK hH hS (show f_6 (ad 2) = some (xN G 1003 17 swL) from hM_7.2 2 (by decide)) rfl (by omega) (by decide) rfl dX5_ballast_151 (fun H locs f_9 ef_9 hH hS => ?_)
            have hM_10 : MM G f_9 mm ad cd nw ln nt sl td la hf (va_up saL 16 ((balF (balI (volN (h2 hf)) (momN (h2 hf)) sa sw) (sa 16) (sw 16) (9 * (z1.toNat + 1))).1)) (va_up swL 16 ((balF (balI (volN (h2 hf)) (momN (h2 hf)) sa sw) (sa 16) (sw 16) (9 * (z1.toNat + 1))).2.1)) lf cf dd tt bh li := by rw [ef_9]; exact hM_7.arr2 _
            have hkp_11 : xkeep 1000 1010 f f_9 := by rw [ef_9]; exact hkp_8.set (hM_7.2 2 (by decide)) (by decide)
            refine lv_bipush (v := nI 10) hx hb dX5_ballast_152 rfl ?_
            refine lv_iload_n hx hb dX5_ballast_154 rfl (lv_at hl 2 rfl) ?_
            refine x_imul (v := nI (10 * ((balF (balI (volN (h2 hf)) (momN (h2 hf)) sa sw) (sa 16) (sw 16) (9 * (z1.toNat + 1))).2.1))) hx hb (pk_mul _ _) dX5_ballast_155 ?_
            refine lv_iload_n hx hb dX5_ballast_156 rfl (lv_at hl 3 rfl) ?_
            refine x_iadd (v := nI ((10 * ((balF (balI (volN (h2 hf)) (momN (h2 hf)) sa sw) (sa 16) (sw 16) (9 * (z1.toNat + 1))).2.1)) + ((balF (balI (volN (h2 hf)) (momN (h2 hf)) sa sw) (sa 16) (sw 16) (9 * (z1.toNat + 1))).1))) hx hb (nI_add _ _) dX5_ballast_157 ?_
            exact x_iret hx hb hr hlk hH hS ⟨by simp only [if_pos h9], by simp only [if_pos h9]; rw [← hcd, ← hsaL, ← hswL]; exact hM_10, hkp_11⟩ (Nat.le_of_ble_eq_true rfl) (Nat.le_of_ble_eq_true rfl) dX5_ballast_158
          · skip
            refine lv_iconst (v := nI 0) hx hb dX5_ballast_57 rfl ?_
            refine lv_istore (lv' := [(6, .int (nI 0)), (5, .int (nI k)), (4, .int (nI ((balF (balI (volN (h2 hf)) (momN (h2 hf)) sa sw) (sa 16) (sw 16) (9 * k)).2.2))), (3, .int (nI ((balF (balI (volN (h2 hf)) (momN (h2 hf)) sa sw) (sa 16) (sw 16) (9 * k)).2.1))), (2, .int (nI ((balF (balI (volN (h2 hf)) (momN (h2 hf)) sa sw) (sa 16) (sw 16) (9 * k)).1))), (0, .ref mm), (1, .int (nI z1.toNat))]) hx hb dX5_ballast_58 hl (by decide) rfl (fun ls hl => ?_)
            have hloop60 : ∀ (n : Nat) (s9 : Nat) (saM : Nat → Nat) (swM : Nat → Nat) (fL60 : xF) (H : Heap) (locs : List Loc) (ls : Array Slot), s9 ≤ 9 → MM G fL60 mm ad cd nw ln nt sl td la hf saM swM lf cf dd tt bh li → xkeep 1000 1010 f fL60 → (∀ v : Nat, va_up saM 16 v = va_up sa 16 v) → (∀ v : Nat, va_up swM 16 v = va_up sw 16 v) → (9 - s9) < n → xH G A fL60 H → va_S A s.heap H locs → lv_has ls 8 [(6, .int (nI s9)), (5, .int (nI k)), (4, .int (nI ((balF (balI (volN (h2 hf)) (momN (h2 hf)) sa sw) (sa 16) (sw 16) (9 * k + s9)).2.2))), (3, .int (nI ((balF (balI (volN (h2 hf)) (momN (h2 hf)) sa sw) (sa 16) (sw 16) (9 * k + s9)).2.1))), (2, .int (nI ((balF (balI (volN (h2 hf)) (momN (h2 hf)) sa sw) (sa 16) (sw 16) (9 * k + s9)).1))), (0, .ref mm), (1, .int (nI z1.toNat))] → W p l e rmX5_ballast s m ([.ref mm, .int (oI z1)] : List Value).toArray below meth c H locs 0 0 (MQ below (xQ G A (fun v f1 => v = some (.int (if cdIn z1 0 99 = 0 then nI (10 * (balF (balI (volN (h2 hf)) (momN (h2 hf)) sa sw) (sa 16) (sw 16) (9 * (z1.toNat + 1))).2.1 + (balF (balI (volN (h2 hf)) (momN (h2 hf)) sa sw) (sa 16) (sw 16) (9 * (z1.toNat + 1))).1) else nI 0)) ∧ MM G f1 mm ad (cdIn z1 0 99) nw ln nt sl td la hf (if cdIn z1 0 99 = 0 then va_up sa 16 (balF (balI (volN (h2 hf)) (momN (h2 hf)) sa sw) (sa 16) (sw 16) (9 * (z1.toNat + 1))).1 else sa) (if cdIn z1 0 99 = 0 then va_up sw 16 (balF (balI (volN (h2 hf)) (momN (h2 hf)) sa sw) (sa 16) (sw 16) (9 * (z1.toNat + 1))).2.1 else sw) lf cf dd tt bh li ∧ xkeep 1000 1010 f f1)) ([.ref mm, .int (oI z1)] : List Value).toArray s rmX5_ballast.cells rmX5_ballast.slots A) (F0 m 60 ls []) := by
              intro n
              induction n with
              | zero => intro s9 saM swM fL60 H locs ls hs hML60 hkL60 hsaM hswM hn; exact absurd hn (Nat.not_lt_zero _)
              | succ n ih60 =>
                intro s9 saM swM fL60 H locs ls hs hML60 hkL60 hsaM hswM hn hH hS hl
                refine lv_iload hx hb dX5_ballast_60 (lv_at hl 0 rfl) ?_
                refine lv_bipush (v := nI 9) hx hb dX5_ballast_62 rfl ?_
                refine x_icmp_ge (tgt := 130) (P := 9 ≤ s9) hx hb dX5_ballast_64 (by decide) (nI_le' (by decide) (by omega)) (fun c64 => ?_) (fun c64 => ?_)
                · skip
                  have hs9 : s9 = 9 := by omega
                  refine lv_iinc (v := nI (k + 1)) (lv' := [(5, .int (nI (k + 1))), (6, .int (nI s9)), (4, .int (nI ((balF (balI (volN (h2 hf)) (momN (h2 hf)) sa sw) (sa 16) (sw 16) (9 * k + s9)).2.2))), (3, .int (nI ((balF (balI (volN (h2 hf)) (momN (h2 hf)) sa sw) (sa 16) (sw 16) (9 * k + s9)).2.1))), (2, .int (nI ((balF (balI (volN (h2 hf)) (momN (h2 hf)) sa sw) (sa 16) (sw 16) (9 * k + s9)).1))), (0, .ref mm), (1, .int (nI z1.toNat))]) hx hb dX5_ballast_130 hl (k := 1) rfl (nI_inc _) (by decide) rfl (fun ls hl => ?_)
                  refine lv_goto (tgt := 51) hx hb dX5_ballast_133 (by decide) ?_
                  have e_13 : (nI ((balF (balI (volN (h2 hf)) (momN (h2 hf)) sa sw) (sa 16) (sw 16) (9 * k + s9)).2.2) : Int32) = nI ((balF (balI (volN (h2 hf)) (momN (h2 hf)) sa sw) (sa 16) (sw 16) (9 * (k + 1))).2.2) := by rw [hs9, show 9 * (k + 1) = 9 * k + 9 by omega]
                  have e_14 : (nI ((balF (balI (volN (h2 hf)) (momN (h2 hf)) sa sw) (sa 16) (sw 16) (9 * k + s9)).2.1) : Int32) = nI ((balF (balI (volN (h2 hf)) (momN (h2 hf)) sa sw) (sa 16) (sw 16) (9 * (k + 1))).2.1) := by rw [hs9, show 9 * (k + 1) = 9 * k + 9 by omega]
                  have e_15 : (nI ((balF (balI (volN (h2 hf)) (momN (h2 hf)) sa sw) (sa 16) (sw 16) (9 * k + s9)).1) : Int32) = nI ((balF (balI (volN (h2 hf)) (momN (h2 hf)) sa sw) (sa 16) (sw 16) (9 * (k + 1))).1) := by rw [hs9, show 9 * (k + 1) = 9 * k + 9 by omega]
                  have hl : lv_has ls 8 [(5, .int (nI (k + 1))), (6, .int (nI s9)), (4, .int (nI ((balF (balI (volN (h2 hf)) (momN (h2 hf)) sa sw) (sa 16) (sw 16) (9 * (k + 1))).2.2))), (3, .int (nI ((balF (balI (volN (h2 hf)) (momN (h2 hf)) sa sw) (sa 16) (sw 16) (9 * (k + 1))).2.1))), (2, .int (nI ((balF (balI (volN (h2 hf)) (momN (h2 hf)) sa sw) (sa 16) (sw 16) (9 * (k + 1))).1))), (0, .ref mm), (1, .int (nI z1.toNat))] := xl_eq hl (xl_cons rfl (xl_cons rfl (xl_cons (congrArg (fun x => ((4 : Nat), Value.int x)) e_13) (xl_cons (congrArg (fun x => ((3 : Nat), Value.int x)) e_14) (xl_cons (congrArg (fun x => ((2 : Nat), Value.int x)) e_15) rfl)))))
                  exact ih51 (k + 1) saM swM fL60 _ _ _ (by omega) hML60 hkL60 hsaM hswM (by omega) hH hS (lv_sub hl [0, 2, 3, 4, 5, 6] rfl)
                · skip
                  refine lv_aload_n hx hb dX5_ballast_67 rfl (lv_at hl 5 rfl) ?_
                  refine x_get (C := RX5) (T := TX5) (N := 16) (ci := 4) (v := .ref (ad 1)) hx hb hts in_X5 hown hK hH hML60.1 rfl 3 (by decide) (hts _ q980) (fun _ h9 => h9) rfl dX5_ballast_68 ?_
                  refine lv_bipush (v := nI 16) hx hb dX5_ballast_71 rfl ?_
                  refine lv_iload hx hb dX5_ballast_73 (lv_at hl 0 rfl) ?_
                  refine x_iast (j := 16) (v := s9) hx hb hK hH hS (show fL60 (ad 1) = some (xN G 1002 17 saM) from hML60.2 1 (by decide)) rfl (by omega) (by decide) rfl dX5_ballast_75 (fun H locs f_16 ef_16 hH hS => ?_)
                  have hM_17 : MM G f_16 mm ad cd nw ln nt sl td la hf (va_up saM 16 s9) swM lf cf dd tt bh li := by rw [ef_16]; exact hML60.arr1 _
                  have hkp_18 : xkeep 1000 1010 f f_16 := by rw [ef_16]; exact hkL60.set (hML60.2 1 (by decide)) (by decide)
                  refine lv_aload_n hx hb dX5_ballast_76 rfl (lv_at hl 5 rfl) ?_
                  refine x_get (C := RX5) (T := TX5) (N := 16) (ci := 4) (v := .ref (ad 2)) hx hb hts in_X5 hown hK hH hM_17.1 rfl 4 (by decide) (hts _ q981) (fun _ h9 => h9) rfl dX5_ballast_77 ?_
                  refine lv_bipush (v := nI 16) hx hb dX5_ballast_80 rfl ?_
                  refine lv_iload hx hb dX5_ballast_82 (lv_at hl 1 rfl) ?_
                  refine x_iast (j := 16) (v := k) hx hb hK hH hS (show f_16 (ad 2) = some (xN G 1003 17 swM) from hM_17.2 2 (by decide)) rfl (by omega) (by decide) rfl dX5_ballast_84 (fun H locs f_19 ef_19 hH hS => ?_)
                  have hM_20 : MM G f_19 mm ad cd nw ln nt sl td la hf (va_up saM 16 s9) (va_up swM 16 k) lf cf dd tt bh li := by rw [ef_19]; exact hM_17.arr2 _
                  have hkp_21 : xkeep 1000 1010 f f_19 := by rw [ef_19]; exact hkp_18.set (hM_17.2 2 (by decide)) (by decide)
                  have hupA : va_up saM 16 s9 = va_up sa 16 s9 := hsaM s9
                  have hupW : va_up swM 16 k = va_up sw 16 k := hswM k
                  have hM_24 : MM G f_19 mm ad cd nw ln nt sl td la hf (va_up sa 16 s9) (va_up sw 16 k) lf cf dd tt bh li := by rw [← hupA, ← hupW]; exact hM_20
                  have hsa' : ∀ v : Nat, va_up (va_up sa 16 s9) 16 v = va_up sa 16 v := fun v => bx_uu _ _ _ _
                  have hsw' : ∀ v : Nat, va_up (va_up sw 16 k) 16 v = va_up sw 16 v := fun v => bx_uu _ _ _ _
                  have hW' : ∀ j, j < 17 → va_up sw 16 k j ≤ 999 := fun j hj => by unfold va_up; split; (· omega); (· exact hW j hj)
                  have hS' : ∀ j, j < 17 → va_up sa 16 s9 j ≤ 8 := fun j hj => by unfold va_up; split; (· omega); (· exact hS9 j hj)
                  have hbd9 := trZ_bd hB hW' hS'
                  have hmod : (9 * k + s9) % 9 = s9 := by omega
                  have hdiv : (9 * k + s9) / 9 = k := by omega
                  have hj105 : ∀ (its : Nat) (H : Heap) (locs : List Loc) (ls : Array Slot), its = balI (volN (h2 hf)) (momN (h2 hf)) sa sw s9 k → xH G A f_19 H → va_S A s.heap H locs → lv_has ls 8 [(6, .int (nI s9)), (5, .int (nI k)), (4, .int (nI ((balF (balI (volN (h2 hf)) (momN (h2 hf)) sa sw) (sa 16) (sw 16) (9 * k + s9)).2.2))), (3, .int (nI ((balF (balI (volN (h2 hf)) (momN (h2 hf)) sa sw) (sa 16) (sw 16) (9 * k + s9)).2.1))), (2, .int (nI ((balF (balI (volN (h2 hf)) (momN (h2 hf)) sa sw) (sa 16) (sw 16) (9 * k + s9)).1))), (0, .ref mm), (1, .int (nI z1.toNat))] → W p l e rmX5_ballast s m ([.ref mm, .int (oI z1)] : List Value).toArray below meth c H locs 0 0 (MQ below (xQ G A (fun v f1 => v = some (.int (if cdIn z1 0 99 = 0 then nI (10 * (balF (balI (volN (h2 hf)) (momN (h2 hf)) sa sw) (sa 16) (sw 16) (9 * (z1.toNat + 1))).2.1 + (balF (balI (volN (h2 hf)) (momN (h2 hf)) sa sw) (sa 16) (sw 16) (9 * (z1.toNat + 1))).1) else nI 0)) ∧ MM G f1 mm ad (cdIn z1 0 99) nw ln nt sl td la hf (if cdIn z1 0 99 = 0 then va_up sa 16 (balF (balI (volN (h2 hf)) (momN (h2 hf)) sa sw) (sa 16) (sw 16) (9 * (z1.toNat + 1))).1 else sa) (if cdIn z1 0 99 = 0 then va_up sw 16 (balF (balI (volN (h2 hf)) (momN (h2 hf)) sa sw) (sa 16) (sw 16) (9 * (z1.toNat + 1))).2.1 else sw) lf cf dd tt bh li ∧ xkeep 1000 1010 f f1)) ([.ref mm, .int (oI z1)] : List Value).toArray s rmX5_ballast.cells rmX5_ballast.slots A) (F0 m 105 ls [.int (nI its)]) := by
                    intro its H locs ls hits hH hS hl
                    refine lv_istore (lv' := [(7, .int (nI its)), (6, .int (nI s9)), (5, .int (nI k)), (4, .int (nI ((balF (balI (volN (h2 hf)) (momN (h2 hf)) sa sw) (sa 16) (sw 16) (9 * k + s9)).2.2))), (3, .int (nI ((balF (balI (volN (h2 hf)) (momN (h2 hf)) sa sw) (sa 16) (sw 16) (9 * k + s9)).2.1))), (2, .int (nI ((balF (balI (volN (h2 hf)) (momN (h2 hf)) sa sw) (sa 16) (sw 16) (9 * k + s9)).1))), (0, .ref mm), (1, .int (nI z1.toNat))]) hx hb dX5_ballast_105 hl (by decide) rfl (fun ls hl => ?_)
                    have hbf := balF_bd (it := (balI (volN (h2 hf)) (momN (h2 hf)) sa sw)) (i := 9 * k + s9) (hS9 16 (by decide)) (hW 16 (by decide)) (by omega)
                    have hib := balI_bd (hB := hB) hW hS9 (s := s9) (k := k) (by omega) (by omega)
                    rw [← hits] at hib
                    refine lv_iload hx hb dX5_ballast_107 (lv_at hl 0 rfl) ?_
                    refine lv_iload hx hb dX5_ballast_109 (lv_at hl 3 rfl) ?_
                    refine x_icmp_ge (tgt := 124) (P := ((balF (balI (volN (h2 hf)) (momN (h2 hf)) sa sw) (sa 16) (sw 16) (9 * k + s9)).2.2) ≤ its) hx hb dX5_ballast_111 (by decide) (nI_le' (by omega) (by omega)) (fun c111 => ?_) (fun c111 => ?_)
                    · skip
                      have hlt9 : ¬ balI (volN (h2 hf)) (momN (h2 hf)) sa sw s9 k < (balF (balI (volN (h2 hf)) (momN (h2 hf)) sa sw) (sa 16) (sw 16) (9 * k + s9)).2.2 := by rw [← hits]; omega
                      refine lv_iinc (v := nI (s9 + 1)) (lv' := [(6, .int (nI (s9 + 1))), (7, .int (nI its)), (5, .int (nI k)), (4, .int (nI ((balF (balI (volN (h2 hf)) (momN (h2 hf)) sa sw) (sa 16) (sw 16) (9 * k + s9)).2.2))), (3, .int (nI ((balF (balI (volN (h2 hf)) (momN (h2 hf)) sa sw) (sa 16) (sw 16) (9 * k + s9)).2.1))), (2, .int (nI ((balF (balI (volN (h2 hf)) (momN (h2 hf)) sa sw) (sa 16) (sw 16) (9 * k + s9)).1))), (0, .ref mm), (1, .int (nI z1.toNat))]) hx hb dX5_ballast_124 hl (k := 1) rfl (nI_inc _) (by decide) rfl (fun ls hl => ?_)
                      refine lv_goto (tgt := 60) hx hb dX5_ballast_127 (by decide) ?_
                      have e_25 : (nI ((balF (balI (volN (h2 hf)) (momN (h2 hf)) sa sw) (sa 16) (sw 16) (9 * k + s9)).2.2) : Int32) = nI ((balF (balI (volN (h2 hf)) (momN (h2 hf)) sa sw) (sa 16) (sw 16) (9 * k + (s9 + 1))).2.2) := by rw [show 9 * k + (s9 + 1) = 9 * k + s9 + 1 by omega, balF_succ, hmod, hdiv]; first | (rw [if_pos hlt9] <;> first | rfl | (simp only [hits] <;> rfl)) | (rw [if_neg hlt9])
                      have e_26 : (nI ((balF (balI (volN (h2 hf)) (momN (h2 hf)) sa sw) (sa 16) (sw 16) (9 * k + s9)).2.1) : Int32) = nI ((balF (balI (volN (h2 hf)) (momN (h2 hf)) sa sw) (sa 16) (sw 16) (9 * k + (s9 + 1))).2.1) := by rw [show 9 * k + (s9 + 1) = 9 * k + s9 + 1 by omega, balF_succ, hmod, hdiv]; first | (rw [if_pos hlt9] <;> first | rfl | (simp only [hits] <;> rfl)) | (rw [if_neg hlt9])
                      have e_27 : (nI ((balF (balI (volN (h2 hf)) (momN (h2 hf)) sa sw) (sa 16) (sw 16) (9 * k + s9)).1) : Int32) = nI ((balF (balI (volN (h2 hf)) (momN (h2 hf)) sa sw) (sa 16) (sw 16) (9 * k + (s9 + 1))).1) := by rw [show 9 * k + (s9 + 1) = 9 * k + s9 + 1 by omega, balF_succ, hmod, hdiv]; first | (rw [if_pos hlt9] <;> first | rfl | (simp only [hits] <;> rfl)) | (rw [if_neg hlt9])
                      have hl : lv_has ls 8 [(6, .int (nI (s9 + 1))), (7, .int (nI its)), (5, .int (nI k)), (4, .int (nI ((balF (balI (volN (h2 hf)) (momN (h2 hf)) sa sw) (sa 16) (sw 16) (9 * k + (s9 + 1))).2.2))), (3, .int (nI ((balF (balI (volN (h2 hf)) (momN (h2 hf)) sa sw) (sa 16) (sw 16) (9 * k + (s9 + 1))).2.1))), (2, .int (nI ((balF (balI (volN (h2 hf)) (momN (h2 hf)) sa sw) (sa 16) (sw 16) (9 * k + (s9 + 1))).1))), (0, .ref mm), (1, .int (nI z1.toNat))] := xl_eq hl (xl_cons rfl (xl_cons rfl (xl_cons rfl (xl_cons (congrArg (fun x => ((4 : Nat), Value.int x)) e_25) (xl_cons (congrArg (fun x => ((3 : Nat), Value.int x)) e_26) (xl_cons (congrArg (fun x => ((2 : Nat), Value.int x)) e_27) rfl))))))
                      exact ih60 (s9 + 1) (va_up sa 16 s9) (va_up sw 16 k) f_19 _ _ _ (by omega) hM_24 hkp_21 hsa' hsw' (by omega) hH hS (lv_sub hl [0, 2, 3, 4, 5, 6, 7] rfl)
                    · skip
                      have hlt9 : balI (volN (h2 hf)) (momN (h2 hf)) sa sw s9 k < (balF (balI (volN (h2 hf)) (momN (h2 hf)) sa sw) (sa 16) (sw 16) (9 * k + s9)).2.2 := by rw [← hits]; omega
                      refine lv_iload hx hb dX5_ballast_114 (lv_at hl 0 rfl) ?_
                      refine lv_istore (lv' := [(4, .int (nI its)), (7, .int (nI its)), (6, .int (nI s9)), (5, .int (nI k)), (3, .int (nI ((balF (balI (volN (h2 hf)) (momN (h2 hf)) sa sw) (sa 16) (sw 16) (9 * k + s9)).2.1))), (2, .int (nI ((balF (balI (volN (h2 hf)) (momN (h2 hf)) sa sw) (sa 16) (sw 16) (9 * k + s9)).1))), (0, .ref mm), (1, .int (nI z1.toNat))]) hx hb dX5_ballast_116 hl (by decide) rfl (fun ls hl => ?_)
                      refine lv_iload hx hb dX5_ballast_118 (lv_at hl 2 rfl) ?_
                      refine lv_istore_n (lv' := [(2, .int (nI s9)), (4, .int (nI its)), (7, .int (nI its)), (6, .int (nI s9)), (5, .int (nI k)), (3, .int (nI ((balF (balI (volN (h2 hf)) (momN (h2 hf)) sa sw) (sa 16) (sw 16) (9 * k + s9)).2.1))), (0, .ref mm), (1, .int (nI z1.toNat))]) hx hb dX5_ballast_120 rfl hl (by decide) rfl (fun ls hl => ?_)
                      refine lv_iload hx hb dX5_ballast_121 (lv_at hl 4 rfl) ?_
                      refine lv_istore_n (lv' := [(3, .int (nI k)), (2, .int (nI s9)), (4, .int (nI its)), (7, .int (nI its)), (6, .int (nI s9)), (5, .int (nI k)), (0, .ref mm), (1, .int (nI z1.toNat))]) hx hb dX5_ballast_123 rfl hl (by decide) rfl (fun ls hl => ?_)
                      refine lv_iinc (v := nI (s9 + 1)) (lv' := [(6, .int (nI (s9 + 1))), (3, .int (nI k)), (2, .int (nI s9)), (4, .int (nI its)), (7, .int (nI its)), (5, .int (nI k)), (0, .ref mm), (1, .int (nI z1.toNat))]) hx hb dX5_ballast_124 hl (k := 4) rfl (nI_inc _) (by decide) rfl (fun ls hl => ?_)
                      refine lv_goto (tgt := 60) hx hb dX5_ballast_127 (by decide) ?_
                      have e_28 : (nI k : Int32) = nI ((balF (balI (volN (h2 hf)) (momN (h2 hf)) sa sw) (sa 16) (sw 16) (9 * k + (s9 + 1))).2.1) := by rw [show 9 * k + (s9 + 1) = 9 * k + s9 + 1 by omega, balF_succ, hmod, hdiv]; first | (rw [if_pos hlt9] <;> first | rfl | (simp only [hits] <;> rfl)) | (rw [if_neg hlt9])
                      have e_29 : (nI s9 : Int32) = nI ((balF (balI (volN (h2 hf)) (momN (h2 hf)) sa sw) (sa 16) (sw 16) (9 * k + (s9 + 1))).1) := by rw [show 9 * k + (s9 + 1) = 9 * k + s9 + 1 by omega, balF_succ, hmod, hdiv]; first | (rw [if_pos hlt9] <;> first | rfl | (simp only [hits] <;> rfl)) | (rw [if_neg hlt9])
                      have e_30 : (nI its : Int32) = nI ((balF (balI (volN (h2 hf)) (momN (h2 hf)) sa sw) (sa 16) (sw 16) (9 * k + (s9 + 1))).2.2) := by rw [show 9 * k + (s9 + 1) = 9 * k + s9 + 1 by omega, balF_succ, hmod, hdiv]; first | (rw [if_pos hlt9] <;> first | rfl | (simp only [hits] <;> rfl)) | (rw [if_neg hlt9])
                      have hl : lv_has ls 8 [(6, .int (nI (s9 + 1))), (3, .int (nI ((balF (balI (volN (h2 hf)) (momN (h2 hf)) sa sw) (sa 16) (sw 16) (9 * k + (s9 + 1))).2.1))), (2, .int (nI ((balF (balI (volN (h2 hf)) (momN (h2 hf)) sa sw) (sa 16) (sw 16) (9 * k + (s9 + 1))).1))), (4, .int (nI ((balF (balI (volN (h2 hf)) (momN (h2 hf)) sa sw) (sa 16) (sw 16) (9 * k + (s9 + 1))).2.2))), (7, .int (nI its)), (5, .int (nI k)), (0, .ref mm), (1, .int (nI z1.toNat))] := xl_eq hl (xl_cons rfl (xl_cons (congrArg (fun x => ((3 : Nat), Value.int x)) e_28) (xl_cons (congrArg (fun x => ((2 : Nat), Value.int x)) e_29) (xl_cons (congrArg (fun x => ((4 : Nat), Value.int x)) e_30) rfl))))
                      exact ih60 (s9 + 1) (va_up sa 16 s9) (va_up sw 16 k) f_19 _ _ _ (by omega) hM_24 hkp_21 hsa' hsw' (by omega) hH hS (lv_sub hl [0, 5, 3, 1, 2, 6, 7] rfl)
                  refine lv_aload_n hx hb dX5_ballast_85 rfl (lv_at hl 5 rfl) ?_
                  refine x_V (n := 0) (As := []) (rest := []) ⟨hx, hb, hml, hown, hts⟩ hK hC hA hH hS (mX5_draughtNow l G A f_19 hM_24  hB hW') q1126 q1128 qs21 q38 q1129 (by decide +kernel) ⟨Nat.le_of_ble_eq_true rfl, Nat.le_of_ble_eq_true rfl⟩ hM_24.1 rfl rfl rfl hl.1 rfl (Nat.le_of_ble_eq_true rfl) dX5_ballast_86 (Nat.le_of_ble_eq_true rfl) (Nat.le_of_ble_eq_true rfl) (fun v f_31 H locs hp hH hS hz => ?_)
                  obtain ⟨rfl, rfl⟩ := hp
                  refine x_norm (g2 := F0 m 89 ls [.int (oI (drZ (volN (h2 hf)) (loadN (va_up sw 16 k))))]) (k := 0) (n := 0) (Nat.le_refl _) (Nat.le_refl _) rfl ?_
                  refine lv_iconst (v := oI (-1)) hx hb dX5_ballast_89 rfl ?_
                  refine x_icmp_ne (tgt := 98) (P := (drZ (volN (h2 hf)) (loadN (va_up sw 16 k))) = (-1)) hx hb dX5_ballast_90 (by decide) (oI_eq' rfl rfl (by have := drZ_bd (volN (h2 hf)) (loadN (va_up sw 16 k)); exact ⟨by omega, by omega⟩) ⟨by omega, by omega⟩) (fun c90 => ?_) (fun c90 => ?_)
                  · skip
                    refine lv_aload_n hx hb dX5_ballast_98 rfl (lv_at hl 5 rfl) ?_
                    refine x_V (n := 0) (As := []) (rest := []) ⟨hx, hb, hml, hown, hts⟩ hK hC hA hH hS (mX5_trimNow l G A f_19 hM_24  hB hW' hS') q1134 q1136 qs23 q38 q1137 (by decide +kernel) ⟨Nat.le_of_ble_eq_true rfl, Nat.le_of_ble_eq_true rfl⟩ hM_24.1 rfl rfl rfl hl.1 rfl (Nat.le_of_ble_eq_true rfl) dX5_ballast_99 (Nat.le_of_ble_eq_true rfl) (Nat.le_of_ble_eq_true rfl) (fun v f_32 H locs hp hH hS hz => ?_)
                    obtain ⟨rfl, rfl⟩ := hp
                    refine x_norm (g2 := F0 m 102 ls [.int (oI (trZ (volN (h2 hf)) (momN (h2 hf)) (loadN (va_up sw 16 k)) (lmomN (va_up sa 16 s9) (va_up sw 16 k))))]) (k := 0) (n := 0) (Nat.le_refl _) (Nat.le_refl _) rfl ?_
                    refine x_S (n := 1) (As := [.int (oI (trZ (volN (h2 hf)) (momN (h2 hf)) (loadN (va_up sw 16 k)) (lmomN (va_up sa 16 s9) (va_up sw 16 k))))]) (rest := []) ⟨hx, hb, hml, hown, hts⟩ hK hC hA hH hS (mX5_size l G A f_19 (trZ (volN (h2 hf)) (momN (h2 hf)) (loadN (va_up sw 16 k)) (lmomN (va_up sa 16 s9) (va_up sw 16 k))) ⟨by omega, by omega⟩) q1082 q1083 q38 q1084 (by decide +kernel) ⟨Nat.le_of_ble_eq_true rfl, Nat.le_of_ble_eq_true rfl⟩ rfl hl.1 rfl (Nat.le_of_ble_eq_true rfl) dX5_ballast_102 (Nat.le_of_ble_eq_true rfl) (Nat.le_of_ble_eq_true rfl) (fun v f_33 H locs hp hH hS hz => ?_)
                    obtain ⟨rfl, rfl⟩ := hp
                    refine x_norm (g2 := F0 m 105 ls [.int (nI ((trZ (volN (h2 hf)) (momN (h2 hf)) (loadN (va_up sw 16 k)) (lmomN (va_up sa 16 s9) (va_up sw 16 k))).natAbs))]) (k := 0) (n := 0) (Nat.le_refl _) (Nat.le_refl _) rfl ?_
                    exact hj105 ((trZ (volN (h2 hf)) (momN (h2 hf)) (loadN (va_up sw 16 k)) (lmomN (va_up sa 16 s9) (va_up sw 16 k))).natAbs) _ _ _ (by unfold balI; first | (rw [if_pos c90]) | (rw [if_neg c90])) hH hS (lv_sub hl [0, 1, 2, 3, 4, 5, 6] rfl)
                  · skip
                    refine lv_ldc (v := nI 100000000) hx hb hown (show (Cond.constant _ _ (nI 100000000)).before _ _ = true from (show (100000000 : Int32) = nI 100000000 from by decide) ▸ hts _ q1077) dX5_ballast_93 ?_
                    refine lv_goto (tgt := 105) hx hb dX5_ballast_95 (by decide) ?_
                    exact hj105 100000000 _ _ _ (by unfold balI; first | (rw [if_pos c90]) | (rw [if_neg c90])) hH hS (lv_sub hl [0, 1, 2, 3, 4, 5, 6] rfl)
            have e_34 : (nI ((balF (balI (volN (h2 hf)) (momN (h2 hf)) sa sw) (sa 16) (sw 16) (9 * k)).2.2) : Int32) = nI ((balF (balI (volN (h2 hf)) (momN (h2 hf)) sa sw) (sa 16) (sw 16) (9 * k + 0)).2.2) := by rfl
            have e_35 : (nI ((balF (balI (volN (h2 hf)) (momN (h2 hf)) sa sw) (sa 16) (sw 16) (9 * k)).2.1) : Int32) = nI ((balF (balI (volN (h2 hf)) (momN (h2 hf)) sa sw) (sa 16) (sw 16) (9 * k + 0)).2.1) := by rfl
            have e_36 : (nI ((balF (balI (volN (h2 hf)) (momN (h2 hf)) sa sw) (sa 16) (sw 16) (9 * k)).1) : Int32) = nI ((balF (balI (volN (h2 hf)) (momN (h2 hf)) sa sw) (sa 16) (sw 16) (9 * k + 0)).1) := by rfl
            have hl : lv_has ls 8 [(6, .int (nI 0)), (5, .int (nI k)), (4, .int (nI ((balF (balI (volN (h2 hf)) (momN (h2 hf)) sa sw) (sa 16) (sw 16) (9 * k + 0)).2.2))), (3, .int (nI ((balF (balI (volN (h2 hf)) (momN (h2 hf)) sa sw) (sa 16) (sw 16) (9 * k + 0)).2.1))), (2, .int (nI ((balF (balI (volN (h2 hf)) (momN (h2 hf)) sa sw) (sa 16) (sw 16) (9 * k + 0)).1))), (0, .ref mm), (1, .int (nI z1.toNat))] := xl_eq hl (xl_cons rfl (xl_cons rfl (xl_cons (congrArg (fun x => ((4 : Nat), Value.int x)) e_34) (xl_cons (congrArg (fun x => ((3 : Nat), Value.int x)) e_35) (xl_cons (congrArg (fun x => ((2 : Nat), Value.int x)) e_36) rfl)))))
            exact hloop60 (9 - 0 + 1) 0 saL swL fL51 _ _ _ (by omega) hML51 hkL51 hsaL hswL (Nat.lt_succ_self _) hH hS (lv_sub hl [0, 1, 2, 3, 4, 5, 6] rfl)
      have e_37 : (nI 100000000 : Int32) = nI ((balF (balI (volN (h2 hf)) (momN (h2 hf)) sa sw) (sa 16) (sw 16) (9 * 0)).2.2) := by rfl
      have e_38 : (nI (sw 16) : Int32) = nI ((balF (balI (volN (h2 hf)) (momN (h2 hf)) sa sw) (sa 16) (sw 16) (9 * 0)).2.1) := by rfl
      have e_39 : (nI (sa 16) : Int32) = nI ((balF (balI (volN (h2 hf)) (momN (h2 hf)) sa sw) (sa 16) (sw 16) (9 * 0)).1) := by rfl
      have hl : lv_has ls 8 [(5, .int (nI 0)), (4, .int (nI ((balF (balI (volN (h2 hf)) (momN (h2 hf)) sa sw) (sa 16) (sw 16) (9 * 0)).2.2))), (3, .int (nI ((balF (balI (volN (h2 hf)) (momN (h2 hf)) sa sw) (sa 16) (sw 16) (9 * 0)).2.1))), (2, .int (nI ((balF (balI (volN (h2 hf)) (momN (h2 hf)) sa sw) (sa 16) (sw 16) (9 * 0)).1))), (0, .ref mm), (1, .int (nI z1.toNat))] := xl_eq hl (xl_cons rfl (xl_cons (congrArg (fun x => ((4 : Nat), Value.int x)) e_37) (xl_cons (congrArg (fun x => ((3 : Nat), Value.int x)) e_38) (xl_cons (congrArg (fun x => ((2 : Nat), Value.int x)) e_39) rfl))))
      exact hloop51 (z1.toNat + 1 - 0 + 1) 0 sa sw f_1 _ _ _ (by omega) hM_2 hkp_3 (fun _ => rfl) (fun _ => rfl) (Nat.lt_succ_self _) hH hS (lv_sub hl [0, 1, 2, 3, 4, 5] rfl)
    · skip
      have h9 : ¬ cdIn z1 0 99 = 0 := by rw [← hcd]; exact c23
      refine lv_iconst (v := nI 0) hx hb dX5_ballast_26 rfl ?_
      exact x_iret hx hb hr hlk hH hS ⟨by simp only [if_neg h9], by simp only [if_neg h9]; rw [← hcd]; exact hM_2, hkp_3⟩ (Nat.le_of_ble_eq_true rfl) (Nat.le_of_ble_eq_true rfl) dX5_ballast_27
  refine lv_aload_n hx hb dX5_ballast_0 rfl (lv_at hl 0 rfl) ?_
  refine lv_iload_n hx hb dX5_ballast_1 rfl (lv_at hl 1 rfl) ?_
  refine lv_iconst (v := nI 0) hx hb dX5_ballast_2 rfl ?_
  refine lv_bipush (v := nI 99) hx hb dX5_ballast_3 rfl ?_
  refine x_S (n := 3) (As := [.int (oI z1), .int (nI 0), .int (nI 99)]) (rest := [.ref mm]) ⟨hx, hb, hml, hown, hts⟩ hK hC hA hH hS (mX5_in l G A f _ _ _ z1 ((0 : Nat) : Int) ((99 : Nat) : Int) rfl (nI_oI _) (nI_oI _) hz1 (by decide) (by decide)) q1037 q1038 q38 q1039 (by decide +kernel) ⟨Nat.le_of_ble_eq_true rfl, Nat.le_of_ble_eq_true rfl⟩ rfl hl.1 rfl (Nat.le_of_ble_eq_true rfl) dX5_ballast_5 (Nat.le_of_ble_eq_true rfl) (Nat.le_of_ble_eq_true rfl) (fun v f_40 H locs hp hH hS hz => ?_)
  obtain ⟨rfl, rfl⟩ := hp
  refine x_norm (g2 := F0 m 8 ls [.int (nI (xb (((0 : Nat) : Int) ≤ z1 ∧ z1 ≤ ((99 : Nat) : Int)))), .ref mm]) (k := 0) (n := 0) (Nat.le_refl _) (Nat.le_refl _) rfl ?_
  refine x_ifbeq (tgt := 15) (B := ((0 : Nat) : Int) ≤ z1 ∧ z1 ≤ ((99 : Nat) : Int)) hx hb dX5_ballast_8 (by decide) (fun c8 => ?_) (fun c8 => ?_)
  · skip
    refine lv_iconst (v := nI 1) hx hb dX5_ballast_15 rfl ?_
    exact hj16 1 _ _ _ (by unfold cdIn; split <;> first | rfl | (exfalso; omega)) hH hS (lv_sub hl [0, 1] rfl)
  · skip
    refine lv_iconst (v := nI 0) hx hb dX5_ballast_11 rfl ?_
    refine lv_goto (tgt := 16) hx hb dX5_ballast_12 (by decide) ?_
    exact hj16 0 _ _ _ (by unfold cdIn; split <;> first | rfl | (exfalso; omega)) hH hS (lv_sub hl [0, 1] rfl)
