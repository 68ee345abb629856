/-! THE MODEL, planks and the start (printed by genm.py) -/
set_option maxRecDepth 100000
abbrev rmX5_planksNow : Room := { frames := 4, cells := 0, slots := 0, locals := 160 }
set_option maxHeartbeats 4000000 in
set_option maxRecDepth 100000 in
theorem mX5_planksNow (l : Launch) (G : xG) (A : Nat → Prop) (f : xF) {mm : Nat} {ad : Nat → Nat} {th nw ln nt sl td la : Nat} {hf sa sw lf cf dd tt bh li : Nat → Nat} (hM : MM G f mm ad th nw ln nt sl td la hf sa sw lf cf dd tt bh li) (hB : ∀ w s, w < 6 → s < 9 → h2 hf w s ≤ 200) (hln : 100 ≤ ln ∧ ln ≤ 4000) : xMet l yX5_planksNow cX5_planksNow 6 (some .int) rmX5_planksNow G A f [.ref mm] (fun v f1 => v = some (.int (nI (pk ln (strN (h2 hf)) lf cf 10).2.1)) ∧ MM G f1 mm ad th nw ln nt sl td la hf sa sw ((pk ln (strN (h2 hf)) lf cf 10).1) ((pk ln (strN (h2 hf)) lf cf 10).2.2) dd tt bh li ∧ xkeep 1000 1010 f f1) := by
  refine x_start (by decide) (Nat.le_of_ble_eq_true rfl) ?_
  intro p e s m below meth c ls X hH hS hl
  obtain ⟨hx, hb, hr, hlk, hml, hown, hts, hK, hC, hA, hnm, hmn⟩ := X
  have hl : lv_has ls 6 [(0, .ref mm)] := hl
  have hkp0 : xkeep 1000 1010 f f := xkeep.refl
  refine lv_iconst (v := nI 0) hx hb dX5_planksNow_0 rfl ?_
  refine lv_istore_n (lv' := [(1, .int (nI 0)), (0, .ref mm)]) hx hb dX5_planksNow_1 rfl hl (by decide) rfl (fun ls hl => ?_)
  refine lv_iconst (v := nI 0) hx hb dX5_planksNow_2 rfl ?_
  refine lv_istore_n (lv' := [(2, .int (nI 0)), (1, .int (nI 0)), (0, .ref mm)]) hx hb dX5_planksNow_3 rfl hl (by decide) rfl (fun ls hl => ?_)
  have hloop4 : ∀ (n : Nat) (k : Nat) (n1 : Nat) (lfL : Nat → Nat) (cfL : Nat → Nat) (fL4 : xF) (H : Heap) (locs : List Loc) (ls : Array Slot), k ≤ 10 → n1 ≤ 17 * k → MM G fL4 mm ad th nw ln nt sl td la hf sa sw lfL cfL dd tt bh li → xkeep 1000 1010 f fL4 → pk ln (strN (h2 hf)) lf cf k = (lfL, n1, cfL) → (∀ j, j < n1 → lfL j ≤ 4000) → (10 - k) < n → xH G A fL4 H → va_S A s.heap H locs → lv_has ls 6 [(2, .int (nI k)), (1, .int (nI n1)), (0, .ref mm)] → W p l e rmX5_planksNow s m ([.ref mm] : List Value).toArray below meth c H locs 0 0 (MQ below (xQ G A (fun v f1 => v = some (.int (nI (pk ln (strN (h2 hf)) lf cf 10).2.1)) ∧ MM G f1 mm ad th nw ln nt sl td la hf sa sw ((pk ln (strN (h2 hf)) lf cf 10).1) ((pk ln (strN (h2 hf)) lf cf 10).2.2) dd tt bh li ∧ xkeep 1000 1010 f f1)) ([.ref mm] : List Value).toArray s rmX5_planksNow.cells rmX5_planksNow.slots A) (F0 m 4 ls []) := by
    intro n
    induction n with
    | zero => intro k n1 lfL cfL fL4 H locs ls hk hn1 hML4 hkL4 hpk hlb hn; exact absurd hn (Nat.not_lt_zero _)
    | succ n ih4 =>
      intro k n1 lfL cfL fL4 H locs ls hk hn1 hML4 hkL4 hpk hlb hn hH hS hl
      refine lv_iload_n hx hb dX5_planksNow_4 rfl (lv_at hl 0 rfl) ?_
      refine lv_bipush (v := nI 10) hx hb dX5_planksNow_5 rfl ?_
      refine x_icmp_ge (tgt := 134) (P := 10 ≤ k) hx hb dX5_planksNow_7 (by decide) (nI_le' (by decide) (by omega)) (fun c7 => ?_) (fun c7 => ?_)
      · skip
        rw [show k = 10 by omega] at hpk
        refine lv_iload_n hx hb dX5_planksNow_134 rfl (lv_at hl 1 rfl) ?_
        exact x_iret hx hb hr hlk hH hS ⟨by rw [hpk], by rw [hpk]; exact hML4, hkL4⟩ (Nat.le_of_ble_eq_true rfl) (Nat.le_of_ble_eq_true rfl) dX5_planksNow_135
      · skip
        refine lv_aload_n hx hb dX5_planksNow_10 rfl (lv_at hl 2 rfl) ?_
        refine lv_iload_n hx hb dX5_planksNow_11 rfl (lv_at hl 0 rfl) ?_
        refine lv_iconst (v := nI 2) hx hb dX5_planksNow_12 rfl ?_
        refine x_idivN hx hb (by omega) (by decide) (by decide) dX5_planksNow_13 ?_
        refine x_V (n := 1) (As := [.int (nI (k / 2))]) (rest := []) ⟨hx, hb, hml, hown, hts⟩ hK hC hA hH hS (mX5_strakeBehind l G A fL4 hML4 hB (k / 2) (by omega)) q1173 q1175 qs28 q38 q1176 (by decide +kernel) ⟨Nat.le_of_ble_eq_true rfl, Nat.le_of_ble_eq_true rfl⟩ hML4.1 rfl rfl rfl hl.1 rfl (Nat.le_of_ble_eq_true rfl) dX5_planksNow_14 (Nat.le_of_ble_eq_true rfl) (Nat.le_of_ble_eq_true rfl) (fun v f_2 H locs hp hH hS hz => ?_)
        obtain ⟨rfl, rfl⟩ := hp
        refine x_norm (g2 := F0 m 17 ls [.int (oI (sbZ (strN (h2 hf)) (k / 2) 5))]) (k := 0) (n := 0) (Nat.le_refl _) (Nat.le_refl _) rfl ?_
        refine lv_istore_n (lv' := [(3, .int (oI (sbZ (strN (h2 hf)) (k / 2) 5))), (2, .int (nI k)), (1, .int (nI n1)), (0, .ref mm)]) hx hb dX5_planksNow_17 rfl hl (by decide) rfl (fun ls hl => ?_)
        obtain ⟨sk, hsk, hse, -⟩ := sbZ_spec (st := (strN (h2 hf))) (m := k / 2) (by omega)
        have e_3 : (oI (sbZ (strN (h2 hf)) (k / 2) 5) : Int32) = nI sk := oI_nI hse
        have hl : lv_has ls 6 [(3, .int (nI sk)), (2, .int (nI k)), (1, .int (nI n1)), (0, .ref mm)] := xl_eq hl (xl_cons (congrArg (fun x => ((3 : Nat), Value.int x)) e_3) rfl)
        have hs0 := strN_pos (h := h2 hf) (k := sk)
        have hs1 := strN_le hB (show sk < 6 by omega)
        refine lv_aload_n hx hb dX5_planksNow_18 rfl (lv_at hl 3 rfl) ?_
        refine lv_iload_n hx hb dX5_planksNow_19 rfl (lv_at hl 0 rfl) ?_
        refine x_V (n := 1) (As := [.int (nI sk)]) (rest := []) ⟨hx, hb, hml, hown, hts⟩ hK hC hA hH hS (mX5_strakeOf l G A fL4 hML4 hB sk (by omega)) q1161 q1163 qs26 q38 q1164 (by decide +kernel) ⟨Nat.le_of_ble_eq_true rfl, Nat.le_of_ble_eq_true rfl⟩ hML4.1 rfl rfl rfl hl.1 rfl (Nat.le_of_ble_eq_true rfl) dX5_planksNow_20 (Nat.le_of_ble_eq_true rfl) (Nat.le_of_ble_eq_true rfl) (fun v f_4 H locs hp hH hS hz => ?_)
        obtain ⟨rfl, rfl⟩ := hp
        refine x_norm (g2 := F0 m 23 ls [.int (nI (strN (h2 hf) sk))]) (k := 0) (n := 0) (Nat.le_refl _) (Nat.le_refl _) rfl ?_
        refine lv_istore (lv' := [(4, .int (nI (strN (h2 hf) sk))), (3, .int (nI sk)), (2, .int (nI k)), (1, .int (nI n1)), (0, .ref mm)]) hx hb dX5_planksNow_23 hl (by decide) rfl (fun ls hl => ?_)
        have hloop25 : ∀ (n : Nat) (u : Nat) (m1 : Nat) (d1 : Nat) (lfM : Nat → Nat) (fL25 : xF) (H : Heap) (locs : List Loc) (ls : Array Slot), m1 + u ≤ n1 + 17 → 1 ≤ d1 → d1 ≤ 100 * u → MM G fL25 mm ad th nw ln nt sl td la hf sa sw lfM cfL dd tt bh li → xkeep 1000 1010 f fL25 → wl ln u lfM m1 d1 = wl ln 17 lfL n1 ((strN (h2 hf)) sk) → (∀ j, j < m1 → lfM j ≤ 4000) → u < n → xH G A fL25 H → va_S A s.heap H locs → lv_has ls 6 [(4, .int (nI d1)), (3, .int (nI sk)), (2, .int (nI k)), (1, .int (nI m1)), (0, .ref mm)] → W p l e rmX5_planksNow s m ([.ref mm] : List Value).toArray below meth c H locs 0 0 (MQ below (xQ G A (fun v f1 => v = some (.int (nI (pk ln (strN (h2 hf)) lf cf 10).2.1)) ∧ MM G f1 mm ad th nw ln nt sl td la hf sa sw ((pk ln (strN (h2 hf)) lf cf 10).1) ((pk ln (strN (h2 hf)) lf cf 10).2.2) dd tt bh li ∧ xkeep 1000 1010 f f1)) ([.ref mm] : List Value).toArray s rmX5_planksNow.cells rmX5_planksNow.slots A) (F0 m 25 ls []) := by
          intro n
          induction n with
          | zero => intro u m1 d1 lfM fL25 H locs ls hmu hd1 hdu hML25 hkL25 hwl hlm hn; exact absurd hn (Nat.not_lt_zero _)
          | succ n ih25 =>
            intro u m1 d1 lfM fL25 H locs ls hmu hd1 hdu hML25 hkL25 hwl hlm hn hH hS hl
            refine lv_iload hx hb dX5_planksNow_25 (lv_at hl 0 rfl) ?_
            refine lv_aload_n hx hb dX5_planksNow_27 rfl (lv_at hl 4 rfl) ?_
            refine x_get (C := RX5) (T := TX5) (N := 16) (ci := 4) (v := .int (nI ln)) hx hb hts in_X5 hown hK hH hML25.1 rfl 5 (by decide) (hts _ q982) (fun _ h9 => h9) rfl dX5_planksNow_28 ?_
            refine x_icmp_le (tgt := 56) (P := d1 ≤ ln) hx hb dX5_planksNow_31 (by decide) (nI_le' (by omega) (by omega)) (fun c31 => ?_) (fun c31 => ?_)
            · skip
              have hw1 : wl ln 17 lfL n1 ((strN (h2 hf)) sk) = (lfM, m1, d1) := by rw [← hwl]; exact wl_f (by omega)
              refine lv_iconst (v := nI 0) hx hb dX5_planksNow_56 rfl ?_
              refine lv_istore (lv' := [(5, .int (nI 0)), (4, .int (nI d1)), (3, .int (nI sk)), (2, .int (nI k)), (1, .int (nI m1)), (0, .ref mm)]) hx hb dX5_planksNow_57 hl (by decide) rfl (fun ls hl => ?_)
              have hloop59 : ∀ (n : Nat) (i : Nat) (H : Heap) (locs : List Loc) (ls : Array Slot), i ≤ m1 → ff lfM d1 (m1 - i) i = ff lfM d1 m1 0 → (m1 - i) < n → xH G A fL25 H → va_S A s.heap H locs → lv_has ls 6 [(5, .int (nI i)), (4, .int (nI d1)), (3, .int (nI sk)), (2, .int (nI k)), (1, .int (nI m1)), (0, .ref mm)] → W p l e rmX5_planksNow s m ([.ref mm] : List Value).toArray below meth c H locs 0 0 (MQ below (xQ G A (fun v f1 => v = some (.int (nI (pk ln (strN (h2 hf)) lf cf 10).2.1)) ∧ MM G f1 mm ad th nw ln nt sl td la hf sa sw ((pk ln (strN (h2 hf)) lf cf 10).1) ((pk ln (strN (h2 hf)) lf cf 10).2.2) dd tt bh li ∧ xkeep 1000 1010 f f1)) ([.ref mm] : List Value).toArray s rmX5_planksNow.cells rmX5_planksNow.slots A) (F0 m 59 ls []) := by
                intro n
                induction n with
                | zero => intro i H locs ls hi hff hn; exact absurd hn (Nat.not_lt_zero _)
                | succ n ih59 =>
                  intro i H locs ls hi hff hn hH hS hl
                  refine lv_iload hx hb dX5_planksNow_59 (lv_at hl 0 rfl) ?_
                  refine lv_iload_n hx hb dX5_planksNow_61 rfl (lv_at hl 4 rfl) ?_
                  refine x_icmp_ge (tgt := 83) (P := m1 ≤ i) hx hb dX5_planksNow_62 (by decide) (nI_le' (by omega) (by omega)) (fun c62 => ?_) (fun c62 => ?_)
                  · skip
                    have hi9 : i = m1 := by omega
                    have hf9 : ff lfM d1 m1 0 = i := by rw [← hff, show m1 - i = 0 by omega]; rfl
                    have hli : va_up lfM m1 ln i = ln := by unfold va_up; rw [if_pos hi9]
                    refine lv_iload hx hb dX5_planksNow_83 (lv_at hl 0 rfl) ?_
                    refine lv_iload_n hx hb dX5_planksNow_85 rfl (lv_at hl 4 rfl) ?_
                    refine x_icmp_ne (tgt := 102) (P := i = m1) hx hb dX5_planksNow_86 (by decide) (nI_eq' (by omega) (by omega)) (fun c86 => ?_) (fun c86 => ?_)
                    · skip
                      exfalso; omega
                    · skip
                      refine lv_aload_n hx hb dX5_planksNow_89 rfl (lv_at hl 5 rfl) ?_
                      refine x_get (C := RX5) (T := TX5) (N := 16) (ci := 4) (v := .ref (ad 3)) hx hb hts in_X5 hown hK hH hML25.1 rfl 6 (by decide) (hts _ q983) (fun _ h9 => h9) rfl dX5_planksNow_90 ?_
                      refine lv_iload_n hx hb dX5_planksNow_93 rfl (lv_at hl 4 rfl) ?_
                      refine lv_aload_n hx hb dX5_planksNow_94 rfl (lv_at hl 5 rfl) ?_
                      refine x_get (C := RX5) (T := TX5) (N := 16) (ci := 4) (v := .int (nI ln)) hx hb hts in_X5 hown hK hH hML25.1 rfl 5 (by decide) (hts _ q982) (fun _ h9 => h9) rfl dX5_planksNow_95 ?_
                      refine x_iast (j := m1) (v := ln) hx hb hK hH hS (show fL25 (ad 3) = some (xN G 1004 180 lfM) from hML25.2 3 (by decide)) rfl (by omega) (by decide) rfl dX5_planksNow_98 (fun H locs f_7 ef_7 hH hS => ?_)
                      have hM_8 : MM G f_7 mm ad th nw ln nt sl td la hf sa sw (va_up lfM m1 ln) cfL dd tt bh li := by rw [ef_7]; exact hML25.arr3 _
                      have hkp_9 : xkeep 1000 1010 f f_7 := by rw [ef_7]; exact hkL25.set (hML25.2 3 (by decide)) (by decide)
                      refine lv_iinc (v := nI (m1 + 1)) (lv' := [(1, .int (nI (m1 + 1))), (5, .int (nI i)), (4, .int (nI d1)), (3, .int (nI sk)), (2, .int (nI k)), (0, .ref mm)]) hx hb dX5_planksNow_99 hl (k := 4) rfl (nI_inc _) (by decide) rfl (fun ls hl => ?_)
                      refine lv_aload_n hx hb dX5_planksNow_102 rfl (lv_at hl 5 rfl) ?_
                      refine x_get (C := RX5) (T := TX5) (N := 16) (ci := 4) (v := .ref (ad 3)) hx hb hts in_X5 hown hK hH hM_8.1 rfl 6 (by decide) (hts _ q983) (fun _ h9 => h9) rfl dX5_planksNow_103 ?_
                      refine lv_iload hx hb dX5_planksNow_106 (lv_at hl 1 rfl) ?_
                      refine lv_dup2_11 hx hb dX5_planksNow_108 rfl rfl ?_
                      refine x_iald (j := i) hx hb hK hH (show f_7 (ad 3) = some (xN G 1004 180 (va_up lfM m1 ln)) from hM_8.2 3 (by decide)) rfl (by omega) (by decide) dX5_planksNow_109 ?_
                      refine lv_iload hx hb dX5_planksNow_110 (lv_at hl 2 rfl) ?_
                      refine x_isub (v := nI (((va_up lfM m1 ln) i) - d1)) hx hb (pk_sub (by omega)) dX5_planksNow_112 ?_
                      refine x_iast (j := i) (v := ((va_up lfM m1 ln) i) - d1) hx hb hK hH hS (show f_7 (ad 3) = some (xN G 1004 180 (va_up lfM m1 ln)) from hM_8.2 3 (by decide)) rfl (by omega) (by decide) rfl dX5_planksNow_113 (fun H locs f_10 ef_10 hH hS => ?_)
                      have hM_11 : MM G f_10 mm ad th nw ln nt sl td la hf sa sw (va_up (va_up lfM m1 ln) i (((va_up lfM m1 ln) i) - d1)) cfL dd tt bh li := by rw [ef_10]; exact hM_8.arr3 _
                      have hkp_12 : xkeep 1000 1010 f f_10 := by rw [ef_10]; exact hkp_9.set (hM_8.2 3 (by decide)) (by decide)
                      refine lv_aload_n hx hb dX5_planksNow_114 rfl (lv_at hl 5 rfl) ?_
                      refine x_get (C := RX5) (T := TX5) (N := 16) (ci := 4) (v := .ref (ad 4)) hx hb hts in_X5 hown hK hH hM_11.1 rfl 7 (by decide) (hts _ q984) (fun _ h9 => h9) rfl dX5_planksNow_115 ?_
                      refine lv_iconst (v := nI 2) hx hb dX5_planksNow_118 rfl ?_
                      refine lv_iload_n hx hb dX5_planksNow_119 rfl (lv_at hl 3 rfl) ?_
                      refine x_imul (v := nI (2 * sk)) hx hb (pk_mul _ _) dX5_planksNow_120 ?_
                      refine lv_iload_n hx hb dX5_planksNow_121 rfl (lv_at hl 4 rfl) ?_
                      refine lv_iconst (v := nI 2) hx hb dX5_planksNow_122 rfl ?_
                      refine x_iremN hx hb (by omega) (by decide) (by decide) dX5_planksNow_123 ?_
                      refine x_iadd (v := nI ((2 * sk) + (k % 2))) hx hb (nI_add _ _) dX5_planksNow_124 ?_
                      refine lv_iload hx hb dX5_planksNow_125 (lv_at hl 1 rfl) ?_
                      refine x_iast (j := (2 * sk) + (k % 2)) (v := i) hx hb hK hH hS (show f_10 (ad 4) = some (xN G 1005 10 cfL) from hM_11.2 4 (by decide)) rfl (by omega) (by decide) rfl dX5_planksNow_127 (fun H locs f_13 ef_13 hH hS => ?_)
                      have hM_14 : MM G f_13 mm ad th nw ln nt sl td la hf sa sw (va_up (va_up lfM m1 ln) i (((va_up lfM m1 ln) i) - d1)) (va_up cfL ((2 * sk) + (k % 2)) i) dd tt bh li := by rw [ef_13]; exact hM_11.arr4 _
                      have hkp_15 : xkeep 1000 1010 f f_13 := by rw [ef_13]; exact hkp_12.set (hM_11.2 4 (by decide)) (by decide)
                      refine lv_iinc (v := nI (k + 1)) (lv' := [(2, .int (nI (k + 1))), (1, .int (nI (m1 + 1))), (5, .int (nI i)), (4, .int (nI d1)), (3, .int (nI sk)), (0, .ref mm)]) hx hb dX5_planksNow_128 hl (k := 4) rfl (nI_inc _) (by decide) rfl (fun ls hl => ?_)
                      refine lv_goto (tgt := 4) hx hb dX5_planksNow_131 (by decide) ?_
                      exact ih4 (k + 1) (m1 + 1) (va_up (va_up lfM m1 ln) i (((va_up lfM m1 ln) i) - d1)) (va_up cfL ((2 * sk) + (k % 2)) i) f_13 _ _ _ (by omega) (by omega) hM_14 hkp_15 (pk_A hpk hse hw1 hf9 hi9) (bdd_up (bdd_new hlm (by omega)) (by rw [hli]; omega)) (by omega) hH hS (lv_sub hl [0, 1, 5] rfl)
                  · skip
                    have hlm9 := hlm i (by omega)
                    refine lv_aload_n hx hb dX5_planksNow_65 rfl (lv_at hl 5 rfl) ?_
                    refine x_get (C := RX5) (T := TX5) (N := 16) (ci := 4) (v := .ref (ad 3)) hx hb hts in_X5 hown hK hH hML25.1 rfl 6 (by decide) (hts _ q983) (fun _ h9 => h9) rfl dX5_planksNow_66 ?_
                    refine lv_iload hx hb dX5_planksNow_69 (lv_at hl 0 rfl) ?_
                    refine x_iald (j := i) hx hb hK hH (show fL25 (ad 3) = some (xN G 1004 180 lfM) from hML25.2 3 (by decide)) rfl (by omega) (by decide) dX5_planksNow_71 ?_
                    refine lv_iload hx hb dX5_planksNow_72 (lv_at hl 1 rfl) ?_
                    refine x_icmp_ge (tgt := 83) (P := d1 ≤ (lfM i)) hx hb dX5_planksNow_74 (by decide) (nI_le' (by omega) (by omega)) (fun c74 => ?_) (fun c74 => ?_)
                    · skip
                      have hi9 : i ≠ m1 := by omega
                      have hf9 : ff lfM d1 m1 0 = i := by rw [← hff]; exact ff_f (by omega)
                      refine lv_iload hx hb dX5_planksNow_83 (lv_at hl 0 rfl) ?_
                      refine lv_iload_n hx hb dX5_planksNow_85 rfl (lv_at hl 4 rfl) ?_
                      refine x_icmp_ne (tgt := 102) (P := i = m1) hx hb dX5_planksNow_86 (by decide) (nI_eq' (by omega) (by omega)) (fun c86 => ?_) (fun c86 => ?_)
                      · skip
                        refine lv_aload_n hx hb dX5_planksNow_102 rfl (lv_at hl 5 rfl) ?_
                        refine x_get (C := RX5) (T := TX5) (N := 16) (ci := 4) (v := .ref (ad 3)) hx hb hts in_X5 hown hK hH hML25.1 rfl 6 (by decide) (hts _ q983) (fun _ h9 => h9) rfl dX5_planksNow_103 ?_
                        refine lv_iload hx hb dX5_planksNow_106 (lv_at hl 0 rfl) ?_
                        refine lv_dup2_11 hx hb dX5_planksNow_108 rfl rfl ?_
                        refine x_iald (j := i) hx hb hK hH (show fL25 (ad 3) = some (xN G 1004 180 lfM) from hML25.2 3 (by decide)) rfl (by omega) (by decide) dX5_planksNow_109 ?_
                        refine lv_iload hx hb dX5_planksNow_110 (lv_at hl 1 rfl) ?_
                        refine x_isub (v := nI ((lfM i) - d1)) hx hb (pk_sub (by omega)) dX5_planksNow_112 ?_
                        refine x_iast (j := i) (v := (lfM i) - d1) hx hb hK hH hS (show fL25 (ad 3) = some (xN G 1004 180 lfM) from hML25.2 3 (by decide)) rfl (by omega) (by decide) rfl dX5_planksNow_113 (fun H locs f_16 ef_16 hH hS => ?_)
                        have hM_17 : MM G f_16 mm ad th nw ln nt sl td la hf sa sw (va_up lfM i ((lfM i) - d1)) cfL dd tt bh li := by rw [ef_16]; exact hML25.arr3 _
                        have hkp_18 : xkeep 1000 1010 f f_16 := by rw [ef_16]; exact hkL25.set (hML25.2 3 (by decide)) (by decide)
                        refine lv_aload_n hx hb dX5_planksNow_114 rfl (lv_at hl 5 rfl) ?_
                        refine x_get (C := RX5) (T := TX5) (N := 16) (ci := 4) (v := .ref (ad 4)) hx hb hts in_X5 hown hK hH hM_17.1 rfl 7 (by decide) (hts _ q984) (fun _ h9 => h9) rfl dX5_planksNow_115 ?_
                        refine lv_iconst (v := nI 2) hx hb dX5_planksNow_118 rfl ?_
                        refine lv_iload_n hx hb dX5_planksNow_119 rfl (lv_at hl 2 rfl) ?_
                        refine x_imul (v := nI (2 * sk)) hx hb (pk_mul _ _) dX5_planksNow_120 ?_
                        refine lv_iload_n hx hb dX5_planksNow_121 rfl (lv_at hl 3 rfl) ?_
                        refine lv_iconst (v := nI 2) hx hb dX5_planksNow_122 rfl ?_
                        refine x_iremN hx hb (by omega) (by decide) (by decide) dX5_planksNow_123 ?_
                        refine x_iadd (v := nI ((2 * sk) + (k % 2))) hx hb (nI_add _ _) dX5_planksNow_124 ?_
                        refine lv_iload hx hb dX5_planksNow_125 (lv_at hl 0 rfl) ?_
                        refine x_iast (j := (2 * sk) + (k % 2)) (v := i) hx hb hK hH hS (show f_16 (ad 4) = some (xN G 1005 10 cfL) from hM_17.2 4 (by decide)) rfl (by omega) (by decide) rfl dX5_planksNow_127 (fun H locs f_19 ef_19 hH hS => ?_)
                        have hM_20 : MM G f_19 mm ad th nw ln nt sl td la hf sa sw (va_up lfM i ((lfM i) - d1)) (va_up cfL ((2 * sk) + (k % 2)) i) dd tt bh li := by rw [ef_19]; exact hM_17.arr4 _
                        have hkp_21 : xkeep 1000 1010 f f_19 := by rw [ef_19]; exact hkp_18.set (hM_17.2 4 (by decide)) (by decide)
                        refine lv_iinc (v := nI (k + 1)) (lv' := [(2, .int (nI (k + 1))), (5, .int (nI i)), (4, .int (nI d1)), (3, .int (nI sk)), (1, .int (nI m1)), (0, .ref mm)]) hx hb dX5_planksNow_128 hl (k := 3) rfl (nI_inc _) (by decide) rfl (fun ls hl => ?_)
                        refine lv_goto (tgt := 4) hx hb dX5_planksNow_131 (by decide) ?_
                        exact ih4 (k + 1) m1 (va_up lfM i ((lfM i) - d1)) (va_up cfL ((2 * sk) + (k % 2)) i) f_19 _ _ _ (by omega) (by omega) hM_20 hkp_21 (pk_B hpk hse hw1 hf9 hi9) (bdd_up hlm (by have hz9 := hlm i (by omega); omega)) (by omega) hH hS (lv_sub hl [0, 4, 5] rfl)
                      · skip
                        exfalso; omega
                    · skip
                      refine lv_iinc (v := nI (i + 1)) (lv' := [(5, .int (nI (i + 1))), (4, .int (nI d1)), (3, .int (nI sk)), (2, .int (nI k)), (1, .int (nI m1)), (0, .ref mm)]) hx hb dX5_planksNow_77 hl (k := 0) rfl (nI_inc _) (by decide) rfl (fun ls hl => ?_)
                      refine lv_goto (tgt := 59) hx hb dX5_planksNow_80 (by decide) ?_
                      exact ih59 (i + 1) _ _ _ (by omega) ((congrArg (fun x => ff lfM d1 x (i + 1)) (show m1 - (i + 1) = m1 - i - 1 by omega)).trans ((ff_t (by omega) (by omega)).symm.trans hff)) (by omega) hH hS (lv_sub hl [0, 1, 2, 3, 4, 5] rfl)
              exact hloop59 (m1 - 0 + 1) 0 _ _ _ (by omega) rfl (Nat.lt_succ_self _) hH hS (lv_sub hl [0, 1, 2, 3, 4, 5] rfl)
            · skip
              refine lv_aload_n hx hb dX5_planksNow_34 rfl (lv_at hl 4 rfl) ?_
              refine x_get (C := RX5) (T := TX5) (N := 16) (ci := 4) (v := .ref (ad 3)) hx hb hts in_X5 hown hK hH hML25.1 rfl 6 (by decide) (hts _ q983) (fun _ h9 => h9) rfl dX5_planksNow_35 ?_
              refine lv_iload_n hx hb dX5_planksNow_38 rfl (lv_at hl 3 rfl) ?_
              refine lv_iconst (v := nI 0) hx hb dX5_planksNow_39 rfl ?_
              refine x_iast (j := m1) (v := 0) hx hb hK hH hS (show fL25 (ad 3) = some (xN G 1004 180 lfM) from hML25.2 3 (by decide)) rfl (by omega) (by decide) rfl dX5_planksNow_40 (fun H locs f_22 ef_22 hH hS => ?_)
              have hM_23 : MM G f_22 mm ad th nw ln nt sl td la hf sa sw (va_up lfM m1 0) cfL dd tt bh li := by rw [ef_22]; exact hML25.arr3 _
              have hkp_24 : xkeep 1000 1010 f f_22 := by rw [ef_22]; exact hkL25.set (hML25.2 3 (by decide)) (by decide)
              refine lv_iinc (v := nI (m1 + 1)) (lv' := [(1, .int (nI (m1 + 1))), (4, .int (nI d1)), (3, .int (nI sk)), (2, .int (nI k)), (0, .ref mm)]) hx hb dX5_planksNow_41 hl (k := 3) rfl (nI_inc _) (by decide) rfl (fun ls hl => ?_)
              refine lv_iload hx hb dX5_planksNow_44 (lv_at hl 1 rfl) ?_
              refine lv_aload_n hx hb dX5_planksNow_46 rfl (lv_at hl 4 rfl) ?_
              refine x_get (C := RX5) (T := TX5) (N := 16) (ci := 4) (v := .int (nI ln)) hx hb hts in_X5 hown hK hH hM_23.1 rfl 5 (by decide) (hts _ q982) (fun _ h9 => h9) rfl dX5_planksNow_47 ?_
              refine x_isub (v := nI (d1 - ln)) hx hb (pk_sub (by omega)) dX5_planksNow_50 ?_
              refine lv_istore (lv' := [(4, .int (nI (d1 - ln))), (1, .int (nI (m1 + 1))), (3, .int (nI sk)), (2, .int (nI k)), (0, .ref mm)]) hx hb dX5_planksNow_51 hl (by decide) rfl (fun ls hl => ?_)
              refine lv_goto (tgt := 25) hx hb dX5_planksNow_53 (by decide) ?_
              exact ih25 (u - 1) (m1 + 1) (d1 - ln) (va_up lfM m1 0) f_22 _ _ _ (by omega) (by omega) (by omega) hM_23 hkp_24 ((wl_t (by omega) (by omega)).symm.trans hwl) (bdd_new hlm (by omega)) (by omega) hH hS (lv_sub hl [0, 2, 3, 1, 4] rfl)
        exact hloop25 (17 + 1) 17 n1 (strN (h2 hf) sk) lfL fL4 _ _ _ (by omega) (by omega) (by omega) hML4 hkL4 rfl hlb (Nat.lt_succ_self _) hH hS (lv_sub hl [0, 1, 2, 3, 4] rfl)
  exact hloop4 (10 - 0 + 1) 0 0 lf cf f _ _ _ (by omega) (by omega) hM hkp0 rfl (fun j hj => absurd hj (Nat.not_lt_zero _)) (Nat.lt_succ_self _) hH hS (lv_sub hl [0, 1, 2] rfl)

abbrev rmX5_planks : Room := { frames := 5, cells := 0, slots := 0, locals := 200 }
set_option maxHeartbeats 4000000 in
set_option maxRecDepth 100000 in
theorem mX5_planks (l : Launch) (G : xG) (A : Nat → Prop) (f : xF) {mm : Nat} {ad : Nat → Nat} {th nw ln nt sl td la : Nat} {hf sa sw lf cf dd tt bh li : Nat → Nat} (hM : MM G f mm ad th nw ln nt sl td la hf sa sw lf cf dd tt bh li)  (hB : ∀ w s, w < 6 → s < 9 → h2 hf w s ≤ 200) (z1 : Int) (hz1 : -2147483648 ≤ z1 ∧ z1 ≤ 2147483647) : xMet l yX5_planks cX5_planks 2 (some .int) rmX5_planks G A f [.ref mm, .int (oI z1)] (fun v f1 => v = some (.int (if cdIn z1 100 4000 = 0 then nI (pk z1.toNat (strN (h2 hf)) lf cf 10).2.1 else nI 0)) ∧ MM G f1 mm ad (cdIn z1 100 4000) nw (if cdIn z1 100 4000 = 0 then z1.toNat else ln) nt sl td la hf sa sw (if cdIn z1 100 4000 = 0 then (pk z1.toNat (strN (h2 hf)) lf cf 10).1 else lf) (if cdIn z1 100 4000 = 0 then (pk z1.toNat (strN (h2 hf)) lf cf 10).2.2 else cf) dd tt bh li ∧ xkeep 1000 1010 f f1) := by
  refine x_start (by decide) (Nat.le_of_ble_eq_true rfl) ?_
  intro p e s m below meth c ls X hH hS hl
  obtain ⟨hx, hb, hr, hlk, hml, hown, hts, hK, hC, hA, hnm, hmn⟩ := X
  have hl : lv_has ls 2 [(0, .ref mm), (1, .int (oI z1))] := hl
  have hkp0 : xkeep 1000 1010 f f := xkeep.refl
  have hj18 : ∀ (cd : Nat) (H : Heap) (locs : List Loc) (ls : Array Slot), cd = cdIn z1 100 4000 → xH G A f H → va_S A s.heap H locs → lv_has ls 2 [(0, .ref mm), (1, .int (oI z1))] → W p l e rmX5_planks s m ([.ref mm, .int (oI z1)] : List Value).toArray below meth c H locs 0 0 (MQ below (xQ G A (fun v f1 => v = some (.int (if cdIn z1 100 4000 = 0 then nI (pk z1.toNat (strN (h2 hf)) lf cf 10).2.1 else nI 0)) ∧ MM G f1 mm ad (cdIn z1 100 4000) nw (if cdIn z1 100 4000 = 0 then z1.toNat else ln) nt sl td la hf sa sw (if cdIn z1 100 4000 = 0 then (pk z1.toNat (strN (h2 hf)) lf cf 10).1 else lf) (if cdIn z1 100 4000 = 0 then (pk z1.toNat (strN (h2 hf)) lf cf 10).2.2 else cf) dd tt bh li ∧ xkeep 1000 1010 f f1)) ([.ref mm, .int (oI z1)] : List Value).toArray s rmX5_planks.cells rmX5_planks.slots A) (F0 m 18 ls [.int (nI cd), .ref mm]) := by
    intro cd H locs ls hcd hH hS hl
    refine x_put (C := RX5) (T := TX5) (N := 16) (ci := 4) (v := .int (nI cd)) (ty := (tyX5 0)) hx hb hts in_X5 tyX5_ok nmX5 hown hK hH hS hM.1 rfl 0 (by decide) (hts _ q977) (fun _ h9 => h9) rfl (by decide +kernel) rfl rfl (Nat.le_of_ble_eq_true rfl) dX5_planks_18 (fun H locs f_1 ef_1 hH hS => ?_)
    have hM_2 : MM G f_1 mm ad cd nw ln nt sl td la hf sa sw lf cf dd tt bh li := by rw [ef_1]; exact hM.put0 _
    have hkp_3 : xkeep 1000 1010 f f_1 := by rw [ef_1]; exact hkp0.set hM.1 (by decide)
    refine lv_aload_n hx hb dX5_planks_21 rfl (lv_at hl 0 rfl) ?_
    refine x_get (C := RX5) (T := TX5) (N := 16) (ci := 4) (v := .int (nI cd)) hx hb hts in_X5 hown hK hH hM_2.1 rfl 0 (by decide) (hts _ q977) (fun _ h9 => h9) rfl dX5_planks_22 ?_
    refine x_if_le (tgt := 30) (P := cd = 0) hx hb dX5_planks_25 (by decide) (nI_le0 (by rw [hcd]; unfold cdIn; split <;> first | omega | (split <;> first | omega | (split <;> omega)))) (fun c25 => ?_) (fun c25 => ?_)
    · skip
      have h9 : cdIn z1 100 4000 = 0 := by rw [← hcd]; exact c25
      have hok := cdIn_0 h9
      have e_4 : oI z1 = nI z1.toNat := oI_nI (by omega)
      have hl : lv_has ls 2 [(0, .ref mm), (1, .int (nI z1.toNat))] := xl_eq hl (xl_cons rfl (xl_cons (congrArg (fun x => ((1 : Nat), Value.int x)) e_4) rfl))
      refine lv_aload_n hx hb dX5_planks_30 rfl (lv_at hl 0 rfl) ?_
      refine lv_iload_n hx hb dX5_planks_31 rfl (lv_at hl 1 rfl) ?_
      refine x_put (C := RX5) (T := TX5) (N := 16) (ci := 4) (v := .int (nI z1.toNat)) (ty := (tyX5 5)) hx hb hts in_X5 tyX5_ok nmX5 hown hK hH hS hM_2.1 rfl 5 (by decide) (hts _ q982) (fun _ h9 => h9) rfl (by decide +kernel) rfl rfl (Nat.le_of_ble_eq_true rfl) dX5_planks_32 (fun H locs f_5 ef_5 hH hS => ?_)
      have hM_6 : MM G f_5 mm ad cd nw z1.toNat nt sl td la hf sa sw lf cf dd tt bh li := by rw [ef_5]; exact hM_2.put2 _
      have hkp_7 : xkeep 1000 1010 f f_5 := by rw [ef_5]; exact hkp_3.set hM_2.1 (by decide)
      refine lv_aload_n hx hb dX5_planks_35 rfl (lv_at hl 0 rfl) ?_
      refine x_V (n := 0) (As := []) (rest := []) ⟨hx, hb, hml, hown, hts⟩ hK hC hA hH hS (mX5_planksNow l G A f_5 hM_6 hB (by omega)) q1169 q1171 qs27 q38 q1172 (by decide +kernel) ⟨Nat.le_of_ble_eq_true rfl, Nat.le_of_ble_eq_true rfl⟩ hM_6.1 rfl rfl rfl hl.1 rfl (Nat.le_of_ble_eq_true rfl) dX5_planks_36 (Nat.le_of_ble_eq_true rfl) (Nat.le_of_ble_eq_true rfl) (fun v f_8 H locs hp hH hS hz => ?_)
      obtain ⟨rfl, hM_9, hkp_10⟩ := hp
      have hkp_11 := (hkp_7.trans hkp_10)
      refine x_norm (g2 := F0 m 39 ls [.int (nI ((pk z1.toNat (strN (h2 hf)) lf cf 10).2.1))]) (k := 0) (n := 0) (Nat.le_refl _) (Nat.le_refl _) rfl ?_
      exact x_iret hx hb hr hlk hH hS ⟨by simp only [if_pos h9], by simp only [if_pos h9]; rw [← hcd]; exact hM_9, hkp_11⟩ (Nat.le_of_ble_eq_true rfl) (Nat.le_of_ble_eq_true rfl) dX5_planks_39
    · skip
      have h9 : ¬ cdIn z1 100 4000 = 0 := by rw [← hcd]; exact c25
      refine lv_iconst (v := nI 0) hx hb dX5_planks_28 rfl ?_
      exact x_iret hx hb hr hlk hH hS ⟨by simp only [if_neg h9], by simp only [if_neg h9]; rw [← hcd]; exact hM_2, hkp_3⟩ (Nat.le_of_ble_eq_true rfl) (Nat.le_of_ble_eq_true rfl) dX5_planks_29
  refine lv_aload_n hx hb dX5_planks_0 rfl (lv_at hl 0 rfl) ?_
  refine lv_iload_n hx hb dX5_planks_1 rfl (lv_at hl 1 rfl) ?_
  refine lv_bipush (v := nI 100) hx hb dX5_planks_2 rfl ?_
  refine lv_sipush (v := nI 4000) hx hb dX5_planks_4 rfl ?_
  refine x_S (n := 3) (As := [.int (oI z1), .int (nI 100), .int (nI 4000)]) (rest := [.ref mm]) ⟨hx, hb, hml, hown, hts⟩ hK hC hA hH hS (mX5_in l G A f _ _ _ z1 ((100 : Nat) : Int) ((4000 : Nat) : Int) rfl (nI_oI _) (nI_oI _) hz1 (by decide) (by decide)) q1037 q1038 q38 q1039 (by decide +kernel) ⟨Nat.le_of_ble_eq_true rfl, Nat.le_of_ble_eq_true rfl⟩ rfl hl.1 rfl (Nat.le_of_ble_eq_true rfl) dX5_planks_7 (Nat.le_of_ble_eq_true rfl) (Nat.le_of_ble_eq_true rfl) (fun v f_12 H locs hp hH hS hz => ?_)
  obtain ⟨rfl, rfl⟩ := hp
  refine x_norm (g2 := F0 m 10 ls [.int (nI (xb (((100 : Nat) : Int) ≤ z1 ∧ z1 ≤ ((4000 : Nat) : Int)))), .ref mm]) (k := 0) (n := 0) (Nat.le_refl _) (Nat.le_refl _) rfl ?_
  refine x_ifbeq (tgt := 17) (B := ((100 : Nat) : Int) ≤ z1 ∧ z1 ≤ ((4000 : Nat) : Int)) hx hb dX5_planks_10 (by decide) (fun c10 => ?_) (fun c10 => ?_)
  · skip
    refine lv_iconst (v := nI 1) hx hb dX5_planks_17 rfl ?_
    exact hj18 1 _ _ _ (by unfold cdIn; split <;> first | rfl | (exfalso; omega)) hH hS (lv_sub hl [0, 1] rfl)
  · skip
    refine lv_iconst (v := nI 0) hx hb dX5_planks_13 rfl ?_
    refine lv_goto (tgt := 18) hx hb dX5_planks_14 (by decide) ?_
    exact hj18 0 _ _ _ (by unfold cdIn; split <;> first | rfl | (exfalso; omega)) hH hS (lv_sub hl [0, 1] rfl)

abbrev rmX5_plankOf : Room := { frames := 5, cells := 0, slots := 0, locals := 200 }
set_option maxHeartbeats 4000000 in
set_option maxRecDepth 100000 in
theorem mX5_plankOf (l : Launch) (G : xG) (A : Nat → Prop) (f : xF) {mm : Nat} {ad : Nat → Nat} {th nw ln nt sl td la : Nat} {hf sa sw lf cf dd tt bh li : Nat → Nat} (hM : MM G f mm ad th nw ln nt sl td la hf sa sw lf cf dd tt bh li)  (hB : ∀ w s, w < 6 → s < 9 → h2 hf w s ≤ 200) (hln : 100 ≤ ln ∧ ln ≤ 4000) (q9 : Bool) (z1 : Int) (hz1 : -2147483648 ≤ z1 ∧ z1 ≤ 2147483647) : xMet l yX5_plankOf cX5_plankOf 3 (some .int) rmX5_plankOf G A f [.ref mm, .int (oI z1), .int (nI (xb (q9 = true)))] (fun v f1 => v = some (.int (if cdIn z1 0 4 = 0 then nI ((pk ln (strN (h2 hf)) lf cf 10).2.2 (2 * z1.toNat + xb (q9 = true))) else nI 0)) ∧ MM G f1 mm ad (cdIn z1 0 4) nw ln nt sl td la hf sa sw (if cdIn z1 0 4 = 0 then (pk ln (strN (h2 hf)) lf cf 10).1 else lf) (if cdIn z1 0 4 = 0 then (pk ln (strN (h2 hf)) lf cf 10).2.2 else cf) dd tt bh li ∧ xkeep 1000 1010 f f1) := by
  refine x_start (by decide) (Nat.le_of_ble_eq_true rfl) ?_
  intro p e s m below meth c ls X hH hS hl
  obtain ⟨hx, hb, hr, hlk, hml, hown, hts, hK, hC, hA, hnm, hmn⟩ := X
  have hl : lv_has ls 3 [(0, .ref mm), (1, .int (oI z1)), (2, .int (nI (xb (q9 = true))))] := hl
  have hkp0 : xkeep 1000 1010 f f := xkeep.refl
  have hj15 : ∀ (cd : Nat) (H : Heap) (locs : List Loc) (ls : Array Slot), cd = cdIn z1 0 4 → xH G A f H → va_S A s.heap H locs → lv_has ls 3 [(0, .ref mm), (1, .int (oI z1)), (2, .int (nI (xb (q9 = true))))] → W p l e rmX5_plankOf s m ([.ref mm, .int (oI z1), .int (nI (xb (q9 = true)))] : List Value).toArray below meth c H locs 0 0 (MQ below (xQ G A (fun v f1 => v = some (.int (if cdIn z1 0 4 = 0 then nI ((pk ln (strN (h2 hf)) lf cf 10).2.2 (2 * z1.toNat + xb (q9 = true))) else nI 0)) ∧ MM G f1 mm ad (cdIn z1 0 4) nw ln nt sl td la hf sa sw (if cdIn z1 0 4 = 0 then (pk ln (strN (h2 hf)) lf cf 10).1 else lf) (if cdIn z1 0 4 = 0 then (pk ln (strN (h2 hf)) lf cf 10).2.2 else cf) dd tt bh li ∧ xkeep 1000 1010 f f1)) ([.ref mm, .int (oI z1), .int (nI (xb (q9 = true)))] : List Value).toArray s rmX5_plankOf.cells rmX5_plankOf.slots A) (F0 m 15 ls [.int (nI cd), .ref mm]) := by
    intro cd H locs ls hcd hH hS hl
    refine x_put (C := RX5) (T := TX5) (N := 16) (ci := 4) (v := .int (nI cd)) (ty := (tyX5 0)) hx hb hts in_X5 tyX5_ok nmX5 hown hK hH hS hM.1 rfl 0 (by decide) (hts _ q977) (fun _ h9 => h9) rfl (by decide +kernel) rfl rfl (Nat.le_of_ble_eq_true rfl) dX5_plankOf_15 (fun H locs f_1 ef_1 hH hS => ?_)
    have hM_2 : MM G f_1 mm ad cd nw ln nt sl td la hf sa sw lf cf dd tt bh li := by rw [ef_1]; exact hM.put0 _
    have hkp_3 : xkeep 1000 1010 f f_1 := by rw [ef_1]; exact hkp0.set hM.1 (by decide)
    refine lv_aload_n hx hb dX5_plankOf_18 rfl (lv_at hl 0 rfl) ?_
    refine x_get (C := RX5) (T := TX5) (N := 16) (ci := 4) (v := .int (nI cd)) hx hb hts in_X5 hown hK hH hM_2.1 rfl 0 (by decide) (hts _ q977) (fun _ h9 => h9) rfl dX5_plankOf_19 ?_
    refine x_if_le (tgt := 27) (P := cd = 0) hx hb dX5_plankOf_22 (by decide) (nI_le0 (by rw [hcd]; unfold cdIn; split <;> first | omega | (split <;> first | omega | (split <;> omega)))) (fun c22 => ?_) (fun c22 => ?_)
    · skip
      have h9 : cdIn z1 0 4 = 0 := by rw [← hcd]; exact c22
      have hok := cdIn_0 h9
      have e_4 : oI z1 = nI z1.toNat := oI_nI (by omega)
      have hl : lv_has ls 3 [(0, .ref mm), (1, .int (nI z1.toNat)), (2, .int (nI (xb (q9 = true))))] := xl_eq hl (xl_cons rfl (xl_cons (congrArg (fun x => ((1 : Nat), Value.int x)) e_4) rfl))
      refine lv_aload_n hx hb dX5_plankOf_27 rfl (lv_at hl 0 rfl) ?_
      refine x_V (n := 0) (As := []) (rest := []) ⟨hx, hb, hml, hown, hts⟩ hK hC hA hH hS (mX5_planksNow l G A f_1 hM_2 hB (by omega)) q1169 q1171 qs27 q38 q1172 (by decide +kernel) ⟨Nat.le_of_ble_eq_true rfl, Nat.le_of_ble_eq_true rfl⟩ hM_2.1 rfl rfl rfl hl.1 rfl (Nat.le_of_ble_eq_true rfl) dX5_plankOf_28 (Nat.le_of_ble_eq_true rfl) (Nat.le_of_ble_eq_true rfl) (fun v f_5 H locs hp hH hS hz => ?_)
      obtain ⟨rfl, hM_6, hkp_7⟩ := hp
      have hkp_8 := (hkp_3.trans hkp_7)
      refine x_norm (g2 := F0 m 31 ls [.int (nI ((pk ln (strN (h2 hf)) lf cf 10).2.1))]) (k := 0) (n := 0) (Nat.le_refl _) (Nat.le_refl _) rfl ?_
      refine lv_pop hx hb dX5_plankOf_31 rfl ?_
      refine lv_aload_n hx hb dX5_plankOf_32 rfl (lv_at hl 0 rfl) ?_
      refine x_get (C := RX5) (T := TX5) (N := 16) (ci := 4) (v := .ref (ad 4)) hx hb hts in_X5 hown hK hH hM_6.1 rfl 7 (by decide) (hts _ q984) (fun _ h9 => h9) rfl dX5_plankOf_33 ?_
      refine lv_iconst (v := nI 2) hx hb dX5_plankOf_36 rfl ?_
      refine lv_iload_n hx hb dX5_plankOf_37 rfl (lv_at hl 1 rfl) ?_
      refine x_imul (v := nI (2 * z1.toNat)) hx hb (pk_mul _ _) dX5_plankOf_38 ?_
      refine lv_iload_n hx hb dX5_plankOf_39 rfl (lv_at hl 2 rfl) ?_
      refine x_ifbeq (tgt := 47) (B := q9 = true) hx hb dX5_plankOf_40 (by decide) (fun c40 => ?_) (fun c40 => ?_)
      · skip
        refine lv_iconst (v := nI 0) hx hb dX5_plankOf_47 rfl ?_
        refine x_iadd (v := nI ((2 * z1.toNat) + 0)) hx hb (nI_add _ _) dX5_plankOf_48 ?_
        refine x_iald (j := (2 * z1.toNat) + 0) hx hb hK hH (show f_5 (ad 4) = some (xN G 1005 10 ((pk ln (strN (h2 hf)) lf cf 10).2.2)) from hM_6.2 4 (by decide)) rfl (by omega) (by decide) dX5_plankOf_49 ?_
        exact x_iret hx hb hr hlk hH hS ⟨by simp only [if_pos h9] <;> first | rfl | rw [xb_t (by assumption)] | rw [xb_f (by assumption)], by simp only [if_pos h9]; rw [← hcd]; exact hM_6, hkp_8⟩ (Nat.le_of_ble_eq_true rfl) (Nat.le_of_ble_eq_true rfl) dX5_plankOf_50
      · skip
        refine lv_iconst (v := nI 1) hx hb dX5_plankOf_43 rfl ?_
        refine lv_goto (tgt := 48) hx hb dX5_plankOf_44 (by decide) ?_
        refine x_iadd (v := nI ((2 * z1.toNat) + 1)) hx hb (nI_add _ _) dX5_plankOf_48 ?_
        refine x_iald (j := (2 * z1.toNat) + 1) hx hb hK hH (show f_5 (ad 4) = some (xN G 1005 10 ((pk ln (strN (h2 hf)) lf cf 10).2.2)) from hM_6.2 4 (by decide)) rfl (by omega) (by decide) dX5_plankOf_49 ?_
        exact x_iret hx hb hr hlk hH hS ⟨by simp only [if_pos h9] <;> first | rfl | rw [xb_t (by assumption)] | rw [xb_f (by assumption)], by simp only [if_pos h9]; rw [← hcd]; exact hM_6, hkp_8⟩ (Nat.le_of_ble_eq_true rfl) (Nat.le_of_ble_eq_true rfl) dX5_plankOf_50
    · skip
      have h9 : ¬ cdIn z1 0 4 = 0 := by rw [← hcd]; exact c22
      refine lv_iconst (v := nI 0) hx hb dX5_plankOf_25 rfl ?_
      exact x_iret hx hb hr hlk hH hS ⟨by simp only [if_neg h9], by simp only [if_neg h9]; rw [← hcd]; exact hM_2, hkp_3⟩ (Nat.le_of_ble_eq_true rfl) (Nat.le_of_ble_eq_true rfl) dX5_plankOf_26
  refine lv_aload_n hx hb dX5_plankOf_0 rfl (lv_at hl 0 rfl) ?_
  refine lv_iload_n hx hb dX5_plankOf_1 rfl (lv_at hl 1 rfl) ?_
  refine lv_iconst (v := nI 0) hx hb dX5_plankOf_2 rfl ?_
  refine lv_iconst (v := nI 4) hx hb dX5_plankOf_3 rfl ?_
  refine x_S (n := 3) (As := [.int (oI z1), .int (nI 0), .int (nI 4)]) (rest := [.ref mm]) ⟨hx, hb, hml, hown, hts⟩ hK hC hA hH hS (mX5_in l G A f _ _ _ z1 ((0 : Nat) : Int) ((4 : Nat) : Int) rfl (nI_oI _) (nI_oI _) hz1 (by decide) (by decide)) q1037 q1038 q38 q1039 (by decide +kernel) ⟨Nat.le_of_ble_eq_true rfl, Nat.le_of_ble_eq_true rfl⟩ rfl hl.1 rfl (Nat.le_of_ble_eq_true rfl) dX5_plankOf_4 (Nat.le_of_ble_eq_true rfl) (Nat.le_of_ble_eq_true rfl) (fun v f_9 H locs hp hH hS hz => ?_)
  obtain ⟨rfl, rfl⟩ := hp
  refine x_norm (g2 := F0 m 7 ls [.int (nI (xb (((0 : Nat) : Int) ≤ z1 ∧ z1 ≤ ((4 : Nat) : Int)))), .ref mm]) (k := 0) (n := 0) (Nat.le_refl _) (Nat.le_refl _) rfl ?_
  refine x_ifbeq (tgt := 14) (B := ((0 : Nat) : Int) ≤ z1 ∧ z1 ≤ ((4 : Nat) : Int)) hx hb dX5_plankOf_7 (by decide) (fun c7 => ?_) (fun c7 => ?_)
  · skip
    refine lv_iconst (v := nI 1) hx hb dX5_plankOf_14 rfl ?_
    exact hj15 1 _ _ _ (by unfold cdIn; split <;> first | rfl | (exfalso; omega)) hH hS (lv_sub hl [0, 1, 2] rfl)
  · skip
    refine lv_iconst (v := nI 0) hx hb dX5_plankOf_10 rfl ?_
    refine lv_goto (tgt := 15) hx hb dX5_plankOf_11 (by decide) ?_
    exact hj15 0 _ _ _ (by unfold cdIn; split <;> first | rfl | (exfalso; omega)) hH hS (lv_sub hl [0, 1, 2] rfl)

abbrev rmX5_init : Room := { frames := 2, cells := 9, slots := 617, locals := 80 }
set_option maxHeartbeats 4000000 in
set_option maxRecDepth 100000 in
theorem mX5_init (l : Launch) (G : xG) (A : Nat → Prop) (f : xF) {mm : Nat} (hO : f mm = some (xO 1000 4 [.int (nI 0), .null, .int (nI 0), .null, .null, .int (nI 0), .null, .null, .int (nI 0), .null, .null, .int (nI 0), .int (nI 0), .int (nI 0), .null, .null])) : xMet l yX5_init cX5_init 1 none rmX5_init G A f [.ref mm] (fun v f1 => v = none ∧ ∃ ad : Nat → Nat, MM G f1 mm ad 0 0 1000 0 0 0 0 (fun _ => 0) (va_up (fun _ => 0) 16 4) (fun _ => 0) (fun _ => 0) (fun _ => 0) (fun _ => 0) (fun _ => 0) (fun _ => 0) (fun _ => 0) ∧ xkeep 1000 1010 f f1) := by
  refine x_start (by decide) (Nat.le_of_ble_eq_true rfl) ?_
  intro p e s m below meth c ls X hH hS hl
  obtain ⟨hx, hb, hr, hlk, hml, hown, hts, hK, hC, hA, hnm, hmn⟩ := X
  have hl : lv_has ls 1 [(0, .ref mm)] := hl
  refine lv_aload_n hx hb dX5_init_0 rfl (lv_at hl 0 rfl) ?_
  refine W.objInit hx hb hown (hts _ q976) (hts _ q66) (hts _ q67) rfl (by rw [hml]; exact hl.1) rfl dX5_init_1 (Nat.le_of_ble_eq_true rfl) (Nat.le_of_ble_eq_true rfl) ?_
  refine W.eq (g2 := F0 m 4 ls []) rfl ?_
  refine lv_aload_n hx hb dX5_init_4 rfl (lv_at hl 0 rfl) ?_
  refine lv_bipush (v := nI 54) hx hb dX5_init_5 rfl ?_
  refine x_newi hx hb 1001 (hts _ q84) hK hH hS hA rfl (by decide) (Nat.le_of_ble_eq_true rfl) (Nat.le_of_ble_eq_true rfl) dX5_init_7 (fun q_1 H f_2 ef_2 hn_3 hH hS => ?_)
  refine x_norm (g2 := F0 m 9 ls [.ref q_1, .ref mm]) (k := 1) (n := 54) (Nat.le_refl _) (Nat.le_refl _) rfl ?_
  have h_4 : f_2 mm = some (xO 1000 4 [.int (nI 0), .null, .int (nI 0), .null, .null, .int (nI 0), .null, .null, .int (nI 0), .null, .null, .int (nI 0), .int (nI 0), .int (nI 0), .null, .null]) := by rw [ef_2, xset_ne (xneN hO hn_3)]; exact hO
  have hkp_5 : xkeep 1000 1010 f f_2 := by rw [ef_2]; exact xkeep.refl.new hn_3
  have h_6 : f_2 q_1 = some (xN G 1001 54 (fun _ => 0)) := by rw [ef_2]; exact xset_eq
  refine x_putF (C := RX5) (T := TX5) (N := 16) (ci := 4) (v := .ref q_1) (ty := (tyX5 1)) hx hb hts in_X5 tyX5_ok nmX5 hown hK hH hS h_4 rfl 1 (by decide) (hts _ q978) (fun _ h9 => h9) rfl (hnm.trans rfl) rfl (by decide +kernel) rfl rfl (Nat.le_of_ble_eq_true rfl) dX5_init_9 (fun H locs f_7 ef_7 hH hS => ?_)
  have h_8 : f_7 q_1 = some (xN G 1001 54 (fun _ => 0)) := by rw [ef_7, xset_ne (xne h_6 h_4 (by decide))]; exact h_6
  have hkp_9 : xkeep 1000 1010 f f_7 := by rw [ef_7]; exact hkp_5.set h_4 (by decide)
  have h_10 : f_7 mm = some (xO 1000 4 [.int (nI 0), .ref q_1, .int (nI 0), .null, .null, .int (nI 0), .null, .null, .int (nI 0), .null, .null, .int (nI 0), .int (nI 0), .int (nI 0), .null, .null]) := by rw [ef_7]; exact xset_eq
  refine lv_aload_n hx hb dX5_init_12 rfl (lv_at hl 0 rfl) ?_
  refine lv_bipush (v := nI 17) hx hb dX5_init_13 rfl ?_
  refine x_newi hx hb 1002 (hts _ q84) hK hH hS hA rfl (by decide) (Nat.le_of_ble_eq_true rfl) (Nat.le_of_ble_eq_true rfl) dX5_init_15 (fun q_11 H f_12 ef_12 hn_13 hH hS => ?_)
  refine x_norm (g2 := F0 m 17 ls [.ref q_11, .ref mm]) (k := 2) (n := 71) (Nat.le_refl _) (Nat.le_refl _) rfl ?_
  have h_14 : f_12 q_1 = some (xN G 1001 54 (fun _ => 0)) := by rw [ef_12, xset_ne (xneN h_8 hn_13)]; exact h_8
  have h_15 : f_12 mm = some (xO 1000 4 [.int (nI 0), .ref q_1, .int (nI 0), .null, .null, .int (nI 0), .null, .null, .int (nI 0), .null, .null, .int (nI 0), .int (nI 0), .int (nI 0), .null, .null]) := by rw [ef_12, xset_ne (xneN h_10 hn_13)]; exact h_10
  have hkp_16 : xkeep 1000 1010 f f_12 := by rw [ef_12]; exact hkp_9.new hn_13
  have h_17 : f_12 q_11 = some (xN G 1002 17 (fun _ => 0)) := by rw [ef_12]; exact xset_eq
  refine x_putF (C := RX5) (T := TX5) (N := 16) (ci := 4) (v := .ref q_11) (ty := (tyX5 3)) hx hb hts in_X5 tyX5_ok nmX5 hown hK hH hS h_15 rfl 3 (by decide) (hts _ q980) (fun _ h9 => h9) rfl (hnm.trans rfl) rfl (by decide +kernel) rfl rfl (Nat.le_of_ble_eq_true rfl) dX5_init_17 (fun H locs f_18 ef_18 hH hS => ?_)
  have h_19 : f_18 q_1 = some (xN G 1001 54 (fun _ => 0)) := by rw [ef_18, xset_ne (xne h_14 h_15 (by decide))]; exact h_14
  have h_20 : f_18 q_11 = some (xN G 1002 17 (fun _ => 0)) := by rw [ef_18, xset_ne (xne h_17 h_15 (by decide))]; exact h_17
  have hkp_21 : xkeep 1000 1010 f f_18 := by rw [ef_18]; exact hkp_16.set h_15 (by decide)
  have h_22 : f_18 mm = some (xO 1000 4 [.int (nI 0), .ref q_1, .int (nI 0), .ref q_11, .null, .int (nI 0), .null, .null, .int (nI 0), .null, .null, .int (nI 0), .int (nI 0), .int (nI 0), .null, .null]) := by rw [ef_18]; exact xset_eq
  refine lv_aload_n hx hb dX5_init_20 rfl (lv_at hl 0 rfl) ?_
  refine lv_bipush (v := nI 17) hx hb dX5_init_21 rfl ?_
  refine x_newi hx hb 1003 (hts _ q84) hK hH hS hA rfl (by decide) (Nat.le_of_ble_eq_true rfl) (Nat.le_of_ble_eq_true rfl) dX5_init_23 (fun q_23 H f_24 ef_24 hn_25 hH hS => ?_)
  refine x_norm (g2 := F0 m 25 ls [.ref q_23, .ref mm]) (k := 3) (n := 88) (Nat.le_refl _) (Nat.le_refl _) rfl ?_
  have h_26 : f_24 q_1 = some (xN G 1001 54 (fun _ => 0)) := by rw [ef_24, xset_ne (xneN h_19 hn_25)]; exact h_19
  have h_27 : f_24 q_11 = some (xN G 1002 17 (fun _ => 0)) := by rw [ef_24, xset_ne (xneN h_20 hn_25)]; exact h_20
  have h_28 : f_24 mm = some (xO 1000 4 [.int (nI 0), .ref q_1, .int (nI 0), .ref q_11, .null, .int (nI 0), .null, .null, .int (nI 0), .null, .null, .int (nI 0), .int (nI 0), .int (nI 0), .null, .null]) := by rw [ef_24, xset_ne (xneN h_22 hn_25)]; exact h_22
  have hkp_29 : xkeep 1000 1010 f f_24 := by rw [ef_24]; exact hkp_21.new hn_25
  have h_30 : f_24 q_23 = some (xN G 1003 17 (fun _ => 0)) := by rw [ef_24]; exact xset_eq
  refine x_putF (C := RX5) (T := TX5) (N := 16) (ci := 4) (v := .ref q_23) (ty := (tyX5 4)) hx hb hts in_X5 tyX5_ok nmX5 hown hK hH hS h_28 rfl 4 (by decide) (hts _ q981) (fun _ h9 => h9) rfl (hnm.trans rfl) rfl (by decide +kernel) rfl rfl (Nat.le_of_ble_eq_true rfl) dX5_init_25 (fun H locs f_31 ef_31 hH hS => ?_)
  have h_32 : f_31 q_1 = some (xN G 1001 54 (fun _ => 0)) := by rw [ef_31, xset_ne (xne h_26 h_28 (by decide))]; exact h_26
  have h_33 : f_31 q_11 = some (xN G 1002 17 (fun _ => 0)) := by rw [ef_31, xset_ne (xne h_27 h_28 (by decide))]; exact h_27
  have h_34 : f_31 q_23 = some (xN G 1003 17 (fun _ => 0)) := by rw [ef_31, xset_ne (xne h_30 h_28 (by decide))]; exact h_30
  have hkp_35 : xkeep 1000 1010 f f_31 := by rw [ef_31]; exact hkp_29.set h_28 (by decide)
  have h_36 : f_31 mm = some (xO 1000 4 [.int (nI 0), .ref q_1, .int (nI 0), .ref q_11, .ref q_23, .int (nI 0), .null, .null, .int (nI 0), .null, .null, .int (nI 0), .int (nI 0), .int (nI 0), .null, .null]) := by rw [ef_31]; exact xset_eq
  refine lv_aload_n hx hb dX5_init_28 rfl (lv_at hl 0 rfl) ?_
  refine lv_sipush (v := nI 1000) hx hb dX5_init_29 rfl ?_
  refine x_put (C := RX5) (T := TX5) (N := 16) (ci := 4) (v := .int (nI 1000)) (ty := (tyX5 5)) hx hb hts in_X5 tyX5_ok nmX5 hown hK hH hS h_36 rfl 5 (by decide) (hts _ q982) (fun _ h9 => h9) rfl (by decide +kernel) rfl rfl (Nat.le_of_ble_eq_true rfl) dX5_init_32 (fun H locs f_37 ef_37 hH hS => ?_)
  have h_38 : f_37 q_1 = some (xN G 1001 54 (fun _ => 0)) := by rw [ef_37, xset_ne (xne h_32 h_36 (by decide))]; exact h_32
  have h_39 : f_37 q_11 = some (xN G 1002 17 (fun _ => 0)) := by rw [ef_37, xset_ne (xne h_33 h_36 (by decide))]; exact h_33
  have h_40 : f_37 q_23 = some (xN G 1003 17 (fun _ => 0)) := by rw [ef_37, xset_ne (xne h_34 h_36 (by decide))]; exact h_34
  have hkp_41 : xkeep 1000 1010 f f_37 := by rw [ef_37]; exact hkp_35.set h_36 (by decide)
  have h_42 : f_37 mm = some (xO 1000 4 [.int (nI 0), .ref q_1, .int (nI 0), .ref q_11, .ref q_23, .int (nI 1000), .null, .null, .int (nI 0), .null, .null, .int (nI 0), .int (nI 0), .int (nI 0), .null, .null]) := by rw [ef_37]; exact xset_eq
  refine lv_aload_n hx hb dX5_init_35 rfl (lv_at hl 0 rfl) ?_
  refine lv_sipush (v := nI 180) hx hb dX5_init_36 rfl ?_
  refine x_newi hx hb 1004 (hts _ q84) hK hH hS hA rfl (by decide) (Nat.le_of_ble_eq_true rfl) (Nat.le_of_ble_eq_true rfl) dX5_init_39 (fun q_43 H f_44 ef_44 hn_45 hH hS => ?_)
  refine x_norm (g2 := F0 m 41 ls [.ref q_43, .ref mm]) (k := 4) (n := 268) (Nat.le_refl _) (Nat.le_refl _) rfl ?_
  have h_46 : f_44 q_1 = some (xN G 1001 54 (fun _ => 0)) := by rw [ef_44, xset_ne (xneN h_38 hn_45)]; exact h_38
  have h_47 : f_44 q_11 = some (xN G 1002 17 (fun _ => 0)) := by rw [ef_44, xset_ne (xneN h_39 hn_45)]; exact h_39
  have h_48 : f_44 q_23 = some (xN G 1003 17 (fun _ => 0)) := by rw [ef_44, xset_ne (xneN h_40 hn_45)]; exact h_40
  have h_49 : f_44 mm = some (xO 1000 4 [.int (nI 0), .ref q_1, .int (nI 0), .ref q_11, .ref q_23, .int (nI 1000), .null, .null, .int (nI 0), .null, .null, .int (nI 0), .int (nI 0), .int (nI 0), .null, .null]) := by rw [ef_44, xset_ne (xneN h_42 hn_45)]; exact h_42
  have hkp_50 : xkeep 1000 1010 f f_44 := by rw [ef_44]; exact hkp_41.new hn_45
  have h_51 : f_44 q_43 = some (xN G 1004 180 (fun _ => 0)) := by rw [ef_44]; exact xset_eq
  refine x_putF (C := RX5) (T := TX5) (N := 16) (ci := 4) (v := .ref q_43) (ty := (tyX5 6)) hx hb hts in_X5 tyX5_ok nmX5 hown hK hH hS h_49 rfl 6 (by decide) (hts _ q983) (fun _ h9 => h9) rfl (hnm.trans rfl) rfl (by decide +kernel) rfl rfl (Nat.le_of_ble_eq_true rfl) dX5_init_41 (fun H locs f_52 ef_52 hH hS => ?_)
  have h_53 : f_52 q_1 = some (xN G 1001 54 (fun _ => 0)) := by rw [ef_52, xset_ne (xne h_46 h_49 (by decide))]; exact h_46
  have h_54 : f_52 q_11 = some (xN G 1002 17 (fun _ => 0)) := by rw [ef_52, xset_ne (xne h_47 h_49 (by decide))]; exact h_47
  have h_55 : f_52 q_23 = some (xN G 1003 17 (fun _ => 0)) := by rw [ef_52, xset_ne (xne h_48 h_49 (by decide))]; exact h_48
  have h_56 : f_52 q_43 = some (xN G 1004 180 (fun _ => 0)) := by rw [ef_52, xset_ne (xne h_51 h_49 (by decide))]; exact h_51
  have hkp_57 : xkeep 1000 1010 f f_52 := by rw [ef_52]; exact hkp_50.set h_49 (by decide)
  have h_58 : f_52 mm = some (xO 1000 4 [.int (nI 0), .ref q_1, .int (nI 0), .ref q_11, .ref q_23, .int (nI 1000), .ref q_43, .null, .int (nI 0), .null, .null, .int (nI 0), .int (nI 0), .int (nI 0), .null, .null]) := by rw [ef_52]; exact xset_eq
  refine lv_aload_n hx hb dX5_init_44 rfl (lv_at hl 0 rfl) ?_
  refine lv_bipush (v := nI 10) hx hb dX5_init_45 rfl ?_
  refine x_newi hx hb 1005 (hts _ q84) hK hH hS hA rfl (by decide) (Nat.le_of_ble_eq_true rfl) (Nat.le_of_ble_eq_true rfl) dX5_init_47 (fun q_59 H f_60 ef_60 hn_61 hH hS => ?_)
  refine x_norm (g2 := F0 m 49 ls [.ref q_59, .ref mm]) (k := 5) (n := 278) (Nat.le_refl _) (Nat.le_refl _) rfl ?_
  have h_62 : f_60 q_1 = some (xN G 1001 54 (fun _ => 0)) := by rw [ef_60, xset_ne (xneN h_53 hn_61)]; exact h_53
  have h_63 : f_60 q_11 = some (xN G 1002 17 (fun _ => 0)) := by rw [ef_60, xset_ne (xneN h_54 hn_61)]; exact h_54
  have h_64 : f_60 q_23 = some (xN G 1003 17 (fun _ => 0)) := by rw [ef_60, xset_ne (xneN h_55 hn_61)]; exact h_55
  have h_65 : f_60 q_43 = some (xN G 1004 180 (fun _ => 0)) := by rw [ef_60, xset_ne (xneN h_56 hn_61)]; exact h_56
  have h_66 : f_60 mm = some (xO 1000 4 [.int (nI 0), .ref q_1, .int (nI 0), .ref q_11, .ref q_23, .int (nI 1000), .ref q_43, .null, .int (nI 0), .null, .null, .int (nI 0), .int (nI 0), .int (nI 0), .null, .null]) := by rw [ef_60, xset_ne (xneN h_58 hn_61)]; exact h_58
  have hkp_67 : xkeep 1000 1010 f f_60 := by rw [ef_60]; exact hkp_57.new hn_61
  have h_68 : f_60 q_59 = some (xN G 1005 10 (fun _ => 0)) := by rw [ef_60]; exact xset_eq
  refine x_putF (C := RX5) (T := TX5) (N := 16) (ci := 4) (v := .ref q_59) (ty := (tyX5 7)) hx hb hts in_X5 tyX5_ok nmX5 hown hK hH hS h_66 rfl 7 (by decide) (hts _ q984) (fun _ h9 => h9) rfl (hnm.trans rfl) rfl (by decide +kernel) rfl rfl (Nat.le_of_ble_eq_true rfl) dX5_init_49 (fun H locs f_69 ef_69 hH hS => ?_)
  have h_70 : f_69 q_1 = some (xN G 1001 54 (fun _ => 0)) := by rw [ef_69, xset_ne (xne h_62 h_66 (by decide))]; exact h_62
  have h_71 : f_69 q_11 = some (xN G 1002 17 (fun _ => 0)) := by rw [ef_69, xset_ne (xne h_63 h_66 (by decide))]; exact h_63
  have h_72 : f_69 q_23 = some (xN G 1003 17 (fun _ => 0)) := by rw [ef_69, xset_ne (xne h_64 h_66 (by decide))]; exact h_64
  have h_73 : f_69 q_43 = some (xN G 1004 180 (fun _ => 0)) := by rw [ef_69, xset_ne (xne h_65 h_66 (by decide))]; exact h_65
  have h_74 : f_69 q_59 = some (xN G 1005 10 (fun _ => 0)) := by rw [ef_69, xset_ne (xne h_68 h_66 (by decide))]; exact h_68
  have hkp_75 : xkeep 1000 1010 f f_69 := by rw [ef_69]; exact hkp_67.set h_66 (by decide)
  have h_76 : f_69 mm = some (xO 1000 4 [.int (nI 0), .ref q_1, .int (nI 0), .ref q_11, .ref q_23, .int (nI 1000), .ref q_43, .ref q_59, .int (nI 0), .null, .null, .int (nI 0), .int (nI 0), .int (nI 0), .null, .null]) := by rw [ef_69]; exact xset_eq
  refine lv_aload_n hx hb dX5_init_52 rfl (lv_at hl 0 rfl) ?_
  refine lv_bipush (v := nI 40) hx hb dX5_init_53 rfl ?_
  refine x_newi hx hb 1006 (hts _ q84) hK hH hS hA rfl (by decide) (Nat.le_of_ble_eq_true rfl) (Nat.le_of_ble_eq_true rfl) dX5_init_55 (fun q_77 H f_78 ef_78 hn_79 hH hS => ?_)
  refine x_norm (g2 := F0 m 57 ls [.ref q_77, .ref mm]) (k := 6) (n := 318) (Nat.le_refl _) (Nat.le_refl _) rfl ?_
  have h_80 : f_78 q_1 = some (xN G 1001 54 (fun _ => 0)) := by rw [ef_78, xset_ne (xneN h_70 hn_79)]; exact h_70
  have h_81 : f_78 q_11 = some (xN G 1002 17 (fun _ => 0)) := by rw [ef_78, xset_ne (xneN h_71 hn_79)]; exact h_71
  have h_82 : f_78 q_23 = some (xN G 1003 17 (fun _ => 0)) := by rw [ef_78, xset_ne (xneN h_72 hn_79)]; exact h_72
  have h_83 : f_78 q_43 = some (xN G 1004 180 (fun _ => 0)) := by rw [ef_78, xset_ne (xneN h_73 hn_79)]; exact h_73
  have h_84 : f_78 q_59 = some (xN G 1005 10 (fun _ => 0)) := by rw [ef_78, xset_ne (xneN h_74 hn_79)]; exact h_74
  have h_85 : f_78 mm = some (xO 1000 4 [.int (nI 0), .ref q_1, .int (nI 0), .ref q_11, .ref q_23, .int (nI 1000), .ref q_43, .ref q_59, .int (nI 0), .null, .null, .int (nI 0), .int (nI 0), .int (nI 0), .null, .null]) := by rw [ef_78, xset_ne (xneN h_76 hn_79)]; exact h_76
  have hkp_86 : xkeep 1000 1010 f f_78 := by rw [ef_78]; exact hkp_75.new hn_79
  have h_87 : f_78 q_77 = some (xN G 1006 40 (fun _ => 0)) := by rw [ef_78]; exact xset_eq
  refine x_putF (C := RX5) (T := TX5) (N := 16) (ci := 4) (v := .ref q_77) (ty := (tyX5 9)) hx hb hts in_X5 tyX5_ok nmX5 hown hK hH hS h_85 rfl 9 (by decide) (hts _ q986) (fun _ h9 => h9) rfl (hnm.trans rfl) rfl (by decide +kernel) rfl rfl (Nat.le_of_ble_eq_true rfl) dX5_init_57 (fun H locs f_88 ef_88 hH hS => ?_)
  have h_89 : f_88 q_1 = some (xN G 1001 54 (fun _ => 0)) := by rw [ef_88, xset_ne (xne h_80 h_85 (by decide))]; exact h_80
  have h_90 : f_88 q_11 = some (xN G 1002 17 (fun _ => 0)) := by rw [ef_88, xset_ne (xne h_81 h_85 (by decide))]; exact h_81
  have h_91 : f_88 q_23 = some (xN G 1003 17 (fun _ => 0)) := by rw [ef_88, xset_ne (xne h_82 h_85 (by decide))]; exact h_82
  have h_92 : f_88 q_43 = some (xN G 1004 180 (fun _ => 0)) := by rw [ef_88, xset_ne (xne h_83 h_85 (by decide))]; exact h_83
  have h_93 : f_88 q_59 = some (xN G 1005 10 (fun _ => 0)) := by rw [ef_88, xset_ne (xne h_84 h_85 (by decide))]; exact h_84
  have h_94 : f_88 q_77 = some (xN G 1006 40 (fun _ => 0)) := by rw [ef_88, xset_ne (xne h_87 h_85 (by decide))]; exact h_87
  have hkp_95 : xkeep 1000 1010 f f_88 := by rw [ef_88]; exact hkp_86.set h_85 (by decide)
  have h_96 : f_88 mm = some (xO 1000 4 [.int (nI 0), .ref q_1, .int (nI 0), .ref q_11, .ref q_23, .int (nI 1000), .ref q_43, .ref q_59, .int (nI 0), .ref q_77, .null, .int (nI 0), .int (nI 0), .int (nI 0), .null, .null]) := by rw [ef_88]; exact xset_eq
  refine lv_aload_n hx hb dX5_init_60 rfl (lv_at hl 0 rfl) ?_
  refine lv_bipush (v := nI 40) hx hb dX5_init_61 rfl ?_
  refine x_newi hx hb 1007 (hts _ q84) hK hH hS hA rfl (by decide) (Nat.le_of_ble_eq_true rfl) (Nat.le_of_ble_eq_true rfl) dX5_init_63 (fun q_97 H f_98 ef_98 hn_99 hH hS => ?_)
  refine x_norm (g2 := F0 m 65 ls [.ref q_97, .ref mm]) (k := 7) (n := 358) (Nat.le_refl _) (Nat.le_refl _) rfl ?_
  have h_100 : f_98 q_1 = some (xN G 1001 54 (fun _ => 0)) := by rw [ef_98, xset_ne (xneN h_89 hn_99)]; exact h_89
  have h_101 : f_98 q_11 = some (xN G 1002 17 (fun _ => 0)) := by rw [ef_98, xset_ne (xneN h_90 hn_99)]; exact h_90
  have h_102 : f_98 q_23 = some (xN G 1003 17 (fun _ => 0)) := by rw [ef_98, xset_ne (xneN h_91 hn_99)]; exact h_91
  have h_103 : f_98 q_43 = some (xN G 1004 180 (fun _ => 0)) := by rw [ef_98, xset_ne (xneN h_92 hn_99)]; exact h_92
  have h_104 : f_98 q_59 = some (xN G 1005 10 (fun _ => 0)) := by rw [ef_98, xset_ne (xneN h_93 hn_99)]; exact h_93
  have h_105 : f_98 q_77 = some (xN G 1006 40 (fun _ => 0)) := by rw [ef_98, xset_ne (xneN h_94 hn_99)]; exact h_94
  have h_106 : f_98 mm = some (xO 1000 4 [.int (nI 0), .ref q_1, .int (nI 0), .ref q_11, .ref q_23, .int (nI 1000), .ref q_43, .ref q_59, .int (nI 0), .ref q_77, .null, .int (nI 0), .int (nI 0), .int (nI 0), .null, .null]) := by rw [ef_98, xset_ne (xneN h_96 hn_99)]; exact h_96
  have hkp_107 : xkeep 1000 1010 f f_98 := by rw [ef_98]; exact hkp_95.new hn_99
  have h_108 : f_98 q_97 = some (xN G 1007 40 (fun _ => 0)) := by rw [ef_98]; exact xset_eq
  refine x_putF (C := RX5) (T := TX5) (N := 16) (ci := 4) (v := .ref q_97) (ty := (tyX5 10)) hx hb hts in_X5 tyX5_ok nmX5 hown hK hH hS h_106 rfl 10 (by decide) (hts _ q987) (fun _ h9 => h9) rfl (hnm.trans rfl) rfl (by decide +kernel) rfl rfl (Nat.le_of_ble_eq_true rfl) dX5_init_65 (fun H locs f_109 ef_109 hH hS => ?_)
  have h_110 : f_109 q_1 = some (xN G 1001 54 (fun _ => 0)) := by rw [ef_109, xset_ne (xne h_100 h_106 (by decide))]; exact h_100
  have h_111 : f_109 q_11 = some (xN G 1002 17 (fun _ => 0)) := by rw [ef_109, xset_ne (xne h_101 h_106 (by decide))]; exact h_101
  have h_112 : f_109 q_23 = some (xN G 1003 17 (fun _ => 0)) := by rw [ef_109, xset_ne (xne h_102 h_106 (by decide))]; exact h_102
  have h_113 : f_109 q_43 = some (xN G 1004 180 (fun _ => 0)) := by rw [ef_109, xset_ne (xne h_103 h_106 (by decide))]; exact h_103
  have h_114 : f_109 q_59 = some (xN G 1005 10 (fun _ => 0)) := by rw [ef_109, xset_ne (xne h_104 h_106 (by decide))]; exact h_104
  have h_115 : f_109 q_77 = some (xN G 1006 40 (fun _ => 0)) := by rw [ef_109, xset_ne (xne h_105 h_106 (by decide))]; exact h_105
  have h_116 : f_109 q_97 = some (xN G 1007 40 (fun _ => 0)) := by rw [ef_109, xset_ne (xne h_108 h_106 (by decide))]; exact h_108
  have hkp_117 : xkeep 1000 1010 f f_109 := by rw [ef_109]; exact hkp_107.set h_106 (by decide)
  have h_118 : f_109 mm = some (xO 1000 4 [.int (nI 0), .ref q_1, .int (nI 0), .ref q_11, .ref q_23, .int (nI 1000), .ref q_43, .ref q_59, .int (nI 0), .ref q_77, .ref q_97, .int (nI 0), .int (nI 0), .int (nI 0), .null, .null]) := by rw [ef_109]; exact xset_eq
  refine lv_aload_n hx hb dX5_init_68 rfl (lv_at hl 0 rfl) ?_
  refine lv_sipush (v := nI 250) hx hb dX5_init_69 rfl ?_
  refine x_newi hx hb 1008 (hts _ q84) hK hH hS hA rfl (by decide) (Nat.le_of_ble_eq_true rfl) (Nat.le_of_ble_eq_true rfl) dX5_init_72 (fun q_119 H f_120 ef_120 hn_121 hH hS => ?_)
  refine x_norm (g2 := F0 m 74 ls [.ref q_119, .ref mm]) (k := 8) (n := 608) (Nat.le_refl _) (Nat.le_refl _) rfl ?_
  have h_122 : f_120 q_1 = some (xN G 1001 54 (fun _ => 0)) := by rw [ef_120, xset_ne (xneN h_110 hn_121)]; exact h_110
  have h_123 : f_120 q_11 = some (xN G 1002 17 (fun _ => 0)) := by rw [ef_120, xset_ne (xneN h_111 hn_121)]; exact h_111
  have h_124 : f_120 q_23 = some (xN G 1003 17 (fun _ => 0)) := by rw [ef_120, xset_ne (xneN h_112 hn_121)]; exact h_112
  have h_125 : f_120 q_43 = some (xN G 1004 180 (fun _ => 0)) := by rw [ef_120, xset_ne (xneN h_113 hn_121)]; exact h_113
  have h_126 : f_120 q_59 = some (xN G 1005 10 (fun _ => 0)) := by rw [ef_120, xset_ne (xneN h_114 hn_121)]; exact h_114
  have h_127 : f_120 q_77 = some (xN G 1006 40 (fun _ => 0)) := by rw [ef_120, xset_ne (xneN h_115 hn_121)]; exact h_115
  have h_128 : f_120 q_97 = some (xN G 1007 40 (fun _ => 0)) := by rw [ef_120, xset_ne (xneN h_116 hn_121)]; exact h_116
  have h_129 : f_120 mm = some (xO 1000 4 [.int (nI 0), .ref q_1, .int (nI 0), .ref q_11, .ref q_23, .int (nI 1000), .ref q_43, .ref q_59, .int (nI 0), .ref q_77, .ref q_97, .int (nI 0), .int (nI 0), .int (nI 0), .null, .null]) := by rw [ef_120, xset_ne (xneN h_118 hn_121)]; exact h_118
  have hkp_130 : xkeep 1000 1010 f f_120 := by rw [ef_120]; exact hkp_117.new hn_121
  have h_131 : f_120 q_119 = some (xN G 1008 250 (fun _ => 0)) := by rw [ef_120]; exact xset_eq
  refine x_putF (C := RX5) (T := TX5) (N := 16) (ci := 4) (v := .ref q_119) (ty := (tyX5 14)) hx hb hts in_X5 tyX5_ok nmX5 hown hK hH hS h_129 rfl 14 (by decide) (hts _ q991) (fun _ h9 => h9) rfl (hnm.trans rfl) rfl (by decide +kernel) rfl rfl (Nat.le_of_ble_eq_true rfl) dX5_init_74 (fun H locs f_132 ef_132 hH hS => ?_)
  have h_133 : f_132 q_1 = some (xN G 1001 54 (fun _ => 0)) := by rw [ef_132, xset_ne (xne h_122 h_129 (by decide))]; exact h_122
  have h_134 : f_132 q_11 = some (xN G 1002 17 (fun _ => 0)) := by rw [ef_132, xset_ne (xne h_123 h_129 (by decide))]; exact h_123
  have h_135 : f_132 q_23 = some (xN G 1003 17 (fun _ => 0)) := by rw [ef_132, xset_ne (xne h_124 h_129 (by decide))]; exact h_124
  have h_136 : f_132 q_43 = some (xN G 1004 180 (fun _ => 0)) := by rw [ef_132, xset_ne (xne h_125 h_129 (by decide))]; exact h_125
  have h_137 : f_132 q_59 = some (xN G 1005 10 (fun _ => 0)) := by rw [ef_132, xset_ne (xne h_126 h_129 (by decide))]; exact h_126
  have h_138 : f_132 q_77 = some (xN G 1006 40 (fun _ => 0)) := by rw [ef_132, xset_ne (xne h_127 h_129 (by decide))]; exact h_127
  have h_139 : f_132 q_97 = some (xN G 1007 40 (fun _ => 0)) := by rw [ef_132, xset_ne (xne h_128 h_129 (by decide))]; exact h_128
  have h_140 : f_132 q_119 = some (xN G 1008 250 (fun _ => 0)) := by rw [ef_132, xset_ne (xne h_131 h_129 (by decide))]; exact h_131
  have hkp_141 : xkeep 1000 1010 f f_132 := by rw [ef_132]; exact hkp_130.set h_129 (by decide)
  have h_142 : f_132 mm = some (xO 1000 4 [.int (nI 0), .ref q_1, .int (nI 0), .ref q_11, .ref q_23, .int (nI 1000), .ref q_43, .ref q_59, .int (nI 0), .ref q_77, .ref q_97, .int (nI 0), .int (nI 0), .int (nI 0), .ref q_119, .null]) := by rw [ef_132]; exact xset_eq
  refine lv_aload_n hx hb dX5_init_77 rfl (lv_at hl 0 rfl) ?_
  refine lv_bipush (v := nI 9) hx hb dX5_init_78 rfl ?_
  refine x_newi hx hb 1009 (hts _ q84) hK hH hS hA rfl (by decide) (Nat.le_of_ble_eq_true rfl) (Nat.le_of_ble_eq_true rfl) dX5_init_80 (fun q_143 H f_144 ef_144 hn_145 hH hS => ?_)
  refine x_norm (g2 := F0 m 82 ls [.ref q_143, .ref mm]) (k := 9) (n := 617) (Nat.le_refl _) (Nat.le_refl _) rfl ?_
  have h_146 : f_144 q_1 = some (xN G 1001 54 (fun _ => 0)) := by rw [ef_144, xset_ne (xneN h_133 hn_145)]; exact h_133
  have h_147 : f_144 q_11 = some (xN G 1002 17 (fun _ => 0)) := by rw [ef_144, xset_ne (xneN h_134 hn_145)]; exact h_134
  have h_148 : f_144 q_23 = some (xN G 1003 17 (fun _ => 0)) := by rw [ef_144, xset_ne (xneN h_135 hn_145)]; exact h_135
  have h_149 : f_144 q_43 = some (xN G 1004 180 (fun _ => 0)) := by rw [ef_144, xset_ne (xneN h_136 hn_145)]; exact h_136
  have h_150 : f_144 q_59 = some (xN G 1005 10 (fun _ => 0)) := by rw [ef_144, xset_ne (xneN h_137 hn_145)]; exact h_137
  have h_151 : f_144 q_77 = some (xN G 1006 40 (fun _ => 0)) := by rw [ef_144, xset_ne (xneN h_138 hn_145)]; exact h_138
  have h_152 : f_144 q_97 = some (xN G 1007 40 (fun _ => 0)) := by rw [ef_144, xset_ne (xneN h_139 hn_145)]; exact h_139
  have h_153 : f_144 q_119 = some (xN G 1008 250 (fun _ => 0)) := by rw [ef_144, xset_ne (xneN h_140 hn_145)]; exact h_140
  have h_154 : f_144 mm = some (xO 1000 4 [.int (nI 0), .ref q_1, .int (nI 0), .ref q_11, .ref q_23, .int (nI 1000), .ref q_43, .ref q_59, .int (nI 0), .ref q_77, .ref q_97, .int (nI 0), .int (nI 0), .int (nI 0), .ref q_119, .null]) := by rw [ef_144, xset_ne (xneN h_142 hn_145)]; exact h_142
  have hkp_155 : xkeep 1000 1010 f f_144 := by rw [ef_144]; exact hkp_141.new hn_145
  have h_156 : f_144 q_143 = some (xN G 1009 9 (fun _ => 0)) := by rw [ef_144]; exact xset_eq
  refine x_putF (C := RX5) (T := TX5) (N := 16) (ci := 4) (v := .ref q_143) (ty := (tyX5 15)) hx hb hts in_X5 tyX5_ok nmX5 hown hK hH hS h_154 rfl 15 (by decide) (hts _ q992) (fun _ h9 => h9) rfl (hnm.trans rfl) rfl (by decide +kernel) rfl rfl (Nat.le_of_ble_eq_true rfl) dX5_init_82 (fun H locs f_157 ef_157 hH hS => ?_)
  have h_158 : f_157 q_1 = some (xN G 1001 54 (fun _ => 0)) := by rw [ef_157, xset_ne (xne h_146 h_154 (by decide))]; exact h_146
  have h_159 : f_157 q_11 = some (xN G 1002 17 (fun _ => 0)) := by rw [ef_157, xset_ne (xne h_147 h_154 (by decide))]; exact h_147
  have h_160 : f_157 q_23 = some (xN G 1003 17 (fun _ => 0)) := by rw [ef_157, xset_ne (xne h_148 h_154 (by decide))]; exact h_148
  have h_161 : f_157 q_43 = some (xN G 1004 180 (fun _ => 0)) := by rw [ef_157, xset_ne (xne h_149 h_154 (by decide))]; exact h_149
  have h_162 : f_157 q_59 = some (xN G 1005 10 (fun _ => 0)) := by rw [ef_157, xset_ne (xne h_150 h_154 (by decide))]; exact h_150
  have h_163 : f_157 q_77 = some (xN G 1006 40 (fun _ => 0)) := by rw [ef_157, xset_ne (xne h_151 h_154 (by decide))]; exact h_151
  have h_164 : f_157 q_97 = some (xN G 1007 40 (fun _ => 0)) := by rw [ef_157, xset_ne (xne h_152 h_154 (by decide))]; exact h_152
  have h_165 : f_157 q_119 = some (xN G 1008 250 (fun _ => 0)) := by rw [ef_157, xset_ne (xne h_153 h_154 (by decide))]; exact h_153
  have h_166 : f_157 q_143 = some (xN G 1009 9 (fun _ => 0)) := by rw [ef_157, xset_ne (xne h_156 h_154 (by decide))]; exact h_156
  have hkp_167 : xkeep 1000 1010 f f_157 := by rw [ef_157]; exact hkp_155.set h_154 (by decide)
  have h_168 : f_157 mm = some (xO 1000 4 [.int (nI 0), .ref q_1, .int (nI 0), .ref q_11, .ref q_23, .int (nI 1000), .ref q_43, .ref q_59, .int (nI 0), .ref q_77, .ref q_97, .int (nI 0), .int (nI 0), .int (nI 0), .ref q_119, .ref q_143]) := by rw [ef_157]; exact xset_eq
  refine lv_aload_n hx hb dX5_init_85 rfl (lv_at hl 0 rfl) ?_
  refine x_get (C := RX5) (T := TX5) (N := 16) (ci := 4) (v := .ref q_11) hx hb hts in_X5 hown hK hH h_168 rfl 3 (by decide) (hts _ q980) (fun _ h9 => h9) rfl dX5_init_86 ?_
  refine lv_bipush (v := nI 16) hx hb dX5_init_89 rfl ?_
  refine lv_iconst (v := nI 4) hx hb dX5_init_91 rfl ?_
  refine x_iast (j := 16) (v := 4) hx hb hK hH hS h_159 rfl (by omega) (by decide) rfl dX5_init_92 (fun H locs f_169 ef_169 hH hS => ?_)
  have h_170 : f_169 q_1 = some (xN G 1001 54 (fun _ => 0)) := by rw [ef_169, xset_ne (xne h_158 h_159 (by decide))]; exact h_158
  have h_171 : f_169 q_23 = some (xN G 1003 17 (fun _ => 0)) := by rw [ef_169, xset_ne (xne h_160 h_159 (by decide))]; exact h_160
  have h_172 : f_169 q_43 = some (xN G 1004 180 (fun _ => 0)) := by rw [ef_169, xset_ne (xne h_161 h_159 (by decide))]; exact h_161
  have h_173 : f_169 q_59 = some (xN G 1005 10 (fun _ => 0)) := by rw [ef_169, xset_ne (xne h_162 h_159 (by decide))]; exact h_162
  have h_174 : f_169 q_77 = some (xN G 1006 40 (fun _ => 0)) := by rw [ef_169, xset_ne (xne h_163 h_159 (by decide))]; exact h_163
  have h_175 : f_169 q_97 = some (xN G 1007 40 (fun _ => 0)) := by rw [ef_169, xset_ne (xne h_164 h_159 (by decide))]; exact h_164
  have h_176 : f_169 q_119 = some (xN G 1008 250 (fun _ => 0)) := by rw [ef_169, xset_ne (xne h_165 h_159 (by decide))]; exact h_165
  have h_177 : f_169 q_143 = some (xN G 1009 9 (fun _ => 0)) := by rw [ef_169, xset_ne (xne h_166 h_159 (by decide))]; exact h_166
  have h_178 : f_169 mm = some (xO 1000 4 [.int (nI 0), .ref q_1, .int (nI 0), .ref q_11, .ref q_23, .int (nI 1000), .ref q_43, .ref q_59, .int (nI 0), .ref q_77, .ref q_97, .int (nI 0), .int (nI 0), .int (nI 0), .ref q_119, .ref q_143]) := by rw [ef_169, xset_ne (xne h_168 h_159 (by decide))]; exact h_168
  have hkp_179 : xkeep 1000 1010 f f_169 := by rw [ef_169]; exact hkp_167.set h_159 (by decide)
  have h_180 : f_169 q_11 = some (xN G 1002 17 (va_up (fun _ => 0) 16 4)) := by rw [ef_169]; exact xset_eq
  exact x_vret hx hb hr hlk hH hS ⟨rfl, (fun k => [q_1, q_11, q_23, q_43, q_59, q_77, q_97, q_119, q_143].getD k 0), ⟨h_178, fun k hk => by rcases (show k = 0 ∨ k = 1 ∨ k = 2 ∨ k = 3 ∨ k = 4 ∨ k = 5 ∨ k = 6 ∨ k = 7 ∨ k = 8 by omega) with rfl | rfl | rfl | rfl | rfl | rfl | rfl | rfl | rfl; exact h_170; exact h_180; exact h_171; exact h_172; exact h_173; exact h_174; exact h_175; exact h_176; exact h_177⟩, hkp_179⟩ (Nat.le_of_ble_eq_true rfl) (Nat.le_of_ble_eq_true rfl) dX5_init_93
