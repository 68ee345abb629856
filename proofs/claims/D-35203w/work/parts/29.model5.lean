/-! THE MODEL, fair (printed by genm.py) -/
set_option maxRecDepth 100000
abbrev rmX5_findsBehind : Room := { frames := 4, cells := 0, slots := 0, locals := 160 }
set_option maxHeartbeats 4000000 in
set_option maxRecDepth 100000 in
theorem mX5_findsBehind (l : Launch) (G : xG) (A : Nat → Prop) (f : xF) {mm : Nat} {ad : Nat → Nat} {th nw ln nt sl td la : Nat} {hf sa sw lf cf dd tt bh li : Nat → Nat} (hM : MM G f mm ad th nw ln nt sl td la hf sa sw lf cf dd tt bh li) (hB : ∀ w s, w < 6 → s < 9 → h2 hf w s ≤ 200) (w9 tol : Nat) (hw : w9 < 6) (htol : tol < 3) : xMet l yX5_findsBehind cX5_findsBehind 5 none rmX5_findsBehind G A f [.ref mm, .int (nI w9), .int (nI tol)] (fun v f1 => v = none ∧ ∃ bh1 : Nat → Nat, MM G f1 mm ad th nw ln nt sl td la hf sa sw lf cf dd tt bh1 li ∧ behP (h2 hf w9) tol 0 bh1 ∧ xkeep 1000 1010 f f1) := by
  refine x_start (by decide) (Nat.le_of_ble_eq_true rfl) ?_
  intro p e s m below meth c ls X hH hS hl
  obtain ⟨hx, hb, hr, hlk, hml, hown, hts, hK, hC, hA, hnm, hmn⟩ := X
  have hl : lv_has ls 5 [(0, .ref mm), (1, .int (nI w9)), (2, .int (nI tol))] := hl
  have hkp0 : xkeep 1000 1010 f f := xkeep.refl
  refine lv_iconst (v := nI 0) hx hb dX5_findsBehind_0 rfl ?_
  refine lv_istore_n (lv' := [(3, .int (nI 0)), (0, .ref mm), (1, .int (nI w9)), (2, .int (nI tol))]) hx hb dX5_findsBehind_1 rfl hl (by decide) rfl (fun ls hl => ?_)
  have hloop2 : ∀ (n : Nat) (k : Nat) (bhA : Nat → Nat) (fL2 : xF) (H : Heap) (locs : List Loc) (ls : Array Slot), k ≤ 25 → MM G fL2 mm ad th nw ln nt sl td la hf sa sw lf cf dd tt bhA li → xkeep 1000 1010 f fL2 → behR (h2 hf w9) tol 8 k bhA → (25 - k) < n → xH G A fL2 H → va_S A s.heap H locs → lv_has ls 5 [(3, .int (nI k)), (0, .ref mm), (1, .int (nI w9)), (2, .int (nI tol))] → W p l e rmX5_findsBehind s m ([.ref mm, .int (nI w9), .int (nI tol)] : List Value).toArray below meth c H locs 0 0 (MQ below (xQ G A (fun v f1 => v = none ∧ ∃ bh1 : Nat → Nat, MM G f1 mm ad th nw ln nt sl td la hf sa sw lf cf dd tt bh1 li ∧ behP (h2 hf w9) tol 0 bh1 ∧ xkeep 1000 1010 f f1)) ([.ref mm, .int (nI w9), .int (nI tol)] : List Value).toArray s rmX5_findsBehind.cells rmX5_findsBehind.slots A) (F0 m 2 ls []) := by
    intro n
    induction n with
    | zero => intro k bhA fL2 H locs ls hk hML2 hkL2 hR hn; exact absurd hn (Nat.not_lt_zero _)
    | succ n ih2 =>
      intro k bhA fL2 H locs ls hk hML2 hkL2 hR hn hH hS hl
      refine lv_iload_n hx hb dX5_findsBehind_2 rfl (lv_at hl 0 rfl) ?_
      refine lv_bipush (v := nI 25) hx hb dX5_findsBehind_3 rfl ?_
      refine x_icmp_ge (tgt := 27) (P := 25 ≤ k) hx hb dX5_findsBehind_5 (by decide) (nI_le' (by decide) (by omega)) (fun c5 => ?_) (fun c5 => ?_)
      · skip
        rw [show k = 25 by omega] at hR
        refine lv_bipush (v := nI 7) hx hb dX5_findsBehind_27 rfl ?_
        refine lv_istore_n (lv' := [(3, .int (nI 7)), (0, .ref mm), (1, .int (nI w9)), (2, .int (nI tol))]) hx hb dX5_findsBehind_29 rfl hl (by decide) rfl (fun ls hl => ?_)
        have hloop30 : ∀ (n : Nat) (t : Nat) (bhB : Nat → Nat) (fL30 : xF) (H : Heap) (locs : List Loc) (ls : Array Slot), t ≤ 7 → MM G fL30 mm ad th nw ln nt sl td la hf sa sw lf cf dd tt bhB li → xkeep 1000 1010 f fL30 → behP (h2 hf w9) tol (7 - t) bhB → (7 - t) < n → xH G A fL30 H → va_S A s.heap H locs → lv_has ls 5 [(3, .int (oI (7 - ((t : Nat) : Int)))), (0, .ref mm), (1, .int (nI w9)), (2, .int (nI tol))] → W p l e rmX5_findsBehind s m ([.ref mm, .int (nI w9), .int (nI tol)] : List Value).toArray below meth c H locs 0 0 (MQ below (xQ G A (fun v f1 => v = none ∧ ∃ bh1 : Nat → Nat, MM G f1 mm ad th nw ln nt sl td la hf sa sw lf cf dd tt bh1 li ∧ behP (h2 hf w9) tol 0 bh1 ∧ xkeep 1000 1010 f f1)) ([.ref mm, .int (nI w9), .int (nI tol)] : List Value).toArray s rmX5_findsBehind.cells rmX5_findsBehind.slots A) (F0 m 30 ls []) := by
          intro n
          induction n with
          | zero => intro t bhB fL30 H locs ls ht hML30 hkL30 hP hn; exact absurd hn (Nat.not_lt_zero _)
          | succ n ih30 =>
            intro t bhB fL30 H locs ls ht hML30 hkL30 hP hn hH hS hl
            refine lv_iload_n hx hb dX5_findsBehind_30 rfl (lv_at hl 0 rfl) ?_
            refine x_if_le (tgt := 83) (P := 7 - ((t : Nat) : Int) ≤ 0) hx hb dX5_findsBehind_31 (by decide) (oI_le' rfl oI_0 ⟨by omega, by omega⟩ (by decide)) (fun c31 => ?_) (fun c31 => ?_)
            · skip
              exact x_vret hx hb hr hlk hH hS ⟨rfl, _, hML30, (by rw [show 7 - t = 0 by omega] at hP; exact hP), hkL30⟩ (Nat.le_of_ble_eq_true rfl) (Nat.le_of_ble_eq_true rfl) dX5_findsBehind_83
            · skip
              have e_3 : (oI (7 - ((t : Nat) : Int)) : Int32) = nI (7 - t) := oI_nI (by omega)
              have hl : lv_has ls 5 [(3, .int (nI (7 - t))), (0, .ref mm), (1, .int (nI w9)), (2, .int (nI tol))] := xl_eq hl (xl_cons (congrArg (fun x => ((3 : Nat), Value.int x)) e_3) rfl)
              refine lv_iconst (v := nI 0) hx hb dX5_findsBehind_34 rfl ?_
              refine lv_istore (lv' := [(4, .int (nI 0)), (3, .int (nI (7 - t))), (0, .ref mm), (1, .int (nI w9)), (2, .int (nI tol))]) hx hb dX5_findsBehind_35 hl (by decide) rfl (fun ls hl => ?_)
              have hloop37 : ∀ (n : Nat) (k2 : Nat) (bhC : Nat → Nat) (fL37 : xF) (H : Heap) (locs : List Loc) (ls : Array Slot), k2 ≤ 25 → MM G fL37 mm ad th nw ln nt sl td la hf sa sw lf cf dd tt bhC li → xkeep 1000 1010 f fL37 → behP (h2 hf w9) tol (7 - t) bhC → behR (h2 hf w9) tol (7 - t) k2 bhC → (25 - k2) < n → xH G A fL37 H → va_S A s.heap H locs → lv_has ls 5 [(4, .int (nI k2)), (3, .int (nI (7 - t))), (0, .ref mm), (1, .int (nI w9)), (2, .int (nI tol))] → W p l e rmX5_findsBehind s m ([.ref mm, .int (nI w9), .int (nI tol)] : List Value).toArray below meth c H locs 0 0 (MQ below (xQ G A (fun v f1 => v = none ∧ ∃ bh1 : Nat → Nat, MM G f1 mm ad th nw ln nt sl td la hf sa sw lf cf dd tt bh1 li ∧ behP (h2 hf w9) tol 0 bh1 ∧ xkeep 1000 1010 f f1)) ([.ref mm, .int (nI w9), .int (nI tol)] : List Value).toArray s rmX5_findsBehind.cells rmX5_findsBehind.slots A) (F0 m 37 ls []) := by
                intro n
                induction n with
                | zero => intro k2 bhC fL37 H locs ls hk2 hML37 hkL37 hQ hR2 hn; exact absurd hn (Nat.not_lt_zero _)
                | succ n ih37 =>
                  intro k2 bhC fL37 H locs ls hk2 hML37 hkL37 hQ hR2 hn hH hS hl
                  refine lv_iload hx hb dX5_findsBehind_37 (lv_at hl 0 rfl) ?_
                  refine lv_bipush (v := nI 25) hx hb dX5_findsBehind_39 rfl ?_
                  refine x_icmp_ge (tgt := 77) (P := 25 ≤ k2) hx hb dX5_findsBehind_41 (by decide) (nI_le' (by decide) (by omega)) (fun c41 => ?_) (fun c41 => ?_)
                  · skip
                    rw [show k2 = 25 by omega] at hR2
                    refine lv_iinc (v := oI (((7 - t : Nat) : Int) + (-1))) (lv' := [(3, .int (oI (((7 - t : Nat) : Int) + (-1)))), (4, .int (nI k2)), (0, .ref mm), (1, .int (nI w9)), (2, .int (nI tol))]) hx hb dX5_findsBehind_77 hl (k := 1) rfl (oI_add' (nI_oI _) rfl) (by decide) rfl (fun ls hl => ?_)
                    refine lv_goto (tgt := 30) hx hb dX5_findsBehind_80 (by decide) ?_
                    have e_5 : (oI (((7 - t : Nat) : Int) + (-1)) : Int32) = oI (7 - (((t + 1) : Nat) : Int)) := by unfold oI; congr 1; omega
                    have hl : lv_has ls 5 [(3, .int (oI (7 - (((t + 1) : Nat) : Int)))), (4, .int (nI k2)), (0, .ref mm), (1, .int (nI w9)), (2, .int (nI tol))] := xl_eq hl (xl_cons (congrArg (fun x => ((3 : Nat), Value.int x)) e_5) rfl)
                    exact ih30 (t + 1) bhC fL37 _ _ _ (by omega) hML37 hkL37 (behP_step (by omega) hQ hR2) (by omega) hH hS (lv_sub hl [0, 2, 3, 4] rfl)
                  · skip
                    refine lv_aload_n hx hb dX5_findsBehind_44 rfl (lv_at hl 2 rfl) ?_
                    refine x_get (C := RX5) (T := TX5) (N := 16) (ci := 4) (v := .ref (ad 7)) hx hb hts in_X5 hown hK hH hML37.1 rfl 14 (by decide) (hts _ q991) (fun _ h9 => h9) rfl dX5_findsBehind_45 ?_
                    refine lv_iload_n hx hb dX5_findsBehind_48 rfl (lv_at hl 1 rfl) ?_
                    refine lv_iconst (v := nI 0) hx hb dX5_findsBehind_49 rfl ?_
                    refine lv_iload hx hb dX5_findsBehind_50 (lv_at hl 0 rfl) ?_
                    refine x_S (n := 3) (As := [.int (nI (7 - t)), .int (nI 0), .int (nI k2)]) (rest := [.ref (ad 7)]) ⟨hx, hb, hml, hown, hts⟩ hK hC hA hH hS (mX5_place l G A fL37 (7 - t) 0 k2) q1070 q1071 q38 q1072 (by decide +kernel) ⟨Nat.le_of_ble_eq_true rfl, Nat.le_of_ble_eq_true rfl⟩ rfl hl.1 rfl (Nat.le_of_ble_eq_true rfl) dX5_findsBehind_52 (Nat.le_of_ble_eq_true rfl) (Nat.le_of_ble_eq_true rfl) (fun v f_6 H locs hp hH hS hz => ?_)
                    obtain ⟨rfl, rfl⟩ := hp
                    refine x_norm (g2 := F0 m 55 ls [.int (nI (25 * (7 - t) + 5 * 0 + k2)), .ref (ad 7)]) (k := 0) (n := 0) (Nat.le_refl _) (Nat.le_refl _) rfl ?_
                    refine lv_aload_n hx hb dX5_findsBehind_55 rfl (lv_at hl 2 rfl) ?_
                    refine lv_iload_n hx hb dX5_findsBehind_56 rfl (lv_at hl 3 rfl) ?_
                    refine lv_iload_n hx hb dX5_findsBehind_57 rfl (lv_at hl 1 rfl) ?_
                    refine lv_iload hx hb dX5_findsBehind_58 (lv_at hl 0 rfl) ?_
                    refine lv_iconst (v := nI 5) hx hb dX5_findsBehind_60 rfl ?_
                    refine x_idivN hx hb (by omega) (by decide) (by decide) dX5_findsBehind_61 ?_
                    refine lv_iload hx hb dX5_findsBehind_62 (lv_at hl 0 rfl) ?_
                    refine lv_iconst (v := nI 5) hx hb dX5_findsBehind_64 rfl ?_
                    refine x_iremN hx hb (by omega) (by decide) (by decide) dX5_findsBehind_65 ?_
                    refine lv_iload_n hx hb dX5_findsBehind_66 rfl (lv_at hl 4 rfl) ?_
                    refine x_V (n := 5) (As := [.int (nI w9), .int (nI (7 - t)), .int (nI (k2 / 5)), .int (nI (k2 % 5)), .int (nI tol)]) (rest := [.int (nI (25 * (7 - t) + 5 * 0 + k2)), .ref (ad 7)]) ⟨hx, hb, hml, hown, hts⟩ hK hC hA hH hS (mX5_leastBy l G A fL37 hML37 hB w9 (7 - t) (k2 / 5) (k2 % 5) tol (by omega) ⟨by omega, by omega⟩ (by omega) (by omega) (by omega) (fun b c hb hc => behP_le hQ (by omega) (by omega) hb hc)) q1073 q1075 qs15 q38 q1076 (by decide +kernel) ⟨Nat.le_of_ble_eq_true rfl, Nat.le_of_ble_eq_true rfl⟩ hML37.1 rfl rfl rfl hl.1 rfl (Nat.le_of_ble_eq_true rfl) dX5_findsBehind_67 (Nat.le_of_ble_eq_true rfl) (Nat.le_of_ble_eq_true rfl) (fun v f_7 H locs hp hH hS hz => ?_)
                    obtain ⟨rfl, rfl⟩ := hp
                    refine x_norm (g2 := F0 m 70 ls [.int (nI (lbN (h2 hf w9) (fun b c => bhC (25 * ((7 - t) + 1) + 5 * b + c)) tol (7 - t) (k2 / 5) (k2 % 5) 5)), .int (nI (25 * (7 - t) + 5 * 0 + k2)), .ref (ad 7)]) (k := 0) (n := 0) (Nat.le_refl _) (Nat.le_refl _) rfl ?_
                    refine x_iast (j := 25 * (7 - t) + 5 * 0 + k2) (v := lbN (h2 hf w9) (fun b c => bhC (25 * ((7 - t) + 1) + 5 * b + c)) tol (7 - t) (k2 / 5) (k2 % 5) 5) hx hb hK hH hS (show fL37 (ad 7) = some (xN G 1008 250 bhC) from hML37.2 7 (by decide)) rfl (by omega) (by decide) rfl dX5_findsBehind_70 (fun H locs f_8 ef_8 hH hS => ?_)
                    have hM_9 : MM G f_8 mm ad th nw ln nt sl td la hf sa sw lf cf dd tt (va_up bhC (25 * (7 - t) + 5 * 0 + k2) (lbN (h2 hf w9) (fun b c => bhC (25 * ((7 - t) + 1) + 5 * b + c)) tol (7 - t) (k2 / 5) (k2 % 5) 5)) li := by rw [ef_8]; exact hML37.arr7 _
                    have hkp_10 : xkeep 1000 1010 f f_8 := by rw [ef_8]; exact hkL37.set (hML37.2 7 (by decide)) (by decide)
                    refine lv_iinc (v := nI (k2 + 1)) (lv' := [(4, .int (nI (k2 + 1))), (3, .int (nI (7 - t))), (0, .ref mm), (1, .int (nI w9)), (2, .int (nI tol))]) hx hb dX5_findsBehind_71 hl (k := 0) rfl (nI_inc _) (by decide) rfl (fun ls hl => ?_)
                    refine lv_goto (tgt := 37) hx hb dX5_findsBehind_74 (by decide) ?_
                    exact ih37 (k2 + 1) (va_up bhC (25 * (7 - t) + 5 * 0 + k2) (lbN (h2 hf w9) (fun b c => bhC (25 * ((7 - t) + 1) + 5 * b + c)) tol (7 - t) (k2 / 5) (k2 % 5) 5)) f_8 _ _ _ (by omega) hM_9 hkp_10 (behP_set hQ (by omega)) (behR_set hR2 (behP_lb (by omega) hQ (by omega) (by omega))) (by omega) hH hS (lv_sub hl [0, 1, 2, 3, 4] rfl)
              exact hloop37 (25 - 0 + 1) 0 bhB fL30 _ _ _ (by omega) hML30 hkL30 hP behR_zero (Nat.lt_succ_self _) hH hS (lv_sub hl [0, 1, 2, 3, 4] rfl)
        have e_11 : (nI 7 : Int32) = oI (7 - ((0 : Nat) : Int)) := by exact (by decide : nI 7 = oI (7 - ((0 : Nat) : Int)))
        have hl : lv_has ls 5 [(3, .int (oI (7 - ((0 : Nat) : Int)))), (0, .ref mm), (1, .int (nI w9)), (2, .int (nI tol))] := xl_eq hl (xl_cons (congrArg (fun x => ((3 : Nat), Value.int x)) e_11) rfl)
        exact hloop30 (7 - 0 + 1) 0 bhA fL2 _ _ _ (by omega) hML2 hkL2 (behP_step (s := 7) (s2 := 8) rfl (fun s1 h1 h8 => absurd h8 (by omega)) hR) (Nat.lt_succ_self _) hH hS (lv_sub hl [0, 1, 2, 3] rfl)
      · skip
        refine lv_aload_n hx hb dX5_findsBehind_8 rfl (lv_at hl 1 rfl) ?_
        refine x_get (C := RX5) (T := TX5) (N := 16) (ci := 4) (v := .ref (ad 7)) hx hb hts in_X5 hown hK hH hML2.1 rfl 14 (by decide) (hts _ q991) (fun _ h9 => h9) rfl dX5_findsBehind_9 ?_
        refine lv_bipush (v := nI 8) hx hb dX5_findsBehind_12 rfl ?_
        refine lv_iconst (v := nI 0) hx hb dX5_findsBehind_14 rfl ?_
        refine lv_iload_n hx hb dX5_findsBehind_15 rfl (lv_at hl 0 rfl) ?_
        refine x_S (n := 3) (As := [.int (nI 8), .int (nI 0), .int (nI k)]) (rest := [.ref (ad 7)]) ⟨hx, hb, hml, hown, hts⟩ hK hC hA hH hS (mX5_place l G A fL2 8 0 k) q1070 q1071 q38 q1072 (by decide +kernel) ⟨Nat.le_of_ble_eq_true rfl, Nat.le_of_ble_eq_true rfl⟩ rfl hl.1 rfl (Nat.le_of_ble_eq_true rfl) dX5_findsBehind_16 (Nat.le_of_ble_eq_true rfl) (Nat.le_of_ble_eq_true rfl) (fun v f_12 H locs hp hH hS hz => ?_)
        obtain ⟨rfl, rfl⟩ := hp
        refine x_norm (g2 := F0 m 19 ls [.int (nI (25 * 8 + 5 * 0 + k)), .ref (ad 7)]) (k := 0) (n := 0) (Nat.le_refl _) (Nat.le_refl _) rfl ?_
        refine lv_iconst (v := nI 0) hx hb dX5_findsBehind_19 rfl ?_
        refine x_iast (j := 25 * 8 + 5 * 0 + k) (v := 0) hx hb hK hH hS (show fL2 (ad 7) = some (xN G 1008 250 bhA) from hML2.2 7 (by decide)) rfl (by omega) (by decide) rfl dX5_findsBehind_20 (fun H locs f_13 ef_13 hH hS => ?_)
        have hM_14 : MM G f_13 mm ad th nw ln nt sl td la hf sa sw lf cf dd tt (va_up bhA (25 * 8 + 5 * 0 + k) 0) li := by rw [ef_13]; exact hML2.arr7 _
        have hkp_15 : xkeep 1000 1010 f f_13 := by rw [ef_13]; exact hkL2.set (hML2.2 7 (by decide)) (by decide)
        refine lv_iinc (v := nI (k + 1)) (lv' := [(3, .int (nI (k + 1))), (0, .ref mm), (1, .int (nI w9)), (2, .int (nI tol))]) hx hb dX5_findsBehind_21 hl (k := 0) rfl (nI_inc _) (by decide) rfl (fun ls hl => ?_)
        refine lv_goto (tgt := 2) hx hb dX5_findsBehind_24 (by decide) ?_
        exact ih2 (k + 1) (va_up bhA (25 * 8 + 5 * 0 + k) 0) f_13 _ _ _ (by omega) hM_14 hkp_15 (behR_set hR rfl) (by omega) hH hS (lv_sub hl [0, 1, 2, 3] rfl)
  exact hloop2 (25 - 0 + 1) 0 bh f _ _ _ (by omega) hM hkp0 behR_zero (Nat.lt_succ_self _) hH hS (lv_sub hl [0, 1, 2, 3] rfl)

abbrev rmX5_laysLine : Room := { frames := 3, cells := 0, slots := 0, locals := 120 }
set_option maxHeartbeats 4000000 in
set_option maxRecDepth 100000 in
theorem mX5_laysLine (l : Launch) (G : xG) (A : Nat → Prop) (f : xF) {mm : Nat} {ad : Nat → Nat} {th nw ln nt sl td la : Nat} {hf sa sw lf cf dd tt bh li : Nat → Nat} (hM : MM G f mm ad th nw ln nt sl td la hf sa sw lf cf dd tt bh li) (hB : ∀ w s, w < 6 → s < 9 → h2 hf w s ≤ 200) (w9 tol : Nat) (hw : w9 < 6) (htol : tol < 3) (hP : behP (h2 hf w9) tol 0 bh) : xMet l yX5_laysLine cX5_laysLine 9 none rmX5_laysLine G A f [.ref mm, .int (nI w9), .int (nI tol)] (fun v f1 => v = none ∧ ∃ li1 : Nat → Nat, MM G f1 mm ad th nw ln nt sl td la hf sa sw lf cf dd tt bh li1 ∧ (∀ j, j < 9 → li1 j = LN (h2 hf w9) tol j) ∧ xkeep 1000 1010 f f1) := by
  refine x_start (by decide) (Nat.le_of_ble_eq_true rfl) ?_
  intro p e s m below meth c ls X hH hS hl
  obtain ⟨hx, hb, hr, hlk, hml, hown, hts, hK, hC, hA, hnm, hmn⟩ := X
  have hl : lv_has ls 9 [(0, .ref mm), (1, .int (nI w9)), (2, .int (nI tol))] := hl
  have hkp0 : xkeep 1000 1010 f f := xkeep.refl
  have hB9 : ∀ j, j < 9 → h2 hf w9 j ≤ 200 := fun j hj => hB w9 j hw hj
  refine lv_ldc (v := nI 100000000) hx hb hown (show (Cond.constant _ _ (nI 100000000)).before _ _ = true from (show (100000000 : Int32) = nI 100000000 from by decide) ▸ hts _ q1077) dX5_laysLine_0 ?_
  refine lv_istore_n (lv' := [(3, .int (nI 100000000)), (0, .ref mm), (1, .int (nI w9)), (2, .int (nI tol))]) hx hb dX5_laysLine_2 rfl hl (by decide) rfl (fun ls hl => ?_)
  refine lv_iconst (v := nI 0) hx hb dX5_laysLine_3 rfl ?_
  refine lv_istore (lv' := [(4, .int (nI 0)), (3, .int (nI 100000000)), (0, .ref mm), (1, .int (nI w9)), (2, .int (nI tol))]) hx hb dX5_laysLine_4 hl (by decide) rfl (fun ls hl => ?_)
  refine lv_iconst (v := nI 0) hx hb dX5_laysLine_6 rfl ?_
  refine lv_istore (lv' := [(5, .int (nI 0)), (4, .int (nI 0)), (3, .int (nI 100000000)), (0, .ref mm), (1, .int (nI w9)), (2, .int (nI tol))]) hx hb dX5_laysLine_7 hl (by decide) rfl (fun ls hl => ?_)
  have hloop9 : ∀ (n : Nat) (k : Nat) (H : Heap) (locs : List Loc) (ls : Array Slot), k ≤ 25 → (25 - k) < n → xH G A f H → va_S A s.heap H locs → lv_has ls 9 [(5, .int (nI k)), (4, .int (nI ((fl0 (h2 hf w9) tol k).2))), (3, .int (nI ((fl0 (h2 hf w9) tol k).1))), (0, .ref mm), (1, .int (nI w9)), (2, .int (nI tol))] → W p l e rmX5_laysLine s m ([.ref mm, .int (nI w9), .int (nI tol)] : List Value).toArray below meth c H locs 0 0 (MQ below (xQ G A (fun v f1 => v = none ∧ ∃ li1 : Nat → Nat, MM G f1 mm ad th nw ln nt sl td la hf sa sw lf cf dd tt bh li1 ∧ (∀ j, j < 9 → li1 j = LN (h2 hf w9) tol j) ∧ xkeep 1000 1010 f f1)) ([.ref mm, .int (nI w9), .int (nI tol)] : List Value).toArray s rmX5_laysLine.cells rmX5_laysLine.slots A) (F0 m 9 ls []) := by
    intro n
    induction n with
    | zero => intro k H locs ls hk hn; exact absurd hn (Nat.not_lt_zero _)
    | succ n ih9 =>
      intro k H locs ls hk hn hH hS hl
      have hf0 := fl0_le (h := (h2 hf w9)) (tol := tol) hk
      refine lv_iload hx hb dX5_laysLine_9 (lv_at hl 0 rfl) ?_
      refine lv_bipush (v := nI 25) hx hb dX5_laysLine_11 rfl ?_
      refine x_icmp_ge (tgt := 95) (P := 25 ≤ k) hx hb dX5_laysLine_13 (by decide) (nI_le' (by decide) (by omega)) (fun c13 => ?_) (fun c13 => ?_)
      · skip
        have hf25 := fl0_le (h := (h2 hf w9)) (tol := tol) (k := 25) (Nat.le_refl _)
        have e_2 : (nI ((fl0 (h2 hf w9) tol k).2) : Int32) = nI ((fl0 (h2 hf w9) tol 25).2) := by rw [show k = 25 by omega]
        have hl : lv_has ls 9 [(5, .int (nI k)), (4, .int (nI ((fl0 (h2 hf w9) tol 25).2))), (3, .int (nI ((fl0 (h2 hf w9) tol k).1))), (0, .ref mm), (1, .int (nI w9)), (2, .int (nI tol))] := xl_eq hl (xl_cons rfl (xl_cons (congrArg (fun x => ((4 : Nat), Value.int x)) e_2) rfl))
        refine lv_aload_n hx hb dX5_laysLine_95 rfl (lv_at hl 3 rfl) ?_
        refine x_get (C := RX5) (T := TX5) (N := 16) (ci := 4) (v := .ref (ad 8)) hx hb hts in_X5 hown hK hH hM.1 rfl 15 (by decide) (hts _ q992) (fun _ h9 => h9) rfl dX5_laysLine_96 ?_
        refine lv_iconst (v := nI 0) hx hb dX5_laysLine_99 rfl ?_
        refine lv_iload hx hb dX5_laysLine_100 (lv_at hl 1 rfl) ?_
        refine lv_iconst (v := nI 5) hx hb dX5_laysLine_102 rfl ?_
        refine x_idivN hx hb (by omega) (by decide) (by decide) dX5_laysLine_103 ?_
        refine x_iast (j := 0) (v := ((fl0 (h2 hf w9) tol 25).2) / 5) hx hb hK hH hS (show f (ad 8) = some (xN G 1009 9 li) from hM.2 8 (by decide)) rfl (by omega) (by decide) rfl dX5_laysLine_104 (fun H locs f_3 ef_3 hH hS => ?_)
        have hM_4 : MM G f_3 mm ad th nw ln nt sl td la hf sa sw lf cf dd tt bh (va_up li 0 (((fl0 (h2 hf w9) tol 25).2) / 5)) := by rw [ef_3]; exact hM.arr8 _
        have hkp_5 : xkeep 1000 1010 f f_3 := by rw [ef_3]; exact hkp0.set (hM.2 8 (by decide)) (by decide)
        refine lv_aload_n hx hb dX5_laysLine_105 rfl (lv_at hl 3 rfl) ?_
        refine x_get (C := RX5) (T := TX5) (N := 16) (ci := 4) (v := .ref (ad 8)) hx hb hts in_X5 hown hK hH hM_4.1 rfl 15 (by decide) (hts _ q992) (fun _ h9 => h9) rfl dX5_laysLine_106 ?_
        refine lv_iconst (v := nI 1) hx hb dX5_laysLine_109 rfl ?_
        refine lv_iload hx hb dX5_laysLine_110 (lv_at hl 1 rfl) ?_
        refine lv_iconst (v := nI 5) hx hb dX5_laysLine_112 rfl ?_
        refine x_iremN hx hb (by omega) (by decide) (by decide) dX5_laysLine_113 ?_
        refine x_iast (j := 1) (v := ((fl0 (h2 hf w9) tol 25).2) % 5) hx hb hK hH hS (show f_3 (ad 8) = some (xN G 1009 9 (va_up li 0 (((fl0 (h2 hf w9) tol 25).2) / 5))) from hM_4.2 8 (by decide)) rfl (by omega) (by decide) rfl dX5_laysLine_114 (fun H locs f_6 ef_6 hH hS => ?_)
        have hM_7 : MM G f_6 mm ad th nw ln nt sl td la hf sa sw lf cf dd tt bh (va_up (va_up li 0 (((fl0 (h2 hf w9) tol 25).2) / 5)) 1 (((fl0 (h2 hf w9) tol 25).2) % 5)) := by rw [ef_6]; exact hM_4.arr8 _
        have hkp_8 : xkeep 1000 1010 f f_6 := by rw [ef_6]; exact hkp_5.set (hM_4.2 8 (by decide)) (by decide)
        refine lv_iconst (v := nI 1) hx hb dX5_laysLine_115 rfl ?_
        refine lv_istore (lv' := [(5, .int (nI 1)), (4, .int (nI ((fl0 (h2 hf w9) tol 25).2))), (3, .int (nI ((fl0 (h2 hf w9) tol k).1))), (0, .ref mm), (1, .int (nI w9)), (2, .int (nI tol))]) hx hb dX5_laysLine_116 hl (by decide) rfl (fun ls hl => ?_)
        have hloop118 : ∀ (n : Nat) (s9 : Nat) (liL : Nat → Nat) (fL118 : xF) (H : Heap) (locs : List Loc) (ls : Array Slot), 1 ≤ s9 ∧ s9 ≤ 8 → MM G fL118 mm ad th nw ln nt sl td la hf sa sw lf cf dd tt bh liL → xkeep 1000 1010 f fL118 → (∀ j, j ≤ s9 → liL j = LN (h2 hf w9) tol j) → (8 - s9) < n → xH G A fL118 H → va_S A s.heap H locs → lv_has ls 9 [(5, .int (nI s9)), (0, .ref mm), (1, .int (nI w9)), (2, .int (nI tol))] → W p l e rmX5_laysLine s m ([.ref mm, .int (nI w9), .int (nI tol)] : List Value).toArray below meth c H locs 0 0 (MQ below (xQ G A (fun v f1 => v = none ∧ ∃ li1 : Nat → Nat, MM G f1 mm ad th nw ln nt sl td la hf sa sw lf cf dd tt bh li1 ∧ (∀ j, j < 9 → li1 j = LN (h2 hf w9) tol j) ∧ xkeep 1000 1010 f f1)) ([.ref mm, .int (nI w9), .int (nI tol)] : List Value).toArray s rmX5_laysLine.cells rmX5_laysLine.slots A) (F0 m 118 ls []) := by
          intro n
          induction n with
          | zero => intro s9 liL fL118 H locs ls hs hML118 hkL118 hLi hn; exact absurd hn (Nat.not_lt_zero _)
          | succ n ih118 =>
            intro s9 liL fL118 H locs ls hs hML118 hkL118 hLi hn hH hS hl
            have hl1 := hLi (s9 - 1) (by omega)
            have hl2 := hLi s9 (Nat.le_refl _)
            have hn1 := (LN_ok (tol := tol) hB9 (show s9 - 1 < 9 by omega)).1
            have hn2 := (LN_ok (tol := tol) hB9 (show s9 < 9 by omega)).1
            refine lv_iload hx hb dX5_laysLine_118 (lv_at hl 0 rfl) ?_
            refine lv_iconst (v := nI 1) hx hb dX5_laysLine_120 rfl ?_
            refine x_iadd (v := nI (s9 + 1)) hx hb (nI_add _ _) dX5_laysLine_121 ?_
            refine lv_bipush (v := nI 9) hx hb dX5_laysLine_122 rfl ?_
            refine x_icmp_ge (tgt := 243) (P := 9 ≤ (s9 + 1)) hx hb dX5_laysLine_124 (by decide) (nI_le' (by decide) (by omega)) (fun c124 => ?_) (fun c124 => ?_)
            · skip
              exact x_vret hx hb hr hlk hH hS ⟨rfl, _, hML118, fun j hj => hLi j (by omega), hkL118⟩ (Nat.le_of_ble_eq_true rfl) (Nat.le_of_ble_eq_true rfl) dX5_laysLine_243
            · skip
              have hla9 := ch_found (tol := tol) hB9 hs.1 (by omega) hn1 hn2
              refine lv_aload_n hx hb dX5_laysLine_127 rfl (lv_at hl 1 rfl) ?_
              refine x_get (C := RX5) (T := TX5) (N := 16) (ci := 4) (v := .ref (ad 7)) hx hb hts in_X5 hown hK hH hML118.1 rfl 14 (by decide) (hts _ q991) (fun _ h9 => h9) rfl dX5_laysLine_128 ?_
              refine lv_iload hx hb dX5_laysLine_131 (lv_at hl 0 rfl) ?_
              refine lv_aload_n hx hb dX5_laysLine_133 rfl (lv_at hl 1 rfl) ?_
              refine x_get (C := RX5) (T := TX5) (N := 16) (ci := 4) (v := .ref (ad 8)) hx hb hts in_X5 hown hK hH hML118.1 rfl 15 (by decide) (hts _ q992) (fun _ h9 => h9) rfl dX5_laysLine_134 ?_
              refine lv_iload hx hb dX5_laysLine_137 (lv_at hl 0 rfl) ?_
              refine lv_iconst (v := nI 1) hx hb dX5_laysLine_139 rfl ?_
              refine x_isub (v := nI (s9 - 1)) hx hb (pk_sub (by omega)) dX5_laysLine_140 ?_
              refine x_iald (j := s9 - 1) hx hb hK hH (show fL118 (ad 8) = some (xN G 1009 9 liL) from hML118.2 8 (by decide)) rfl (by omega) (by decide) dX5_laysLine_141 ?_
              refine lv_aload_n hx hb dX5_laysLine_142 rfl (lv_at hl 1 rfl) ?_
              refine x_get (C := RX5) (T := TX5) (N := 16) (ci := 4) (v := .ref (ad 8)) hx hb hts in_X5 hown hK hH hML118.1 rfl 15 (by decide) (hts _ q992) (fun _ h9 => h9) rfl dX5_laysLine_143 ?_
              refine lv_iload hx hb dX5_laysLine_146 (lv_at hl 0 rfl) ?_
              refine x_iald (j := s9) hx hb hK hH (show fL118 (ad 8) = some (xN G 1009 9 liL) from hML118.2 8 (by decide)) rfl (by omega) (by decide) dX5_laysLine_148 ?_
              refine x_S (n := 3) (As := [.int (nI s9), .int (nI (liL (s9 - 1))), .int (nI (liL s9))]) (rest := [.ref (ad 7)]) ⟨hx, hb, hml, hown, hts⟩ hK hC hA hH hS (mX5_place l G A fL118 s9 (liL (s9 - 1)) (liL s9)) q1070 q1071 q38 q1072 (by decide +kernel) ⟨Nat.le_of_ble_eq_true rfl, Nat.le_of_ble_eq_true rfl⟩ rfl hl.1 rfl (Nat.le_of_ble_eq_true rfl) dX5_laysLine_149 (Nat.le_of_ble_eq_true rfl) (Nat.le_of_ble_eq_true rfl) (fun v f_10 H locs hp hH hS hz => ?_)
              obtain ⟨rfl, rfl⟩ := hp
              refine x_norm (g2 := F0 m 152 ls [.int (nI (25 * s9 + 5 * (liL (s9 - 1)) + (liL s9))), .ref (ad 7)]) (k := 0) (n := 0) (Nat.le_refl _) (Nat.le_refl _) rfl ?_
              refine x_iald (j := 25 * s9 + 5 * (liL (s9 - 1)) + (liL s9)) hx hb hK hH (show fL118 (ad 7) = some (xN G 1008 250 bh) from hML118.2 7 (by decide)) rfl (by omega) (by decide) dX5_laysLine_152 ?_
              refine lv_istore (lv' := [(6, .int (nI (bh (25 * s9 + 5 * (liL (s9 - 1)) + (liL s9))))), (5, .int (nI s9)), (0, .ref mm), (1, .int (nI w9)), (2, .int (nI tol))]) hx hb dX5_laysLine_153 hl (by decide) rfl (fun ls hl => ?_)
              have hw9 : bh (25 * s9 + 5 * (liL (s9 - 1)) + liL s9) = LB (h2 hf w9) tol (8 - s9) (LN (h2 hf w9) tol (s9 - 1)) (LN (h2 hf w9) tol (s9)) := by rw [hl1, hl2]; exact behP_at hP (by omega) (by omega) hn1 hn2
              have hw8 := LB_le (h := (h2 hf w9)) (tol := tol) (n := 8 - s9) (LN (h2 hf w9) tol (s9 - 1)) (LN (h2 hf w9) tol (s9))
              have e_11 : (nI (bh (25 * s9 + 5 * (liL (s9 - 1)) + (liL s9))) : Int32) = nI (LB (h2 hf w9) tol (8 - s9) (LN (h2 hf w9) tol (s9 - 1)) (LN (h2 hf w9) tol (s9))) := by rw [hw9]
              have hl : lv_has ls 9 [(6, .int (nI (LB (h2 hf w9) tol (8 - s9) (LN (h2 hf w9) tol (s9 - 1)) (LN (h2 hf w9) tol (s9))))), (5, .int (nI s9)), (0, .ref mm), (1, .int (nI w9)), (2, .int (nI tol))] := xl_eq hl (xl_cons (congrArg (fun x => ((6 : Nat), Value.int x)) e_11) rfl)
              refine lv_iconst (v := oI (-1)) hx hb dX5_laysLine_155 rfl ?_
              refine lv_istore (lv' := [(7, .int (oI (-1))), (6, .int (nI (LB (h2 hf w9) tol (8 - s9) (LN (h2 hf w9) tol (s9 - 1)) (LN (h2 hf w9) tol (s9))))), (5, .int (nI s9)), (0, .ref mm), (1, .int (nI w9)), (2, .int (nI tol))]) hx hb dX5_laysLine_156 hl (by decide) rfl (fun ls hl => ?_)
              refine lv_iconst (v := nI 4) hx hb dX5_laysLine_158 rfl ?_
              refine lv_istore (lv' := [(8, .int (nI 4)), (7, .int (oI (-1))), (6, .int (nI (LB (h2 hf w9) tol (8 - s9) (LN (h2 hf w9) tol (s9 - 1)) (LN (h2 hf w9) tol (s9))))), (5, .int (nI s9)), (0, .ref mm), (1, .int (nI w9)), (2, .int (nI tol))]) hx hb dX5_laysLine_159 hl (by decide) rfl (fun ls hl => ?_)
              have hloop161 : ∀ (n : Nat) (t : Nat) (H : Heap) (locs : List Loc) (ls : Array Slot), t ≤ 5 → (5 - t) < n → xH G A fL118 H → va_S A s.heap H locs → lv_has ls 9 [(8, .int (oI (4 - ((t : Nat) : Int)))), (7, .int (oI (frst (chP (h2 hf w9) tol s9 (LN (h2 hf w9) tol (s9 - 1)) (LN (h2 hf w9) tol (s9))) (5 - t) t))), (6, .int (nI (LB (h2 hf w9) tol (8 - s9) (LN (h2 hf w9) tol (s9 - 1)) (LN (h2 hf w9) tol (s9))))), (5, .int (nI s9)), (0, .ref mm), (1, .int (nI w9)), (2, .int (nI tol))] → W p l e rmX5_laysLine s m ([.ref mm, .int (nI w9), .int (nI tol)] : List Value).toArray below meth c H locs 0 0 (MQ below (xQ G A (fun v f1 => v = none ∧ ∃ li1 : Nat → Nat, MM G f1 mm ad th nw ln nt sl td la hf sa sw lf cf dd tt bh li1 ∧ (∀ j, j < 9 → li1 j = LN (h2 hf w9) tol j) ∧ xkeep 1000 1010 f f1)) ([.ref mm, .int (nI w9), .int (nI tol)] : List Value).toArray s rmX5_laysLine.cells rmX5_laysLine.slots A) (F0 m 161 ls []) := by
                intro n
                induction n with
                | zero => intro t H locs ls ht hn; exact absurd hn (Nat.not_lt_zero _)
                | succ n ih161 =>
                  intro t H locs ls ht hn hH hS hl
                  refine lv_iload hx hb dX5_laysLine_161 (lv_at hl 0 rfl) ?_
                  refine x_if_lt (tgt := 226) (P := 4 - ((t : Nat) : Int) < 0) hx hb dX5_laysLine_163 (by decide) (oI_lt' rfl oI_0 ⟨by omega, by omega⟩ (by decide)) (fun c163 => ?_) (fun c163 => ?_)
                  · skip
                    have ht5 : t = 5 := by omega
                    have e_13 : (oI (frst (chP (h2 hf w9) tol s9 (LN (h2 hf w9) tol (s9 - 1)) (LN (h2 hf w9) tol (s9))) (5 - t) t) : Int32) = nI (ch (h2 hf w9) tol s9 (LN (h2 hf w9) tol (s9 - 1)) (LN (h2 hf w9) tol (s9))) := by rw [ht5]; exact oI_nI hla9.1
                    have hl : lv_has ls 9 [(8, .int (oI (4 - ((t : Nat) : Int)))), (7, .int (nI (ch (h2 hf w9) tol s9 (LN (h2 hf w9) tol (s9 - 1)) (LN (h2 hf w9) tol (s9))))), (6, .int (nI (LB (h2 hf w9) tol (8 - s9) (LN (h2 hf w9) tol (s9 - 1)) (LN (h2 hf w9) tol (s9))))), (5, .int (nI s9)), (0, .ref mm), (1, .int (nI w9)), (2, .int (nI tol))] := xl_eq hl (xl_cons rfl (xl_cons (congrArg (fun x => ((7 : Nat), Value.int x)) e_13) rfl))
                    refine lv_aload_n hx hb dX5_laysLine_226 rfl (lv_at hl 4 rfl) ?_
                    refine x_get (C := RX5) (T := TX5) (N := 16) (ci := 4) (v := .ref (ad 8)) hx hb hts in_X5 hown hK hH hML118.1 rfl 15 (by decide) (hts _ q992) (fun _ h9 => h9) rfl dX5_laysLine_227 ?_
                    refine lv_iload hx hb dX5_laysLine_230 (lv_at hl 3 rfl) ?_
                    refine lv_iconst (v := nI 1) hx hb dX5_laysLine_232 rfl ?_
                    refine x_iadd (v := nI (s9 + 1)) hx hb (nI_add _ _) dX5_laysLine_233 ?_
                    refine lv_iload hx hb dX5_laysLine_234 (lv_at hl 1 rfl) ?_
                    refine x_iast (j := s9 + 1) (v := ch (h2 hf w9) tol s9 (LN (h2 hf w9) tol (s9 - 1)) (LN (h2 hf w9) tol (s9))) hx hb hK hH hS (show fL118 (ad 8) = some (xN G 1009 9 liL) from hML118.2 8 (by decide)) rfl (by omega) (by decide) rfl dX5_laysLine_236 (fun H locs f_14 ef_14 hH hS => ?_)
                    have hM_15 : MM G f_14 mm ad th nw ln nt sl td la hf sa sw lf cf dd tt bh (va_up liL (s9 + 1) (ch (h2 hf w9) tol s9 (LN (h2 hf w9) tol (s9 - 1)) (LN (h2 hf w9) tol (s9)))) := by rw [ef_14]; exact hML118.arr8 _
                    have hkp_16 : xkeep 1000 1010 f f_14 := by rw [ef_14]; exact hkL118.set (hML118.2 8 (by decide)) (by decide)
                    refine lv_iinc (v := nI (s9 + 1)) (lv' := [(5, .int (nI (s9 + 1))), (8, .int (oI (4 - ((t : Nat) : Int)))), (7, .int (nI (ch (h2 hf w9) tol s9 (LN (h2 hf w9) tol (s9 - 1)) (LN (h2 hf w9) tol (s9))))), (6, .int (nI (LB (h2 hf w9) tol (8 - s9) (LN (h2 hf w9) tol (s9 - 1)) (LN (h2 hf w9) tol (s9))))), (0, .ref mm), (1, .int (nI w9)), (2, .int (nI tol))]) hx hb dX5_laysLine_237 hl (k := 3) rfl (nI_inc _) (by decide) rfl (fun ls hl => ?_)
                    refine lv_goto (tgt := 118) hx hb dX5_laysLine_240 (by decide) ?_
                    exact ih118 (s9 + 1) (va_up liL (s9 + 1) (ch (h2 hf w9) tol s9 (LN (h2 hf w9) tol (s9 - 1)) (LN (h2 hf w9) tol (s9)))) f_14 _ _ _ (by omega) hM_15 hkp_16 (fun j hj => by unfold va_up; split; (· rename_i e9; rw [e9, LN_next (by omega)]); (· exact hLi j (by omega))) (by omega) hH hS (lv_sub hl [0, 4, 5, 6] rfl)
                  · skip
                    have e_17 : (oI (4 - ((t : Nat) : Int)) : Int32) = nI (4 - t) := oI_nI (by omega)
                    have hl : lv_has ls 9 [(8, .int (nI (4 - t))), (7, .int (oI (frst (chP (h2 hf w9) tol s9 (LN (h2 hf w9) tol (s9 - 1)) (LN (h2 hf w9) tol (s9))) (5 - t) t))), (6, .int (nI (LB (h2 hf w9) tol (8 - s9) (LN (h2 hf w9) tol (s9 - 1)) (LN (h2 hf w9) tol (s9))))), (5, .int (nI s9)), (0, .ref mm), (1, .int (nI w9)), (2, .int (nI tol))] := xl_eq hl (xl_cons (congrArg (fun x => ((8 : Nat), Value.int x)) e_17) rfl)
                    have hbe : bbN (h2 hf w9) (fun b c => bh (25 * (s9 + 1) + 5 * b + c)) s9 (liL (s9 - 1)) (liL s9) (4 - t) = bbN (h2 hf w9) (LB (h2 hf w9) tol (7 - s9)) s9 (LN (h2 hf w9) tol (s9 - 1)) (LN (h2 hf w9) tol (s9)) (4 - t) := by rw [hl1, hl2]; unfold bbN; show (sqZ _).toNat + bh (25 * (s9 + 1) + 5 * _ + (4 - t)) = _; rw [behP_at hP (by omega) (by omega) hn2 (by omega), show 8 - (s9 + 1) = 7 - s9 by omega]
                    have hbb := bbN_le (h := (h2 hf w9)) (nx := fun b c => bh (25 * (s9 + 1) + 5 * b + c)) (s := s9) (a := liL (s9 - 1)) (b := liL s9) (c := 4 - t) hB9 (by omega) (by omega) (by omega) (by omega)
                    have hbh9 := behP_le (b := liL s9) (c := 4 - t) hP (show 0 < s9 + 1 by omega) (by omega) (by omega) (by omega)
                    refine lv_aload_n hx hb dX5_laysLine_166 rfl (lv_at hl 4 rfl) ?_
                    refine lv_iload_n hx hb dX5_laysLine_167 rfl (lv_at hl 5 rfl) ?_
                    refine lv_iload hx hb dX5_laysLine_168 (lv_at hl 3 rfl) ?_
                    refine lv_iconst (v := nI 1) hx hb dX5_laysLine_170 rfl ?_
                    refine x_iadd (v := nI (s9 + 1)) hx hb (nI_add _ _) dX5_laysLine_171 ?_
                    refine lv_iload hx hb dX5_laysLine_172 (lv_at hl 0 rfl) ?_
                    refine lv_iload_n hx hb dX5_laysLine_174 rfl (lv_at hl 6 rfl) ?_
                    refine x_V (n := 4) (As := [.int (nI w9), .int (nI (s9 + 1)), .int (nI (4 - t)), .int (nI tol)]) (rest := []) ⟨hx, hb, hml, hown, hts⟩ hK hC hA hH hS (mX5_may l G A fL118 hML118 hB w9 (s9 + 1) (4 - t) tol (by omega) (by omega) (by omega) (by omega)) q1078 q1080 qs16 q38 q1081 (by decide +kernel) ⟨Nat.le_of_ble_eq_true rfl, Nat.le_of_ble_eq_true rfl⟩ hML118.1 rfl rfl rfl hl.1 rfl (Nat.le_of_ble_eq_true rfl) dX5_laysLine_175 (Nat.le_of_ble_eq_true rfl) (Nat.le_of_ble_eq_true rfl) (fun v f_18 H locs hp hH hS hz => ?_)
                    obtain ⟨rfl, rfl⟩ := hp
                    refine x_norm (g2 := F0 m 178 ls [.int (nI (xb (mayP (h2 hf w9 (s9 + 1)) (4 - t) tol)))]) (k := 0) (n := 0) (Nat.le_refl _) (Nat.le_refl _) rfl ?_
                    refine x_ifbeq (tgt := 216) (B := mayP (h2 hf w9 (s9 + 1)) (4 - t) tol) hx hb dX5_laysLine_178 (by decide) (fun c178 => ?_) (fun c178 => ?_)
                    · skip
                      refine lv_iload hx hb dX5_laysLine_216 (lv_at hl 1 rfl) ?_
                      refine lv_istore (lv' := [(7, .int (oI (frst (chP (h2 hf w9) tol s9 (LN (h2 hf w9) tol (s9 - 1)) (LN (h2 hf w9) tol (s9))) (5 - t) t))), (8, .int (nI (4 - t))), (6, .int (nI (LB (h2 hf w9) tol (8 - s9) (LN (h2 hf w9) tol (s9 - 1)) (LN (h2 hf w9) tol (s9))))), (5, .int (nI s9)), (0, .ref mm), (1, .int (nI w9)), (2, .int (nI tol))]) hx hb dX5_laysLine_218 hl (by decide) rfl (fun ls hl => ?_)
                      refine lv_iinc (v := oI (((4 - t : Nat) : Int) + (-1))) (lv' := [(8, .int (oI (((4 - t : Nat) : Int) + (-1)))), (7, .int (oI (frst (chP (h2 hf w9) tol s9 (LN (h2 hf w9) tol (s9 - 1)) (LN (h2 hf w9) tol (s9))) (5 - t) t))), (6, .int (nI (LB (h2 hf w9) tol (8 - s9) (LN (h2 hf w9) tol (s9 - 1)) (LN (h2 hf w9) tol (s9))))), (5, .int (nI s9)), (0, .ref mm), (1, .int (nI w9)), (2, .int (nI tol))]) hx hb dX5_laysLine_220 hl (k := 1) rfl (oI_add' (nI_oI _) rfl) (by decide) rfl (fun ls hl => ?_)
                      refine lv_goto (tgt := 161) hx hb dX5_laysLine_223 (by decide) ?_
                      have e_19 : (oI (((4 - t : Nat) : Int) + (-1)) : Int32) = oI (4 - (((t + 1) : Nat) : Int)) := by unfold oI; congr 1; omega
                      have e_20 : (oI (frst (chP (h2 hf w9) tol s9 (LN (h2 hf w9) tol (s9 - 1)) (LN (h2 hf w9) tol (s9))) (5 - t) t) : Int32) = oI (frst (chP (h2 hf w9) tol s9 (LN (h2 hf w9) tol (s9 - 1)) (LN (h2 hf w9) tol (s9))) (5 - (t + 1)) (t + 1)) := by rw [frst_down (N := 5) (by omega)]; first | rw [if_neg (chP_f1 c178)] | rw [if_neg (chP_f2 hbe c208)] | (rw [if_pos (chP_t c178 hbe c208)]; exact nI_oI _)
                      have hl : lv_has ls 9 [(8, .int (oI (4 - (((t + 1) : Nat) : Int)))), (7, .int (oI (frst (chP (h2 hf w9) tol s9 (LN (h2 hf w9) tol (s9 - 1)) (LN (h2 hf w9) tol (s9))) (5 - (t + 1)) (t + 1)))), (6, .int (nI (LB (h2 hf w9) tol (8 - s9) (LN (h2 hf w9) tol (s9 - 1)) (LN (h2 hf w9) tol (s9))))), (5, .int (nI s9)), (0, .ref mm), (1, .int (nI w9)), (2, .int (nI tol))] := xl_eq hl (xl_cons (congrArg (fun x => ((8 : Nat), Value.int x)) e_19) (xl_cons (congrArg (fun x => ((7 : Nat), Value.int x)) e_20) rfl))
                      exact ih161 (t + 1) _ _ _ (by omega) (by omega) hH hS (lv_sub hl [0, 1, 2, 3, 4, 5, 6] rfl)
                    · skip
                      refine lv_aload_n hx hb dX5_laysLine_181 rfl (lv_at hl 4 rfl) ?_
                      refine lv_iload_n hx hb dX5_laysLine_182 rfl (lv_at hl 5 rfl) ?_
                      refine lv_iload hx hb dX5_laysLine_183 (lv_at hl 3 rfl) ?_
                      refine lv_aload_n hx hb dX5_laysLine_185 rfl (lv_at hl 4 rfl) ?_
                      refine x_get (C := RX5) (T := TX5) (N := 16) (ci := 4) (v := .ref (ad 8)) hx hb hts in_X5 hown hK hH hML118.1 rfl 15 (by decide) (hts _ q992) (fun _ h9 => h9) rfl dX5_laysLine_186 ?_
                      refine lv_iload hx hb dX5_laysLine_189 (lv_at hl 3 rfl) ?_
                      refine lv_iconst (v := nI 1) hx hb dX5_laysLine_191 rfl ?_
                      refine x_isub (v := nI (s9 - 1)) hx hb (pk_sub (by omega)) dX5_laysLine_192 ?_
                      refine x_iald (j := s9 - 1) hx hb hK hH (show fL118 (ad 8) = some (xN G 1009 9 liL) from hML118.2 8 (by decide)) rfl (by omega) (by decide) dX5_laysLine_193 ?_
                      refine lv_aload_n hx hb dX5_laysLine_194 rfl (lv_at hl 4 rfl) ?_
                      refine x_get (C := RX5) (T := TX5) (N := 16) (ci := 4) (v := .ref (ad 8)) hx hb hts in_X5 hown hK hH hML118.1 rfl 15 (by decide) (hts _ q992) (fun _ h9 => h9) rfl dX5_laysLine_195 ?_
                      refine lv_iload hx hb dX5_laysLine_198 (lv_at hl 3 rfl) ?_
                      refine x_iald (j := s9) hx hb hK hH (show fL118 (ad 8) = some (xN G 1009 9 liL) from hML118.2 8 (by decide)) rfl (by omega) (by decide) dX5_laysLine_200 ?_
                      refine lv_iload hx hb dX5_laysLine_201 (lv_at hl 0 rfl) ?_
                      refine x_V (n := 5) (As := [.int (nI w9), .int (nI s9), .int (nI (liL (s9 - 1))), .int (nI (liL s9)), .int (nI (4 - t))]) (rest := []) ⟨hx, hb, hml, hown, hts⟩ hK hC hA hH hS (mX5_bendBy l G A fL118 hML118 w9 s9 (liL (s9 - 1)) (liL s9) (4 - t) (by omega) ⟨by omega, by omega⟩ (by omega) (by omega)) q1085 q1087 qs17 q38 q1088 (by decide +kernel) ⟨Nat.le_of_ble_eq_true rfl, Nat.le_of_ble_eq_true rfl⟩ hML118.1 rfl rfl rfl hl.1 rfl (Nat.le_of_ble_eq_true rfl) dX5_laysLine_203 (Nat.le_of_ble_eq_true rfl) (Nat.le_of_ble_eq_true rfl) (fun v f_21 H locs hp hH hS hz => ?_)
                      obtain ⟨rfl, rfl⟩ := hp
                      refine x_norm (g2 := F0 m 206 ls [.int (nI (bbN (h2 hf w9) (fun b c => bh (25 * (s9 + 1) + 5 * b + c)) s9 (liL (s9 - 1)) (liL s9) (4 - t)))]) (k := 0) (n := 0) (Nat.le_refl _) (Nat.le_refl _) rfl ?_
                      refine lv_iload hx hb dX5_laysLine_206 (lv_at hl 2 rfl) ?_
                      refine x_icmp_ne (tgt := 216) (P := (bbN (h2 hf w9) (fun b c => bh (25 * (s9 + 1) + 5 * b + c)) s9 (liL (s9 - 1)) (liL s9) (4 - t)) = (LB (h2 hf w9) tol (8 - s9) (LN (h2 hf w9) tol (s9 - 1)) (LN (h2 hf w9) tol (s9)))) hx hb dX5_laysLine_208 (by decide) (nI_eq' (by omega) (by omega)) (fun c208 => ?_) (fun c208 => ?_)
                      · skip
                        refine lv_iload hx hb dX5_laysLine_216 (lv_at hl 1 rfl) ?_
                        refine lv_istore (lv' := [(7, .int (oI (frst (chP (h2 hf w9) tol s9 (LN (h2 hf w9) tol (s9 - 1)) (LN (h2 hf w9) tol (s9))) (5 - t) t))), (8, .int (nI (4 - t))), (6, .int (nI (LB (h2 hf w9) tol (8 - s9) (LN (h2 hf w9) tol (s9 - 1)) (LN (h2 hf w9) tol (s9))))), (5, .int (nI s9)), (0, .ref mm), (1, .int (nI w9)), (2, .int (nI tol))]) hx hb dX5_laysLine_218 hl (by decide) rfl (fun ls hl => ?_)
                        refine lv_iinc (v := oI (((4 - t : Nat) : Int) + (-1))) (lv' := [(8, .int (oI (((4 - t : Nat) : Int) + (-1)))), (7, .int (oI (frst (chP (h2 hf w9) tol s9 (LN (h2 hf w9) tol (s9 - 1)) (LN (h2 hf w9) tol (s9))) (5 - t) t))), (6, .int (nI (LB (h2 hf w9) tol (8 - s9) (LN (h2 hf w9) tol (s9 - 1)) (LN (h2 hf w9) tol (s9))))), (5, .int (nI s9)), (0, .ref mm), (1, .int (nI w9)), (2, .int (nI tol))]) hx hb dX5_laysLine_220 hl (k := 1) rfl (oI_add' (nI_oI _) rfl) (by decide) rfl (fun ls hl => ?_)
                        refine lv_goto (tgt := 161) hx hb dX5_laysLine_223 (by decide) ?_
                        have e_22 : (oI (((4 - t : Nat) : Int) + (-1)) : Int32) = oI (4 - (((t + 1) : Nat) : Int)) := by unfold oI; congr 1; omega
                        have e_23 : (oI (frst (chP (h2 hf w9) tol s9 (LN (h2 hf w9) tol (s9 - 1)) (LN (h2 hf w9) tol (s9))) (5 - t) t) : Int32) = oI (frst (chP (h2 hf w9) tol s9 (LN (h2 hf w9) tol (s9 - 1)) (LN (h2 hf w9) tol (s9))) (5 - (t + 1)) (t + 1)) := by rw [frst_down (N := 5) (by omega)]; first | rw [if_neg (chP_f1 c178)] | rw [if_neg (chP_f2 hbe c208)] | (rw [if_pos (chP_t c178 hbe c208)]; exact nI_oI _)
                        have hl : lv_has ls 9 [(8, .int (oI (4 - (((t + 1) : Nat) : Int)))), (7, .int (oI (frst (chP (h2 hf w9) tol s9 (LN (h2 hf w9) tol (s9 - 1)) (LN (h2 hf w9) tol (s9))) (5 - (t + 1)) (t + 1)))), (6, .int (nI (LB (h2 hf w9) tol (8 - s9) (LN (h2 hf w9) tol (s9 - 1)) (LN (h2 hf w9) tol (s9))))), (5, .int (nI s9)), (0, .ref mm), (1, .int (nI w9)), (2, .int (nI tol))] := xl_eq hl (xl_cons (congrArg (fun x => ((8 : Nat), Value.int x)) e_22) (xl_cons (congrArg (fun x => ((7 : Nat), Value.int x)) e_23) rfl))
                        exact ih161 (t + 1) _ _ _ (by omega) (by omega) hH hS (lv_sub hl [0, 1, 2, 3, 4, 5, 6] rfl)
                      · skip
                        refine lv_iload hx hb dX5_laysLine_211 (lv_at hl 0 rfl) ?_
                        refine lv_goto (tgt := 218) hx hb dX5_laysLine_213 (by decide) ?_
                        refine lv_istore (lv' := [(7, .int (nI (4 - t))), (8, .int (nI (4 - t))), (6, .int (nI (LB (h2 hf w9) tol (8 - s9) (LN (h2 hf w9) tol (s9 - 1)) (LN (h2 hf w9) tol (s9))))), (5, .int (nI s9)), (0, .ref mm), (1, .int (nI w9)), (2, .int (nI tol))]) hx hb dX5_laysLine_218 hl (by decide) rfl (fun ls hl => ?_)
                        refine lv_iinc (v := oI (((4 - t : Nat) : Int) + (-1))) (lv' := [(8, .int (oI (((4 - t : Nat) : Int) + (-1)))), (7, .int (nI (4 - t))), (6, .int (nI (LB (h2 hf w9) tol (8 - s9) (LN (h2 hf w9) tol (s9 - 1)) (LN (h2 hf w9) tol (s9))))), (5, .int (nI s9)), (0, .ref mm), (1, .int (nI w9)), (2, .int (nI tol))]) hx hb dX5_laysLine_220 hl (k := 1) rfl (oI_add' (nI_oI _) rfl) (by decide) rfl (fun ls hl => ?_)
                        refine lv_goto (tgt := 161) hx hb dX5_laysLine_223 (by decide) ?_
                        have e_24 : (oI (((4 - t : Nat) : Int) + (-1)) : Int32) = oI (4 - (((t + 1) : Nat) : Int)) := by unfold oI; congr 1; omega
                        have e_25 : (nI (4 - t) : Int32) = oI (frst (chP (h2 hf w9) tol s9 (LN (h2 hf w9) tol (s9 - 1)) (LN (h2 hf w9) tol (s9))) (5 - (t + 1)) (t + 1)) := by rw [frst_down (N := 5) (by omega)]; first | rw [if_neg (chP_f1 c178)] | rw [if_neg (chP_f2 hbe c208)] | (rw [if_pos (chP_t c178 hbe c208)]; exact nI_oI _)
                        have hl : lv_has ls 9 [(8, .int (oI (4 - (((t + 1) : Nat) : Int)))), (7, .int (oI (frst (chP (h2 hf w9) tol s9 (LN (h2 hf w9) tol (s9 - 1)) (LN (h2 hf w9) tol (s9))) (5 - (t + 1)) (t + 1)))), (6, .int (nI (LB (h2 hf w9) tol (8 - s9) (LN (h2 hf w9) tol (s9 - 1)) (LN (h2 hf w9) tol (s9))))), (5, .int (nI s9)), (0, .ref mm), (1, .int (nI w9)), (2, .int (nI tol))] := xl_eq hl (xl_cons (congrArg (fun x => ((8 : Nat), Value.int x)) e_24) (xl_cons (congrArg (fun x => ((7 : Nat), Value.int x)) e_25) rfl))
                        exact ih161 (t + 1) _ _ _ (by omega) (by omega) hH hS (lv_sub hl [0, 1, 2, 3, 4, 5, 6] rfl)
              have e_26 : (nI 4 : Int32) = oI (4 - ((0 : Nat) : Int)) := by exact (by decide : nI 4 = oI (4 - ((0 : Nat) : Int)))
              have e_27 : (oI (-1) : Int32) = oI (frst (chP (h2 hf w9) tol s9 (LN (h2 hf w9) tol (s9 - 1)) (LN (h2 hf w9) tol (s9))) (5 - 0) 0) := by rfl
              have hl : lv_has ls 9 [(8, .int (oI (4 - ((0 : Nat) : Int)))), (7, .int (oI (frst (chP (h2 hf w9) tol s9 (LN (h2 hf w9) tol (s9 - 1)) (LN (h2 hf w9) tol (s9))) (5 - 0) 0))), (6, .int (nI (LB (h2 hf w9) tol (8 - s9) (LN (h2 hf w9) tol (s9 - 1)) (LN (h2 hf w9) tol (s9))))), (5, .int (nI s9)), (0, .ref mm), (1, .int (nI w9)), (2, .int (nI tol))] := xl_eq hl (xl_cons (congrArg (fun x => ((8 : Nat), Value.int x)) e_26) (xl_cons (congrArg (fun x => ((7 : Nat), Value.int x)) e_27) rfl))
              exact hloop161 (5 - 0 + 1) 0 _ _ _ (by omega) (Nat.lt_succ_self _) hH hS (lv_sub hl [0, 1, 2, 3, 4, 5, 6] rfl)
        exact hloop118 (8 - 1 + 1) 1 (va_up (va_up li 0 (((fl0 (h2 hf w9) tol 25).2) / 5)) 1 (((fl0 (h2 hf w9) tol 25).2) % 5)) f_6 _ _ _ (by omega) hM_7 hkp_8 (fun j hj => by rcases (show j = 0 ∨ j = 1 by omega) with rfl | rfl <;> rfl) (Nat.lt_succ_self _) hH hS (lv_sub hl [0, 3, 4, 5] rfl)
      · skip
        have hb1 : bh (25 * 1 + 5 * 0 + k) = LB (h2 hf w9) tol 7 (k / 5) (k % 5) := hP 1 (by decide) (by decide) k (by omega)
        have hb2 := LB_le (h := (h2 hf w9)) (tol := tol) (n := 7) (k / 5) (k % 5)
        refine lv_aload_n hx hb dX5_laysLine_16 rfl (lv_at hl 3 rfl) ?_
        refine lv_iload_n hx hb dX5_laysLine_17 rfl (lv_at hl 4 rfl) ?_
        refine lv_iconst (v := nI 0) hx hb dX5_laysLine_18 rfl ?_
        refine lv_iload hx hb dX5_laysLine_19 (lv_at hl 0 rfl) ?_
        refine lv_iconst (v := nI 5) hx hb dX5_laysLine_21 rfl ?_
        refine x_idivN hx hb (by omega) (by decide) (by decide) dX5_laysLine_22 ?_
        refine lv_iload_n hx hb dX5_laysLine_23 rfl (lv_at hl 5 rfl) ?_
        refine x_V (n := 4) (As := [.int (nI w9), .int (nI 0), .int (nI (k / 5)), .int (nI tol)]) (rest := []) ⟨hx, hb, hml, hown, hts⟩ hK hC hA hH hS (mX5_may l G A f hM hB w9 0 (k / 5) tol (by omega) (by omega) (by omega) (by omega)) q1078 q1080 qs16 q38 q1081 (by decide +kernel) ⟨Nat.le_of_ble_eq_true rfl, Nat.le_of_ble_eq_true rfl⟩ hM.1 rfl rfl rfl hl.1 rfl (Nat.le_of_ble_eq_true rfl) dX5_laysLine_24 (Nat.le_of_ble_eq_true rfl) (Nat.le_of_ble_eq_true rfl) (fun v f_28 H locs hp hH hS hz => ?_)
        obtain ⟨rfl, rfl⟩ := hp
        refine x_norm (g2 := F0 m 27 ls [.int (nI (xb (mayP (h2 hf w9 0) (k / 5) tol)))]) (k := 0) (n := 0) (Nat.le_refl _) (Nat.le_refl _) rfl ?_
        refine x_ifbeq (tgt := 48) (B := mayP (h2 hf w9 0) (k / 5) tol) hx hb dX5_laysLine_27 (by decide) (fun c27 => ?_) (fun c27 => ?_)
        · skip
          refine lv_iconst (v := nI 0) hx hb dX5_laysLine_48 rfl ?_
          refine lv_istore (lv' := [(6, .int (nI 0)), (5, .int (nI k)), (4, .int (nI ((fl0 (h2 hf w9) tol k).2))), (3, .int (nI ((fl0 (h2 hf w9) tol k).1))), (0, .ref mm), (1, .int (nI w9)), (2, .int (nI tol))]) hx hb dX5_laysLine_49 hl (by decide) rfl (fun ls hl => ?_)
          refine lv_iload hx hb dX5_laysLine_51 (lv_at hl 0 rfl) ?_
          refine x_if_eq (tgt := 89) (P := 0 = 0) hx hb dX5_laysLine_53 (by decide) (nI_eq0 (by omega)) (fun c53 => ?_) (fun c53 => ?_)
          · skip
            refine lv_iinc (v := nI (k + 1)) (lv' := [(5, .int (nI (k + 1))), (6, .int (nI 0)), (4, .int (nI ((fl0 (h2 hf w9) tol k).2))), (3, .int (nI ((fl0 (h2 hf w9) tol k).1))), (0, .ref mm), (1, .int (nI w9)), (2, .int (nI tol))]) hx hb dX5_laysLine_89 hl (k := 1) rfl (nI_inc _) (by decide) rfl (fun ls hl => ?_)
            refine lv_goto (tgt := 9) hx hb dX5_laysLine_92 (by decide) ?_
            have e_29 : (nI ((fl0 (h2 hf w9) tol k).2) : Int32) = nI ((fl0 (h2 hf w9) tol (k + 1)).2) := by first | rw [fl0_f (fun h9 => absurd h9.1.1 c27)] | rw [fl0_f (fun h9 => absurd h9.1.2 c41)] | rw [fl0_f (fun h9 => by have h8 := h9.2; omega)] | (rw [fl0_t c27 c41 (by omega)] <;> first | rfl | (show nI _ = nI (LB _ _ _ _ _); rw [hb1]))
            have e_30 : (nI ((fl0 (h2 hf w9) tol k).1) : Int32) = nI ((fl0 (h2 hf w9) tol (k + 1)).1) := by first | rw [fl0_f (fun h9 => absurd h9.1.1 c27)] | rw [fl0_f (fun h9 => absurd h9.1.2 c41)] | rw [fl0_f (fun h9 => by have h8 := h9.2; omega)] | (rw [fl0_t c27 c41 (by omega)] <;> first | rfl | (show nI _ = nI (LB _ _ _ _ _); rw [hb1]))
            have hl : lv_has ls 9 [(5, .int (nI (k + 1))), (6, .int (nI 0)), (4, .int (nI ((fl0 (h2 hf w9) tol (k + 1)).2))), (3, .int (nI ((fl0 (h2 hf w9) tol (k + 1)).1))), (0, .ref mm), (1, .int (nI w9)), (2, .int (nI tol))] := xl_eq hl (xl_cons rfl (xl_cons rfl (xl_cons (congrArg (fun x => ((4 : Nat), Value.int x)) e_29) (xl_cons (congrArg (fun x => ((3 : Nat), Value.int x)) e_30) rfl))))
            exact ih9 (k + 1) _ _ _ (by omega) (by omega) hH hS (lv_sub hl [0, 2, 3, 4, 5, 6] rfl)
          · skip
            exact absurd rfl c53
        · skip
          refine lv_aload_n hx hb dX5_laysLine_30 rfl (lv_at hl 3 rfl) ?_
          refine lv_iload_n hx hb dX5_laysLine_31 rfl (lv_at hl 4 rfl) ?_
          refine lv_iconst (v := nI 1) hx hb dX5_laysLine_32 rfl ?_
          refine lv_iload hx hb dX5_laysLine_33 (lv_at hl 0 rfl) ?_
          refine lv_iconst (v := nI 5) hx hb dX5_laysLine_35 rfl ?_
          refine x_iremN hx hb (by omega) (by decide) (by decide) dX5_laysLine_36 ?_
          refine lv_iload_n hx hb dX5_laysLine_37 rfl (lv_at hl 5 rfl) ?_
          refine x_V (n := 4) (As := [.int (nI w9), .int (nI 1), .int (nI (k % 5)), .int (nI tol)]) (rest := []) ⟨hx, hb, hml, hown, hts⟩ hK hC hA hH hS (mX5_may l G A f hM hB w9 1 (k % 5) tol (by omega) (by omega) (by omega) (by omega)) q1078 q1080 qs16 q38 q1081 (by decide +kernel) ⟨Nat.le_of_ble_eq_true rfl, Nat.le_of_ble_eq_true rfl⟩ hM.1 rfl rfl rfl hl.1 rfl (Nat.le_of_ble_eq_true rfl) dX5_laysLine_38 (Nat.le_of_ble_eq_true rfl) (Nat.le_of_ble_eq_true rfl) (fun v f_31 H locs hp hH hS hz => ?_)
          obtain ⟨rfl, rfl⟩ := hp
          refine x_norm (g2 := F0 m 41 ls [.int (nI (xb (mayP (h2 hf w9 1) (k % 5) tol)))]) (k := 0) (n := 0) (Nat.le_refl _) (Nat.le_refl _) rfl ?_
          refine x_ifbeq (tgt := 48) (B := mayP (h2 hf w9 1) (k % 5) tol) hx hb dX5_laysLine_41 (by decide) (fun c41 => ?_) (fun c41 => ?_)
          · skip
            refine lv_iconst (v := nI 0) hx hb dX5_laysLine_48 rfl ?_
            refine lv_istore (lv' := [(6, .int (nI 0)), (5, .int (nI k)), (4, .int (nI ((fl0 (h2 hf w9) tol k).2))), (3, .int (nI ((fl0 (h2 hf w9) tol k).1))), (0, .ref mm), (1, .int (nI w9)), (2, .int (nI tol))]) hx hb dX5_laysLine_49 hl (by decide) rfl (fun ls hl => ?_)
            refine lv_iload hx hb dX5_laysLine_51 (lv_at hl 0 rfl) ?_
            refine x_if_eq (tgt := 89) (P := 0 = 0) hx hb dX5_laysLine_53 (by decide) (nI_eq0 (by omega)) (fun c53 => ?_) (fun c53 => ?_)
            · skip
              refine lv_iinc (v := nI (k + 1)) (lv' := [(5, .int (nI (k + 1))), (6, .int (nI 0)), (4, .int (nI ((fl0 (h2 hf w9) tol k).2))), (3, .int (nI ((fl0 (h2 hf w9) tol k).1))), (0, .ref mm), (1, .int (nI w9)), (2, .int (nI tol))]) hx hb dX5_laysLine_89 hl (k := 1) rfl (nI_inc _) (by decide) rfl (fun ls hl => ?_)
              refine lv_goto (tgt := 9) hx hb dX5_laysLine_92 (by decide) ?_
              have e_32 : (nI ((fl0 (h2 hf w9) tol k).2) : Int32) = nI ((fl0 (h2 hf w9) tol (k + 1)).2) := by first | rw [fl0_f (fun h9 => absurd h9.1.1 c27)] | rw [fl0_f (fun h9 => absurd h9.1.2 c41)] | rw [fl0_f (fun h9 => by have h8 := h9.2; omega)] | (rw [fl0_t c27 c41 (by omega)] <;> first | rfl | (show nI _ = nI (LB _ _ _ _ _); rw [hb1]))
              have e_33 : (nI ((fl0 (h2 hf w9) tol k).1) : Int32) = nI ((fl0 (h2 hf w9) tol (k + 1)).1) := by first | rw [fl0_f (fun h9 => absurd h9.1.1 c27)] | rw [fl0_f (fun h9 => absurd h9.1.2 c41)] | rw [fl0_f (fun h9 => by have h8 := h9.2; omega)] | (rw [fl0_t c27 c41 (by omega)] <;> first | rfl | (show nI _ = nI (LB _ _ _ _ _); rw [hb1]))
              have hl : lv_has ls 9 [(5, .int (nI (k + 1))), (6, .int (nI 0)), (4, .int (nI ((fl0 (h2 hf w9) tol (k + 1)).2))), (3, .int (nI ((fl0 (h2 hf w9) tol (k + 1)).1))), (0, .ref mm), (1, .int (nI w9)), (2, .int (nI tol))] := xl_eq hl (xl_cons rfl (xl_cons rfl (xl_cons (congrArg (fun x => ((4 : Nat), Value.int x)) e_32) (xl_cons (congrArg (fun x => ((3 : Nat), Value.int x)) e_33) rfl))))
              exact ih9 (k + 1) _ _ _ (by omega) (by omega) hH hS (lv_sub hl [0, 2, 3, 4, 5, 6] rfl)
            · skip
              exact absurd rfl c53
          · skip
            refine lv_iconst (v := nI 1) hx hb dX5_laysLine_44 rfl ?_
            refine lv_goto (tgt := 49) hx hb dX5_laysLine_45 (by decide) ?_
            refine lv_istore (lv' := [(6, .int (nI 1)), (5, .int (nI k)), (4, .int (nI ((fl0 (h2 hf w9) tol k).2))), (3, .int (nI ((fl0 (h2 hf w9) tol k).1))), (0, .ref mm), (1, .int (nI w9)), (2, .int (nI tol))]) hx hb dX5_laysLine_49 hl (by decide) rfl (fun ls hl => ?_)
            refine lv_iload hx hb dX5_laysLine_51 (lv_at hl 0 rfl) ?_
            refine x_if_eq (tgt := 89) (P := 1 = 0) hx hb dX5_laysLine_53 (by decide) (nI_eq0 (by omega)) (fun c53 => ?_) (fun c53 => ?_)
            · skip
              exact absurd c53 (by decide)
            · skip
              refine lv_aload_n hx hb dX5_laysLine_56 rfl (lv_at hl 4 rfl) ?_
              refine x_get (C := RX5) (T := TX5) (N := 16) (ci := 4) (v := .ref (ad 7)) hx hb hts in_X5 hown hK hH hM.1 rfl 14 (by decide) (hts _ q991) (fun _ h9 => h9) rfl dX5_laysLine_57 ?_
              refine lv_iconst (v := nI 1) hx hb dX5_laysLine_60 rfl ?_
              refine lv_iconst (v := nI 0) hx hb dX5_laysLine_61 rfl ?_
              refine lv_iload hx hb dX5_laysLine_62 (lv_at hl 1 rfl) ?_
              refine x_S (n := 3) (As := [.int (nI 1), .int (nI 0), .int (nI k)]) (rest := [.ref (ad 7)]) ⟨hx, hb, hml, hown, hts⟩ hK hC hA hH hS (mX5_place l G A f 1 0 k) q1070 q1071 q38 q1072 (by decide +kernel) ⟨Nat.le_of_ble_eq_true rfl, Nat.le_of_ble_eq_true rfl⟩ rfl hl.1 rfl (Nat.le_of_ble_eq_true rfl) dX5_laysLine_64 (Nat.le_of_ble_eq_true rfl) (Nat.le_of_ble_eq_true rfl) (fun v f_34 H locs hp hH hS hz => ?_)
              obtain ⟨rfl, rfl⟩ := hp
              refine x_norm (g2 := F0 m 67 ls [.int (nI (25 * 1 + 5 * 0 + k)), .ref (ad 7)]) (k := 0) (n := 0) (Nat.le_refl _) (Nat.le_refl _) rfl ?_
              refine x_iald (j := 25 * 1 + 5 * 0 + k) hx hb hK hH (show f (ad 7) = some (xN G 1008 250 bh) from hM.2 7 (by decide)) rfl (by omega) (by decide) dX5_laysLine_67 ?_
              refine lv_iload_n hx hb dX5_laysLine_68 rfl (lv_at hl 3 rfl) ?_
              refine x_icmp_ge (tgt := 89) (P := ((fl0 (h2 hf w9) tol k).1) ≤ (bh (25 * 1 + 5 * 0 + k))) hx hb dX5_laysLine_69 (by decide) (nI_le' (by omega) (by omega)) (fun c69 => ?_) (fun c69 => ?_)
              · skip
                refine lv_iinc (v := nI (k + 1)) (lv' := [(5, .int (nI (k + 1))), (6, .int (nI 1)), (4, .int (nI ((fl0 (h2 hf w9) tol k).2))), (3, .int (nI ((fl0 (h2 hf w9) tol k).1))), (0, .ref mm), (1, .int (nI w9)), (2, .int (nI tol))]) hx hb dX5_laysLine_89 hl (k := 1) rfl (nI_inc _) (by decide) rfl (fun ls hl => ?_)
                refine lv_goto (tgt := 9) hx hb dX5_laysLine_92 (by decide) ?_
                have e_35 : (nI ((fl0 (h2 hf w9) tol k).2) : Int32) = nI ((fl0 (h2 hf w9) tol (k + 1)).2) := by first | rw [fl0_f (fun h9 => absurd h9.1.1 c27)] | rw [fl0_f (fun h9 => absurd h9.1.2 c41)] | rw [fl0_f (fun h9 => by have h8 := h9.2; omega)] | (rw [fl0_t c27 c41 (by omega)] <;> first | rfl | (show nI _ = nI (LB _ _ _ _ _); rw [hb1]))
                have e_36 : (nI ((fl0 (h2 hf w9) tol k).1) : Int32) = nI ((fl0 (h2 hf w9) tol (k + 1)).1) := by first | rw [fl0_f (fun h9 => absurd h9.1.1 c27)] | rw [fl0_f (fun h9 => absurd h9.1.2 c41)] | rw [fl0_f (fun h9 => by have h8 := h9.2; omega)] | (rw [fl0_t c27 c41 (by omega)] <;> first | rfl | (show nI _ = nI (LB _ _ _ _ _); rw [hb1]))
                have hl : lv_has ls 9 [(5, .int (nI (k + 1))), (6, .int (nI 1)), (4, .int (nI ((fl0 (h2 hf w9) tol (k + 1)).2))), (3, .int (nI ((fl0 (h2 hf w9) tol (k + 1)).1))), (0, .ref mm), (1, .int (nI w9)), (2, .int (nI tol))] := xl_eq hl (xl_cons rfl (xl_cons rfl (xl_cons (congrArg (fun x => ((4 : Nat), Value.int x)) e_35) (xl_cons (congrArg (fun x => ((3 : Nat), Value.int x)) e_36) rfl))))
                exact ih9 (k + 1) _ _ _ (by omega) (by omega) hH hS (lv_sub hl [0, 2, 3, 4, 5, 6] rfl)
              · skip
                refine lv_aload_n hx hb dX5_laysLine_72 rfl (lv_at hl 4 rfl) ?_
                refine x_get (C := RX5) (T := TX5) (N := 16) (ci := 4) (v := .ref (ad 7)) hx hb hts in_X5 hown hK hH hM.1 rfl 14 (by decide) (hts _ q991) (fun _ h9 => h9) rfl dX5_laysLine_73 ?_
                refine lv_iconst (v := nI 1) hx hb dX5_laysLine_76 rfl ?_
                refine lv_iconst (v := nI 0) hx hb dX5_laysLine_77 rfl ?_
                refine lv_iload hx hb dX5_laysLine_78 (lv_at hl 1 rfl) ?_
                refine x_S (n := 3) (As := [.int (nI 1), .int (nI 0), .int (nI k)]) (rest := [.ref (ad 7)]) ⟨hx, hb, hml, hown, hts⟩ hK hC hA hH hS (mX5_place l G A f 1 0 k) q1070 q1071 q38 q1072 (by decide +kernel) ⟨Nat.le_of_ble_eq_true rfl, Nat.le_of_ble_eq_true rfl⟩ rfl hl.1 rfl (Nat.le_of_ble_eq_true rfl) dX5_laysLine_80 (Nat.le_of_ble_eq_true rfl) (Nat.le_of_ble_eq_true rfl) (fun v f_37 H locs hp hH hS hz => ?_)
                obtain ⟨rfl, rfl⟩ := hp
                refine x_norm (g2 := F0 m 83 ls [.int (nI (25 * 1 + 5 * 0 + k)), .ref (ad 7)]) (k := 0) (n := 0) (Nat.le_refl _) (Nat.le_refl _) rfl ?_
                refine x_iald (j := 25 * 1 + 5 * 0 + k) hx hb hK hH (show f (ad 7) = some (xN G 1008 250 bh) from hM.2 7 (by decide)) rfl (by omega) (by decide) dX5_laysLine_83 ?_
                refine lv_istore_n (lv' := [(3, .int (nI (bh (25 * 1 + 5 * 0 + k)))), (6, .int (nI 1)), (5, .int (nI k)), (4, .int (nI ((fl0 (h2 hf w9) tol k).2))), (0, .ref mm), (1, .int (nI w9)), (2, .int (nI tol))]) hx hb dX5_laysLine_84 rfl hl (by decide) rfl (fun ls hl => ?_)
                refine lv_iload hx hb dX5_laysLine_85 (lv_at hl 2 rfl) ?_
                refine lv_istore (lv' := [(4, .int (nI k)), (3, .int (nI (bh (25 * 1 + 5 * 0 + k)))), (6, .int (nI 1)), (5, .int (nI k)), (0, .ref mm), (1, .int (nI w9)), (2, .int (nI tol))]) hx hb dX5_laysLine_87 hl (by decide) rfl (fun ls hl => ?_)
                refine lv_iinc (v := nI (k + 1)) (lv' := [(5, .int (nI (k + 1))), (4, .int (nI k)), (3, .int (nI (bh (25 * 1 + 5 * 0 + k)))), (6, .int (nI 1)), (0, .ref mm), (1, .int (nI w9)), (2, .int (nI tol))]) hx hb dX5_laysLine_89 hl (k := 3) rfl (nI_inc _) (by decide) rfl (fun ls hl => ?_)
                refine lv_goto (tgt := 9) hx hb dX5_laysLine_92 (by decide) ?_
                have e_38 : (nI k : Int32) = nI ((fl0 (h2 hf w9) tol (k + 1)).2) := by first | rw [fl0_f (fun h9 => absurd h9.1.1 c27)] | rw [fl0_f (fun h9 => absurd h9.1.2 c41)] | rw [fl0_f (fun h9 => by have h8 := h9.2; omega)] | (rw [fl0_t c27 c41 (by omega)] <;> first | rfl | (show nI _ = nI (LB _ _ _ _ _); rw [hb1]))
                have e_39 : (nI (bh (25 * 1 + 5 * 0 + k)) : Int32) = nI ((fl0 (h2 hf w9) tol (k + 1)).1) := by first | rw [fl0_f (fun h9 => absurd h9.1.1 c27)] | rw [fl0_f (fun h9 => absurd h9.1.2 c41)] | rw [fl0_f (fun h9 => by have h8 := h9.2; omega)] | (rw [fl0_t c27 c41 (by omega)] <;> first | rfl | (show nI _ = nI (LB _ _ _ _ _); rw [hb1]))
                have hl : lv_has ls 9 [(5, .int (nI (k + 1))), (4, .int (nI ((fl0 (h2 hf w9) tol (k + 1)).2))), (3, .int (nI ((fl0 (h2 hf w9) tol (k + 1)).1))), (6, .int (nI 1)), (0, .ref mm), (1, .int (nI w9)), (2, .int (nI tol))] := xl_eq hl (xl_cons rfl (xl_cons (congrArg (fun x => ((4 : Nat), Value.int x)) e_38) (xl_cons (congrArg (fun x => ((3 : Nat), Value.int x)) e_39) rfl)))
                exact ih9 (k + 1) _ _ _ (by omega) (by omega) hH hS (lv_sub hl [0, 1, 2, 4, 5, 6] rfl)
  have e_40 : (nI 0 : Int32) = nI ((fl0 (h2 hf w9) tol 0).2) := by rfl
  have e_41 : (nI 100000000 : Int32) = nI ((fl0 (h2 hf w9) tol 0).1) := by rfl
  have hl : lv_has ls 9 [(5, .int (nI 0)), (4, .int (nI ((fl0 (h2 hf w9) tol 0).2))), (3, .int (nI ((fl0 (h2 hf w9) tol 0).1))), (0, .ref mm), (1, .int (nI w9)), (2, .int (nI tol))] := xl_eq hl (xl_cons rfl (xl_cons (congrArg (fun x => ((4 : Nat), Value.int x)) e_40) (xl_cons (congrArg (fun x => ((3 : Nat), Value.int x)) e_41) rfl)))
  exact hloop9 (25 - 0 + 1) 0 _ _ _ (by omega) (Nat.lt_succ_self _) hH hS (lv_sub hl [0, 1, 2, 3, 4, 5] rfl)

abbrev rmX5_fair : Room := { frames := 5, cells := 0, slots := 0, locals := 200 }
set_option maxHeartbeats 4000000 in
set_option maxRecDepth 100000 in
theorem mX5_fair (l : Launch) (G : xG) (A : Nat → Prop) (f : xF) {mm : Nat} {ad : Nat → Nat} {th nw ln nt sl td la : Nat} {hf sa sw lf cf dd tt bh li : Nat → Nat} (hM : MM G f mm ad th nw ln nt sl td la hf sa sw lf cf dd tt bh li) (hB : ∀ w s, w < 6 → s < 9 → h2 hf w s ≤ 200) (hla : la < 2) (z1 z2 : Int) (hz1 : -2147483648 ≤ z1 ∧ z1 ≤ 2147483647)(hz2 : -2147483648 ≤ z2 ∧ z2 ≤ 2147483647) : xMet l yX5_fair cX5_fair 5 (some .int) rmX5_fair G A f [.ref mm, .int (oI z1), .int (oI z2)] (fun v f1 => ∃ bh1 li1 : Nat → Nat, v = some (.int (if cdFair z1 z2 la = 0 then oI (bendM hf z1.toNat - bendM (fairH hf z1.toNat (LN (h2 hf z1.toNat) z2.toNat) 9) z1.toNat) else nI 0)) ∧ MM G f1 mm ad (cdFair z1 z2 la) nw ln nt sl td la (if cdFair z1 z2 la = 0 then (fairH hf z1.toNat (LN (h2 hf z1.toNat) z2.toNat) 9) else hf) sa sw lf cf dd tt bh1 li1 ∧ xkeep 1000 1010 f f1) := by
  refine x_start (by decide) (Nat.le_of_ble_eq_true rfl) ?_
  intro p e s m below meth c ls X hH hS hl
  obtain ⟨hx, hb, hr, hlk, hml, hown, hts, hK, hC, hA, hnm, hmn⟩ := X
  have hl : lv_has ls 5 [(0, .ref mm), (1, .int (oI z1)), (2, .int (oI z2))] := hl
  have hkp0 : xkeep 1000 1010 f f := xkeep.refl
  have hj37 : ∀ (cd : Nat) (H : Heap) (locs : List Loc) (ls : Array Slot), cd = cdFair z1 z2 la → xH G A f H → va_S A s.heap H locs → lv_has ls 5 [(0, .ref mm), (1, .int (oI z1)), (2, .int (oI z2))] → W p l e rmX5_fair s m ([.ref mm, .int (oI z1), .int (oI z2)] : List Value).toArray below meth c H locs 0 0 (MQ below (xQ G A (fun v f1 => ∃ bh1 li1 : Nat → Nat, v = some (.int (if cdFair z1 z2 la = 0 then oI (bendM hf z1.toNat - bendM (fairH hf z1.toNat (LN (h2 hf z1.toNat) z2.toNat) 9) z1.toNat) else nI 0)) ∧ MM G f1 mm ad (cdFair z1 z2 la) nw ln nt sl td la (if cdFair z1 z2 la = 0 then (fairH hf z1.toNat (LN (h2 hf z1.toNat) z2.toNat) 9) else hf) sa sw lf cf dd tt bh1 li1 ∧ xkeep 1000 1010 f f1)) ([.ref mm, .int (oI z1), .int (oI z2)] : List Value).toArray s rmX5_fair.cells rmX5_fair.slots A) (F0 m 37 ls [.int (nI cd), .ref mm]) := by
    intro cd H locs ls hcd hH hS hl
    refine x_put (C := RX5) (T := TX5) (N := 16) (ci := 4) (v := .int (nI cd)) (ty := (tyX5 0)) hx hb hts in_X5 tyX5_ok nmX5 hown hK hH hS hM.1 rfl 0 (by decide) (hts _ q977) (fun _ h9 => h9) rfl (by decide +kernel) rfl rfl (Nat.le_of_ble_eq_true rfl) dX5_fair_37 (fun H locs f_1 ef_1 hH hS => ?_)
    have hM_2 : MM G f_1 mm ad cd nw ln nt sl td la hf sa sw lf cf dd tt bh li := by rw [ef_1]; exact hM.put0 _
    have hkp_3 : xkeep 1000 1010 f f_1 := by rw [ef_1]; exact hkp0.set hM.1 (by decide)
    refine lv_aload_n hx hb dX5_fair_40 rfl (lv_at hl 0 rfl) ?_
    refine x_get (C := RX5) (T := TX5) (N := 16) (ci := 4) (v := .int (nI cd)) hx hb hts in_X5 hown hK hH hM_2.1 rfl 0 (by decide) (hts _ q977) (fun _ h9 => h9) rfl dX5_fair_41 ?_
    refine x_if_le (tgt := 49) (P := cd = 0) hx hb dX5_fair_44 (by decide) (nI_le0 (by rw [hcd]; unfold cdFair; split <;> first | omega | (split <;> first | omega | (split <;> omega)))) (fun c44 => ?_) (fun c44 => ?_)
    · skip
      have h9 : cdFair z1 z2 la = 0 := by rw [← hcd]; exact c44
      have hok := cdFair_0 h9
      have e_4 : (oI z1 : Int32) = nI z1.toNat := oI_nI (by omega)
      have hl : lv_has ls 5 [(0, .ref mm), (1, .int (nI z1.toNat)), (2, .int (oI z2))] := xl_eq hl (xl_cons rfl (xl_cons (congrArg (fun x => ((1 : Nat), Value.int x)) e_4) rfl))
      have e_5 : (oI z2 : Int32) = nI z2.toNat := oI_nI (by omega)
      have hl : lv_has ls 5 [(0, .ref mm), (1, .int (nI z1.toNat)), (2, .int (nI z2.toNat))] := xl_eq hl (xl_cons rfl (xl_cons rfl (xl_cons (congrArg (fun x => ((2 : Nat), Value.int x)) e_5) rfl)))
      have hB9 : ∀ j, j < 9 → h2 hf z1.toNat j ≤ 200 := fun j hj => hB _ j (by omega) hj
      refine lv_aload_n hx hb dX5_fair_49 rfl (lv_at hl 0 rfl) ?_
      refine lv_iload_n hx hb dX5_fair_50 rfl (lv_at hl 1 rfl) ?_
      refine x_V (n := 1) (As := [.int (nI z1.toNat)]) (rest := []) ⟨hx, hb, hml, hown, hts⟩ hK hC hA hH hS (mX5_bendOf l G A f_1 hM_2 z1.toNat (by omega)) q1055 q1057 qs13 q38 q1058 (by decide +kernel) ⟨Nat.le_of_ble_eq_true rfl, Nat.le_of_ble_eq_true rfl⟩ hM_2.1 rfl rfl rfl hl.1 rfl (Nat.le_of_ble_eq_true rfl) dX5_fair_51 (Nat.le_of_ble_eq_true rfl) (Nat.le_of_ble_eq_true rfl) (fun v f_6 H locs hp hH hS hz => ?_)
      obtain ⟨rfl, rfl⟩ := hp
      refine x_norm (g2 := F0 m 54 ls [.int (oI (bendM hf z1.toNat))]) (k := 0) (n := 0) (Nat.le_refl _) (Nat.le_refl _) rfl ?_
      refine lv_istore_n (lv' := [(3, .int (oI (bendM hf z1.toNat))), (0, .ref mm), (1, .int (nI z1.toNat)), (2, .int (nI z2.toNat))]) hx hb dX5_fair_54 rfl hl (by decide) rfl (fun ls hl => ?_)
      refine lv_aload_n hx hb dX5_fair_55 rfl (lv_at hl 1 rfl) ?_
      refine lv_iload_n hx hb dX5_fair_56 rfl (lv_at hl 2 rfl) ?_
      refine lv_iload_n hx hb dX5_fair_57 rfl (lv_at hl 3 rfl) ?_
      refine x_V (n := 2) (As := [.int (nI z1.toNat), .int (nI z2.toNat)]) (rest := []) ⟨hx, hb, hml, hown, hts⟩ hK hC hA hH hS (mX5_findsBehind l G A f_1 hM_2 hB z1.toNat z2.toNat (by omega) (by omega)) q1066 q1068 qs14 q38 q1069 (by decide +kernel) ⟨Nat.le_of_ble_eq_true rfl, Nat.le_of_ble_eq_true rfl⟩ hM_2.1 rfl rfl rfl hl.1 rfl (Nat.le_of_ble_eq_true rfl) dX5_fair_58 (Nat.le_of_ble_eq_true rfl) (Nat.le_of_ble_eq_true rfl) (fun v f_7 H locs hp hH hS hz => ?_)
      obtain ⟨rfl, bhF_8, hM_9, hP_10, hkp_11⟩ := hp
      have hkp_12 := (hkp_3.trans hkp_11)
      refine x_norm (g2 := F0 m 61 ls []) (k := 0) (n := 0) (Nat.le_refl _) (Nat.le_refl _) rfl ?_
      refine lv_aload_n hx hb dX5_fair_61 rfl (lv_at hl 1 rfl) ?_
      refine lv_iload_n hx hb dX5_fair_62 rfl (lv_at hl 2 rfl) ?_
      refine lv_iload_n hx hb dX5_fair_63 rfl (lv_at hl 3 rfl) ?_
      refine x_V (n := 2) (As := [.int (nI z1.toNat), .int (nI z2.toNat)]) (rest := []) ⟨hx, hb, hml, hown, hts⟩ hK hC hA hH hS (mX5_laysLine l G A f_7 hM_9 hB z1.toNat z2.toNat (by omega) (by omega) hP_10) q1089 q1091 qs18 q38 q1092 (by decide +kernel) ⟨Nat.le_of_ble_eq_true rfl, Nat.le_of_ble_eq_true rfl⟩ hM_9.1 rfl rfl rfl hl.1 rfl (Nat.le_of_ble_eq_true rfl) dX5_fair_64 (Nat.le_of_ble_eq_true rfl) (Nat.le_of_ble_eq_true rfl) (fun v f_13 H locs hp hH hS hz => ?_)
      obtain ⟨rfl, liF_14, hM_15, hLi_16, hkp_17⟩ := hp
      have hkp_18 := (hkp_12.trans hkp_17)
      have hLiF := hLi_16
      refine x_norm (g2 := F0 m 67 ls []) (k := 0) (n := 0) (Nat.le_refl _) (Nat.le_refl _) rfl ?_
      refine lv_iconst (v := nI 0) hx hb dX5_fair_67 rfl ?_
      refine lv_istore (lv' := [(4, .int (nI 0)), (3, .int (oI (bendM hf z1.toNat))), (0, .ref mm), (1, .int (nI z1.toNat)), (2, .int (nI z2.toNat))]) hx hb dX5_fair_68 hl (by decide) rfl (fun ls hl => ?_)
      have hloop70 : ∀ (n : Nat) (i : Nat) (hfL : Nat → Nat) (fL70 : xF) (H : Heap) (locs : List Loc) (ls : Array Slot), i ≤ 9 → MM G fL70 mm ad cd nw ln nt sl td la hfL sa sw lf cf dd tt bhF_8 liF_14 → xkeep 1000 1010 f fL70 → (∀ x, hfL x = fairH hf z1.toNat (LN (h2 hf z1.toNat) z2.toNat) i x) → (9 - i) < n → xH G A fL70 H → va_S A s.heap H locs → lv_has ls 5 [(4, .int (nI i)), (3, .int (oI (bendM hf z1.toNat))), (0, .ref mm), (1, .int (nI z1.toNat)), (2, .int (nI z2.toNat))] → W p l e rmX5_fair s m ([.ref mm, .int (oI z1), .int (oI z2)] : List Value).toArray below meth c H locs 0 0 (MQ below (xQ G A (fun v f1 => ∃ bh1 li1 : Nat → Nat, v = some (.int (if cdFair z1 z2 la = 0 then oI (bendM hf z1.toNat - bendM (fairH hf z1.toNat (LN (h2 hf z1.toNat) z2.toNat) 9) z1.toNat) else nI 0)) ∧ MM G f1 mm ad (cdFair z1 z2 la) nw ln nt sl td la (if cdFair z1 z2 la = 0 then (fairH hf z1.toNat (LN (h2 hf z1.toNat) z2.toNat) 9) else hf) sa sw lf cf dd tt bh1 li1 ∧ xkeep 1000 1010 f f1)) ([.ref mm, .int (oI z1), .int (oI z2)] : List Value).toArray s rmX5_fair.cells rmX5_fair.slots A) (F0 m 70 ls []) := by
        intro n
        induction n with
        | zero => intro i hfL fL70 H locs ls hi hML70 hkL70 hfx hn; exact absurd hn (Nat.not_lt_zero _)
        | succ n ih70 =>
          intro i hfL fL70 H locs ls hi hML70 hkL70 hfx hn hH hS hl
          refine lv_iload hx hb dX5_fair_70 (lv_at hl 0 rfl) ?_
          refine lv_bipush (v := nI 9) hx hb dX5_fair_72 rfl ?_
          refine x_icmp_ge (tgt := 107) (P := 9 ≤ i) hx hb dX5_fair_74 (by decide) (nI_le' (by decide) (by omega)) (fun c74 => ?_) (fun c74 => ?_)
          · skip
            have hfe : hfL = (fairH hf z1.toNat (LN (h2 hf z1.toNat) z2.toNat) 9) := funext (fun x => by rw [hfx, show i = 9 by omega])
            refine lv_iload_n hx hb dX5_fair_107 rfl (lv_at hl 1 rfl) ?_
            refine lv_aload_n hx hb dX5_fair_108 rfl (lv_at hl 2 rfl) ?_
            refine lv_iload_n hx hb dX5_fair_109 rfl (lv_at hl 3 rfl) ?_
            refine x_V (n := 1) (As := [.int (nI z1.toNat)]) (rest := [.int (oI (bendM hf z1.toNat))]) ⟨hx, hb, hml, hown, hts⟩ hK hC hA hH hS (mX5_bendOf l G A fL70 hML70 z1.toNat (by omega)) q1055 q1057 qs13 q38 q1058 (by decide +kernel) ⟨Nat.le_of_ble_eq_true rfl, Nat.le_of_ble_eq_true rfl⟩ hML70.1 rfl rfl rfl hl.1 rfl (Nat.le_of_ble_eq_true rfl) dX5_fair_110 (Nat.le_of_ble_eq_true rfl) (Nat.le_of_ble_eq_true rfl) (fun v f_20 H locs hp hH hS hz => ?_)
            obtain ⟨rfl, rfl⟩ := hp
            refine x_norm (g2 := F0 m 113 ls [.int (oI (bendM hfL z1.toNat)), .int (oI (bendM hf z1.toNat))]) (k := 0) (n := 0) (Nat.le_refl _) (Nat.le_refl _) rfl ?_
            refine x_isub (v := oI ((bendM hf z1.toNat) - (bendM hfL z1.toNat))) hx hb (oI_sub' rfl rfl) dX5_fair_113 ?_
            exact x_iret hx hb hr hlk hH hS ⟨_, _, by simp only [if_pos h9]; rw [hfe], by simp only [if_pos h9]; rw [← hcd]; rw [hfe] at hML70; exact hML70, hkL70⟩ (Nat.le_of_ble_eq_true rfl) (Nat.le_of_ble_eq_true rfl) dX5_fair_114
          · skip
            have hLN := (LN_ok (tol := z2.toNat) hB9 (show i < 9 by omega)).2
            have hx9 : hfL (9 * z1.toNat + i) = hf (9 * z1.toNat + i) := by rw [hfx]; unfold fairH; rw [if_neg (by omega)]
            unfold mayP at hLN
            have hli9 := hLiF i (by omega)
            have hh9 : h2 hf z1.toNat i = hf (9 * z1.toNat + i) := rfl
            refine lv_aload_n hx hb dX5_fair_77 rfl (lv_at hl 2 rfl) ?_
            refine x_get (C := RX5) (T := TX5) (N := 16) (ci := 4) (v := .ref (ad 0)) hx hb hts in_X5 hown hK hH hML70.1 rfl 1 (by decide) (hts _ q978) (fun _ h9 => h9) rfl dX5_fair_78 ?_
            refine lv_bipush (v := nI 9) hx hb dX5_fair_81 rfl ?_
            refine lv_iload_n hx hb dX5_fair_83 rfl (lv_at hl 3 rfl) ?_
            refine x_imul (v := nI (9 * z1.toNat)) hx hb (pk_mul _ _) dX5_fair_84 ?_
            refine lv_iload hx hb dX5_fair_85 (lv_at hl 0 rfl) ?_
            refine x_iadd (v := nI ((9 * z1.toNat) + i)) hx hb (nI_add _ _) dX5_fair_87 ?_
            refine lv_dup2_11 hx hb dX5_fair_88 rfl rfl ?_
            refine x_iald (j := (9 * z1.toNat) + i) hx hb hK hH (show fL70 (ad 0) = some (xN G 1001 54 hfL) from hML70.2 0 (by decide)) rfl (by omega) (by decide) dX5_fair_89 ?_
            refine lv_aload_n hx hb dX5_fair_90 rfl (lv_at hl 2 rfl) ?_
            refine x_get (C := RX5) (T := TX5) (N := 16) (ci := 4) (v := .ref (ad 8)) hx hb hts in_X5 hown hK hH hML70.1 rfl 15 (by decide) (hts _ q992) (fun _ h9 => h9) rfl dX5_fair_91 ?_
            refine lv_iload hx hb dX5_fair_94 (lv_at hl 0 rfl) ?_
            refine x_iald (j := i) hx hb hK hH (show fL70 (ad 8) = some (xN G 1009 9 liF_14) from hML70.2 8 (by decide)) rfl (by omega) (by decide) dX5_fair_96 ?_
            refine lv_iconst (v := nI 2) hx hb dX5_fair_97 rfl ?_
            refine x_isub (v := oI (((liF_14 i : Nat) : Int) - ((2 : Nat) : Int))) hx hb (oI_sub' (nI_oI _) (nI_oI _)) dX5_fair_98 ?_
            refine x_iadd (v := oI (((hfL ((9 * z1.toNat) + i) : Nat) : Int) + (((liF_14 i : Nat) : Int) - ((2 : Nat) : Int)))) hx hb (oI_add' (nI_oI _) rfl) dX5_fair_99 ?_
            refine x_iast (j := (9 * z1.toNat) + i) (v := hf (9 * z1.toNat + i) + LN (h2 hf z1.toNat) z2.toNat i - 2) hx hb hK hH hS (show fL70 (ad 0) = some (xN G 1001 54 hfL) from hML70.2 0 (by decide)) rfl (by omega) (by decide) (oI_nI (by omega)) dX5_fair_100 (fun H locs f_21 ef_21 hH hS => ?_)
            have hM_22 : MM G f_21 mm ad cd nw ln nt sl td la (va_up hfL ((9 * z1.toNat) + i) (hf (9 * z1.toNat + i) + LN (h2 hf z1.toNat) z2.toNat i - 2)) sa sw lf cf dd tt bhF_8 liF_14 := by rw [ef_21]; exact hML70.arr0 _
            have hkp_23 : xkeep 1000 1010 f f_21 := by rw [ef_21]; exact hkL70.set (hML70.2 0 (by decide)) (by decide)
            refine lv_iinc (v := nI (i + 1)) (lv' := [(4, .int (nI (i + 1))), (3, .int (oI (bendM hf z1.toNat))), (0, .ref mm), (1, .int (nI z1.toNat)), (2, .int (nI z2.toNat))]) hx hb dX5_fair_101 hl (k := 0) rfl (nI_inc _) (by decide) rfl (fun ls hl => ?_)
            refine lv_goto (tgt := 70) hx hb dX5_fair_104 (by decide) ?_
            exact ih70 (i + 1) (va_up hfL ((9 * z1.toNat) + i) (hf (9 * z1.toNat + i) + LN (h2 hf z1.toNat) z2.toNat i - 2)) f_21 _ _ _ (by omega) hM_22 hkp_23 (fairH_step hfx hx9) (by omega) hH hS (lv_sub hl [0, 1, 2, 3, 4] rfl)
      exact hloop70 (9 - 0 + 1) 0 hf f_13 _ _ _ (by omega) hM_15 hkp_18 (fun x => by unfold fairH; rw [if_neg (by omega)]) (Nat.lt_succ_self _) hH hS (lv_sub hl [0, 1, 2, 3, 4] rfl)
    · skip
      have h9 : ¬ cdFair z1 z2 la = 0 := by rw [← hcd]; exact c44
      refine lv_iconst (v := nI 0) hx hb dX5_fair_47 rfl ?_
      exact x_iret hx hb hr hlk hH hS ⟨bh, li, by simp only [if_neg h9], by simp only [if_neg h9]; rw [← hcd]; exact hM_2, hkp_3⟩ (Nat.le_of_ble_eq_true rfl) (Nat.le_of_ble_eq_true rfl) dX5_fair_48
  refine lv_aload_n hx hb dX5_fair_0 rfl (lv_at hl 0 rfl) ?_
  refine lv_iload_n hx hb dX5_fair_1 rfl (lv_at hl 1 rfl) ?_
  refine x_S (n := 1) (As := [.int (oI z1)]) (rest := [.ref mm]) ⟨hx, hb, hml, hown, hts⟩ hK hC hA hH hS (mX5_isWaterline l G A f z1 hz1) q1040 q1041 q38 q1042 (by decide +kernel) ⟨Nat.le_of_ble_eq_true rfl, Nat.le_of_ble_eq_true rfl⟩ rfl hl.1 rfl (Nat.le_of_ble_eq_true rfl) dX5_fair_2 (Nat.le_of_ble_eq_true rfl) (Nat.le_of_ble_eq_true rfl) (fun v f_24 H locs hp hH hS hz => ?_)
  obtain ⟨rfl, rfl⟩ := hp
  refine x_norm (g2 := F0 m 5 ls [.int (nI (xb (0 ≤ z1 ∧ z1 ≤ 5))), .ref mm]) (k := 0) (n := 0) (Nat.le_refl _) (Nat.le_refl _) rfl ?_
  refine x_ifbne (tgt := 12) (B := 0 ≤ z1 ∧ z1 ≤ 5) hx hb dX5_fair_5 (by decide) (fun c5 => ?_) (fun c5 => ?_)
  · skip
    refine lv_iload_n hx hb dX5_fair_12 rfl (lv_at hl 2 rfl) ?_
    refine lv_iconst (v := nI 0) hx hb dX5_fair_13 rfl ?_
    refine lv_iconst (v := nI 2) hx hb dX5_fair_14 rfl ?_
    refine x_S (n := 3) (As := [.int (oI z2), .int (nI 0), .int (nI 2)]) (rest := [.ref mm]) ⟨hx, hb, hml, hown, hts⟩ hK hC hA hH hS (mX5_in l G A f _ _ _ z2 ((0 : Nat) : Int) ((2 : Nat) : Int) rfl (nI_oI _) (nI_oI _) hz2 (by decide) (by decide)) q1037 q1038 q38 q1039 (by decide +kernel) ⟨Nat.le_of_ble_eq_true rfl, Nat.le_of_ble_eq_true rfl⟩ rfl hl.1 rfl (Nat.le_of_ble_eq_true rfl) dX5_fair_15 (Nat.le_of_ble_eq_true rfl) (Nat.le_of_ble_eq_true rfl) (fun v f_25 H locs hp hH hS hz => ?_)
    obtain ⟨rfl, rfl⟩ := hp
    refine x_norm (g2 := F0 m 18 ls [.int (nI (xb (((0 : Nat) : Int) ≤ z2 ∧ z2 ≤ ((2 : Nat) : Int)))), .ref mm]) (k := 0) (n := 0) (Nat.le_refl _) (Nat.le_refl _) rfl ?_
    refine x_ifbne (tgt := 25) (B := ((0 : Nat) : Int) ≤ z2 ∧ z2 ≤ ((2 : Nat) : Int)) hx hb dX5_fair_18 (by decide) (fun c18 => ?_) (fun c18 => ?_)
    · skip
      refine lv_aload_n hx hb dX5_fair_25 rfl (lv_at hl 0 rfl) ?_
      refine x_get (C := RX5) (T := TX5) (N := 16) (ci := 4) (v := .int (nI la)) hx hb hts in_X5 hown hK hH hM.1 rfl 13 (by decide) (hts _ q990) (fun _ h9 => h9) rfl dX5_fair_26 ?_
      refine x_if_eq (tgt := 36) (P := la = 0) hx hb dX5_fair_29 (by decide) (nI_eq0 (by omega)) (fun c29 => ?_) (fun c29 => ?_)
      · skip
        refine lv_iconst (v := nI 0) hx hb dX5_fair_36 rfl ?_
        exact hj37 0 _ _ _ (by unfold cdFair; split <;> first | rfl | (exfalso; omega) | (split <;> first | rfl | (exfalso; omega) | (split <;> first | rfl | (exfalso; omega)))) hH hS (lv_sub hl [0, 1, 2] rfl)
      · skip
        refine lv_iconst (v := nI 3) hx hb dX5_fair_32 rfl ?_
        refine lv_goto (tgt := 37) hx hb dX5_fair_33 (by decide) ?_
        exact hj37 3 _ _ _ (by unfold cdFair; split <;> first | rfl | (exfalso; omega) | (split <;> first | rfl | (exfalso; omega) | (split <;> first | rfl | (exfalso; omega)))) hH hS (lv_sub hl [0, 1, 2] rfl)
    · skip
      refine lv_iconst (v := nI 2) hx hb dX5_fair_21 rfl ?_
      refine lv_goto (tgt := 37) hx hb dX5_fair_22 (by decide) ?_
      exact hj37 2 _ _ _ (by unfold cdFair; split <;> first | rfl | (exfalso; omega) | (split <;> first | rfl | (exfalso; omega) | (split <;> first | rfl | (exfalso; omega)))) hH hS (lv_sub hl [0, 1, 2] rfl)
  · skip
    refine lv_iconst (v := nI 1) hx hb dX5_fair_8 rfl ?_
    refine lv_goto (tgt := 37) hx hb dX5_fair_9 (by decide) ?_
    exact hj37 1 _ _ _ (by unfold cdFair; split <;> first | rfl | (exfalso; omega) | (split <;> first | rfl | (exfalso; omega) | (split <;> first | rfl | (exfalso; omega)))) hH hS (lv_sub hl [0, 1, 2] rfl)
