/-! THE COMPONENT, draughts, means (printed by genc.py) -/
set_option maxRecDepth 100000
abbrev rmX1_draughtOf : Room := { frames := 1, cells := 0, slots := 0, locals := 40 }
set_option maxHeartbeats 4000000 in
set_option maxRecDepth 100000 in
theorem mX1_draughtOf (l : Launch) (G : xG) (A : Nat → Prop) (f : xF) {t9 q9 : Nat} {g9 : Nat → Nat} (hq : f q9 = some (xN G t9 6 g9)) (ld : Nat) (hld : ld < 2147483648) (hgb : ∀ k, k < 6 → g9 k < 2147483648) : xMet l yX1_draughtOf cX1_draughtOf 3 (some .int) rmX1_draughtOf G A f [.int (nI ld), .ref q9] (fun v f1 => v = some (.int (oI (drZ g9 ld))) ∧ f = f1) := by
  refine x_start (by decide) (Nat.le_of_ble_eq_true rfl) ?_
  intro p e s m below meth c ls X hH hS hl
  obtain ⟨hx, hb, hr, hlk, hml, hown, hts, hK, hC, hA, hnm, hmn⟩ := X
  have hl : lv_has ls 3 [(0, .int (nI ld)), (1, .ref q9)] := hl
  refine lv_iconst (v := nI 0) hx hb dX1_draughtOf_0 rfl ?_
  refine lv_istore_n (lv' := [(2, .int (nI 0)), (0, .int (nI ld)), (1, .ref q9)]) hx hb dX1_draughtOf_1 rfl hl (by decide) rfl (fun ls hl => ?_)
  have hloop2 : ∀ (n : Nat) (k : Nat) (H : Heap) (locs : List Loc) (ls : Array Slot), k ≤ 6 → drZ g9 ld = frst (fun k => decide (ld ≤ g9 k)) k (6 - k) → (6 - k) < n → xH G A f H → va_S A s.heap H locs → lv_has ls 3 [(2, .int (nI k)), (0, .int (nI ld)), (1, .ref q9)] → W p l e rmX1_draughtOf s m ([.int (nI ld), .ref q9] : List Value).toArray below meth c H locs 0 0 (MQ below (xQ G A (fun v f1 => v = some (.int (oI (drZ g9 ld))) ∧ f = f1)) ([.int (nI ld), .ref q9] : List Value).toArray s rmX1_draughtOf.cells rmX1_draughtOf.slots A) (F0 m 2 ls []) := by
    intro n
    induction n with
    | zero => intro k H locs ls hk hfr hn; exact absurd hn (Nat.not_lt_zero _)
    | succ n ih2 =>
      intro k H locs ls hk hfr hn hH hS hl
      refine lv_iload_n hx hb dX1_draughtOf_2 rfl (lv_at hl 0 rfl) ?_
      refine lv_bipush (v := nI 6) hx hb dX1_draughtOf_3 rfl ?_
      refine x_icmp_ge (tgt := 23) (P := 6 ≤ k) hx hb dX1_draughtOf_5 (by decide) (nI_le' (by decide) (by omega)) (fun c5 => ?_) (fun c5 => ?_)
      · skip
        refine lv_iconst (v := oI (-1)) hx hb dX1_draughtOf_23 rfl ?_
        exact x_iret hx hb hr hlk hH hS ⟨by rw [hfr, show 6 - k = 0 by omega]; rfl, rfl⟩ (Nat.le_of_ble_eq_true rfl) (Nat.le_of_ble_eq_true rfl) dX1_draughtOf_24
      · skip
        have hg1 := hgb k (by omega)
        refine lv_aload_n hx hb dX1_draughtOf_8 rfl (lv_at hl 2 rfl) ?_
        refine lv_iload_n hx hb dX1_draughtOf_9 rfl (lv_at hl 0 rfl) ?_
        refine x_iald (j := k) hx hb hK hH hq rfl (by omega) (by decide) dX1_draughtOf_10 ?_
        refine lv_iload_n hx hb dX1_draughtOf_11 rfl (lv_at hl 1 rfl) ?_
        refine x_icmp_lt (tgt := 17) (P := (g9 k) < ld) hx hb dX1_draughtOf_12 (by decide) (nI_lt' (by omega) (by omega)) (fun c12 => ?_) (fun c12 => ?_)
        · skip
          refine lv_iinc (v := nI (k + 1)) (lv' := [(2, .int (nI (k + 1))), (0, .int (nI ld)), (1, .ref q9)]) hx hb dX1_draughtOf_17 hl (k := 0) rfl (nI_inc _) (by decide) rfl (fun ls hl => ?_)
          refine lv_goto (tgt := 2) hx hb dX1_draughtOf_20 (by decide) ?_
          exact ih2 (k + 1) _ _ _ (by omega) (by rw [hfr, show 6 - k = (6 - (k + 1)) + 1 by omega, frst_ahead, if_neg (by simp; omega)]) (by omega) hH hS (lv_sub hl [0, 1, 2] rfl)
        · skip
          refine lv_iload_n hx hb dX1_draughtOf_15 rfl (lv_at hl 0 rfl) ?_
          exact x_iret hx hb hr hlk hH hS ⟨by rw [hfr, show 6 - k = (6 - (k + 1)) + 1 by omega, frst_ahead, if_pos (by simp; omega), ← nI_oI], rfl⟩ (Nat.le_of_ble_eq_true rfl) (Nat.le_of_ble_eq_true rfl) dX1_draughtOf_16
  exact hloop2 (6 - 0 + 1) 0 _ _ _ (by omega) rfl (Nat.lt_succ_self _) hH hS (lv_sub hl [0, 1, 2] rfl)

abbrev rmX1_by : Room := { frames := 2, cells := 0, slots := 0, locals := 80 }
set_option maxHeartbeats 4000000 in
set_option maxRecDepth 100000 in
theorem mX1_by (l : Launch) (G : xG) (A : Nat → Prop) (f : xF) (mo al : Nat) (hmo : 100 * mo < 2147483648) (hal : al < 2147483648) : xMet l yX1_by cX1_by 2 (some .int) rmX1_by G A f [.int (nI mo), .int (nI al)] (fun v f1 => v = some (.int (nI (meanN mo al))) ∧ f = f1) := by
  refine x_start (by decide) (Nat.le_of_ble_eq_true rfl) ?_
  intro p e s m below meth c ls X hH hS hl
  obtain ⟨hx, hb, hr, hlk, hml, hown, hts, hK, hC, hA, hnm, hmn⟩ := X
  have hl : lv_has ls 2 [(0, .int (nI mo)), (1, .int (nI al))] := hl
  refine lv_iload_n hx hb dX1_by_0 rfl (lv_at hl 1 rfl) ?_
  refine x_if_ne (tgt := 8) (P := al = 0) hx hb dX1_by_1 (by decide) (nI_eq0 (by omega)) (fun c1 => ?_) (fun c1 => ?_)
  · skip
    refine lv_bipush (v := nI 100) hx hb dX1_by_8 rfl ?_
    refine lv_iload_n hx hb dX1_by_10 rfl (lv_at hl 0 rfl) ?_
    refine x_imul (v := nI (100 * mo)) hx hb (pk_mul _ _) dX1_by_11 ?_
    refine lv_iload_n hx hb dX1_by_12 rfl (lv_at hl 1 rfl) ?_
    refine x_fdiv hx hb (hml.trans hl.1.symm) hown (hts _ q276) (hts _ q277) (hts _ q50) (hts _ q278) (Nat.le_of_ble_eq_true rfl) (Nat.le_of_ble_eq_true rfl) (Nat.le_of_ble_eq_true rfl) (Nat.le_of_ble_eq_true rfl) (by omega) (by omega) (by omega) dX1_by_13 ?_
    refine W.eq (g2 := F0 m 16 ls [.int (nI ((100 * mo) / al))]) rfl ?_
    exact x_iret hx hb hr hlk hH hS ⟨by unfold meanN; first | rw [if_pos (by omega)] | rw [if_neg (by omega)], rfl⟩ (Nat.le_of_ble_eq_true rfl) (Nat.le_of_ble_eq_true rfl) dX1_by_16
  · skip
    refine lv_iconst (v := nI 0) hx hb dX1_by_4 rfl ?_
    refine lv_goto (tgt := 16) hx hb dX1_by_5 (by decide) ?_
    exact x_iret hx hb hr hlk hH hS ⟨by unfold meanN; first | rw [if_pos (by omega)] | rw [if_neg (by omega)], rfl⟩ (Nat.le_of_ble_eq_true rfl) (Nat.le_of_ble_eq_true rfl) dX1_by_16

abbrev rmX1_trimOf : Room := { frames := 3, cells := 0, slots := 0, locals := 120 }
set_option maxHeartbeats 4000000 in
set_option maxRecDepth 100000 in
theorem mX1_trimOf (l : Launch) (G : xG) (A : Nat → Prop) (f : xF) {t9 q9 t8 q8 : Nat} {g9 g8 : Nat → Nat} (hq : f q9 = some (xN G t9 6 g9)) (hq8 : f q8 = some (xN G t8 6 g8)) (ld mo : Nat) (hld : ld < 2147483648) (hmo : 100 * mo < 2147483648) (hgb : ∀ k, k < 6 → g9 k < 2147483648) (hgb8 : ∀ k, k < 6 → 100 * g8 k < 2147483648) : xMet l yX1_trimOf cX1_trimOf 5 (some .int) rmX1_trimOf G A f [.int (nI ld), .int (nI mo), .ref q9, .ref q8] (fun v f1 => v = some (.int (oI (trZ g9 g8 ld mo))) ∧ f = f1) := by
  refine x_start (by decide) (Nat.le_of_ble_eq_true rfl) ?_
  intro p e s m below meth c ls X hH hS hl
  obtain ⟨hx, hb, hr, hlk, hml, hown, hts, hK, hC, hA, hnm, hmn⟩ := X
  have hl : lv_has ls 5 [(0, .int (nI ld)), (1, .int (nI mo)), (2, .ref q9), (3, .ref q8)] := hl
  have hd9 := drZ_bd g9 ld
  refine lv_iload_n hx hb dX1_trimOf_0 rfl (lv_at hl 0 rfl) ?_
  refine lv_aload_n hx hb dX1_trimOf_1 rfl (lv_at hl 2 rfl) ?_
  refine x_S (n := 2) (As := [.int (nI ld), .ref q9]) (rest := []) ⟨hx, hb, hml, hown, hts⟩ hK hC hA hH hS (mX1_draughtOf l G A f hq ld (by omega) hgb) q251 q252 q32 q253 (by decide +kernel) ⟨Nat.le_of_ble_eq_true rfl, Nat.le_of_ble_eq_true rfl⟩ rfl hl.1 rfl (Nat.le_of_ble_eq_true rfl) dX1_trimOf_2 (Nat.le_of_ble_eq_true rfl) (Nat.le_of_ble_eq_true rfl) (fun v f_1 H locs hp hH hS hz => ?_)
  obtain ⟨rfl, rfl⟩ := hp
  refine x_norm (g2 := F0 m 5 ls [.int (oI (drZ g9 ld))]) (k := 0) (n := 0) (Nat.le_refl _) (Nat.le_refl _) rfl ?_
  refine lv_istore (lv' := [(4, .int (oI (drZ g9 ld))), (0, .int (nI ld)), (1, .int (nI mo)), (2, .ref q9), (3, .ref q8)]) hx hb dX1_trimOf_5 hl (by decide) rfl (fun ls hl => ?_)
  refine lv_iload hx hb dX1_trimOf_7 (lv_at hl 0 rfl) ?_
  refine lv_iconst (v := oI (-1)) hx hb dX1_trimOf_9 rfl ?_
  refine x_icmp_ne (tgt := 17) (P := (drZ g9 ld) = (-1)) hx hb dX1_trimOf_10 (by decide) (oI_eq' rfl rfl ⟨by omega, by omega⟩ ⟨by omega, by omega⟩) (fun c10 => ?_) (fun c10 => ?_)
  · skip
    have hd8 := drZ_nat (show ¬ drZ g9 ld = -1 from c10)
    have e_2 : (oI (drZ g9 ld) : Int32) = nI ((drZ g9 ld).toNat) := oI_nI (by omega)
    have hl : lv_has ls 5 [(4, .int (nI ((drZ g9 ld).toNat))), (0, .int (nI ld)), (1, .int (nI mo)), (2, .ref q9), (3, .ref q8)] := xl_eq hl (xl_cons (congrArg (fun x => ((4 : Nat), Value.int x)) e_2) rfl)
    have hg1 := hgb (drZ g9 ld).toNat (by omega)
    have hg2 := hgb8 (drZ g9 ld).toNat (by omega)
    refine lv_iload_n hx hb dX1_trimOf_17 rfl (lv_at hl 2 rfl) ?_
    refine lv_iload_n hx hb dX1_trimOf_18 rfl (lv_at hl 1 rfl) ?_
    refine x_S (n := 2) (As := [.int (nI mo), .int (nI ld)]) (rest := []) ⟨hx, hb, hml, hown, hts⟩ hK hC hA hH hS (mX1_by l G A f mo ld (by omega) (by omega)) q273 q274 q32 q275 (by decide +kernel) ⟨Nat.le_of_ble_eq_true rfl, Nat.le_of_ble_eq_true rfl⟩ rfl hl.1 rfl (Nat.le_of_ble_eq_true rfl) dX1_trimOf_19 (Nat.le_of_ble_eq_true rfl) (Nat.le_of_ble_eq_true rfl) (fun v f_3 H locs hp hH hS hz => ?_)
    obtain ⟨rfl, rfl⟩ := hp
    refine x_norm (g2 := F0 m 22 ls [.int (nI (meanN mo ld))]) (k := 0) (n := 0) (Nat.le_refl _) (Nat.le_refl _) rfl ?_
    refine lv_aload_n hx hb dX1_trimOf_22 rfl (lv_at hl 4 rfl) ?_
    refine lv_iload hx hb dX1_trimOf_23 (lv_at hl 0 rfl) ?_
    refine x_iald (j := (drZ g9 ld).toNat) hx hb hK hH hq8 rfl (by omega) (by decide) dX1_trimOf_25 ?_
    refine lv_aload_n hx hb dX1_trimOf_26 rfl (lv_at hl 3 rfl) ?_
    refine lv_iload hx hb dX1_trimOf_27 (lv_at hl 0 rfl) ?_
    refine x_iald (j := (drZ g9 ld).toNat) hx hb hK hH hq rfl (by omega) (by decide) dX1_trimOf_29 ?_
    refine x_S (n := 2) (As := [.int (nI (g8 ((drZ g9 ld).toNat))), .int (nI (g9 ((drZ g9 ld).toNat)))]) (rest := [.int (nI (meanN mo ld))]) ⟨hx, hb, hml, hown, hts⟩ hK hC hA hH hS (mX1_by l G A f (g8 ((drZ g9 ld).toNat)) (g9 ((drZ g9 ld).toNat)) (by omega) (by omega)) q273 q274 q32 q275 (by decide +kernel) ⟨Nat.le_of_ble_eq_true rfl, Nat.le_of_ble_eq_true rfl⟩ rfl hl.1 rfl (Nat.le_of_ble_eq_true rfl) dX1_trimOf_30 (Nat.le_of_ble_eq_true rfl) (Nat.le_of_ble_eq_true rfl) (fun v f_4 H locs hp hH hS hz => ?_)
    obtain ⟨rfl, rfl⟩ := hp
    refine x_norm (g2 := F0 m 33 ls [.int (nI (meanN (g8 ((drZ g9 ld).toNat)) (g9 ((drZ g9 ld).toNat)))), .int (nI (meanN mo ld))]) (k := 0) (n := 0) (Nat.le_refl _) (Nat.le_refl _) rfl ?_
    refine x_isub (v := oI (((meanN mo ld : Nat) : Int) - ((meanN (g8 ((drZ g9 ld).toNat)) (g9 ((drZ g9 ld).toNat)) : Nat) : Int))) hx hb (oI_sub' (nI_oI _) (nI_oI _)) dX1_trimOf_33 ?_
    exact x_iret hx hb hr hlk hH hS ⟨by unfold trZ; rw [if_neg c10], rfl⟩ (Nat.le_of_ble_eq_true rfl) (Nat.le_of_ble_eq_true rfl) dX1_trimOf_34
  · skip
    refine lv_iconst (v := nI 0) hx hb dX1_trimOf_13 rfl ?_
    refine lv_goto (tgt := 34) hx hb dX1_trimOf_14 (by decide) ?_
    exact x_iret hx hb hr hlk hH hS ⟨by unfold trZ; rw [if_pos c10]; rfl, rfl⟩ (Nat.le_of_ble_eq_true rfl) (Nat.le_of_ble_eq_true rfl) dX1_trimOf_34
