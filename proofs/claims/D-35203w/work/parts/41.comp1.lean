/-! THE COMPONENT, strakes, bends, weights (printed by genc.py) -/
set_option maxRecDepth 100000
abbrev rmX2_strake : Room := { frames := 2, cells := 0, slots := 0, locals := 80 }
set_option maxHeartbeats 4000000 in
set_option maxRecDepth 100000 in
theorem mX2_strake (l : Launch) (G : xG) (A : Nat → Prop) (f : xF) {hu hv xx : Nat} {ra : Nat → Nat} {rw9 : Nat → Nat → Nat} (hU : HU G f hu hv xx ra rw9) (hB : ∀ w s, w < 6 → s < 9 → rw9 w s ≤ 200) (k9 : Nat) (hk9 : k9 < 6) : xMet l yX2_strake cX2_strake 4 (some .int) rmX2_strake G A f [.ref hu, .int (nI k9)] (fun v f1 => v = some (.int (nI (strN rw9 k9))) ∧ f = f1) := by
  refine x_start (by decide) (Nat.le_of_ble_eq_true rfl) ?_
  intro p e s m below meth c ls X hH hS hl
  obtain ⟨hx, hb, hr, hlk, hml, hown, hts, hK, hC, hA, hnm, hmn⟩ := X
  have hl : lv_has ls 4 [(0, .ref hu), (1, .int (nI k9))] := hl
  refine lv_iconst (v := nI 0) hx hb dX2_strake_0 rfl ?_
  refine lv_istore_n (lv' := [(2, .int (nI 0)), (0, .ref hu), (1, .int (nI k9))]) hx hb dX2_strake_1 rfl hl (by decide) rfl (fun ls hl => ?_)
  refine lv_iconst (v := nI 0) hx hb dX2_strake_2 rfl ?_
  refine lv_istore_n (lv' := [(3, .int (nI 0)), (2, .int (nI 0)), (0, .ref hu), (1, .int (nI k9))]) hx hb dX2_strake_3 rfl hl (by decide) rfl (fun ls hl => ?_)
  have hloop4 : ∀ (n : Nat) (k : Nat) (H : Heap) (locs : List Loc) (ls : Array Slot), k ≤ 8 → (8 - k) < n → xH G A f H → va_S A s.heap H locs → lv_has ls 4 [(3, .int (nI k)), (2, .int (nI (sumN (fun i => 10 + ((rw9 k9 i : Int) - (rw9 k9 (i + 1) : Int)).natAbs) k))), (0, .ref hu), (1, .int (nI k9))] → W p l e rmX2_strake s m ([.ref hu, .int (nI k9)] : List Value).toArray below meth c H locs 0 0 (MQ below (xQ G A (fun v f1 => v = some (.int (nI (strN rw9 k9))) ∧ f = f1)) ([.ref hu, .int (nI k9)] : List Value).toArray s rmX2_strake.cells rmX2_strake.slots A) (F0 m 4 ls []) := by
    intro n
    induction n with
    | zero => intro k H locs ls hk hn; exact absurd hn (Nat.not_lt_zero _)
    | succ n ih4 =>
      intro k H locs ls hk hn hH hS hl
      refine lv_iload_n hx hb dX2_strake_4 rfl (lv_at hl 0 rfl) ?_
      refine lv_iconst (v := nI 1) hx hb dX2_strake_5 rfl ?_
      refine x_iadd (v := nI (k + 1)) hx hb (nI_add _ _) dX2_strake_6 ?_
      refine lv_bipush (v := nI 9) hx hb dX2_strake_7 rfl ?_
      refine x_icmp_ge (tgt := 46) (P := 9 ≤ (k + 1)) hx hb dX2_strake_9 (by decide) (nI_le' (by decide) (by omega)) (fun c9 => ?_) (fun c9 => ?_)
      · skip
        refine lv_iload_n hx hb dX2_strake_46 rfl (lv_at hl 1 rfl) ?_
        exact x_iret hx hb hr hlk hH hS ⟨by rw [show k = 8 by omega]; rfl, rfl⟩ (Nat.le_of_ble_eq_true rfl) (Nat.le_of_ble_eq_true rfl) dX2_strake_47
      · skip
        have hb1 := hB k9 k hk9 (by omega)
        have hb2 := hB k9 (k + 1) hk9 (by omega)
        refine lv_iload_n hx hb dX2_strake_12 rfl (lv_at hl 1 rfl) ?_
        refine lv_bipush (v := nI 10) hx hb dX2_strake_13 rfl ?_
        refine lv_aload_n hx hb dX2_strake_15 rfl (lv_at hl 2 rfl) ?_
        refine x_get (C := RX2) (T := TX2) (N := 2) (ci := 1) (v := .ref hv) hx hb hts in_X2 hown hK hH hU.1 rfl 0 (by decide) (hts _ q76) (fun _ h9 => h9) rfl dX2_strake_16 ?_
        refine lv_iload_n hx hb dX2_strake_19 rfl (lv_at hl 3 rfl) ?_
        refine x_aald (j := k9) (k := 3) hx hb hK hH hU.2.1 rfl rfl rfl (by omega) (by decide) dX2_strake_20 ?_
        refine x_norm (g2 := F0 m 21 ls [.ref (ra k9), .int (nI 10), .int (nI (sumN (fun i => 10 + ((rw9 k9 i : Int) - (rw9 k9 (i + 1) : Int)).natAbs) k))]) (Nat.le_refl _) (Nat.le_refl _) (congrArg (fun x9 => F0 m 21 ls (va_rf x9 :: [.int (nI 10), .int (nI (sumN (fun i => 10 + ((rw9 k9 i : Int) - (rw9 k9 (i + 1) : Int)).natAbs) k))])) (show (fun k => some (ra k)) k9 = some (ra k9) from rfl)) ?_
        refine lv_iload_n hx hb dX2_strake_21 rfl (lv_at hl 0 rfl) ?_
        refine x_iald (j := k) hx hb hK hH (hU.2.2 k9 (by omega)) rfl (by omega) (by decide) dX2_strake_22 ?_
        refine lv_aload_n hx hb dX2_strake_23 rfl (lv_at hl 2 rfl) ?_
        refine x_get (C := RX2) (T := TX2) (N := 2) (ci := 1) (v := .ref hv) hx hb hts in_X2 hown hK hH hU.1 rfl 0 (by decide) (hts _ q76) (fun _ h9 => h9) rfl dX2_strake_24 ?_
        refine lv_iload_n hx hb dX2_strake_27 rfl (lv_at hl 3 rfl) ?_
        refine x_aald (j := k9) (k := 3) hx hb hK hH hU.2.1 rfl rfl rfl (by omega) (by decide) dX2_strake_28 ?_
        refine x_norm (g2 := F0 m 29 ls [.ref (ra k9), .int (nI ((rw9 k9) k)), .int (nI 10), .int (nI (sumN (fun i => 10 + ((rw9 k9 i : Int) - (rw9 k9 (i + 1) : Int)).natAbs) k))]) (Nat.le_refl _) (Nat.le_refl _) (congrArg (fun x9 => F0 m 29 ls (va_rf x9 :: [.int (nI ((rw9 k9) k)), .int (nI 10), .int (nI (sumN (fun i => 10 + ((rw9 k9 i : Int) - (rw9 k9 (i + 1) : Int)).natAbs) k))])) (show (fun k => some (ra k)) k9 = some (ra k9) from rfl)) ?_
        refine lv_iload_n hx hb dX2_strake_29 rfl (lv_at hl 0 rfl) ?_
        refine lv_iconst (v := nI 1) hx hb dX2_strake_30 rfl ?_
        refine x_iadd (v := nI (k + 1)) hx hb (nI_add _ _) dX2_strake_31 ?_
        refine x_iald (j := k + 1) hx hb hK hH (hU.2.2 k9 (by omega)) rfl (by omega) (by decide) dX2_strake_32 ?_
        refine x_isub (v := oI ((((rw9 k9) k : Nat) : Int) - (((rw9 k9) (k + 1) : Nat) : Int))) hx hb (oI_sub' (nI_oI _) (nI_oI _)) dX2_strake_33 ?_
        refine va_mabs hx hb (hml.trans hl.1.symm) hown (hts _ q731) (hts _ q286) (hts _ q50) (hts _ q287) (Nat.le_of_ble_eq_true rfl) (Nat.le_of_ble_eq_true rfl) (Nat.le_of_ble_eq_true rfl) (Nat.le_of_ble_eq_true rfl) dX2_strake_34 ?_
        rw [xabs (z := ((((rw9 k9) k : Nat) : Int) - (((rw9 k9) (k + 1) : Nat) : Int))) rfl ⟨by omega, by omega⟩]
        refine W.eq (g2 := F0 m 37 ls [.int (nI (((((rw9 k9) k : Nat) : Int) - (((rw9 k9) (k + 1) : Nat) : Int)).natAbs)), .int (nI 10), .int (nI (sumN (fun i => 10 + ((rw9 k9 i : Int) - (rw9 k9 (i + 1) : Int)).natAbs) k))]) rfl ?_
        refine x_iadd (v := nI (10 + (((((rw9 k9) k : Nat) : Int) - (((rw9 k9) (k + 1) : Nat) : Int)).natAbs))) hx hb (nI_add _ _) dX2_strake_37 ?_
        refine x_iadd (v := nI ((sumN (fun i => 10 + ((rw9 k9 i : Int) - (rw9 k9 (i + 1) : Int)).natAbs) k) + (10 + (((((rw9 k9) k : Nat) : Int) - (((rw9 k9) (k + 1) : Nat) : Int)).natAbs)))) hx hb (nI_add _ _) dX2_strake_38 ?_
        refine lv_istore_n (lv' := [(2, .int (nI ((sumN (fun i => 10 + ((rw9 k9 i : Int) - (rw9 k9 (i + 1) : Int)).natAbs) k) + (10 + (((((rw9 k9) k : Nat) : Int) - (((rw9 k9) (k + 1) : Nat) : Int)).natAbs))))), (3, .int (nI k)), (0, .ref hu), (1, .int (nI k9))]) hx hb dX2_strake_39 rfl hl (by decide) rfl (fun ls hl => ?_)
        refine lv_iinc (v := nI (k + 1)) (lv' := [(3, .int (nI (k + 1))), (2, .int (nI ((sumN (fun i => 10 + ((rw9 k9 i : Int) - (rw9 k9 (i + 1) : Int)).natAbs) k) + (10 + (((((rw9 k9) k : Nat) : Int) - (((rw9 k9) (k + 1) : Nat) : Int)).natAbs))))), (0, .ref hu), (1, .int (nI k9))]) hx hb dX2_strake_40 hl (k := 1) rfl (nI_inc _) (by decide) rfl (fun ls hl => ?_)
        refine lv_goto (tgt := 4) hx hb dX2_strake_43 (by decide) ?_
        have e_2 : (nI ((sumN (fun i => 10 + ((rw9 k9 i : Int) - (rw9 k9 (i + 1) : Int)).natAbs) k) + (10 + (((((rw9 k9) k : Nat) : Int) - (((rw9 k9) (k + 1) : Nat) : Int)).natAbs))) : Int32) = nI (sumN (fun i => 10 + ((rw9 k9 i : Int) - (rw9 k9 (i + 1) : Int)).natAbs) (k + 1)) := by rfl
        have hl : lv_has ls 4 [(3, .int (nI (k + 1))), (2, .int (nI (sumN (fun i => 10 + ((rw9 k9 i : Int) - (rw9 k9 (i + 1) : Int)).natAbs) (k + 1)))), (0, .ref hu), (1, .int (nI k9))] := xl_eq hl (xl_cons rfl (xl_cons (congrArg (fun x => ((2 : Nat), Value.int x)) e_2) rfl))
        exact ih4 (k + 1) _ _ _ (by omega) (by omega) hH hS (lv_sub hl [0, 1, 2, 3] rfl)
  have e_3 : (nI 0 : Int32) = nI (sumN (fun i => 10 + ((rw9 k9 i : Int) - (rw9 k9 (i + 1) : Int)).natAbs) 0) := by rfl
  have hl : lv_has ls 4 [(3, .int (nI 0)), (2, .int (nI (sumN (fun i => 10 + ((rw9 k9 i : Int) - (rw9 k9 (i + 1) : Int)).natAbs) 0))), (0, .ref hu), (1, .int (nI k9))] := xl_eq hl (xl_cons rfl (xl_cons (congrArg (fun x => ((2 : Nat), Value.int x)) e_3) rfl))
  exact hloop4 (8 - 0 + 1) 0 _ _ _ (by omega) (Nat.lt_succ_self _) hH hS (lv_sub hl [0, 1, 2, 3] rfl)

def bendL (g : Nat → Nat) : Int := sumZ (fun i => sqZ (((g i + g (i + 2) : Nat) : Int) - ((2 * g (i + 1) : Nat) : Int))) 7
abbrev rmX1_bendOf : Room := { frames := 1, cells := 0, slots := 0, locals := 40 }
set_option maxHeartbeats 4000000 in
set_option maxRecDepth 100000 in
theorem mX1_bendOf (l : Launch) (G : xG) (A : Nat → Prop) (f : xF) {t9 q9 : Nat} {g9 : Nat → Nat} (hq : f q9 = some (xN G t9 9 g9)) : xMet l yX1_bendOf cX1_bendOf 4 (some .int) rmX1_bendOf G A f [.ref q9] (fun v f1 => v = some (.int (oI (bendL g9))) ∧ f = f1) := by
  refine x_start (by decide) (Nat.le_of_ble_eq_true rfl) ?_
  intro p e s m below meth c ls X hH hS hl
  obtain ⟨hx, hb, hr, hlk, hml, hown, hts, hK, hC, hA, hnm, hmn⟩ := X
  have hl : lv_has ls 4 [(0, .ref q9)] := hl
  refine lv_iconst (v := nI 0) hx hb dX1_bendOf_0 rfl ?_
  refine lv_istore_n (lv' := [(1, .int (nI 0)), (0, .ref q9)]) hx hb dX1_bendOf_1 rfl hl (by decide) rfl (fun ls hl => ?_)
  refine lv_iconst (v := nI 1) hx hb dX1_bendOf_2 rfl ?_
  refine lv_istore_n (lv' := [(2, .int (nI 1)), (1, .int (nI 0)), (0, .ref q9)]) hx hb dX1_bendOf_3 rfl hl (by decide) rfl (fun ls hl => ?_)
  have hloop4 : ∀ (n : Nat) (j : Nat) (H : Heap) (locs : List Loc) (ls : Array Slot), j ≤ 7 → (7 - j) < n → xH G A f H → va_S A s.heap H locs → lv_has ls 4 [(2, .int (nI (j + 1))), (1, .int (oI (sumZ (fun i => sqZ (((g9 i + g9 (i + 2) : Nat) : Int) - ((2 * g9 (i + 1) : Nat) : Int))) j))), (0, .ref q9)] → W p l e rmX1_bendOf s m ([.ref q9] : List Value).toArray below meth c H locs 0 0 (MQ below (xQ G A (fun v f1 => v = some (.int (oI (bendL g9))) ∧ f = f1)) ([.ref q9] : List Value).toArray s rmX1_bendOf.cells rmX1_bendOf.slots A) (F0 m 4 ls []) := by
    intro n
    induction n with
    | zero => intro j H locs ls hj hn; exact absurd hn (Nat.not_lt_zero _)
    | succ n ih4 =>
      intro j H locs ls hj hn hH hS hl
      refine lv_iload_n hx hb dX1_bendOf_4 rfl (lv_at hl 0 rfl) ?_
      refine lv_iconst (v := nI 1) hx hb dX1_bendOf_5 rfl ?_
      refine x_iadd (v := nI ((j + 1) + 1)) hx hb (nI_add _ _) dX1_bendOf_6 ?_
      refine lv_bipush (v := nI 9) hx hb dX1_bendOf_7 rfl ?_
      refine x_icmp_ge (tgt := 42) (P := 9 ≤ ((j + 1) + 1)) hx hb dX1_bendOf_9 (by decide) (nI_le' (by decide) (by omega)) (fun c9 => ?_) (fun c9 => ?_)
      · skip
        refine lv_iload_n hx hb dX1_bendOf_42 rfl (lv_at hl 1 rfl) ?_
        exact x_iret hx hb hr hlk hH hS ⟨by rw [show j = 7 by omega]; rfl, rfl⟩ (Nat.le_of_ble_eq_true rfl) (Nat.le_of_ble_eq_true rfl) dX1_bendOf_43
      · skip
        refine lv_aload_n hx hb dX1_bendOf_12 rfl (lv_at hl 2 rfl) ?_
        refine lv_iload_n hx hb dX1_bendOf_13 rfl (lv_at hl 0 rfl) ?_
        refine lv_iconst (v := nI 1) hx hb dX1_bendOf_14 rfl ?_
        refine x_isub (v := nI ((j + 1) - 1)) hx hb (pk_sub (by omega)) dX1_bendOf_15 ?_
        refine x_iald (j := (j + 1) - 1) hx hb hK hH hq rfl (by omega) (by decide) dX1_bendOf_16 ?_
        refine lv_aload_n hx hb dX1_bendOf_17 rfl (lv_at hl 2 rfl) ?_
        refine lv_iload_n hx hb dX1_bendOf_18 rfl (lv_at hl 0 rfl) ?_
        refine lv_iconst (v := nI 1) hx hb dX1_bendOf_19 rfl ?_
        refine x_iadd (v := nI ((j + 1) + 1)) hx hb (nI_add _ _) dX1_bendOf_20 ?_
        refine x_iald (j := (j + 1) + 1) hx hb hK hH hq rfl (by omega) (by decide) dX1_bendOf_21 ?_
        refine x_iadd (v := nI ((g9 ((j + 1) - 1)) + (g9 ((j + 1) + 1)))) hx hb (nI_add _ _) dX1_bendOf_22 ?_
        refine lv_iconst (v := nI 2) hx hb dX1_bendOf_23 rfl ?_
        refine lv_aload_n hx hb dX1_bendOf_24 rfl (lv_at hl 2 rfl) ?_
        refine lv_iload_n hx hb dX1_bendOf_25 rfl (lv_at hl 0 rfl) ?_
        refine x_iald (j := j + 1) hx hb hK hH hq rfl (by omega) (by decide) dX1_bendOf_26 ?_
        refine x_imul (v := nI (2 * (g9 (j + 1)))) hx hb (pk_mul _ _) dX1_bendOf_27 ?_
        refine x_isub (v := oI ((((g9 ((j + 1) - 1)) + (g9 ((j + 1) + 1)) : Nat) : Int) - ((2 * (g9 (j + 1)) : Nat) : Int))) hx hb (oI_sub' (nI_oI _) (nI_oI _)) dX1_bendOf_28 ?_
        refine lv_istore_n (lv' := [(3, .int (oI ((((g9 ((j + 1) - 1)) + (g9 ((j + 1) + 1)) : Nat) : Int) - ((2 * (g9 (j + 1)) : Nat) : Int)))), (2, .int (nI (j + 1))), (1, .int (oI (sumZ (fun i => sqZ (((g9 i + g9 (i + 2) : Nat) : Int) - ((2 * g9 (i + 1) : Nat) : Int))) j))), (0, .ref q9)]) hx hb dX1_bendOf_29 rfl hl (by decide) rfl (fun ls hl => ?_)
        refine lv_iload_n hx hb dX1_bendOf_30 rfl (lv_at hl 2 rfl) ?_
        refine lv_iload_n hx hb dX1_bendOf_31 rfl (lv_at hl 0 rfl) ?_
        refine lv_iload_n hx hb dX1_bendOf_32 rfl (lv_at hl 0 rfl) ?_
        refine x_imul (v := oI (((((g9 ((j + 1) - 1)) + (g9 ((j + 1) + 1)) : Nat) : Int) - ((2 * (g9 (j + 1)) : Nat) : Int)) * ((((g9 ((j + 1) - 1)) + (g9 ((j + 1) + 1)) : Nat) : Int) - ((2 * (g9 (j + 1)) : Nat) : Int)))) hx hb (oI_mul' rfl rfl) dX1_bendOf_33 ?_
        refine x_iadd (v := oI ((sumZ (fun i => sqZ (((g9 i + g9 (i + 2) : Nat) : Int) - ((2 * g9 (i + 1) : Nat) : Int))) j) + (((((g9 ((j + 1) - 1)) + (g9 ((j + 1) + 1)) : Nat) : Int) - ((2 * (g9 (j + 1)) : Nat) : Int)) * ((((g9 ((j + 1) - 1)) + (g9 ((j + 1) + 1)) : Nat) : Int) - ((2 * (g9 (j + 1)) : Nat) : Int))))) hx hb (oI_add' rfl rfl) dX1_bendOf_34 ?_
        refine lv_istore_n (lv' := [(1, .int (oI ((sumZ (fun i => sqZ (((g9 i + g9 (i + 2) : Nat) : Int) - ((2 * g9 (i + 1) : Nat) : Int))) j) + (((((g9 ((j + 1) - 1)) + (g9 ((j + 1) + 1)) : Nat) : Int) - ((2 * (g9 (j + 1)) : Nat) : Int)) * ((((g9 ((j + 1) - 1)) + (g9 ((j + 1) + 1)) : Nat) : Int) - ((2 * (g9 (j + 1)) : Nat) : Int)))))), (3, .int (oI ((((g9 ((j + 1) - 1)) + (g9 ((j + 1) + 1)) : Nat) : Int) - ((2 * (g9 (j + 1)) : Nat) : Int)))), (2, .int (nI (j + 1))), (0, .ref q9)]) hx hb dX1_bendOf_35 rfl hl (by decide) rfl (fun ls hl => ?_)
        refine lv_iinc (v := nI (j + 1 + 1)) (lv' := [(2, .int (nI (j + 1 + 1))), (1, .int (oI ((sumZ (fun i => sqZ (((g9 i + g9 (i + 2) : Nat) : Int) - ((2 * g9 (i + 1) : Nat) : Int))) j) + (((((g9 ((j + 1) - 1)) + (g9 ((j + 1) + 1)) : Nat) : Int) - ((2 * (g9 (j + 1)) : Nat) : Int)) * ((((g9 ((j + 1) - 1)) + (g9 ((j + 1) + 1)) : Nat) : Int) - ((2 * (g9 (j + 1)) : Nat) : Int)))))), (3, .int (oI ((((g9 ((j + 1) - 1)) + (g9 ((j + 1) + 1)) : Nat) : Int) - ((2 * (g9 (j + 1)) : Nat) : Int)))), (0, .ref q9)]) hx hb dX1_bendOf_36 hl (k := 2) rfl (nI_inc _) (by decide) rfl (fun ls hl => ?_)
        refine lv_goto (tgt := 4) hx hb dX1_bendOf_39 (by decide) ?_
        have e_2 : (nI (j + 1 + 1) : Int32) = nI ((j + 1) + 1) := by rfl
        have e_3 : (oI ((sumZ (fun i => sqZ (((g9 i + g9 (i + 2) : Nat) : Int) - ((2 * g9 (i + 1) : Nat) : Int))) j) + (((((g9 ((j + 1) - 1)) + (g9 ((j + 1) + 1)) : Nat) : Int) - ((2 * (g9 (j + 1)) : Nat) : Int)) * ((((g9 ((j + 1) - 1)) + (g9 ((j + 1) + 1)) : Nat) : Int) - ((2 * (g9 (j + 1)) : Nat) : Int)))) : Int32) = oI (sumZ (fun i => sqZ (((g9 i + g9 (i + 2) : Nat) : Int) - ((2 * g9 (i + 1) : Nat) : Int))) (j + 1)) := by rfl
        have hl : lv_has ls 4 [(2, .int (nI ((j + 1) + 1))), (1, .int (oI (sumZ (fun i => sqZ (((g9 i + g9 (i + 2) : Nat) : Int) - ((2 * g9 (i + 1) : Nat) : Int))) (j + 1)))), (3, .int (oI ((((g9 ((j + 1) - 1)) + (g9 ((j + 1) + 1)) : Nat) : Int) - ((2 * (g9 (j + 1)) : Nat) : Int)))), (0, .ref q9)] := xl_eq hl (xl_cons (congrArg (fun x => ((2 : Nat), Value.int x)) e_2) (xl_cons (congrArg (fun x => ((1 : Nat), Value.int x)) e_3) rfl))
        exact ih4 (j + 1) _ _ _ (by omega) (by omega) hH hS (lv_sub hl [0, 1, 3] rfl)
  have e_4 : (nI 1 : Int32) = nI (0 + 1) := by rfl
  have e_5 : (nI 0 : Int32) = oI (sumZ (fun i => sqZ (((g9 i + g9 (i + 2) : Nat) : Int) - ((2 * g9 (i + 1) : Nat) : Int))) 0) := by exact (by decide : nI 0 = oI 0)
  have hl : lv_has ls 4 [(2, .int (nI (0 + 1))), (1, .int (oI (sumZ (fun i => sqZ (((g9 i + g9 (i + 2) : Nat) : Int) - ((2 * g9 (i + 1) : Nat) : Int))) 0))), (0, .ref q9)] := xl_eq hl (xl_cons (congrArg (fun x => ((2 : Nat), Value.int x)) e_4) (xl_cons (congrArg (fun x => ((1 : Nat), Value.int x)) e_5) rfl))
  exact hloop4 (7 - 0 + 1) 0 _ _ _ (by omega) (Nat.lt_succ_self _) hH hS (lv_sub hl [0, 1, 2] rfl)

abbrev rmX4_init : Room := { frames := 2, cells := 0, slots := 0, locals := 80 }
set_option maxHeartbeats 4000000 in
set_option maxRecDepth 100000 in
theorem mX4_init (l : Launch) (G : xG) (A : Nat → Prop) (f : xF) {q9 t9 : Nat} (z0 z1 : Nat) (hq : f q9 = some (xO t9 3 [.int (nI 0), .int (nI 0)])) : xMet l yX4_init cX4_init 3 none rmX4_init G A f [.ref q9, .int (nI z0), .int (nI z1)] (fun v f1 => v = none ∧ f1 = xset (xset f q9 (xO t9 3 [.int (nI z0), .int (nI 0)])) q9 (xO t9 3 [.int (nI z0), .int (nI z1)])) := by
  refine x_start (by decide) (Nat.le_of_ble_eq_true rfl) ?_
  intro p e s m below meth c ls X hH hS hl
  obtain ⟨hx, hb, hr, hlk, hml, hown, hts, hK, hC, hA, hnm, hmn⟩ := X
  have hl : lv_has ls 3 [(0, .ref q9), (1, .int (nI z0)), (2, .int (nI z1))] := hl
  refine lv_aload_n hx hb dX4_init_0 rfl (lv_at hl 0 rfl) ?_
  refine W.objInit hx hb hown (hts _ q97) (hts _ q66) (hts _ q67) rfl (by rw [hml]; exact hl.1) rfl dX4_init_1 (Nat.le_of_ble_eq_true rfl) (Nat.le_of_ble_eq_true rfl) ?_
  refine W.eq (g2 := F0 m 4 ls []) rfl ?_
  refine lv_aload_n hx hb dX4_init_4 rfl (lv_at hl 0 rfl) ?_
  refine lv_iload_n hx hb dX4_init_5 rfl (lv_at hl 1 rfl) ?_
  refine x_put (C := RX4) (T := TX4) (N := 2) (ci := 3) (v := .int (nI z0)) (ty := (tyX4 0)) hx hb hts in_X4 tyX4_ok nmX4 hown hK hH hS hq rfl 0 (by decide) (hts _ q98) (fun _ h9 => h9) rfl (by decide +kernel) rfl rfl (Nat.le_of_ble_eq_true rfl) dX4_init_6 (fun H locs f_1 ef_1 hH hS => ?_)
  have h_2 : f_1 q9 = some (xO t9 3 [.int (nI z0), .int (nI 0)]) := by rw [ef_1]; exact xset_eq
  refine lv_aload_n hx hb dX4_init_9 rfl (lv_at hl 0 rfl) ?_
  refine lv_iload_n hx hb dX4_init_10 rfl (lv_at hl 2 rfl) ?_
  refine x_put (C := RX4) (T := TX4) (N := 2) (ci := 3) (v := .int (nI z1)) (ty := (tyX4 1)) hx hb hts in_X4 tyX4_ok nmX4 hown hK hH hS h_2 rfl 1 (by decide) (hts _ q101) (fun _ h9 => h9) rfl (by decide +kernel) rfl rfl (Nat.le_of_ble_eq_true rfl) dX4_init_11 (fun H locs f_3 ef_3 hH hS => ?_)
  have h_4 : f_3 q9 = some (xO t9 3 [.int (nI z0), .int (nI z1)]) := by rw [ef_3]; exact xset_eq
  exact x_vret hx hb hr hlk hH hS ⟨rfl, by rw [ef_3, ef_1] <;> rfl⟩ (Nat.le_of_ble_eq_true rfl) (Nat.le_of_ble_eq_true rfl) dX4_init_14

abbrev rmX7_hasNext : Room := { frames := 1, cells := 0, slots := 0, locals := 40 }
set_option maxHeartbeats 4000000 in
set_option maxRecDepth 100000 in
theorem mX7_hasNext (l : Launch) (G : xG) (A : Nat → Prop) (f : xF) {q9 i : Nat} {ca cw nw : Nat} {wa sa sw : Nat → Nat} (hCA : CA G f ca cw wa nw sa sw) (hnw : nw ≤ 16) (hg : f q9 = some (xO 500 6 [.int (nI i), .ref ca])) (hi : i ≤ 20) : xMet l yX7_hasNext cX7_hasNext 1 (some .boolean) rmX7_hasNext G A f [.ref q9] (fun v f1 => v = some (.int (nI (xb (i ≤ nw)))) ∧ f = f1) := by
  refine x_start (by decide) (Nat.le_of_ble_eq_true rfl) ?_
  intro p e s m below meth c ls X hH hS hl
  obtain ⟨hx, hb, hr, hlk, hml, hown, hts, hK, hC, hA, hnm, hmn⟩ := X
  have hl : lv_has ls 1 [(0, .ref q9)] := hl
  refine lv_aload_n hx hb dX7_hasNext_0 rfl (lv_at hl 0 rfl) ?_
  refine x_get (C := RX7) (T := TX7) (N := 2) (ci := 6) (v := .int (nI i)) hx hb hts in_X7 hown hK hH hg rfl 0 (by decide) (hts _ q196) (fun _ h9 => h9) rfl dX7_hasNext_1 ?_
  refine lv_aload_n hx hb dX7_hasNext_4 rfl (lv_at hl 0 rfl) ?_
  refine x_get (C := RX7) (T := TX7) (N := 2) (ci := 6) (v := .ref ca) hx hb hts in_X7 hown hK hH hg rfl 1 (by decide) (hts _ q197) (fun _ h9 => h9) rfl dX7_hasNext_5 ?_
  refine x_getN (C := RX3) (T := TX3) (N := 3) (ci := 2) (v := .int (nI nw)) hx hb hts in_X3 hown hK hH hCA.1 rfl 1 (by decide) (va_Nw.use rfl (hK.use q112 rfl)) (fun _ h9 => h9) rfl dX7_hasNext_8 ?_
  refine x_icmp_gt (tgt := 18) (P := nw < i) hx hb dX7_hasNext_11 (by decide) (nI_lt' (by omega) (by omega)) (fun c11 => ?_) (fun c11 => ?_)
  · skip
    refine lv_iconst (v := nI 0) hx hb dX7_hasNext_18 rfl ?_
    exact x_zret (v := 0) hx hb (by decide) hr hlk hH hS ⟨by rw [xb_f (by omega)], rfl⟩ (Nat.le_of_ble_eq_true rfl) (Nat.le_of_ble_eq_true rfl) dX7_hasNext_19
  · skip
    refine lv_iconst (v := nI 1) hx hb dX7_hasNext_14 rfl ?_
    refine lv_goto (tgt := 19) hx hb dX7_hasNext_15 (by decide) ?_
    exact x_zret (v := 1) hx hb (by decide) hr hlk hH hS ⟨by rw [xb_t (by omega)], rfl⟩ (Nat.le_of_ble_eq_true rfl) (Nat.le_of_ble_eq_true rfl) dX7_hasNext_19

abbrev rmX7_next_2 : Room := { frames := 1, cells := 0, slots := 0, locals := 40 }
set_option maxHeartbeats 4000000 in
set_option maxRecDepth 100000 in
theorem mX7_next_2 (l : Launch) (G : xG) (A : Nat → Prop) (f : xF) {q9 i : Nat} {ca cw nw : Nat} {wa sa sw : Nat → Nat} (hCA : CA G f ca cw wa nw sa sw) (hnw : nw ≤ 16) (hg : f q9 = some (xO 500 6 [.int (nI i), .ref ca])) (hi : i ≤ 20) : xMet l yX7_next_2 cX7_next_2 1 (some (.object "FairBatten$Weight")) rmX7_next_2 G A f [.ref q9] (fun v f1 => v = some (.ref (wa (wpl nw i))) ∧ f1 = xset f q9 (xO 500 6 [.int (nI (i + 1)), .ref ca])) := by
  refine x_start (by decide) (Nat.le_of_ble_eq_true rfl) ?_
  intro p e s m below meth c ls X hH hS hl
  obtain ⟨hx, hb, hr, hlk, hml, hown, hts, hK, hC, hA, hnm, hmn⟩ := X
  have hl : lv_has ls 1 [(0, .ref q9)] := hl
  refine lv_aload_n hx hb dX7_next_2_0 rfl (lv_at hl 0 rfl) ?_
  refine lv_dup hx hb dX7_next_2_1 rfl ?_
  refine x_get (C := RX7) (T := TX7) (N := 2) (ci := 6) (v := .int (nI i)) hx hb hts in_X7 hown hK hH hg rfl 0 (by decide) (hts _ q196) (fun _ h9 => h9) rfl dX7_next_2_2 ?_
  refine lv_iconst (v := nI 1) hx hb dX7_next_2_5 rfl ?_
  refine x_iadd (v := nI (i + 1)) hx hb (nI_add _ _) dX7_next_2_6 ?_
  refine x_put (C := RX7) (T := TX7) (N := 2) (ci := 6) (v := .int (nI (i + 1))) (ty := (tyX7 0)) hx hb hts in_X7 tyX7_ok nmX7 hown hK hH hS hg rfl 0 (by decide) (hts _ q196) (fun _ h9 => h9) rfl (by decide +kernel) rfl rfl (Nat.le_of_ble_eq_true rfl) dX7_next_2_7 (fun H locs f_1 ef_1 hH hS => ?_)
  have hP_2 : CA G f_1 ca cw wa nw sa sw := by rw [ef_1]; exact hCA.keep ((xkeep.refl (lo := 500) (hi := 500 + 1)).set hg ⟨Nat.le_refl _, Nat.lt_succ_self _⟩) hnw (by decide)
  have h_3 : f_1 q9 = some (xO 500 6 [.int (nI (i + 1)), .ref ca]) := by rw [ef_1]; exact xset_eq
  refine lv_aload_n hx hb dX7_next_2_10 rfl (lv_at hl 0 rfl) ?_
  refine x_get (C := RX7) (T := TX7) (N := 2) (ci := 6) (v := .int (nI (i + 1))) hx hb hts in_X7 hown hK hH h_3 rfl 0 (by decide) (hts _ q196) (fun _ h9 => h9) rfl dX7_next_2_11 ?_
  refine lv_aload_n hx hb dX7_next_2_14 rfl (lv_at hl 0 rfl) ?_
  refine x_get (C := RX7) (T := TX7) (N := 2) (ci := 6) (v := .ref ca) hx hb hts in_X7 hown hK hH h_3 rfl 1 (by decide) (hts _ q197) (fun _ h9 => h9) rfl dX7_next_2_15 ?_
  refine x_getN (C := RX3) (T := TX3) (N := 3) (ci := 2) (v := .int (nI nw)) hx hb hts in_X3 hown hK hH hP_2.1 rfl 1 (by decide) (va_Nw.use rfl (hK.use q112 rfl)) (fun _ h9 => h9) rfl dX7_next_2_18 ?_
  refine x_icmp_gt (tgt := 41) (P := nw < (i + 1)) hx hb dX7_next_2_21 (by decide) (nI_lt' (by omega) (by omega)) (fun c21 => ?_) (fun c21 => ?_)
  · skip
    refine lv_aload_n hx hb dX7_next_2_41 rfl (lv_at hl 0 rfl) ?_
    refine x_get (C := RX7) (T := TX7) (N := 2) (ci := 6) (v := .ref ca) hx hb hts in_X7 hown hK hH h_3 rfl 1 (by decide) (hts _ q197) (fun _ h9 => h9) rfl dX7_next_2_42 ?_
    refine x_getN (C := RX3) (T := TX3) (N := 3) (ci := 2) (v := .ref (wa 16)) hx hb hts in_X3 hown hK hH hP_2.1 rfl 2 (by decide) (va_Nw.use rfl (hK.use q115 rfl)) (fun _ h9 => h9) rfl dX7_next_2_45 ?_
    exact x_aret (r := some (wa 16)) hx hb hr (Or.inl ⟨_, rfl⟩) hlk hH hS ⟨by rw [show wpl nw i = 16 by unfold wpl; rw [if_neg (by omega)]] <;> rfl, ef_1⟩ (Nat.le_of_ble_eq_true rfl) (Nat.le_of_ble_eq_true rfl) dX7_next_2_48
  · skip
    refine lv_aload_n hx hb dX7_next_2_24 rfl (lv_at hl 0 rfl) ?_
    refine x_get (C := RX7) (T := TX7) (N := 2) (ci := 6) (v := .ref ca) hx hb hts in_X7 hown hK hH h_3 rfl 1 (by decide) (hts _ q197) (fun _ h9 => h9) rfl dX7_next_2_25 ?_
    refine x_getN (C := RX3) (T := TX3) (N := 3) (ci := 2) (v := .ref cw) hx hb hts in_X3 hown hK hH hP_2.1 rfl 0 (by decide) (va_Nw.use rfl (hK.use q110 rfl)) (fun _ h9 => h9) rfl dX7_next_2_28 ?_
    refine lv_aload_n hx hb dX7_next_2_31 rfl (lv_at hl 0 rfl) ?_
    refine x_get (C := RX7) (T := TX7) (N := 2) (ci := 6) (v := .int (nI (i + 1))) hx hb hts in_X7 hown hK hH h_3 rfl 0 (by decide) (hts _ q196) (fun _ h9 => h9) rfl dX7_next_2_32 ?_
    refine lv_iconst (v := nI 1) hx hb dX7_next_2_35 rfl ?_
    refine x_isub (v := nI ((i + 1) - 1)) hx hb (pk_sub (by omega)) dX7_next_2_36 ?_
    refine x_aald (j := (i + 1) - 1) (k := 4) hx hb hK hH hP_2.2.1 rfl rfl rfl (by omega) (by decide) dX7_next_2_37 ?_
    refine x_norm (g2 := F0 m 38 ls [.ref (wa (i + 1 - 1))]) (Nat.le_refl _) (Nat.le_refl _) (congrArg (fun x9 => F0 m 38 ls (va_rf x9 :: [])) (show (fun k => if k < nw then some (wa k) else none) ((i + 1) - 1) = some (wa (i + 1 - 1)) from if_pos (by omega))) ?_
    refine lv_goto (tgt := 48) hx hb dX7_next_2_38 (by decide) ?_
    exact x_aret (r := some (wa (i + 1 - 1))) hx hb hr (Or.inl ⟨_, rfl⟩) hlk hH hS ⟨by rw [show wpl nw i = i by unfold wpl; rw [if_pos (by omega)]] <;> rfl, ef_1⟩ (Nat.le_of_ble_eq_true rfl) (Nat.le_of_ble_eq_true rfl) dX7_next_2_48

abbrev rmX7_next : Room := { frames := 2, cells := 0, slots := 0, locals := 80 }
set_option maxHeartbeats 4000000 in
set_option maxRecDepth 100000 in
theorem mX7_next (l : Launch) (G : xG) (A : Nat → Prop) (f : xF) {q9 i : Nat} {ca cw nw : Nat} {wa sa sw : Nat → Nat} (hCA : CA G f ca cw wa nw sa sw) (hnw : nw ≤ 16) (hg : f q9 = some (xO 500 6 [.int (nI i), .ref ca])) (hi : i ≤ 20) : xMet l yX7_next cX7_next 1 (some (.object "java/lang/Object")) rmX7_next G A f [.ref q9] (fun v f1 => v = some (.ref (wa (wpl nw i))) ∧ f1 = xset f q9 (xO 500 6 [.int (nI (i + 1)), .ref ca])) := by
  refine x_start (by decide) (Nat.le_of_ble_eq_true rfl) ?_
  intro p e s m below meth c ls X hH hS hl
  obtain ⟨hx, hb, hr, hlk, hml, hown, hts, hK, hC, hA, hnm, hmn⟩ := X
  have hl : lv_has ls 1 [(0, .ref q9)] := hl
  refine lv_aload_n hx hb dX7_next_0 rfl (lv_at hl 0 rfl) ?_
  refine x_V (n := 0) (As := []) (rest := []) ⟨hx, hb, hml, hown, hts⟩ hK hC hA hH hS (mX7_next_2 l G A f hCA hnw hg (by omega)) q222 q223 q224 q49 q225 (by decide +kernel) ⟨Nat.le_of_ble_eq_true rfl, Nat.le_of_ble_eq_true rfl⟩ hg rfl rfl rfl hl.1 rfl (Nat.le_of_ble_eq_true rfl) dX7_next_1 (Nat.le_of_ble_eq_true rfl) (Nat.le_of_ble_eq_true rfl) (fun v f_1 H locs hp hH hS hz => ?_)
  obtain ⟨rfl, ef_1⟩ := hp
  have hP_2 : CA G f_1 ca cw wa nw sa sw := by rw [ef_1]; exact hCA.keep ((xkeep.refl (lo := 500) (hi := 500 + 1)).set hg ⟨Nat.le_refl _, Nat.lt_succ_self _⟩) hnw (by decide)
  have h_3 : f_1 q9 = some (xO 500 6 [.int (nI (i + 1)), .ref ca]) := by rw [ef_1]; exact xset_eq
  refine x_norm (g2 := F0 m 4 ls [.ref (wa (wpl nw i))]) (k := 0) (n := 0) (Nat.le_refl _) (Nat.le_refl _) rfl ?_
  exact x_aret (r := some (wa (wpl nw i))) hx hb hr (Or.inl ⟨_, rfl⟩) hlk hH hS ⟨rfl, ef_1⟩ (Nat.le_of_ble_eq_true rfl) (Nat.le_of_ble_eq_true rfl) dX7_next_4

abbrev rmX7_init : Room := { frames := 2, cells := 0, slots := 0, locals := 80 }
set_option maxHeartbeats 4000000 in
set_option maxRecDepth 100000 in
theorem mX7_init (l : Launch) (G : xG) (A : Nat → Prop) (f : xF) {q9 ca : Nat} (hq : f q9 = some (xO 500 6 [.int (nI 0), .null])) : xMet l yX7_init cX7_init 2 none rmX7_init G A f [.ref q9, .ref ca] (fun v f1 => v = none ∧ f1 = xset f q9 (xO 500 6 [.int (nI 0), .ref ca])) := by
  refine x_start (by decide) (Nat.le_of_ble_eq_true rfl) ?_
  intro p e s m below meth c ls X hH hS hl
  obtain ⟨hx, hb, hr, hlk, hml, hown, hts, hK, hC, hA, hnm, hmn⟩ := X
  have hl : lv_has ls 2 [(0, .ref q9), (1, .ref ca)] := hl
  refine lv_aload_n hx hb dX7_init_0 rfl (lv_at hl 0 rfl) ?_
  refine lv_aload_n hx hb dX7_init_1 rfl (lv_at hl 1 rfl) ?_
  refine x_putF (C := RX7) (T := TX7) (N := 2) (ci := 6) (v := .ref ca) (ty := (tyX7 1)) hx hb hts in_X7 tyX7_ok nmX7 hown hK hH hS hq rfl 1 (by decide) (hts _ q197) (fun _ h9 => h9) rfl (hnm.trans rfl) rfl (by decide +kernel) rfl rfl (Nat.le_of_ble_eq_true rfl) dX7_init_2 (fun H locs f_1 ef_1 hH hS => ?_)
  have h_2 : f_1 q9 = some (xO 500 6 [.int (nI 0), .ref ca]) := by rw [ef_1]; exact xset_eq
  refine lv_aload_n hx hb dX7_init_5 rfl (lv_at hl 0 rfl) ?_
  refine W.objInit hx hb hown (hts _ q195) (hts _ q66) (hts _ q67) rfl (by rw [hml]; exact hl.1) rfl dX7_init_6 (Nat.le_of_ble_eq_true rfl) (Nat.le_of_ble_eq_true rfl) ?_
  refine W.eq (g2 := F0 m 9 ls []) rfl ?_
  exact x_vret hx hb hr hlk hH hS ⟨rfl, ef_1⟩ (Nat.le_of_ble_eq_true rfl) (Nat.le_of_ble_eq_true rfl) dX7_init_9

abbrev rmX3_iterator : Room := { frames := 3, cells := 1, slots := 2, locals := 120 }
set_option maxHeartbeats 4000000 in
set_option maxRecDepth 100000 in
theorem mX3_iterator (l : Launch) (G : xG) (A : Nat → Prop) (f : xF) {ca cw nw : Nat} {wa sa sw : Nat → Nat} (hCA : CA G f ca cw wa nw sa sw) (hnw : nw ≤ 16) : xMet l yX3_iterator cX3_iterator 1 (some (.object "java/util/Iterator")) rmX3_iterator G A f [.ref ca] (fun v f1 => ∃ q9 : Nat, v = some (.ref q9) ∧ f1 q9 = some (xO 500 6 [.int (nI 0), .ref ca]) ∧ CA G f1 ca cw wa nw sa sw ∧ xkeep 500 501 f f1) := by
  refine x_start (by decide) (Nat.le_of_ble_eq_true rfl) ?_
  intro p e s m below meth c ls X hH hS hl
  obtain ⟨hx, hb, hr, hlk, hml, hown, hts, hK, hC, hA, hnm, hmn⟩ := X
  have hl : lv_has ls 1 [(0, .ref ca)] := hl
  refine x_new (C := RX7) (T := TX7) (N := 2) (ci := 6) (fs := [.int (nI 0), .null]) hx hb 500 hts in_X7 tyX7_ok hown (hts _ q190) (hts _ q191) (hts _ q49) hK hH hS hA rfl (fun j hj => by rcases (show j = 0 ∨ j = 1 by omega) with rfl | rfl <;> rfl) (Nat.le_of_ble_eq_true rfl) (Nat.le_of_ble_eq_true rfl) dX3_iterator_0 (fun q_1 H f_2 ef_2 hn_3 hH hS => ?_)
  refine x_norm (g2 := F0 m 3 ls [.ref q_1]) (k := 1) (n := 2) (Nat.le_refl _) (Nat.le_refl _) rfl ?_
  have hP_4 : CA G f_2 ca cw wa nw sa sw := by rw [ef_2]; exact hCA.keep ((xkeep.refl (lo := 0) (hi := 0)).new hn_3) hnw (Or.inr (Nat.zero_le _))
  have hkp_5 : xkeep 500 501 f f_2 := by rw [ef_2]; exact xkeep.refl.new hn_3
  have h_6 : f_2 q_1 = some (xO 500 6 [.int (nI 0), .null]) := by rw [ef_2]; exact xset_eq
  refine lv_dup hx hb dX3_iterator_3 rfl ?_
  refine lv_aload_n hx hb dX3_iterator_4 rfl (lv_at hl 0 rfl) ?_
  refine x_IN (n := 1) (As := [.ref ca]) (rest := [.ref q_1]) ⟨hx, hb, hml, hown, hts⟩ hK hC hA hH hS (mX7_init l G A f_2 (ca := ca) h_6) q192 q193 q49 q194 rfl (by decide +kernel) ⟨Nat.le_of_ble_eq_true rfl, Nat.le_of_ble_eq_true rfl⟩ rfl hl.1 rfl (Nat.le_of_ble_eq_true rfl) dX3_iterator_5 (Nat.le_of_ble_eq_true rfl) (Nat.le_of_ble_eq_true rfl) (fun v f_7 H locs hp hH hS hz => ?_)
  obtain ⟨rfl, ef_7⟩ := hp
  have hP_8 : CA G f_7 ca cw wa nw sa sw := by rw [ef_7]; exact hP_4.keep ((xkeep.refl (lo := 500) (hi := 500 + 1)).set h_6 ⟨Nat.le_refl _, Nat.lt_succ_self _⟩) hnw (by decide)
  have hkp_9 : xkeep 500 501 f f_7 := by rw [ef_7]; exact hkp_5.set h_6 (by decide)
  have h_10 : f_7 q_1 = some (xO 500 6 [.int (nI 0), .ref ca]) := by rw [ef_7]; exact xset_eq
  refine x_norm (g2 := F0 m 8 ls [.ref q_1]) (k := 1) (n := 2) (Nat.le_refl _) (Nat.le_refl _) rfl ?_
  exact x_aret (r := some q_1) hx hb hr (Or.inl ⟨_, rfl⟩) hlk hH hS ⟨_, rfl, h_10, hP_8, hkp_9⟩ (Nat.le_of_ble_eq_true rfl) (Nat.le_of_ble_eq_true rfl) dX3_iterator_8

abbrev rmX3_load : Room := { frames := 4, cells := 1, slots := 2, locals := 160 }
set_option maxHeartbeats 4000000 in
set_option maxRecDepth 100000 in
theorem mX3_load (l : Launch) (G : xG) (A : Nat → Prop) (f : xF) {ca cw nw : Nat} {wa sa sw : Nat → Nat} (hCA : CA G f ca cw wa nw sa sw) (hnw : nw ≤ 16) (hz9 : ∀ k, nw ≤ k → k < 16 → sw k = 0) : xMet l yX3_load cX3_load 4 (some .int) rmX3_load G A f [.ref ca] (fun v f1 => v = some (.int (nI (loadN sw))) ∧ xkeep 500 501 f f1) := by
  refine x_start (by decide) (Nat.le_of_ble_eq_true rfl) ?_
  intro p e s m below meth c ls X hH hS hl
  obtain ⟨hx, hb, hr, hlk, hml, hown, hts, hK, hC, hA, hnm, hmn⟩ := X
  have hl : lv_has ls 4 [(0, .ref ca)] := hl
  refine lv_iconst (v := nI 0) hx hb dX3_load_0 rfl ?_
  refine lv_istore_n (lv' := [(1, .int (nI 0)), (0, .ref ca)]) hx hb dX3_load_1 rfl hl (by decide) rfl (fun ls hl => ?_)
  refine lv_aload_n hx hb dX3_load_2 rfl (lv_at hl 1 rfl) ?_
  refine x_V (n := 0) (As := []) (rest := []) ⟨hx, hb, hml, hown, hts⟩ hK hC hA hH hS (mX3_iterator l G A f hCA hnw) q186 q187 q188 q34 q189 (by decide +kernel) ⟨Nat.le_of_ble_eq_true rfl, Nat.le_of_ble_eq_true rfl⟩ hCA.1 rfl rfl rfl hl.1 rfl (Nat.le_of_ble_eq_true rfl) dX3_load_3 (Nat.le_of_ble_eq_true rfl) (Nat.le_of_ble_eq_true rfl) (fun v f_1 H locs hp hH hS hz => ?_)
  obtain ⟨q_2, rfl, hg_3, -, hk_4⟩ := hp
  have hP_5 : CA G f_1 ca cw wa nw sa sw := hCA.keep hk_4 hnw (by decide)
  have hkp_6 : xkeep 500 501 f f_1 := xkeep.refl.trans (hk_4.wide (by decide) (by decide))
  refine x_norm (g2 := F0 m 6 ls [.ref q_2]) (k := 1) (n := 2) (Nat.le_refl _) (Nat.le_refl _) rfl ?_
  refine lv_astore_n (lv' := [(2, .ref q_2), (1, .int (nI 0)), (0, .ref ca)]) hx hb dX3_load_6 rfl hl (by decide) rfl (fun ls hl => ?_)
  have hloop7 : ∀ (n : Nat) (i : Nat) (fL : xF) (H : Heap) (locs : List Loc) (ls : Array Slot), i ≤ nw + 1 → fL q_2 = some (xO 500 6 [.int (nI i), .ref ca]) → CA G fL ca cw wa nw sa sw → xkeep 500 501 f fL → (nw + 1 - i) < n → xH G A fL H → va_S A s.heap H locs → lv_has ls 4 [(2, .ref q_2), (1, .int (nI (sumN (fun x => 10 * sw (wpl nw x)) i))), (0, .ref ca)] → W p l e rmX3_load s m ([.ref ca] : List Value).toArray below meth c H locs 1 2 (MQ below (xQ G A (fun v f1 => v = some (.int (nI (loadN sw))) ∧ xkeep 500 501 f f1)) ([.ref ca] : List Value).toArray s rmX3_load.cells rmX3_load.slots A) (F0 m 7 ls []) := by
    intro n
    induction n with
    | zero => intro i fL H locs ls hi hgL hCL hkL hn; exact absurd hn (Nat.not_lt_zero _)
    | succ n ih7 =>
      intro i fL H locs ls hi hgL hCL hkL hn hH hS hl
      refine lv_aload_n hx hb dX3_load_7 rfl (lv_at hl 0 rfl) ?_
      refine x_F (n := 0) (As := []) (rest := []) ⟨hx, hb, hml, hown, hts⟩ hK hC hA hH hS (mX7_hasNext l G A fL hCL hnw hgL (by omega)) q204 q208 q210 q49 q212 (va_Fw.of (A := #[]) (hK.use q206 rfl) (hK.use q205 rfl) (hK.use q211 rfl) (hK.use q209 rfl) (hK.use q207 rfl)) (by decide +kernel) ⟨Nat.le_of_ble_eq_true rfl, Nat.le_of_ble_eq_true rfl⟩ hgL rfl rfl rfl hl.1 rfl (Nat.le_of_ble_eq_true rfl) dX3_load_8 (Nat.le_of_ble_eq_true rfl) (Nat.le_of_ble_eq_true rfl) (fun v f_8 H locs hp hH hS hz => ?_)
      obtain ⟨rfl, rfl⟩ := hp
      refine x_norm (g2 := F0 m 13 ls [.int (nI (xb (i ≤ nw)))]) (k := 1) (n := 2) (Nat.le_refl _) (Nat.le_refl _) rfl ?_
      refine x_ifbeq (tgt := 39) (B := i ≤ nw) hx hb dX3_load_13 (by decide) (fun c13 => ?_) (fun c13 => ?_)
      · skip
        refine lv_iload_n hx hb dX3_load_39 rfl (lv_at hl 1 rfl) ?_
        exact x_iret hx hb hr hlk hH hS ⟨by rw [show i = nw + 1 by omega]; exact congrArg (fun x => some (Value.int (nI x))) (sumW (g := fun i => 10 * sw i) hnw (fun k a b => by show 10 * sw k = 0; rw [hz9 k a b])), hkL⟩ (Nat.le_of_ble_eq_true rfl) (Nat.le_of_ble_eq_true rfl) dX3_load_40
      · skip
        refine lv_aload_n hx hb dX3_load_16 rfl (lv_at hl 0 rfl) ?_
        refine x_F (n := 0) (As := []) (rest := []) ⟨hx, hb, hml, hown, hts⟩ hK hC hA hH hS (mX7_next l G A fL hCL hnw hgL (by omega)) q214 q217 q219 q49 q221 (va_Fw.of (A := #[]) (hK.use q216 rfl) (hK.use q215 rfl) (hK.use q220 rfl) (hK.use q218 rfl) (hK.use q207 rfl)) (by decide +kernel) ⟨Nat.le_of_ble_eq_true rfl, Nat.le_of_ble_eq_true rfl⟩ hgL rfl rfl rfl hl.1 rfl (Nat.le_of_ble_eq_true rfl) dX3_load_17 (Nat.le_of_ble_eq_true rfl) (Nat.le_of_ble_eq_true rfl) (fun v f_9 H locs hp hH hS hz => ?_)
        obtain ⟨rfl, ef_9⟩ := hp
        have hP_10 : CA G f_9 ca cw wa nw sa sw := by rw [ef_9]; exact hCL.keep ((xkeep.refl (lo := 500) (hi := 500 + 1)).set hgL ⟨Nat.le_refl _, Nat.lt_succ_self _⟩) hnw (by decide)
        have hkp_11 : xkeep 500 501 f f_9 := by rw [ef_9]; exact hkL.set hgL (by decide)
        have h_12 : f_9 q_2 = some (xO 500 6 [.int (nI (i + 1)), .ref ca]) := by rw [ef_9]; exact xset_eq
        refine x_norm (g2 := F0 m 22 ls [.ref (wa (wpl nw i))]) (k := 1) (n := 2) (Nat.le_refl _) (Nat.le_refl _) rfl ?_
        refine x_castS hx hb hown (hts _ q91) hK hH (hP_10.2.2 (wpl nw i) wpl_ok) rfl rfl dX3_load_22 ?_
        refine lv_astore_n (lv' := [(3, .ref (wa (wpl nw i))), (2, .ref q_2), (1, .int (nI (sumN (fun x => 10 * sw (wpl nw x)) i))), (0, .ref ca)]) hx hb dX3_load_25 rfl hl (by decide) rfl (fun ls hl => ?_)
        refine lv_iload_n hx hb dX3_load_26 rfl (lv_at hl 2 rfl) ?_
        refine lv_bipush (v := nI 10) hx hb dX3_load_27 rfl ?_
        refine lv_aload_n hx hb dX3_load_29 rfl (lv_at hl 0 rfl) ?_
        refine x_getN (C := RX4) (T := TX4) (N := 2) (ci := 3) (v := .int (nI (sw (wpl nw i)))) hx hb hts in_X4 hown hK hH (hP_10.2.2 (wpl nw i) wpl_ok) rfl 1 (by decide) (va_Nw.use rfl (hK.use q102 rfl)) (fun _ h9 => h9) rfl dX3_load_30 ?_
        refine x_imul (v := nI (10 * (sw (wpl nw i)))) hx hb (pk_mul _ _) dX3_load_33 ?_
        refine x_iadd (v := nI ((sumN (fun x => 10 * sw (wpl nw x)) i) + (10 * (sw (wpl nw i))))) hx hb (nI_add _ _) dX3_load_34 ?_
        refine lv_istore_n (lv' := [(1, .int (nI ((sumN (fun x => 10 * sw (wpl nw x)) i) + (10 * (sw (wpl nw i)))))), (3, .ref (wa (wpl nw i))), (2, .ref q_2), (0, .ref ca)]) hx hb dX3_load_35 rfl hl (by decide) rfl (fun ls hl => ?_)
        refine lv_goto (tgt := 7) hx hb dX3_load_36 (by decide) ?_
        have e_13 : (nI ((sumN (fun x => 10 * sw (wpl nw x)) i) + (10 * (sw (wpl nw i)))) : Int32) = nI (sumN (fun x => 10 * sw (wpl nw x)) (i + 1)) := by rfl
        have hl : lv_has ls 4 [(1, .int (nI (sumN (fun x => 10 * sw (wpl nw x)) (i + 1)))), (3, .ref (wa (wpl nw i))), (2, .ref q_2), (0, .ref ca)] := xl_eq hl (xl_cons (congrArg (fun x => ((1 : Nat), Value.int x)) e_13) rfl)
        exact ih7 (i + 1) f_9 _ _ _ (by omega) h_12 hP_10 hkp_11 (by omega) hH hS (lv_sub hl [2, 0, 3] rfl)
  have e_14 : (nI 0 : Int32) = nI (sumN (fun x => 10 * sw (wpl nw x)) 0) := by rfl
  have hl : lv_has ls 4 [(2, .ref q_2), (1, .int (nI (sumN (fun x => 10 * sw (wpl nw x)) 0))), (0, .ref ca)] := xl_eq hl (xl_cons rfl (xl_cons (congrArg (fun x => ((1 : Nat), Value.int x)) e_14) rfl))
  exact hloop7 (nw + 1 - 0 + 1) 0 f_1 _ _ _ (by omega) hg_3 hP_5 hkp_6 (Nat.lt_succ_self _) hH hS (lv_sub hl [0, 1, 2] rfl)

abbrev rmX3_moment : Room := { frames := 4, cells := 1, slots := 2, locals := 160 }
set_option maxHeartbeats 4000000 in
set_option maxRecDepth 100000 in
theorem mX3_moment (l : Launch) (G : xG) (A : Nat → Prop) (f : xF) {ca cw nw : Nat} {wa sa sw : Nat → Nat} (hCA : CA G f ca cw wa nw sa sw) (hnw : nw ≤ 16) (hz9 : ∀ k, nw ≤ k → k < 16 → sw k = 0) : xMet l yX3_moment cX3_moment 4 (some .int) rmX3_moment G A f [.ref ca] (fun v f1 => v = some (.int (nI (lmomN sa sw))) ∧ xkeep 500 501 f f1) := by
  refine x_start (by decide) (Nat.le_of_ble_eq_true rfl) ?_
  intro p e s m below meth c ls X hH hS hl
  obtain ⟨hx, hb, hr, hlk, hml, hown, hts, hK, hC, hA, hnm, hmn⟩ := X
  have hl : lv_has ls 4 [(0, .ref ca)] := hl
  refine lv_iconst (v := nI 0) hx hb dX3_moment_0 rfl ?_
  refine lv_istore_n (lv' := [(1, .int (nI 0)), (0, .ref ca)]) hx hb dX3_moment_1 rfl hl (by decide) rfl (fun ls hl => ?_)
  refine lv_aload_n hx hb dX3_moment_2 rfl (lv_at hl 1 rfl) ?_
  refine x_V (n := 0) (As := []) (rest := []) ⟨hx, hb, hml, hown, hts⟩ hK hC hA hH hS (mX3_iterator l G A f hCA hnw) q186 q187 q188 q34 q189 (by decide +kernel) ⟨Nat.le_of_ble_eq_true rfl, Nat.le_of_ble_eq_true rfl⟩ hCA.1 rfl rfl rfl hl.1 rfl (Nat.le_of_ble_eq_true rfl) dX3_moment_3 (Nat.le_of_ble_eq_true rfl) (Nat.le_of_ble_eq_true rfl) (fun v f_1 H locs hp hH hS hz => ?_)
  obtain ⟨q_2, rfl, hg_3, -, hk_4⟩ := hp
  have hP_5 : CA G f_1 ca cw wa nw sa sw := hCA.keep hk_4 hnw (by decide)
  have hkp_6 : xkeep 500 501 f f_1 := xkeep.refl.trans (hk_4.wide (by decide) (by decide))
  refine x_norm (g2 := F0 m 6 ls [.ref q_2]) (k := 1) (n := 2) (Nat.le_refl _) (Nat.le_refl _) rfl ?_
  refine lv_astore_n (lv' := [(2, .ref q_2), (1, .int (nI 0)), (0, .ref ca)]) hx hb dX3_moment_6 rfl hl (by decide) rfl (fun ls hl => ?_)
  have hloop7 : ∀ (n : Nat) (i : Nat) (fL : xF) (H : Heap) (locs : List Loc) (ls : Array Slot), i ≤ nw + 1 → fL q_2 = some (xO 500 6 [.int (nI i), .ref ca]) → CA G fL ca cw wa nw sa sw → xkeep 500 501 f fL → (nw + 1 - i) < n → xH G A fL H → va_S A s.heap H locs → lv_has ls 4 [(2, .ref q_2), (1, .int (nI (sumN (fun x => 20 * sa (wpl nw x) * sw (wpl nw x)) i))), (0, .ref ca)] → W p l e rmX3_moment s m ([.ref ca] : List Value).toArray below meth c H locs 1 2 (MQ below (xQ G A (fun v f1 => v = some (.int (nI (lmomN sa sw))) ∧ xkeep 500 501 f f1)) ([.ref ca] : List Value).toArray s rmX3_moment.cells rmX3_moment.slots A) (F0 m 7 ls []) := by
    intro n
    induction n with
    | zero => intro i fL H locs ls hi hgL hCL hkL hn; exact absurd hn (Nat.not_lt_zero _)
    | succ n ih7 =>
      intro i fL H locs ls hi hgL hCL hkL hn hH hS hl
      refine lv_aload_n hx hb dX3_moment_7 rfl (lv_at hl 0 rfl) ?_
      refine x_F (n := 0) (As := []) (rest := []) ⟨hx, hb, hml, hown, hts⟩ hK hC hA hH hS (mX7_hasNext l G A fL hCL hnw hgL (by omega)) q204 q208 q210 q49 q212 (va_Fw.of (A := #[]) (hK.use q206 rfl) (hK.use q205 rfl) (hK.use q211 rfl) (hK.use q209 rfl) (hK.use q207 rfl)) (by decide +kernel) ⟨Nat.le_of_ble_eq_true rfl, Nat.le_of_ble_eq_true rfl⟩ hgL rfl rfl rfl hl.1 rfl (Nat.le_of_ble_eq_true rfl) dX3_moment_8 (Nat.le_of_ble_eq_true rfl) (Nat.le_of_ble_eq_true rfl) (fun v f_8 H locs hp hH hS hz => ?_)
      obtain ⟨rfl, rfl⟩ := hp
      refine x_norm (g2 := F0 m 13 ls [.int (nI (xb (i ≤ nw)))]) (k := 1) (n := 2) (Nat.le_refl _) (Nat.le_refl _) rfl ?_
      refine x_ifbeq (tgt := 44) (B := i ≤ nw) hx hb dX3_moment_13 (by decide) (fun c13 => ?_) (fun c13 => ?_)
      · skip
        refine lv_iload_n hx hb dX3_moment_44 rfl (lv_at hl 1 rfl) ?_
        exact x_iret hx hb hr hlk hH hS ⟨by rw [show i = nw + 1 by omega]; exact congrArg (fun x => some (Value.int (nI x))) ((sumW (g := fun i => 20 * sa i * sw i) hnw (fun k a b => by show 20 * sa k * sw k = 0; rw [hz9 k a b, Nat.mul_zero])).trans (sumN_congr (fun k _ => by show 20 * sa k * sw k = sw k * 20 * sa k; rw [Nat.mul_comm, ← Nat.mul_assoc]))), hkL⟩ (Nat.le_of_ble_eq_true rfl) (Nat.le_of_ble_eq_true rfl) dX3_moment_45
      · skip
        refine lv_aload_n hx hb dX3_moment_16 rfl (lv_at hl 0 rfl) ?_
        refine x_F (n := 0) (As := []) (rest := []) ⟨hx, hb, hml, hown, hts⟩ hK hC hA hH hS (mX7_next l G A fL hCL hnw hgL (by omega)) q214 q217 q219 q49 q221 (va_Fw.of (A := #[]) (hK.use q216 rfl) (hK.use q215 rfl) (hK.use q220 rfl) (hK.use q218 rfl) (hK.use q207 rfl)) (by decide +kernel) ⟨Nat.le_of_ble_eq_true rfl, Nat.le_of_ble_eq_true rfl⟩ hgL rfl rfl rfl hl.1 rfl (Nat.le_of_ble_eq_true rfl) dX3_moment_17 (Nat.le_of_ble_eq_true rfl) (Nat.le_of_ble_eq_true rfl) (fun v f_9 H locs hp hH hS hz => ?_)
        obtain ⟨rfl, ef_9⟩ := hp
        have hP_10 : CA G f_9 ca cw wa nw sa sw := by rw [ef_9]; exact hCL.keep ((xkeep.refl (lo := 500) (hi := 500 + 1)).set hgL ⟨Nat.le_refl _, Nat.lt_succ_self _⟩) hnw (by decide)
        have hkp_11 : xkeep 500 501 f f_9 := by rw [ef_9]; exact hkL.set hgL (by decide)
        have h_12 : f_9 q_2 = some (xO 500 6 [.int (nI (i + 1)), .ref ca]) := by rw [ef_9]; exact xset_eq
        refine x_norm (g2 := F0 m 22 ls [.ref (wa (wpl nw i))]) (k := 1) (n := 2) (Nat.le_refl _) (Nat.le_refl _) rfl ?_
        refine x_castS hx hb hown (hts _ q91) hK hH (hP_10.2.2 (wpl nw i) wpl_ok) rfl rfl dX3_moment_22 ?_
        refine lv_astore_n (lv' := [(3, .ref (wa (wpl nw i))), (2, .ref q_2), (1, .int (nI (sumN (fun x => 20 * sa (wpl nw x) * sw (wpl nw x)) i))), (0, .ref ca)]) hx hb dX3_moment_25 rfl hl (by decide) rfl (fun ls hl => ?_)
        refine lv_iload_n hx hb dX3_moment_26 rfl (lv_at hl 2 rfl) ?_
        refine lv_bipush (v := nI 20) hx hb dX3_moment_27 rfl ?_
        refine lv_aload_n hx hb dX3_moment_29 rfl (lv_at hl 0 rfl) ?_
        refine x_getN (C := RX4) (T := TX4) (N := 2) (ci := 3) (v := .int (nI (sa (wpl nw i)))) hx hb hts in_X4 hown hK hH (hP_10.2.2 (wpl nw i) wpl_ok) rfl 0 (by decide) (va_Nw.use rfl (hK.use q99 rfl)) (fun _ h9 => h9) rfl dX3_moment_30 ?_
        refine x_imul (v := nI (20 * (sa (wpl nw i)))) hx hb (pk_mul _ _) dX3_moment_33 ?_
        refine lv_aload_n hx hb dX3_moment_34 rfl (lv_at hl 0 rfl) ?_
        refine x_getN (C := RX4) (T := TX4) (N := 2) (ci := 3) (v := .int (nI (sw (wpl nw i)))) hx hb hts in_X4 hown hK hH (hP_10.2.2 (wpl nw i) wpl_ok) rfl 1 (by decide) (va_Nw.use rfl (hK.use q102 rfl)) (fun _ h9 => h9) rfl dX3_moment_35 ?_
        refine x_imul (v := nI ((20 * (sa (wpl nw i))) * (sw (wpl nw i)))) hx hb (pk_mul _ _) dX3_moment_38 ?_
        refine x_iadd (v := nI ((sumN (fun x => 20 * sa (wpl nw x) * sw (wpl nw x)) i) + ((20 * (sa (wpl nw i))) * (sw (wpl nw i))))) hx hb (nI_add _ _) dX3_moment_39 ?_
        refine lv_istore_n (lv' := [(1, .int (nI ((sumN (fun x => 20 * sa (wpl nw x) * sw (wpl nw x)) i) + ((20 * (sa (wpl nw i))) * (sw (wpl nw i)))))), (3, .ref (wa (wpl nw i))), (2, .ref q_2), (0, .ref ca)]) hx hb dX3_moment_40 rfl hl (by decide) rfl (fun ls hl => ?_)
        refine lv_goto (tgt := 7) hx hb dX3_moment_41 (by decide) ?_
        have e_13 : (nI ((sumN (fun x => 20 * sa (wpl nw x) * sw (wpl nw x)) i) + ((20 * (sa (wpl nw i))) * (sw (wpl nw i)))) : Int32) = nI (sumN (fun x => 20 * sa (wpl nw x) * sw (wpl nw x)) (i + 1)) := by rfl
        have hl : lv_has ls 4 [(1, .int (nI (sumN (fun x => 20 * sa (wpl nw x) * sw (wpl nw x)) (i + 1)))), (3, .ref (wa (wpl nw i))), (2, .ref q_2), (0, .ref ca)] := xl_eq hl (xl_cons (congrArg (fun x => ((1 : Nat), Value.int x)) e_13) rfl)
        exact ih7 (i + 1) f_9 _ _ _ (by omega) h_12 hP_10 hkp_11 (by omega) hH hS (lv_sub hl [2, 0, 3] rfl)
  have e_14 : (nI 0 : Int32) = nI (sumN (fun x => 20 * sa (wpl nw x) * sw (wpl nw x)) 0) := by rfl
  have hl : lv_has ls 4 [(2, .ref q_2), (1, .int (nI (sumN (fun x => 20 * sa (wpl nw x) * sw (wpl nw x)) 0))), (0, .ref ca)] := xl_eq hl (xl_cons rfl (xl_cons (congrArg (fun x => ((1 : Nat), Value.int x)) e_14) rfl))
  exact hloop7 (nw + 1 - 0 + 1) 0 f_1 _ _ _ (by omega) hg_3 hP_5 hkp_6 (Nat.lt_succ_self _) hH hS (lv_sub hl [0, 1, 2] rfl)
