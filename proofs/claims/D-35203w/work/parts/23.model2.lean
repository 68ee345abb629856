/-! THE MODEL, sums and bends (printed by genm.py) -/
set_option maxRecDepth 100000
def bendM (hf : Nat → Nat) (w : Nat) : Int := sumZ (fun i => sqZ (((h2 hf w i + h2 hf w (i + 2) : Nat) : Int) - ((2 * h2 hf w (i + 1) : Nat) : Int))) 7
abbrev rmX5_bendOf : Room := { frames := 2, cells := 0, slots := 0, locals := 80 }
set_option maxHeartbeats 4000000 in
set_option maxRecDepth 100000 in
theorem mX5_bendOf (l : Launch) (G : xG) (A : Nat → Prop) (f : xF) {mm : Nat} {ad : Nat → Nat} {th nw ln nt sl td la : Nat} {hf sa sw lf cf dd tt bh li : Nat → Nat} (hM : MM G f mm ad th nw ln nt sl td la hf sa sw lf cf dd tt bh li) (w : Nat) (hw : w < 6) : xMet l yX5_bendOf cX5_bendOf 4 (some .int) rmX5_bendOf G A f [.ref mm, .int (nI w)] (fun v f1 => v = some (.int (oI (bendM hf w))) ∧ f = f1) := by
  refine x_start (by decide) (Nat.le_of_ble_eq_true rfl) ?_
  intro p e s m below meth c ls X hH hS hl
  obtain ⟨hx, hb, hr, hlk, hml, hown, hts, hK, hC, hA, hnm, hmn⟩ := X
  have hl : lv_has ls 4 [(0, .ref mm), (1, .int (nI w))] := hl
  refine lv_iconst (v := nI 0) hx hb dX5_bendOf_0 rfl ?_
  refine lv_istore_n (lv' := [(2, .int (nI 0)), (0, .ref mm), (1, .int (nI w))]) hx hb dX5_bendOf_1 rfl hl (by decide) rfl (fun ls hl => ?_)
  refine lv_iconst (v := nI 1) hx hb dX5_bendOf_2 rfl ?_
  refine lv_istore_n (lv' := [(3, .int (nI 1)), (2, .int (nI 0)), (0, .ref mm), (1, .int (nI w))]) hx hb dX5_bendOf_3 rfl hl (by decide) rfl (fun ls hl => ?_)
  have hloop4 : ∀ (n : Nat) (j : Nat) (H : Heap) (locs : List Loc) (ls : Array Slot), j ≤ 7 → (7 - j) < n → xH G A f H → va_S A s.heap H locs → lv_has ls 4 [(3, .int (nI (j + 1))), (2, .int (oI (sumZ (fun i => sqZ (((h2 hf w i + h2 hf w (i + 2) : Nat) : Int) - ((2 * h2 hf w (i + 1) : Nat) : Int))) j))), (0, .ref mm), (1, .int (nI w))] → W p l e rmX5_bendOf s m ([.ref mm, .int (nI w)] : List Value).toArray below meth c H locs 0 0 (MQ below (xQ G A (fun v f1 => v = some (.int (oI (bendM hf w))) ∧ f = f1)) ([.ref mm, .int (nI w)] : List Value).toArray s rmX5_bendOf.cells rmX5_bendOf.slots A) (F0 m 4 ls []) := by
    intro n
    induction n with
    | zero => intro j H locs ls hj hn; exact absurd hn (Nat.not_lt_zero _)
    | succ n ih4 =>
      intro j H locs ls hj hn hH hS hl
      refine lv_iload_n hx hb dX5_bendOf_4 rfl (lv_at hl 0 rfl) ?_
      refine lv_iconst (v := nI 1) hx hb dX5_bendOf_5 rfl ?_
      refine x_iadd (v := nI ((j + 1) + 1)) hx hb (nI_add _ _) dX5_bendOf_6 ?_
      refine lv_bipush (v := nI 9) hx hb dX5_bendOf_7 rfl ?_
      refine x_icmp_ge (tgt := 50) (P := 9 ≤ ((j + 1) + 1)) hx hb dX5_bendOf_9 (by decide) (nI_le' (by decide) (by omega)) (fun c9 => ?_) (fun c9 => ?_)
      · skip
        refine lv_iload_n hx hb dX5_bendOf_50 rfl (lv_at hl 1 rfl) ?_
        exact x_iret hx hb hr hlk hH hS ⟨by rw [show j = 7 by omega]; rfl, rfl⟩ (Nat.le_of_ble_eq_true rfl) (Nat.le_of_ble_eq_true rfl) dX5_bendOf_51
      · skip
        refine lv_iload_n hx hb dX5_bendOf_12 rfl (lv_at hl 1 rfl) ?_
        refine lv_aload_n hx hb dX5_bendOf_13 rfl (lv_at hl 2 rfl) ?_
        refine lv_iload_n hx hb dX5_bendOf_14 rfl (lv_at hl 0 rfl) ?_
        refine lv_iconst (v := nI 1) hx hb dX5_bendOf_15 rfl ?_
        refine x_isub (v := nI ((j + 1) - 1)) hx hb (pk_sub (by omega)) dX5_bendOf_16 ?_
        refine lv_iload_n hx hb dX5_bendOf_17 rfl (lv_at hl 3 rfl) ?_
        refine x_V (n := 2) (As := [.int (nI ((j + 1) - 1)), .int (nI w)]) (rest := [.int (oI (sumZ (fun i => sqZ (((h2 hf w i + h2 hf w (i + 2) : Nat) : Int) - ((2 * h2 hf w (i + 1) : Nat) : Int))) j))]) ⟨hx, hb, hml, hown, hts⟩ hK hC hA hH hS (mX5_halfAt l G A f hM ((j + 1) - 1) w (by omega) (by omega)) q1043 q1045 qs12 q38 q1046 (by decide +kernel) ⟨Nat.le_of_ble_eq_true rfl, Nat.le_of_ble_eq_true rfl⟩ hM.1 rfl rfl rfl hl.1 rfl (Nat.le_of_ble_eq_true rfl) dX5_bendOf_18 (Nat.le_of_ble_eq_true rfl) (Nat.le_of_ble_eq_true rfl) (fun v f_2 H locs hp hH hS hz => ?_)
        obtain ⟨rfl, rfl⟩ := hp
        refine x_norm (g2 := F0 m 21 ls [.int (nI (h2 hf w ((j + 1) - 1))), .int (oI (sumZ (fun i => sqZ (((h2 hf w i + h2 hf w (i + 2) : Nat) : Int) - ((2 * h2 hf w (i + 1) : Nat) : Int))) j))]) (k := 0) (n := 0) (Nat.le_refl _) (Nat.le_refl _) rfl ?_
        refine lv_aload_n hx hb dX5_bendOf_21 rfl (lv_at hl 2 rfl) ?_
        refine lv_iload_n hx hb dX5_bendOf_22 rfl (lv_at hl 0 rfl) ?_
        refine lv_iconst (v := nI 1) hx hb dX5_bendOf_23 rfl ?_
        refine x_iadd (v := nI ((j + 1) + 1)) hx hb (nI_add _ _) dX5_bendOf_24 ?_
        refine lv_iload_n hx hb dX5_bendOf_25 rfl (lv_at hl 3 rfl) ?_
        refine x_V (n := 2) (As := [.int (nI ((j + 1) + 1)), .int (nI w)]) (rest := [.int (nI (h2 hf w ((j + 1) - 1))), .int (oI (sumZ (fun i => sqZ (((h2 hf w i + h2 hf w (i + 2) : Nat) : Int) - ((2 * h2 hf w (i + 1) : Nat) : Int))) j))]) ⟨hx, hb, hml, hown, hts⟩ hK hC hA hH hS (mX5_halfAt l G A f hM ((j + 1) + 1) w (by omega) (by omega)) q1043 q1045 qs12 q38 q1046 (by decide +kernel) ⟨Nat.le_of_ble_eq_true rfl, Nat.le_of_ble_eq_true rfl⟩ hM.1 rfl rfl rfl hl.1 rfl (Nat.le_of_ble_eq_true rfl) dX5_bendOf_26 (Nat.le_of_ble_eq_true rfl) (Nat.le_of_ble_eq_true rfl) (fun v f_3 H locs hp hH hS hz => ?_)
        obtain ⟨rfl, rfl⟩ := hp
        refine x_norm (g2 := F0 m 29 ls [.int (nI (h2 hf w ((j + 1) + 1))), .int (nI (h2 hf w ((j + 1) - 1))), .int (oI (sumZ (fun i => sqZ (((h2 hf w i + h2 hf w (i + 2) : Nat) : Int) - ((2 * h2 hf w (i + 1) : Nat) : Int))) j))]) (k := 0) (n := 0) (Nat.le_refl _) (Nat.le_refl _) rfl ?_
        refine x_iadd (v := nI ((h2 hf w ((j + 1) - 1)) + (h2 hf w ((j + 1) + 1)))) hx hb (nI_add _ _) dX5_bendOf_29 ?_
        refine lv_iconst (v := nI 2) hx hb dX5_bendOf_30 rfl ?_
        refine lv_aload_n hx hb dX5_bendOf_31 rfl (lv_at hl 2 rfl) ?_
        refine lv_iload_n hx hb dX5_bendOf_32 rfl (lv_at hl 0 rfl) ?_
        refine lv_iload_n hx hb dX5_bendOf_33 rfl (lv_at hl 3 rfl) ?_
        refine x_V (n := 2) (As := [.int (nI (j + 1)), .int (nI w)]) (rest := [.int (nI 2), .int (nI ((h2 hf w ((j + 1) - 1)) + (h2 hf w ((j + 1) + 1)))), .int (oI (sumZ (fun i => sqZ (((h2 hf w i + h2 hf w (i + 2) : Nat) : Int) - ((2 * h2 hf w (i + 1) : Nat) : Int))) j))]) ⟨hx, hb, hml, hown, hts⟩ hK hC hA hH hS (mX5_halfAt l G A f hM (j + 1) w (by omega) (by omega)) q1043 q1045 qs12 q38 q1046 (by decide +kernel) ⟨Nat.le_of_ble_eq_true rfl, Nat.le_of_ble_eq_true rfl⟩ hM.1 rfl rfl rfl hl.1 rfl (Nat.le_of_ble_eq_true rfl) dX5_bendOf_34 (Nat.le_of_ble_eq_true rfl) (Nat.le_of_ble_eq_true rfl) (fun v f_4 H locs hp hH hS hz => ?_)
        obtain ⟨rfl, rfl⟩ := hp
        refine x_norm (g2 := F0 m 37 ls [.int (nI (h2 hf w (j + 1))), .int (nI 2), .int (nI ((h2 hf w ((j + 1) - 1)) + (h2 hf w ((j + 1) + 1)))), .int (oI (sumZ (fun i => sqZ (((h2 hf w i + h2 hf w (i + 2) : Nat) : Int) - ((2 * h2 hf w (i + 1) : Nat) : Int))) j))]) (k := 0) (n := 0) (Nat.le_refl _) (Nat.le_refl _) rfl ?_
        refine x_imul (v := nI (2 * (h2 hf w (j + 1)))) hx hb (pk_mul _ _) dX5_bendOf_37 ?_
        refine x_isub (v := oI ((((h2 hf w ((j + 1) - 1)) + (h2 hf w ((j + 1) + 1)) : Nat) : Int) - ((2 * (h2 hf w (j + 1)) : Nat) : Int))) hx hb (oI_sub' (nI_oI _) (nI_oI _)) dX5_bendOf_38 ?_
        refine x_S (n := 1) (As := [.int (oI ((((h2 hf w ((j + 1) - 1)) + (h2 hf w ((j + 1) + 1)) : Nat) : Int) - ((2 * (h2 hf w (j + 1)) : Nat) : Int)))]) (rest := [.int (oI (sumZ (fun i => sqZ (((h2 hf w i + h2 hf w (i + 2) : Nat) : Int) - ((2 * h2 hf w (i + 1) : Nat) : Int))) j))]) ⟨hx, hb, hml, hown, hts⟩ hK hC hA hH hS (mX5_square l G A f ((((h2 hf w ((j + 1) - 1)) + (h2 hf w ((j + 1) + 1)) : Nat) : Int) - ((2 * (h2 hf w (j + 1)) : Nat) : Int))) q1059 q1060 q38 q1061 (by decide +kernel) ⟨Nat.le_of_ble_eq_true rfl, Nat.le_of_ble_eq_true rfl⟩ rfl hl.1 rfl (Nat.le_of_ble_eq_true rfl) dX5_bendOf_39 (Nat.le_of_ble_eq_true rfl) (Nat.le_of_ble_eq_true rfl) (fun v f_5 H locs hp hH hS hz => ?_)
        obtain ⟨rfl, rfl⟩ := hp
        refine x_norm (g2 := F0 m 42 ls [.int (oI (sqZ ((((h2 hf w ((j + 1) - 1)) + (h2 hf w ((j + 1) + 1)) : Nat) : Int) - ((2 * (h2 hf w (j + 1)) : Nat) : Int)))), .int (oI (sumZ (fun i => sqZ (((h2 hf w i + h2 hf w (i + 2) : Nat) : Int) - ((2 * h2 hf w (i + 1) : Nat) : Int))) j))]) (k := 0) (n := 0) (Nat.le_refl _) (Nat.le_refl _) rfl ?_
        refine x_iadd (v := oI ((sumZ (fun i => sqZ (((h2 hf w i + h2 hf w (i + 2) : Nat) : Int) - ((2 * h2 hf w (i + 1) : Nat) : Int))) j) + (sqZ ((((h2 hf w ((j + 1) - 1)) + (h2 hf w ((j + 1) + 1)) : Nat) : Int) - ((2 * (h2 hf w (j + 1)) : Nat) : Int))))) hx hb (oI_add' rfl rfl) dX5_bendOf_42 ?_
        refine lv_istore_n (lv' := [(2, .int (oI ((sumZ (fun i => sqZ (((h2 hf w i + h2 hf w (i + 2) : Nat) : Int) - ((2 * h2 hf w (i + 1) : Nat) : Int))) j) + (sqZ ((((h2 hf w ((j + 1) - 1)) + (h2 hf w ((j + 1) + 1)) : Nat) : Int) - ((2 * (h2 hf w (j + 1)) : Nat) : Int)))))), (3, .int (nI (j + 1))), (0, .ref mm), (1, .int (nI w))]) hx hb dX5_bendOf_43 rfl hl (by decide) rfl (fun ls hl => ?_)
        refine lv_iinc (v := nI (j + 1 + 1)) (lv' := [(3, .int (nI (j + 1 + 1))), (2, .int (oI ((sumZ (fun i => sqZ (((h2 hf w i + h2 hf w (i + 2) : Nat) : Int) - ((2 * h2 hf w (i + 1) : Nat) : Int))) j) + (sqZ ((((h2 hf w ((j + 1) - 1)) + (h2 hf w ((j + 1) + 1)) : Nat) : Int) - ((2 * (h2 hf w (j + 1)) : Nat) : Int)))))), (0, .ref mm), (1, .int (nI w))]) hx hb dX5_bendOf_44 hl (k := 1) rfl (nI_inc _) (by decide) rfl (fun ls hl => ?_)
        refine lv_goto (tgt := 4) hx hb dX5_bendOf_47 (by decide) ?_
        have e_6 : (nI (j + 1 + 1) : Int32) = nI ((j + 1) + 1) := by rfl
        have e_7 : (oI ((sumZ (fun i => sqZ (((h2 hf w i + h2 hf w (i + 2) : Nat) : Int) - ((2 * h2 hf w (i + 1) : Nat) : Int))) j) + (sqZ ((((h2 hf w ((j + 1) - 1)) + (h2 hf w ((j + 1) + 1)) : Nat) : Int) - ((2 * (h2 hf w (j + 1)) : Nat) : Int)))) : Int32) = oI (sumZ (fun i => sqZ (((h2 hf w i + h2 hf w (i + 2) : Nat) : Int) - ((2 * h2 hf w (i + 1) : Nat) : Int))) (j + 1)) := by rfl
        have hl : lv_has ls 4 [(3, .int (nI ((j + 1) + 1))), (2, .int (oI (sumZ (fun i => sqZ (((h2 hf w i + h2 hf w (i + 2) : Nat) : Int) - ((2 * h2 hf w (i + 1) : Nat) : Int))) (j + 1)))), (0, .ref mm), (1, .int (nI w))] := xl_eq hl (xl_cons (congrArg (fun x => ((3 : Nat), Value.int x)) e_6) (xl_cons (congrArg (fun x => ((2 : Nat), Value.int x)) e_7) rfl))
        exact ih4 (j + 1) _ _ _ (by omega) (by omega) hH hS (lv_sub hl [0, 1, 2, 3] rfl)
  have e_8 : (nI 1 : Int32) = nI (0 + 1) := by rfl
  have e_9 : (nI 0 : Int32) = oI (sumZ (fun i => sqZ (((h2 hf w i + h2 hf w (i + 2) : Nat) : Int) - ((2 * h2 hf w (i + 1) : Nat) : Int))) 0) := by exact (by decide : nI 0 = oI 0)
  have hl : lv_has ls 4 [(3, .int (nI (0 + 1))), (2, .int (oI (sumZ (fun i => sqZ (((h2 hf w i + h2 hf w (i + 2) : Nat) : Int) - ((2 * h2 hf w (i + 1) : Nat) : Int))) 0))), (0, .ref mm), (1, .int (nI w))] := xl_eq hl (xl_cons (congrArg (fun x => ((3 : Nat), Value.int x)) e_8) (xl_cons (congrArg (fun x => ((2 : Nat), Value.int x)) e_9) rfl))
  exact hloop4 (7 - 0 + 1) 0 _ _ _ (by omega) (Nat.lt_succ_self _) hH hS (lv_sub hl [0, 1, 2, 3] rfl)

abbrev rmX5_volumeOf : Room := { frames := 3, cells := 0, slots := 0, locals := 120 }
set_option maxHeartbeats 4000000 in
set_option maxRecDepth 100000 in
theorem mX5_volumeOf (l : Launch) (G : xG) (A : Nat → Prop) (f : xF) {mm : Nat} {ad : Nat → Nat} {th nw ln nt sl td la : Nat} {hf sa sw lf cf dd tt bh li : Nat → Nat} (hM : MM G f mm ad th nw ln nt sl td la hf sa sw lf cf dd tt bh li) (w : Nat) (hw : w < 6) : xMet l yX5_volumeOf cX5_volumeOf 4 (some .int) rmX5_volumeOf G A f [.ref mm, .int (nI w)] (fun v f1 => v = some (.int (nI (volN (h2 hf) w))) ∧ f = f1) := by
  refine x_start (by decide) (Nat.le_of_ble_eq_true rfl) ?_
  intro p e s m below meth c ls X hH hS hl
  obtain ⟨hx, hb, hr, hlk, hml, hown, hts, hK, hC, hA, hnm, hmn⟩ := X
  have hl : lv_has ls 4 [(0, .ref mm), (1, .int (nI w))] := hl
  refine lv_iconst (v := nI 0) hx hb dX5_volumeOf_0 rfl ?_
  refine lv_istore_n (lv' := [(2, .int (nI 0)), (0, .ref mm), (1, .int (nI w))]) hx hb dX5_volumeOf_1 rfl hl (by decide) rfl (fun ls hl => ?_)
  refine lv_iconst (v := nI 0) hx hb dX5_volumeOf_2 rfl ?_
  refine lv_istore_n (lv' := [(3, .int (nI 0)), (2, .int (nI 0)), (0, .ref mm), (1, .int (nI w))]) hx hb dX5_volumeOf_3 rfl hl (by decide) rfl (fun ls hl => ?_)
  have hloop4 : ∀ (n : Nat) (k : Nat) (H : Heap) (locs : List Loc) (ls : Array Slot), k ≤ 8 → (8 - k) < n → xH G A f H → va_S A s.heap H locs → lv_has ls 4 [(3, .int (nI k)), (2, .int (nI (sumN (fun i => areaN (h2 hf) i w + areaN (h2 hf) (i + 1) w) k))), (0, .ref mm), (1, .int (nI w))] → W p l e rmX5_volumeOf s m ([.ref mm, .int (nI w)] : List Value).toArray below meth c H locs 0 0 (MQ below (xQ G A (fun v f1 => v = some (.int (nI (volN (h2 hf) w))) ∧ f = f1)) ([.ref mm, .int (nI w)] : List Value).toArray s rmX5_volumeOf.cells rmX5_volumeOf.slots A) (F0 m 4 ls []) := by
    intro n
    induction n with
    | zero => intro k H locs ls hk hn; exact absurd hn (Nat.not_lt_zero _)
    | succ n ih4 =>
      intro k H locs ls hk hn hH hS hl
      refine lv_iload_n hx hb dX5_volumeOf_4 rfl (lv_at hl 0 rfl) ?_
      refine lv_iconst (v := nI 1) hx hb dX5_volumeOf_5 rfl ?_
      refine x_iadd (v := nI (k + 1)) hx hb (nI_add _ _) dX5_volumeOf_6 ?_
      refine lv_bipush (v := nI 9) hx hb dX5_volumeOf_7 rfl ?_
      refine x_icmp_ge (tgt := 36) (P := 9 ≤ (k + 1)) hx hb dX5_volumeOf_9 (by decide) (nI_le' (by decide) (by omega)) (fun c9 => ?_) (fun c9 => ?_)
      · skip
        refine lv_iload_n hx hb dX5_volumeOf_36 rfl (lv_at hl 1 rfl) ?_
        exact x_iret hx hb hr hlk hH hS ⟨by rw [show k = 8 by omega]; rfl, rfl⟩ (Nat.le_of_ble_eq_true rfl) (Nat.le_of_ble_eq_true rfl) dX5_volumeOf_37
      · skip
        refine lv_iload_n hx hb dX5_volumeOf_12 rfl (lv_at hl 1 rfl) ?_
        refine lv_aload_n hx hb dX5_volumeOf_13 rfl (lv_at hl 2 rfl) ?_
        refine lv_iload_n hx hb dX5_volumeOf_14 rfl (lv_at hl 0 rfl) ?_
        refine lv_iload_n hx hb dX5_volumeOf_15 rfl (lv_at hl 3 rfl) ?_
        refine x_V (n := 2) (As := [.int (nI k), .int (nI w)]) (rest := [.int (nI (sumN (fun i => areaN (h2 hf) i w + areaN (h2 hf) (i + 1) w) k))]) ⟨hx, hb, hml, hown, hts⟩ hK hC hA hH hS (mX5_areaOf l G A f hM k w (by omega) (by omega)) q1097 q1099 qs19 q38 q1100 (by decide +kernel) ⟨Nat.le_of_ble_eq_true rfl, Nat.le_of_ble_eq_true rfl⟩ hM.1 rfl rfl rfl hl.1 rfl (Nat.le_of_ble_eq_true rfl) dX5_volumeOf_16 (Nat.le_of_ble_eq_true rfl) (Nat.le_of_ble_eq_true rfl) (fun v f_2 H locs hp hH hS hz => ?_)
        obtain ⟨rfl, rfl⟩ := hp
        refine x_norm (g2 := F0 m 19 ls [.int (nI (areaN (h2 hf) k w)), .int (nI (sumN (fun i => areaN (h2 hf) i w + areaN (h2 hf) (i + 1) w) k))]) (k := 0) (n := 0) (Nat.le_refl _) (Nat.le_refl _) rfl ?_
        refine lv_aload_n hx hb dX5_volumeOf_19 rfl (lv_at hl 2 rfl) ?_
        refine lv_iload_n hx hb dX5_volumeOf_20 rfl (lv_at hl 0 rfl) ?_
        refine lv_iconst (v := nI 1) hx hb dX5_volumeOf_21 rfl ?_
        refine x_iadd (v := nI (k + 1)) hx hb (nI_add _ _) dX5_volumeOf_22 ?_
        refine lv_iload_n hx hb dX5_volumeOf_23 rfl (lv_at hl 3 rfl) ?_
        refine x_V (n := 2) (As := [.int (nI (k + 1)), .int (nI w)]) (rest := [.int (nI (areaN (h2 hf) k w)), .int (nI (sumN (fun i => areaN (h2 hf) i w + areaN (h2 hf) (i + 1) w) k))]) ⟨hx, hb, hml, hown, hts⟩ hK hC hA hH hS (mX5_areaOf l G A f hM (k + 1) w (by omega) (by omega)) q1097 q1099 qs19 q38 q1100 (by decide +kernel) ⟨Nat.le_of_ble_eq_true rfl, Nat.le_of_ble_eq_true rfl⟩ hM.1 rfl rfl rfl hl.1 rfl (Nat.le_of_ble_eq_true rfl) dX5_volumeOf_24 (Nat.le_of_ble_eq_true rfl) (Nat.le_of_ble_eq_true rfl) (fun v f_3 H locs hp hH hS hz => ?_)
        obtain ⟨rfl, rfl⟩ := hp
        refine x_norm (g2 := F0 m 27 ls [.int (nI (areaN (h2 hf) (k + 1) w)), .int (nI (areaN (h2 hf) k w)), .int (nI (sumN (fun i => areaN (h2 hf) i w + areaN (h2 hf) (i + 1) w) k))]) (k := 0) (n := 0) (Nat.le_refl _) (Nat.le_refl _) rfl ?_
        refine x_iadd (v := nI ((areaN (h2 hf) k w) + (areaN (h2 hf) (k + 1) w))) hx hb (nI_add _ _) dX5_volumeOf_27 ?_
        refine x_iadd (v := nI ((sumN (fun i => areaN (h2 hf) i w + areaN (h2 hf) (i + 1) w) k) + ((areaN (h2 hf) k w) + (areaN (h2 hf) (k + 1) w)))) hx hb (nI_add _ _) dX5_volumeOf_28 ?_
        refine lv_istore_n (lv' := [(2, .int (nI ((sumN (fun i => areaN (h2 hf) i w + areaN (h2 hf) (i + 1) w) k) + ((areaN (h2 hf) k w) + (areaN (h2 hf) (k + 1) w))))), (3, .int (nI k)), (0, .ref mm), (1, .int (nI w))]) hx hb dX5_volumeOf_29 rfl hl (by decide) rfl (fun ls hl => ?_)
        refine lv_iinc (v := nI (k + 1)) (lv' := [(3, .int (nI (k + 1))), (2, .int (nI ((sumN (fun i => areaN (h2 hf) i w + areaN (h2 hf) (i + 1) w) k) + ((areaN (h2 hf) k w) + (areaN (h2 hf) (k + 1) w))))), (0, .ref mm), (1, .int (nI w))]) hx hb dX5_volumeOf_30 hl (k := 1) rfl (nI_inc _) (by decide) rfl (fun ls hl => ?_)
        refine lv_goto (tgt := 4) hx hb dX5_volumeOf_33 (by decide) ?_
        have e_4 : (nI ((sumN (fun i => areaN (h2 hf) i w + areaN (h2 hf) (i + 1) w) k) + ((areaN (h2 hf) k w) + (areaN (h2 hf) (k + 1) w))) : Int32) = nI (sumN (fun i => areaN (h2 hf) i w + areaN (h2 hf) (i + 1) w) (k + 1)) := by rfl
        have hl : lv_has ls 4 [(3, .int (nI (k + 1))), (2, .int (nI (sumN (fun i => areaN (h2 hf) i w + areaN (h2 hf) (i + 1) w) (k + 1)))), (0, .ref mm), (1, .int (nI w))] := xl_eq hl (xl_cons rfl (xl_cons (congrArg (fun x => ((2 : Nat), Value.int x)) e_4) rfl))
        exact ih4 (k + 1) _ _ _ (by omega) (by omega) hH hS (lv_sub hl [0, 1, 2, 3] rfl)
  have e_5 : (nI 0 : Int32) = nI (sumN (fun i => areaN (h2 hf) i w + areaN (h2 hf) (i + 1) w) 0) := by rfl
  have hl : lv_has ls 4 [(3, .int (nI 0)), (2, .int (nI (sumN (fun i => areaN (h2 hf) i w + areaN (h2 hf) (i + 1) w) 0))), (0, .ref mm), (1, .int (nI w))] := xl_eq hl (xl_cons rfl (xl_cons (congrArg (fun x => ((2 : Nat), Value.int x)) e_5) rfl))
  exact hloop4 (8 - 0 + 1) 0 _ _ _ (by omega) (Nat.lt_succ_self _) hH hS (lv_sub hl [0, 1, 2, 3] rfl)

abbrev rmX5_momentOf : Room := { frames := 3, cells := 0, slots := 0, locals := 120 }
set_option maxHeartbeats 4000000 in
set_option maxRecDepth 100000 in
theorem mX5_momentOf (l : Launch) (G : xG) (A : Nat → Prop) (f : xF) {mm : Nat} {ad : Nat → Nat} {th nw ln nt sl td la : Nat} {hf sa sw lf cf dd tt bh li : Nat → Nat} (hM : MM G f mm ad th nw ln nt sl td la hf sa sw lf cf dd tt bh li) (w : Nat) (hw : w < 6) : xMet l yX5_momentOf cX5_momentOf 4 (some .int) rmX5_momentOf G A f [.ref mm, .int (nI w)] (fun v f1 => v = some (.int (nI (momN (h2 hf) w))) ∧ f = f1) := by
  refine x_start (by decide) (Nat.le_of_ble_eq_true rfl) ?_
  intro p e s m below meth c ls X hH hS hl
  obtain ⟨hx, hb, hr, hlk, hml, hown, hts, hK, hC, hA, hnm, hmn⟩ := X
  have hl : lv_has ls 4 [(0, .ref mm), (1, .int (nI w))] := hl
  refine lv_iconst (v := nI 0) hx hb dX5_momentOf_0 rfl ?_
  refine lv_istore_n (lv' := [(2, .int (nI 0)), (0, .ref mm), (1, .int (nI w))]) hx hb dX5_momentOf_1 rfl hl (by decide) rfl (fun ls hl => ?_)
  refine lv_iconst (v := nI 0) hx hb dX5_momentOf_2 rfl ?_
  refine lv_istore_n (lv' := [(3, .int (nI 0)), (2, .int (nI 0)), (0, .ref mm), (1, .int (nI w))]) hx hb dX5_momentOf_3 rfl hl (by decide) rfl (fun ls hl => ?_)
  have hloop4 : ∀ (n : Nat) (k : Nat) (H : Heap) (locs : List Loc) (ls : Array Slot), k ≤ 8 → (8 - k) < n → xH G A f H → va_S A s.heap H locs → lv_has ls 4 [(3, .int (nI k)), (2, .int (nI (sumN (fun i => (2 * i + 1) * (areaN (h2 hf) i w + areaN (h2 hf) (i + 1) w)) k))), (0, .ref mm), (1, .int (nI w))] → W p l e rmX5_momentOf s m ([.ref mm, .int (nI w)] : List Value).toArray below meth c H locs 0 0 (MQ below (xQ G A (fun v f1 => v = some (.int (nI (momN (h2 hf) w))) ∧ f = f1)) ([.ref mm, .int (nI w)] : List Value).toArray s rmX5_momentOf.cells rmX5_momentOf.slots A) (F0 m 4 ls []) := by
    intro n
    induction n with
    | zero => intro k H locs ls hk hn; exact absurd hn (Nat.not_lt_zero _)
    | succ n ih4 =>
      intro k H locs ls hk hn hH hS hl
      refine lv_iload_n hx hb dX5_momentOf_4 rfl (lv_at hl 0 rfl) ?_
      refine lv_iconst (v := nI 1) hx hb dX5_momentOf_5 rfl ?_
      refine x_iadd (v := nI (k + 1)) hx hb (nI_add _ _) dX5_momentOf_6 ?_
      refine lv_bipush (v := nI 9) hx hb dX5_momentOf_7 rfl ?_
      refine x_icmp_ge (tgt := 42) (P := 9 ≤ (k + 1)) hx hb dX5_momentOf_9 (by decide) (nI_le' (by decide) (by omega)) (fun c9 => ?_) (fun c9 => ?_)
      · skip
        refine lv_iload_n hx hb dX5_momentOf_42 rfl (lv_at hl 1 rfl) ?_
        exact x_iret hx hb hr hlk hH hS ⟨by rw [show k = 8 by omega]; rfl, rfl⟩ (Nat.le_of_ble_eq_true rfl) (Nat.le_of_ble_eq_true rfl) dX5_momentOf_43
      · skip
        refine lv_iload_n hx hb dX5_momentOf_12 rfl (lv_at hl 1 rfl) ?_
        refine lv_iconst (v := nI 2) hx hb dX5_momentOf_13 rfl ?_
        refine lv_iload_n hx hb dX5_momentOf_14 rfl (lv_at hl 0 rfl) ?_
        refine x_imul (v := nI (2 * k)) hx hb (pk_mul _ _) dX5_momentOf_15 ?_
        refine lv_iconst (v := nI 1) hx hb dX5_momentOf_16 rfl ?_
        refine x_iadd (v := nI ((2 * k) + 1)) hx hb (nI_add _ _) dX5_momentOf_17 ?_
        refine lv_aload_n hx hb dX5_momentOf_18 rfl (lv_at hl 2 rfl) ?_
        refine lv_iload_n hx hb dX5_momentOf_19 rfl (lv_at hl 0 rfl) ?_
        refine lv_iload_n hx hb dX5_momentOf_20 rfl (lv_at hl 3 rfl) ?_
        refine x_V (n := 2) (As := [.int (nI k), .int (nI w)]) (rest := [.int (nI ((2 * k) + 1)), .int (nI (sumN (fun i => (2 * i + 1) * (areaN (h2 hf) i w + areaN (h2 hf) (i + 1) w)) k))]) ⟨hx, hb, hml, hown, hts⟩ hK hC hA hH hS (mX5_areaOf l G A f hM k w (by omega) (by omega)) q1097 q1099 qs19 q38 q1100 (by decide +kernel) ⟨Nat.le_of_ble_eq_true rfl, Nat.le_of_ble_eq_true rfl⟩ hM.1 rfl rfl rfl hl.1 rfl (Nat.le_of_ble_eq_true rfl) dX5_momentOf_21 (Nat.le_of_ble_eq_true rfl) (Nat.le_of_ble_eq_true rfl) (fun v f_2 H locs hp hH hS hz => ?_)
        obtain ⟨rfl, rfl⟩ := hp
        refine x_norm (g2 := F0 m 24 ls [.int (nI (areaN (h2 hf) k w)), .int (nI ((2 * k) + 1)), .int (nI (sumN (fun i => (2 * i + 1) * (areaN (h2 hf) i w + areaN (h2 hf) (i + 1) w)) k))]) (k := 0) (n := 0) (Nat.le_refl _) (Nat.le_refl _) rfl ?_
        refine lv_aload_n hx hb dX5_momentOf_24 rfl (lv_at hl 2 rfl) ?_
        refine lv_iload_n hx hb dX5_momentOf_25 rfl (lv_at hl 0 rfl) ?_
        refine lv_iconst (v := nI 1) hx hb dX5_momentOf_26 rfl ?_
        refine x_iadd (v := nI (k + 1)) hx hb (nI_add _ _) dX5_momentOf_27 ?_
        refine lv_iload_n hx hb dX5_momentOf_28 rfl (lv_at hl 3 rfl) ?_
        refine x_V (n := 2) (As := [.int (nI (k + 1)), .int (nI w)]) (rest := [.int (nI (areaN (h2 hf) k w)), .int (nI ((2 * k) + 1)), .int (nI (sumN (fun i => (2 * i + 1) * (areaN (h2 hf) i w + areaN (h2 hf) (i + 1) w)) k))]) ⟨hx, hb, hml, hown, hts⟩ hK hC hA hH hS (mX5_areaOf l G A f hM (k + 1) w (by omega) (by omega)) q1097 q1099 qs19 q38 q1100 (by decide +kernel) ⟨Nat.le_of_ble_eq_true rfl, Nat.le_of_ble_eq_true rfl⟩ hM.1 rfl rfl rfl hl.1 rfl (Nat.le_of_ble_eq_true rfl) dX5_momentOf_29 (Nat.le_of_ble_eq_true rfl) (Nat.le_of_ble_eq_true rfl) (fun v f_3 H locs hp hH hS hz => ?_)
        obtain ⟨rfl, rfl⟩ := hp
        refine x_norm (g2 := F0 m 32 ls [.int (nI (areaN (h2 hf) (k + 1) w)), .int (nI (areaN (h2 hf) k w)), .int (nI ((2 * k) + 1)), .int (nI (sumN (fun i => (2 * i + 1) * (areaN (h2 hf) i w + areaN (h2 hf) (i + 1) w)) k))]) (k := 0) (n := 0) (Nat.le_refl _) (Nat.le_refl _) rfl ?_
        refine x_iadd (v := nI ((areaN (h2 hf) k w) + (areaN (h2 hf) (k + 1) w))) hx hb (nI_add _ _) dX5_momentOf_32 ?_
        refine x_imul (v := nI (((2 * k) + 1) * ((areaN (h2 hf) k w) + (areaN (h2 hf) (k + 1) w)))) hx hb (pk_mul _ _) dX5_momentOf_33 ?_
        refine x_iadd (v := nI ((sumN (fun i => (2 * i + 1) * (areaN (h2 hf) i w + areaN (h2 hf) (i + 1) w)) k) + (((2 * k) + 1) * ((areaN (h2 hf) k w) + (areaN (h2 hf) (k + 1) w))))) hx hb (nI_add _ _) dX5_momentOf_34 ?_
        refine lv_istore_n (lv' := [(2, .int (nI ((sumN (fun i => (2 * i + 1) * (areaN (h2 hf) i w + areaN (h2 hf) (i + 1) w)) k) + (((2 * k) + 1) * ((areaN (h2 hf) k w) + (areaN (h2 hf) (k + 1) w)))))), (3, .int (nI k)), (0, .ref mm), (1, .int (nI w))]) hx hb dX5_momentOf_35 rfl hl (by decide) rfl (fun ls hl => ?_)
        refine lv_iinc (v := nI (k + 1)) (lv' := [(3, .int (nI (k + 1))), (2, .int (nI ((sumN (fun i => (2 * i + 1) * (areaN (h2 hf) i w + areaN (h2 hf) (i + 1) w)) k) + (((2 * k) + 1) * ((areaN (h2 hf) k w) + (areaN (h2 hf) (k + 1) w)))))), (0, .ref mm), (1, .int (nI w))]) hx hb dX5_momentOf_36 hl (k := 1) rfl (nI_inc _) (by decide) rfl (fun ls hl => ?_)
        refine lv_goto (tgt := 4) hx hb dX5_momentOf_39 (by decide) ?_
        have e_4 : (nI ((sumN (fun i => (2 * i + 1) * (areaN (h2 hf) i w + areaN (h2 hf) (i + 1) w)) k) + (((2 * k) + 1) * ((areaN (h2 hf) k w) + (areaN (h2 hf) (k + 1) w)))) : Int32) = nI (sumN (fun i => (2 * i + 1) * (areaN (h2 hf) i w + areaN (h2 hf) (i + 1) w)) (k + 1)) := by rfl
        have hl : lv_has ls 4 [(3, .int (nI (k + 1))), (2, .int (nI (sumN (fun i => (2 * i + 1) * (areaN (h2 hf) i w + areaN (h2 hf) (i + 1) w)) (k + 1)))), (0, .ref mm), (1, .int (nI w))] := xl_eq hl (xl_cons rfl (xl_cons (congrArg (fun x => ((2 : Nat), Value.int x)) e_4) rfl))
        exact ih4 (k + 1) _ _ _ (by omega) (by omega) hH hS (lv_sub hl [0, 1, 2, 3] rfl)
  have e_5 : (nI 0 : Int32) = nI (sumN (fun i => (2 * i + 1) * (areaN (h2 hf) i w + areaN (h2 hf) (i + 1) w)) 0) := by rfl
  have hl : lv_has ls 4 [(3, .int (nI 0)), (2, .int (nI (sumN (fun i => (2 * i + 1) * (areaN (h2 hf) i w + areaN (h2 hf) (i + 1) w)) 0))), (0, .ref mm), (1, .int (nI w))] := xl_eq hl (xl_cons rfl (xl_cons (congrArg (fun x => ((2 : Nat), Value.int x)) e_5) rfl))
  exact hloop4 (8 - 0 + 1) 0 _ _ _ (by omega) (Nat.lt_succ_self _) hH hS (lv_sub hl [0, 1, 2, 3] rfl)

abbrev rmX5_strakeOf : Room := { frames := 2, cells := 0, slots := 0, locals := 80 }
set_option maxHeartbeats 4000000 in
set_option maxRecDepth 100000 in
theorem mX5_strakeOf (l : Launch) (G : xG) (A : Nat → Prop) (f : xF) {mm : Nat} {ad : Nat → Nat} {th nw ln nt sl td la : Nat} {hf sa sw lf cf dd tt bh li : Nat → Nat} (hM : MM G f mm ad th nw ln nt sl td la hf sa sw lf cf dd tt bh li) (hB : ∀ w s, w < 6 → s < 9 → h2 hf w s ≤ 200) (k : Nat) (hk : k < 6) : xMet l yX5_strakeOf cX5_strakeOf 4 (some .int) rmX5_strakeOf G A f [.ref mm, .int (nI k)] (fun v f1 => v = some (.int (nI (strN (h2 hf) k))) ∧ f = f1) := by
  refine x_start (by decide) (Nat.le_of_ble_eq_true rfl) ?_
  intro p e s m below meth c ls X hH hS hl
  obtain ⟨hx, hb, hr, hlk, hml, hown, hts, hK, hC, hA, hnm, hmn⟩ := X
  have hl : lv_has ls 4 [(0, .ref mm), (1, .int (nI k))] := hl
  refine lv_iconst (v := nI 0) hx hb dX5_strakeOf_0 rfl ?_
  refine lv_istore_n (lv' := [(2, .int (nI 0)), (0, .ref mm), (1, .int (nI k))]) hx hb dX5_strakeOf_1 rfl hl (by decide) rfl (fun ls hl => ?_)
  refine lv_iconst (v := nI 0) hx hb dX5_strakeOf_2 rfl ?_
  refine lv_istore_n (lv' := [(3, .int (nI 0)), (2, .int (nI 0)), (0, .ref mm), (1, .int (nI k))]) hx hb dX5_strakeOf_3 rfl hl (by decide) rfl (fun ls hl => ?_)
  have hloop4 : ∀ (n : Nat) (s9 : Nat) (H : Heap) (locs : List Loc) (ls : Array Slot), s9 ≤ 8 → (8 - s9) < n → xH G A f H → va_S A s.heap H locs → lv_has ls 4 [(3, .int (nI s9)), (2, .int (nI (sumN (fun i => 10 + ((h2 hf k i : Int) - (h2 hf k (i + 1) : Int)).natAbs) s9))), (0, .ref mm), (1, .int (nI k))] → W p l e rmX5_strakeOf s m ([.ref mm, .int (nI k)] : List Value).toArray below meth c H locs 0 0 (MQ below (xQ G A (fun v f1 => v = some (.int (nI (strN (h2 hf) k))) ∧ f = f1)) ([.ref mm, .int (nI k)] : List Value).toArray s rmX5_strakeOf.cells rmX5_strakeOf.slots A) (F0 m 4 ls []) := by
    intro n
    induction n with
    | zero => intro s9 H locs ls hs9 hn; exact absurd hn (Nat.not_lt_zero _)
    | succ n ih4 =>
      intro s9 H locs ls hs9 hn hH hS hl
      refine lv_iload_n hx hb dX5_strakeOf_4 rfl (lv_at hl 0 rfl) ?_
      refine lv_iconst (v := nI 1) hx hb dX5_strakeOf_5 rfl ?_
      refine x_iadd (v := nI (s9 + 1)) hx hb (nI_add _ _) dX5_strakeOf_6 ?_
      refine lv_bipush (v := nI 9) hx hb dX5_strakeOf_7 rfl ?_
      refine x_icmp_ge (tgt := 42) (P := 9 ≤ (s9 + 1)) hx hb dX5_strakeOf_9 (by decide) (nI_le' (by decide) (by omega)) (fun c9 => ?_) (fun c9 => ?_)
      · skip
        refine lv_iload_n hx hb dX5_strakeOf_42 rfl (lv_at hl 1 rfl) ?_
        exact x_iret hx hb hr hlk hH hS ⟨by rw [show s9 = 8 by omega]; rfl, rfl⟩ (Nat.le_of_ble_eq_true rfl) (Nat.le_of_ble_eq_true rfl) dX5_strakeOf_43
      · skip
        have hb1 := hB k s9 hk (by omega)
        have hb2 := hB k (s9 + 1) hk (by omega)
        refine lv_iload_n hx hb dX5_strakeOf_12 rfl (lv_at hl 1 rfl) ?_
        refine lv_bipush (v := nI 10) hx hb dX5_strakeOf_13 rfl ?_
        refine lv_aload_n hx hb dX5_strakeOf_15 rfl (lv_at hl 2 rfl) ?_
        refine lv_iload_n hx hb dX5_strakeOf_16 rfl (lv_at hl 0 rfl) ?_
        refine lv_iload_n hx hb dX5_strakeOf_17 rfl (lv_at hl 3 rfl) ?_
        refine x_V (n := 2) (As := [.int (nI s9), .int (nI k)]) (rest := [.int (nI 10), .int (nI (sumN (fun i => 10 + ((h2 hf k i : Int) - (h2 hf k (i + 1) : Int)).natAbs) s9))]) ⟨hx, hb, hml, hown, hts⟩ hK hC hA hH hS (mX5_halfAt l G A f hM s9 k (by omega) (by omega)) q1043 q1045 qs12 q38 q1046 (by decide +kernel) ⟨Nat.le_of_ble_eq_true rfl, Nat.le_of_ble_eq_true rfl⟩ hM.1 rfl rfl rfl hl.1 rfl (Nat.le_of_ble_eq_true rfl) dX5_strakeOf_18 (Nat.le_of_ble_eq_true rfl) (Nat.le_of_ble_eq_true rfl) (fun v f_2 H locs hp hH hS hz => ?_)
        obtain ⟨rfl, rfl⟩ := hp
        refine x_norm (g2 := F0 m 21 ls [.int (nI (h2 hf k s9)), .int (nI 10), .int (nI (sumN (fun i => 10 + ((h2 hf k i : Int) - (h2 hf k (i + 1) : Int)).natAbs) s9))]) (k := 0) (n := 0) (Nat.le_refl _) (Nat.le_refl _) rfl ?_
        refine lv_aload_n hx hb dX5_strakeOf_21 rfl (lv_at hl 2 rfl) ?_
        refine lv_iload_n hx hb dX5_strakeOf_22 rfl (lv_at hl 0 rfl) ?_
        refine lv_iconst (v := nI 1) hx hb dX5_strakeOf_23 rfl ?_
        refine x_iadd (v := nI (s9 + 1)) hx hb (nI_add _ _) dX5_strakeOf_24 ?_
        refine lv_iload_n hx hb dX5_strakeOf_25 rfl (lv_at hl 3 rfl) ?_
        refine x_V (n := 2) (As := [.int (nI (s9 + 1)), .int (nI k)]) (rest := [.int (nI (h2 hf k s9)), .int (nI 10), .int (nI (sumN (fun i => 10 + ((h2 hf k i : Int) - (h2 hf k (i + 1) : Int)).natAbs) s9))]) ⟨hx, hb, hml, hown, hts⟩ hK hC hA hH hS (mX5_halfAt l G A f hM (s9 + 1) k (by omega) (by omega)) q1043 q1045 qs12 q38 q1046 (by decide +kernel) ⟨Nat.le_of_ble_eq_true rfl, Nat.le_of_ble_eq_true rfl⟩ hM.1 rfl rfl rfl hl.1 rfl (Nat.le_of_ble_eq_true rfl) dX5_strakeOf_26 (Nat.le_of_ble_eq_true rfl) (Nat.le_of_ble_eq_true rfl) (fun v f_3 H locs hp hH hS hz => ?_)
        obtain ⟨rfl, rfl⟩ := hp
        refine x_norm (g2 := F0 m 29 ls [.int (nI (h2 hf k (s9 + 1))), .int (nI (h2 hf k s9)), .int (nI 10), .int (nI (sumN (fun i => 10 + ((h2 hf k i : Int) - (h2 hf k (i + 1) : Int)).natAbs) s9))]) (k := 0) (n := 0) (Nat.le_refl _) (Nat.le_refl _) rfl ?_
        refine x_isub (v := oI (((h2 hf k s9 : Nat) : Int) - ((h2 hf k (s9 + 1) : Nat) : Int))) hx hb (oI_sub' (nI_oI _) (nI_oI _)) dX5_strakeOf_29 ?_
        refine x_S (n := 1) (As := [.int (oI (((h2 hf k s9 : Nat) : Int) - ((h2 hf k (s9 + 1) : Nat) : Int)))]) (rest := [.int (nI 10), .int (nI (sumN (fun i => 10 + ((h2 hf k i : Int) - (h2 hf k (i + 1) : Int)).natAbs) s9))]) ⟨hx, hb, hml, hown, hts⟩ hK hC hA hH hS (mX5_size l G A f (((h2 hf k s9 : Nat) : Int) - ((h2 hf k (s9 + 1) : Nat) : Int)) ⟨by omega, by omega⟩) q1082 q1083 q38 q1084 (by decide +kernel) ⟨Nat.le_of_ble_eq_true rfl, Nat.le_of_ble_eq_true rfl⟩ rfl hl.1 rfl (Nat.le_of_ble_eq_true rfl) dX5_strakeOf_30 (Nat.le_of_ble_eq_true rfl) (Nat.le_of_ble_eq_true rfl) (fun v f_4 H locs hp hH hS hz => ?_)
        obtain ⟨rfl, rfl⟩ := hp
        refine x_norm (g2 := F0 m 33 ls [.int (nI ((((h2 hf k s9 : Nat) : Int) - ((h2 hf k (s9 + 1) : Nat) : Int)).natAbs)), .int (nI 10), .int (nI (sumN (fun i => 10 + ((h2 hf k i : Int) - (h2 hf k (i + 1) : Int)).natAbs) s9))]) (k := 0) (n := 0) (Nat.le_refl _) (Nat.le_refl _) rfl ?_
        refine x_iadd (v := nI (10 + ((((h2 hf k s9 : Nat) : Int) - ((h2 hf k (s9 + 1) : Nat) : Int)).natAbs))) hx hb (nI_add _ _) dX5_strakeOf_33 ?_
        refine x_iadd (v := nI ((sumN (fun i => 10 + ((h2 hf k i : Int) - (h2 hf k (i + 1) : Int)).natAbs) s9) + (10 + ((((h2 hf k s9 : Nat) : Int) - ((h2 hf k (s9 + 1) : Nat) : Int)).natAbs)))) hx hb (nI_add _ _) dX5_strakeOf_34 ?_
        refine lv_istore_n (lv' := [(2, .int (nI ((sumN (fun i => 10 + ((h2 hf k i : Int) - (h2 hf k (i + 1) : Int)).natAbs) s9) + (10 + ((((h2 hf k s9 : Nat) : Int) - ((h2 hf k (s9 + 1) : Nat) : Int)).natAbs))))), (3, .int (nI s9)), (0, .ref mm), (1, .int (nI k))]) hx hb dX5_strakeOf_35 rfl hl (by decide) rfl (fun ls hl => ?_)
        refine lv_iinc (v := nI (s9 + 1)) (lv' := [(3, .int (nI (s9 + 1))), (2, .int (nI ((sumN (fun i => 10 + ((h2 hf k i : Int) - (h2 hf k (i + 1) : Int)).natAbs) s9) + (10 + ((((h2 hf k s9 : Nat) : Int) - ((h2 hf k (s9 + 1) : Nat) : Int)).natAbs))))), (0, .ref mm), (1, .int (nI k))]) hx hb dX5_strakeOf_36 hl (k := 1) rfl (nI_inc _) (by decide) rfl (fun ls hl => ?_)
        refine lv_goto (tgt := 4) hx hb dX5_strakeOf_39 (by decide) ?_
        have e_5 : (nI ((sumN (fun i => 10 + ((h2 hf k i : Int) - (h2 hf k (i + 1) : Int)).natAbs) s9) + (10 + ((((h2 hf k s9 : Nat) : Int) - ((h2 hf k (s9 + 1) : Nat) : Int)).natAbs))) : Int32) = nI (sumN (fun i => 10 + ((h2 hf k i : Int) - (h2 hf k (i + 1) : Int)).natAbs) (s9 + 1)) := by rfl
        have hl : lv_has ls 4 [(3, .int (nI (s9 + 1))), (2, .int (nI (sumN (fun i => 10 + ((h2 hf k i : Int) - (h2 hf k (i + 1) : Int)).natAbs) (s9 + 1)))), (0, .ref mm), (1, .int (nI k))] := xl_eq hl (xl_cons rfl (xl_cons (congrArg (fun x => ((2 : Nat), Value.int x)) e_5) rfl))
        exact ih4 (s9 + 1) _ _ _ (by omega) (by omega) hH hS (lv_sub hl [0, 1, 2, 3] rfl)
  have e_6 : (nI 0 : Int32) = nI (sumN (fun i => 10 + ((h2 hf k i : Int) - (h2 hf k (i + 1) : Int)).natAbs) 0) := by rfl
  have hl : lv_has ls 4 [(3, .int (nI 0)), (2, .int (nI (sumN (fun i => 10 + ((h2 hf k i : Int) - (h2 hf k (i + 1) : Int)).natAbs) 0))), (0, .ref mm), (1, .int (nI k))] := xl_eq hl (xl_cons rfl (xl_cons (congrArg (fun x => ((2 : Nat), Value.int x)) e_6) rfl))
  exact hloop4 (8 - 0 + 1) 0 _ _ _ (by omega) (Nat.lt_succ_self _) hH hS (lv_sub hl [0, 1, 2, 3] rfl)

abbrev rmX5_may : Room := { frames := 2, cells := 0, slots := 0, locals := 80 }
set_option maxHeartbeats 4000000 in
set_option maxRecDepth 100000 in
theorem mX5_may (l : Launch) (G : xG) (A : Nat → Prop) (f : xF) {mm : Nat} {ad : Nat → Nat} {th nw ln nt sl td la : Nat} {hf sa sw lf cf dd tt bh li : Nat → Nat} (hM : MM G f mm ad th nw ln nt sl td la hf sa sw lf cf dd tt bh li) (hB : ∀ w s, w < 6 → s < 9 → h2 hf w s ≤ 200) (w s9 k tol : Nat) (hw : w < 6) (hs : s9 < 9) (hk : k < 5) (ht : tol < 3) : xMet l yX5_may cX5_may 5 (some .boolean) rmX5_may G A f [.ref mm, .int (nI w), .int (nI s9), .int (nI k), .int (nI tol)] (fun v f1 => v = some (.int (nI (xb (mayP (h2 hf w s9) k tol)))) ∧ f = f1) := by
  refine x_start (by decide) (Nat.le_of_ble_eq_true rfl) ?_
  intro p e s m below meth c ls X hH hS hl
  obtain ⟨hx, hb, hr, hlk, hml, hown, hts, hK, hC, hA, hnm, hmn⟩ := X
  have hl : lv_has ls 5 [(0, .ref mm), (1, .int (nI w)), (2, .int (nI s9)), (3, .int (nI k)), (4, .int (nI tol))] := hl
  have hb1 := hB w s9 hw hs
  refine lv_iload_n hx hb dX5_may_0 rfl (lv_at hl 3 rfl) ?_
  refine lv_iconst (v := nI 2) hx hb dX5_may_1 rfl ?_
  refine x_isub (v := oI (((k : Nat) : Int) - ((2 : Nat) : Int))) hx hb (oI_sub' (nI_oI _) (nI_oI _)) dX5_may_2 ?_
  refine x_S (n := 1) (As := [.int (oI (((k : Nat) : Int) - ((2 : Nat) : Int)))]) (rest := []) ⟨hx, hb, hml, hown, hts⟩ hK hC hA hH hS (mX5_size l G A f (((k : Nat) : Int) - ((2 : Nat) : Int)) ⟨by omega, by omega⟩) q1082 q1083 q38 q1084 (by decide +kernel) ⟨Nat.le_of_ble_eq_true rfl, Nat.le_of_ble_eq_true rfl⟩ rfl hl.1 rfl (Nat.le_of_ble_eq_true rfl) dX5_may_3 (Nat.le_of_ble_eq_true rfl) (Nat.le_of_ble_eq_true rfl) (fun v f_1 H locs hp hH hS hz => ?_)
  obtain ⟨rfl, rfl⟩ := hp
  refine x_norm (g2 := F0 m 6 ls [.int (nI ((((k : Nat) : Int) - ((2 : Nat) : Int)).natAbs))]) (k := 0) (n := 0) (Nat.le_refl _) (Nat.le_refl _) rfl ?_
  refine lv_iload hx hb dX5_may_6 (lv_at hl 4 rfl) ?_
  refine x_icmp_gt (tgt := 35) (P := tol < ((((k : Nat) : Int) - ((2 : Nat) : Int)).natAbs)) hx hb dX5_may_8 (by decide) (nI_lt' (by omega) (by omega)) (fun c8 => ?_) (fun c8 => ?_)
  · skip
    refine lv_iconst (v := nI 0) hx hb dX5_may_35 rfl ?_
    exact x_zret (v := 0) hx hb (by decide) hr hlk hH hS ⟨by rw [xb_f (by unfold mayP; omega)], rfl⟩ (Nat.le_of_ble_eq_true rfl) (Nat.le_of_ble_eq_true rfl) dX5_may_36
  · skip
    refine lv_aload_n hx hb dX5_may_11 rfl (lv_at hl 0 rfl) ?_
    refine lv_iload_n hx hb dX5_may_12 rfl (lv_at hl 2 rfl) ?_
    refine lv_iload_n hx hb dX5_may_13 rfl (lv_at hl 1 rfl) ?_
    refine x_V (n := 2) (As := [.int (nI s9), .int (nI w)]) (rest := []) ⟨hx, hb, hml, hown, hts⟩ hK hC hA hH hS (mX5_halfAt l G A f hM s9 w (by omega) (by omega)) q1043 q1045 qs12 q38 q1046 (by decide +kernel) ⟨Nat.le_of_ble_eq_true rfl, Nat.le_of_ble_eq_true rfl⟩ hM.1 rfl rfl rfl hl.1 rfl (Nat.le_of_ble_eq_true rfl) dX5_may_14 (Nat.le_of_ble_eq_true rfl) (Nat.le_of_ble_eq_true rfl) (fun v f_2 H locs hp hH hS hz => ?_)
    obtain ⟨rfl, rfl⟩ := hp
    refine x_norm (g2 := F0 m 17 ls [.int (nI (h2 hf w s9))]) (k := 0) (n := 0) (Nat.le_refl _) (Nat.le_refl _) rfl ?_
    refine lv_iload_n hx hb dX5_may_17 rfl (lv_at hl 3 rfl) ?_
    refine x_iadd (v := nI ((h2 hf w s9) + k)) hx hb (nI_add _ _) dX5_may_18 ?_
    refine lv_iconst (v := nI 2) hx hb dX5_may_19 rfl ?_
    refine x_isub (v := oI ((((h2 hf w s9) + k : Nat) : Int) - ((2 : Nat) : Int))) hx hb (oI_sub' (nI_oI _) (nI_oI _)) dX5_may_20 ?_
    refine lv_iconst (v := nI 0) hx hb dX5_may_21 rfl ?_
    refine lv_sipush (v := nI 200) hx hb dX5_may_22 rfl ?_
    refine x_S (n := 3) (As := [.int (oI ((((h2 hf w s9) + k : Nat) : Int) - ((2 : Nat) : Int))), .int (nI 0), .int (nI 200)]) (rest := []) ⟨hx, hb, hml, hown, hts⟩ hK hC hA hH hS (mX5_in l G A f _ _ _ ((((h2 hf w s9) + k : Nat) : Int) - ((2 : Nat) : Int)) ((0 : Nat) : Int) ((200 : Nat) : Int) rfl (nI_oI _) (nI_oI _) ⟨by omega, by omega⟩ (by decide) (by decide)) q1037 q1038 q38 q1039 (by decide +kernel) ⟨Nat.le_of_ble_eq_true rfl, Nat.le_of_ble_eq_true rfl⟩ rfl hl.1 rfl (Nat.le_of_ble_eq_true rfl) dX5_may_25 (Nat.le_of_ble_eq_true rfl) (Nat.le_of_ble_eq_true rfl) (fun v f_3 H locs hp hH hS hz => ?_)
    obtain ⟨rfl, rfl⟩ := hp
    refine x_norm (g2 := F0 m 28 ls [.int (nI (xb (((0 : Nat) : Int) ≤ (((h2 hf w s9) + k : Nat) : Int) - ((2 : Nat) : Int) ∧ (((h2 hf w s9) + k : Nat) : Int) - ((2 : Nat) : Int) ≤ ((200 : Nat) : Int))))]) (k := 0) (n := 0) (Nat.le_refl _) (Nat.le_refl _) rfl ?_
    refine x_ifbeq (tgt := 35) (B := ((0 : Nat) : Int) ≤ (((h2 hf w s9) + k : Nat) : Int) - ((2 : Nat) : Int) ∧ (((h2 hf w s9) + k : Nat) : Int) - ((2 : Nat) : Int) ≤ ((200 : Nat) : Int)) hx hb dX5_may_28 (by decide) (fun c28 => ?_) (fun c28 => ?_)
    · skip
      refine lv_iconst (v := nI 0) hx hb dX5_may_35 rfl ?_
      exact x_zret (v := 0) hx hb (by decide) hr hlk hH hS ⟨by rw [xb_f (by unfold mayP; omega)], rfl⟩ (Nat.le_of_ble_eq_true rfl) (Nat.le_of_ble_eq_true rfl) dX5_may_36
    · skip
      refine lv_iconst (v := nI 1) hx hb dX5_may_31 rfl ?_
      refine lv_goto (tgt := 36) hx hb dX5_may_32 (by decide) ?_
      exact x_zret (v := 1) hx hb (by decide) hr hlk hH hS ⟨by rw [xb_t (by unfold mayP; omega)], rfl⟩ (Nat.le_of_ble_eq_true rfl) (Nat.le_of_ble_eq_true rfl) dX5_may_36

abbrev rmX5_bendBy : Room := { frames := 2, cells := 0, slots := 0, locals := 80 }
set_option maxHeartbeats 4000000 in
set_option maxRecDepth 100000 in
theorem mX5_bendBy (l : Launch) (G : xG) (A : Nat → Prop) (f : xF) {mm : Nat} {ad : Nat → Nat} {th nw ln nt sl td la : Nat} {hf sa sw lf cf dd tt bh li : Nat → Nat} (hM : MM G f mm ad th nw ln nt sl td la hf sa sw lf cf dd tt bh li) (w s9 a b9 c9 : Nat) (hw : w < 6) (hs : 1 ≤ s9 ∧ s9 ≤ 7) (hb9 : b9 < 5) (hc9 : c9 < 5) : xMet l yX5_bendBy cX5_bendBy 7 (some .int) rmX5_bendBy G A f [.ref mm, .int (nI w), .int (nI s9), .int (nI a), .int (nI b9), .int (nI c9)] (fun v f1 => v = some (.int (nI (bbN (h2 hf w) (fun b c => bh (25 * (s9 + 1) + 5 * b + c)) s9 a b9 c9))) ∧ f = f1) := by
  refine x_start (by decide) (Nat.le_of_ble_eq_true rfl) ?_
  intro p e s m below meth c ls X hH hS hl
  obtain ⟨hx, hb, hr, hlk, hml, hown, hts, hK, hC, hA, hnm, hmn⟩ := X
  have hl : lv_has ls 7 [(0, .ref mm), (1, .int (nI w)), (2, .int (nI s9)), (3, .int (nI a)), (4, .int (nI b9)), (5, .int (nI c9))] := hl
  refine lv_aload_n hx hb dX5_bendBy_0 rfl (lv_at hl 0 rfl) ?_
  refine lv_iload_n hx hb dX5_bendBy_1 rfl (lv_at hl 2 rfl) ?_
  refine lv_iconst (v := nI 1) hx hb dX5_bendBy_2 rfl ?_
  refine x_isub (v := nI (s9 - 1)) hx hb (pk_sub (by omega)) dX5_bendBy_3 ?_
  refine lv_iload_n hx hb dX5_bendBy_4 rfl (lv_at hl 1 rfl) ?_
  refine x_V (n := 2) (As := [.int (nI (s9 - 1)), .int (nI w)]) (rest := []) ⟨hx, hb, hml, hown, hts⟩ hK hC hA hH hS (mX5_halfAt l G A f hM (s9 - 1) w (by omega) (by omega)) q1043 q1045 qs12 q38 q1046 (by decide +kernel) ⟨Nat.le_of_ble_eq_true rfl, Nat.le_of_ble_eq_true rfl⟩ hM.1 rfl rfl rfl hl.1 rfl (Nat.le_of_ble_eq_true rfl) dX5_bendBy_5 (Nat.le_of_ble_eq_true rfl) (Nat.le_of_ble_eq_true rfl) (fun v f_1 H locs hp hH hS hz => ?_)
  obtain ⟨rfl, rfl⟩ := hp
  refine x_norm (g2 := F0 m 8 ls [.int (nI (h2 hf w (s9 - 1)))]) (k := 0) (n := 0) (Nat.le_refl _) (Nat.le_refl _) rfl ?_
  refine lv_iload_n hx hb dX5_bendBy_8 rfl (lv_at hl 3 rfl) ?_
  refine x_iadd (v := nI ((h2 hf w (s9 - 1)) + a)) hx hb (nI_add _ _) dX5_bendBy_9 ?_
  refine lv_iconst (v := nI 2) hx hb dX5_bendBy_10 rfl ?_
  refine x_isub (v := oI ((((h2 hf w (s9 - 1)) + a : Nat) : Int) - ((2 : Nat) : Int))) hx hb (oI_sub' (nI_oI _) (nI_oI _)) dX5_bendBy_11 ?_
  refine lv_aload_n hx hb dX5_bendBy_12 rfl (lv_at hl 0 rfl) ?_
  refine lv_iload_n hx hb dX5_bendBy_13 rfl (lv_at hl 2 rfl) ?_
  refine lv_iconst (v := nI 1) hx hb dX5_bendBy_14 rfl ?_
  refine x_iadd (v := nI (s9 + 1)) hx hb (nI_add _ _) dX5_bendBy_15 ?_
  refine lv_iload_n hx hb dX5_bendBy_16 rfl (lv_at hl 1 rfl) ?_
  refine x_V (n := 2) (As := [.int (nI (s9 + 1)), .int (nI w)]) (rest := [.int (oI ((((h2 hf w (s9 - 1)) + a : Nat) : Int) - ((2 : Nat) : Int)))]) ⟨hx, hb, hml, hown, hts⟩ hK hC hA hH hS (mX5_halfAt l G A f hM (s9 + 1) w (by omega) (by omega)) q1043 q1045 qs12 q38 q1046 (by decide +kernel) ⟨Nat.le_of_ble_eq_true rfl, Nat.le_of_ble_eq_true rfl⟩ hM.1 rfl rfl rfl hl.1 rfl (Nat.le_of_ble_eq_true rfl) dX5_bendBy_17 (Nat.le_of_ble_eq_true rfl) (Nat.le_of_ble_eq_true rfl) (fun v f_2 H locs hp hH hS hz => ?_)
  obtain ⟨rfl, rfl⟩ := hp
  refine x_norm (g2 := F0 m 20 ls [.int (nI (h2 hf w (s9 + 1))), .int (oI ((((h2 hf w (s9 - 1)) + a : Nat) : Int) - ((2 : Nat) : Int)))]) (k := 0) (n := 0) (Nat.le_refl _) (Nat.le_refl _) rfl ?_
  refine x_iadd (v := oI (((((h2 hf w (s9 - 1)) + a : Nat) : Int) - ((2 : Nat) : Int)) + ((h2 hf w (s9 + 1) : Nat) : Int))) hx hb (oI_add' rfl (nI_oI _)) dX5_bendBy_20 ?_
  refine lv_iload hx hb dX5_bendBy_21 (lv_at hl 5 rfl) ?_
  refine x_iadd (v := oI ((((((h2 hf w (s9 - 1)) + a : Nat) : Int) - ((2 : Nat) : Int)) + ((h2 hf w (s9 + 1) : Nat) : Int)) + ((c9 : Nat) : Int))) hx hb (oI_add' rfl (nI_oI _)) dX5_bendBy_23 ?_
  refine lv_iconst (v := nI 2) hx hb dX5_bendBy_24 rfl ?_
  refine x_isub (v := oI (((((((h2 hf w (s9 - 1)) + a : Nat) : Int) - ((2 : Nat) : Int)) + ((h2 hf w (s9 + 1) : Nat) : Int)) + ((c9 : Nat) : Int)) - ((2 : Nat) : Int))) hx hb (oI_sub' rfl (nI_oI _)) dX5_bendBy_25 ?_
  refine lv_iconst (v := nI 2) hx hb dX5_bendBy_26 rfl ?_
  refine lv_aload_n hx hb dX5_bendBy_27 rfl (lv_at hl 0 rfl) ?_
  refine lv_iload_n hx hb dX5_bendBy_28 rfl (lv_at hl 2 rfl) ?_
  refine lv_iload_n hx hb dX5_bendBy_29 rfl (lv_at hl 1 rfl) ?_
  refine x_V (n := 2) (As := [.int (nI s9), .int (nI w)]) (rest := [.int (nI 2), .int (oI (((((((h2 hf w (s9 - 1)) + a : Nat) : Int) - ((2 : Nat) : Int)) + ((h2 hf w (s9 + 1) : Nat) : Int)) + ((c9 : Nat) : Int)) - ((2 : Nat) : Int)))]) ⟨hx, hb, hml, hown, hts⟩ hK hC hA hH hS (mX5_halfAt l G A f hM s9 w (by omega) (by omega)) q1043 q1045 qs12 q38 q1046 (by decide +kernel) ⟨Nat.le_of_ble_eq_true rfl, Nat.le_of_ble_eq_true rfl⟩ hM.1 rfl rfl rfl hl.1 rfl (Nat.le_of_ble_eq_true rfl) dX5_bendBy_30 (Nat.le_of_ble_eq_true rfl) (Nat.le_of_ble_eq_true rfl) (fun v f_3 H locs hp hH hS hz => ?_)
  obtain ⟨rfl, rfl⟩ := hp
  refine x_norm (g2 := F0 m 33 ls [.int (nI (h2 hf w s9)), .int (nI 2), .int (oI (((((((h2 hf w (s9 - 1)) + a : Nat) : Int) - ((2 : Nat) : Int)) + ((h2 hf w (s9 + 1) : Nat) : Int)) + ((c9 : Nat) : Int)) - ((2 : Nat) : Int)))]) (k := 0) (n := 0) (Nat.le_refl _) (Nat.le_refl _) rfl ?_
  refine lv_iload hx hb dX5_bendBy_33 (lv_at hl 4 rfl) ?_
  refine x_iadd (v := nI ((h2 hf w s9) + b9)) hx hb (nI_add _ _) dX5_bendBy_35 ?_
  refine lv_iconst (v := nI 2) hx hb dX5_bendBy_36 rfl ?_
  refine x_isub (v := oI ((((h2 hf w s9) + b9 : Nat) : Int) - ((2 : Nat) : Int))) hx hb (oI_sub' (nI_oI _) (nI_oI _)) dX5_bendBy_37 ?_
  refine x_imul (v := oI (((2 : Nat) : Int) * ((((h2 hf w s9) + b9 : Nat) : Int) - ((2 : Nat) : Int)))) hx hb (oI_mul' (nI_oI _) rfl) dX5_bendBy_38 ?_
  refine x_isub (v := oI ((((((((h2 hf w (s9 - 1)) + a : Nat) : Int) - ((2 : Nat) : Int)) + ((h2 hf w (s9 + 1) : Nat) : Int)) + ((c9 : Nat) : Int)) - ((2 : Nat) : Int)) - (((2 : Nat) : Int) * ((((h2 hf w s9) + b9 : Nat) : Int) - ((2 : Nat) : Int))))) hx hb (oI_sub' rfl rfl) dX5_bendBy_39 ?_
  refine lv_istore (lv' := [(6, .int (oI ((((((((h2 hf w (s9 - 1)) + a : Nat) : Int) - ((2 : Nat) : Int)) + ((h2 hf w (s9 + 1) : Nat) : Int)) + ((c9 : Nat) : Int)) - ((2 : Nat) : Int)) - (((2 : Nat) : Int) * ((((h2 hf w s9) + b9 : Nat) : Int) - ((2 : Nat) : Int)))))), (0, .ref mm), (1, .int (nI w)), (2, .int (nI s9)), (3, .int (nI a)), (4, .int (nI b9)), (5, .int (nI c9))]) hx hb dX5_bendBy_40 hl (by decide) rfl (fun ls hl => ?_)
  refine lv_iload hx hb dX5_bendBy_42 (lv_at hl 0 rfl) ?_
  refine x_S (n := 1) (As := [.int (oI ((((((((h2 hf w (s9 - 1)) + a : Nat) : Int) - ((2 : Nat) : Int)) + ((h2 hf w (s9 + 1) : Nat) : Int)) + ((c9 : Nat) : Int)) - ((2 : Nat) : Int)) - (((2 : Nat) : Int) * ((((h2 hf w s9) + b9 : Nat) : Int) - ((2 : Nat) : Int)))))]) (rest := []) ⟨hx, hb, hml, hown, hts⟩ hK hC hA hH hS (mX5_square l G A f ((((((((h2 hf w (s9 - 1)) + a : Nat) : Int) - ((2 : Nat) : Int)) + ((h2 hf w (s9 + 1) : Nat) : Int)) + ((c9 : Nat) : Int)) - ((2 : Nat) : Int)) - (((2 : Nat) : Int) * ((((h2 hf w s9) + b9 : Nat) : Int) - ((2 : Nat) : Int))))) q1059 q1060 q38 q1061 (by decide +kernel) ⟨Nat.le_of_ble_eq_true rfl, Nat.le_of_ble_eq_true rfl⟩ rfl hl.1 rfl (Nat.le_of_ble_eq_true rfl) dX5_bendBy_44 (Nat.le_of_ble_eq_true rfl) (Nat.le_of_ble_eq_true rfl) (fun v f_4 H locs hp hH hS hz => ?_)
  obtain ⟨rfl, rfl⟩ := hp
  refine x_norm (g2 := F0 m 47 ls [.int (oI (sqZ ((((((((h2 hf w (s9 - 1)) + a : Nat) : Int) - ((2 : Nat) : Int)) + ((h2 hf w (s9 + 1) : Nat) : Int)) + ((c9 : Nat) : Int)) - ((2 : Nat) : Int)) - (((2 : Nat) : Int) * ((((h2 hf w s9) + b9 : Nat) : Int) - ((2 : Nat) : Int))))))]) (k := 0) (n := 0) (Nat.le_refl _) (Nat.le_refl _) rfl ?_
  refine lv_aload_n hx hb dX5_bendBy_47 rfl (lv_at hl 1 rfl) ?_
  refine x_get (C := RX5) (T := TX5) (N := 16) (ci := 4) (v := .ref (ad 7)) hx hb hts in_X5 hown hK hH hM.1 rfl 14 (by decide) (hts _ q991) (fun _ h9 => h9) rfl dX5_bendBy_48 ?_
  refine lv_iload_n hx hb dX5_bendBy_51 rfl (lv_at hl 3 rfl) ?_
  refine lv_iconst (v := nI 1) hx hb dX5_bendBy_52 rfl ?_
  refine x_iadd (v := nI (s9 + 1)) hx hb (nI_add _ _) dX5_bendBy_53 ?_
  refine lv_iload hx hb dX5_bendBy_54 (lv_at hl 5 rfl) ?_
  refine lv_iload hx hb dX5_bendBy_56 (lv_at hl 6 rfl) ?_
  refine x_S (n := 3) (As := [.int (nI (s9 + 1)), .int (nI b9), .int (nI c9)]) (rest := [.ref (ad 7), .int (oI (sqZ ((((((((h2 hf w (s9 - 1)) + a : Nat) : Int) - ((2 : Nat) : Int)) + ((h2 hf w (s9 + 1) : Nat) : Int)) + ((c9 : Nat) : Int)) - ((2 : Nat) : Int)) - (((2 : Nat) : Int) * ((((h2 hf w s9) + b9 : Nat) : Int) - ((2 : Nat) : Int))))))]) ⟨hx, hb, hml, hown, hts⟩ hK hC hA hH hS (mX5_place l G A f (s9 + 1) b9 c9) q1070 q1071 q38 q1072 (by decide +kernel) ⟨Nat.le_of_ble_eq_true rfl, Nat.le_of_ble_eq_true rfl⟩ rfl hl.1 rfl (Nat.le_of_ble_eq_true rfl) dX5_bendBy_58 (Nat.le_of_ble_eq_true rfl) (Nat.le_of_ble_eq_true rfl) (fun v f_5 H locs hp hH hS hz => ?_)
  obtain ⟨rfl, rfl⟩ := hp
  refine x_norm (g2 := F0 m 61 ls [.int (nI (25 * (s9 + 1) + 5 * b9 + c9)), .ref (ad 7), .int (oI (sqZ ((((((((h2 hf w (s9 - 1)) + a : Nat) : Int) - ((2 : Nat) : Int)) + ((h2 hf w (s9 + 1) : Nat) : Int)) + ((c9 : Nat) : Int)) - ((2 : Nat) : Int)) - (((2 : Nat) : Int) * ((((h2 hf w s9) + b9 : Nat) : Int) - ((2 : Nat) : Int))))))]) (k := 0) (n := 0) (Nat.le_refl _) (Nat.le_refl _) rfl ?_
  refine x_iald (j := 25 * (s9 + 1) + 5 * b9 + c9) hx hb hK hH (show f (ad 7) = some (xN G 1008 250 bh) from hM.2 7 (by decide)) rfl (by omega) (by decide) dX5_bendBy_61 ?_
  refine x_iadd (v := oI ((sqZ ((((((((h2 hf w (s9 - 1)) + a : Nat) : Int) - ((2 : Nat) : Int)) + ((h2 hf w (s9 + 1) : Nat) : Int)) + ((c9 : Nat) : Int)) - ((2 : Nat) : Int)) - (((2 : Nat) : Int) * ((((h2 hf w s9) + b9 : Nat) : Int) - ((2 : Nat) : Int))))) + ((bh (25 * (s9 + 1) + 5 * b9 + c9) : Nat) : Int))) hx hb (oI_add' rfl (nI_oI _)) dX5_bendBy_62 ?_
  exact x_iret hx hb hr hlk hH hS ⟨congrArg (fun q => some (Value.int q)) (oI_nI (n := bbN (h2 hf w) (fun b c => bh (25 * (s9 + 1) + 5 * b + c)) s9 a b9 c9) (by have h9 := sqZ_nonneg (offZ (h2 hf w) s9 a b9 c9); unfold bbN; show sqZ (offZ (h2 hf w) s9 a b9 c9) + ((bh (25 * (s9 + 1) + 5 * b9 + c9) : Nat) : Int) = (((sqZ (offZ (h2 hf w) s9 a b9 c9)).toNat + bh (25 * (s9 + 1) + 5 * b9 + c9) : Nat) : Int); omega)), rfl⟩ (Nat.le_of_ble_eq_true rfl) (Nat.le_of_ble_eq_true rfl) dX5_bendBy_63

abbrev rmX5_leastBy : Room := { frames := 3, cells := 0, slots := 0, locals := 120 }
set_option maxHeartbeats 4000000 in
set_option maxRecDepth 100000 in
theorem mX5_leastBy (l : Launch) (G : xG) (A : Nat → Prop) (f : xF) {mm : Nat} {ad : Nat → Nat} {th nw ln nt sl td la : Nat} {hf sa sw lf cf dd tt bh li : Nat → Nat} (hM : MM G f mm ad th nw ln nt sl td la hf sa sw lf cf dd tt bh li) (hB : ∀ w s, w < 6 → s < 9 → h2 hf w s ≤ 200) (w s9 a b9 tol : Nat) (hw : w < 6) (hs : 1 ≤ s9 ∧ s9 ≤ 7) (ha : a < 5) (hb9 : b9 < 5) (ht : tol < 3) (hbh : ∀ b c, b < 5 → c < 5 → bh (25 * (s9 + 1) + 5 * b + c) ≤ 100000000) : xMet l yX5_leastBy cX5_leastBy 9 (some .int) rmX5_leastBy G A f [.ref mm, .int (nI w), .int (nI s9), .int (nI a), .int (nI b9), .int (nI tol)] (fun v f1 => v = some (.int (nI (lbN (h2 hf w) (fun b c => bh (25 * (s9 + 1) + 5 * b + c)) tol s9 a b9 5))) ∧ f = f1) := by
  refine x_start (by decide) (Nat.le_of_ble_eq_true rfl) ?_
  intro p e s m below meth c ls X hH hS hl
  obtain ⟨hx, hb, hr, hlk, hml, hown, hts, hK, hC, hA, hnm, hmn⟩ := X
  have hl : lv_has ls 9 [(0, .ref mm), (1, .int (nI w)), (2, .int (nI s9)), (3, .int (nI a)), (4, .int (nI b9)), (5, .int (nI tol))] := hl
  refine lv_ldc (v := nI 100000000) hx hb hown (show (Cond.constant _ _ (nI 100000000)).before _ _ = true from (show (100000000 : Int32) = nI 100000000 from by decide) ▸ hts _ q1077) dX5_leastBy_0 ?_
  refine lv_istore (lv' := [(6, .int (nI 100000000)), (0, .ref mm), (1, .int (nI w)), (2, .int (nI s9)), (3, .int (nI a)), (4, .int (nI b9)), (5, .int (nI tol))]) hx hb dX5_leastBy_2 hl (by decide) rfl (fun ls hl => ?_)
  refine lv_iconst (v := nI 0) hx hb dX5_leastBy_4 rfl ?_
  refine lv_istore (lv' := [(7, .int (nI 0)), (6, .int (nI 100000000)), (0, .ref mm), (1, .int (nI w)), (2, .int (nI s9)), (3, .int (nI a)), (4, .int (nI b9)), (5, .int (nI tol))]) hx hb dX5_leastBy_5 hl (by decide) rfl (fun ls hl => ?_)
  have hloop7 : ∀ (n : Nat) (c9 : Nat) (H : Heap) (locs : List Loc) (ls : Array Slot), c9 ≤ 5 → (5 - c9) < n → xH G A f H → va_S A s.heap H locs → lv_has ls 9 [(7, .int (nI c9)), (6, .int (nI (lbN (h2 hf w) (fun b c => bh (25 * (s9 + 1) + 5 * b + c)) tol s9 a b9 c9))), (0, .ref mm), (1, .int (nI w)), (2, .int (nI s9)), (3, .int (nI a)), (4, .int (nI b9)), (5, .int (nI tol))] → W p l e rmX5_leastBy s m ([.ref mm, .int (nI w), .int (nI s9), .int (nI a), .int (nI b9), .int (nI tol)] : List Value).toArray below meth c H locs 0 0 (MQ below (xQ G A (fun v f1 => v = some (.int (nI (lbN (h2 hf w) (fun b c => bh (25 * (s9 + 1) + 5 * b + c)) tol s9 a b9 5))) ∧ f = f1)) ([.ref mm, .int (nI w), .int (nI s9), .int (nI a), .int (nI b9), .int (nI tol)] : List Value).toArray s rmX5_leastBy.cells rmX5_leastBy.slots A) (F0 m 7 ls []) := by
    intro n
    induction n with
    | zero => intro c9 H locs ls hc9 hn; exact absurd hn (Nat.not_lt_zero _)
    | succ n ih7 =>
      intro c9 H locs ls hc9 hn hH hS hl
      have hl9 := lbN_le (h := h2 hf w) (nx := (fun b c => bh (25 * (s9 + 1) + 5 * b + c))) (tol := tol) (s := s9) (a := a) (b := b9) c9
      refine lv_iload hx hb dX5_leastBy_7 (lv_at hl 0 rfl) ?_
      refine lv_iconst (v := nI 5) hx hb dX5_leastBy_9 rfl ?_
      refine x_icmp_ge (tgt := 68) (P := 5 ≤ c9) hx hb dX5_leastBy_10 (by decide) (nI_le' (by decide) (by omega)) (fun c10 => ?_) (fun c10 => ?_)
      · skip
        refine lv_iload hx hb dX5_leastBy_68 (lv_at hl 1 rfl) ?_
        exact x_iret hx hb hr hlk hH hS ⟨by rw [show c9 = 5 by omega], rfl⟩ (Nat.le_of_ble_eq_true rfl) (Nat.le_of_ble_eq_true rfl) dX5_leastBy_70
      · skip
        refine lv_aload_n hx hb dX5_leastBy_13 rfl (lv_at hl 2 rfl) ?_
        refine lv_iload_n hx hb dX5_leastBy_14 rfl (lv_at hl 3 rfl) ?_
        refine lv_iload_n hx hb dX5_leastBy_15 rfl (lv_at hl 4 rfl) ?_
        refine lv_iconst (v := nI 1) hx hb dX5_leastBy_16 rfl ?_
        refine x_iadd (v := nI (s9 + 1)) hx hb (nI_add _ _) dX5_leastBy_17 ?_
        refine lv_iload hx hb dX5_leastBy_18 (lv_at hl 0 rfl) ?_
        refine lv_iload hx hb dX5_leastBy_20 (lv_at hl 7 rfl) ?_
        refine x_V (n := 4) (As := [.int (nI w), .int (nI (s9 + 1)), .int (nI c9), .int (nI tol)]) (rest := []) ⟨hx, hb, hml, hown, hts⟩ hK hC hA hH hS (mX5_may l G A f hM hB w (s9 + 1) c9 tol (by omega) (by omega) (by omega) (by omega)) q1078 q1080 qs16 q38 q1081 (by decide +kernel) ⟨Nat.le_of_ble_eq_true rfl, Nat.le_of_ble_eq_true rfl⟩ hM.1 rfl rfl rfl hl.1 rfl (Nat.le_of_ble_eq_true rfl) dX5_leastBy_22 (Nat.le_of_ble_eq_true rfl) (Nat.le_of_ble_eq_true rfl) (fun v f_2 H locs hp hH hS hz => ?_)
        obtain ⟨rfl, rfl⟩ := hp
        refine x_norm (g2 := F0 m 25 ls [.int (nI (xb (mayP (h2 hf w (s9 + 1)) c9 tol)))]) (k := 0) (n := 0) (Nat.le_refl _) (Nat.le_refl _) rfl ?_
        refine x_ifbeq (tgt := 42) (B := mayP (h2 hf w (s9 + 1)) c9 tol) hx hb dX5_leastBy_25 (by decide) (fun c25 => ?_) (fun c25 => ?_)
        · skip
          refine lv_ldc (v := nI 100000000) hx hb hown (show (Cond.constant _ _ (nI 100000000)).before _ _ = true from (show (100000000 : Int32) = nI 100000000 from by decide) ▸ hts _ q1077) dX5_leastBy_42 ?_
          refine lv_istore (lv' := [(8, .int (nI 100000000)), (7, .int (nI c9)), (6, .int (nI (lbN (h2 hf w) (fun b c => bh (25 * (s9 + 1) + 5 * b + c)) tol s9 a b9 c9))), (0, .ref mm), (1, .int (nI w)), (2, .int (nI s9)), (3, .int (nI a)), (4, .int (nI b9)), (5, .int (nI tol))]) hx hb dX5_leastBy_44 hl (by decide) rfl (fun ls hl => ?_)
          refine lv_iload hx hb dX5_leastBy_46 (lv_at hl 0 rfl) ?_
          refine lv_iload hx hb dX5_leastBy_48 (lv_at hl 2 rfl) ?_
          refine x_icmp_ge (tgt := 58) (P := (lbN (h2 hf w) (fun b c => bh (25 * (s9 + 1) + 5 * b + c)) tol s9 a b9 c9) ≤ 100000000) hx hb dX5_leastBy_50 (by decide) (nI_le' (by omega) (by omega)) (fun c50 => ?_) (fun c50 => ?_)
          · skip
            refine lv_iload hx hb dX5_leastBy_58 (lv_at hl 2 rfl) ?_
            refine lv_istore (lv' := [(6, .int (nI (lbN (h2 hf w) (fun b c => bh (25 * (s9 + 1) + 5 * b + c)) tol s9 a b9 c9))), (8, .int (nI 100000000)), (7, .int (nI c9)), (0, .ref mm), (1, .int (nI w)), (2, .int (nI s9)), (3, .int (nI a)), (4, .int (nI b9)), (5, .int (nI tol))]) hx hb dX5_leastBy_60 hl (by decide) rfl (fun ls hl => ?_)
            refine lv_iinc (v := nI (c9 + 1)) (lv' := [(7, .int (nI (c9 + 1))), (6, .int (nI (lbN (h2 hf w) (fun b c => bh (25 * (s9 + 1) + 5 * b + c)) tol s9 a b9 c9))), (8, .int (nI 100000000)), (0, .ref mm), (1, .int (nI w)), (2, .int (nI s9)), (3, .int (nI a)), (4, .int (nI b9)), (5, .int (nI tol))]) hx hb dX5_leastBy_62 hl (k := 2) rfl (nI_inc _) (by decide) rfl (fun ls hl => ?_)
            refine lv_goto (tgt := 7) hx hb dX5_leastBy_65 (by decide) ?_
            have e_3 : (nI (lbN (h2 hf w) (fun b c => bh (25 * (s9 + 1) + 5 * b + c)) tol s9 a b9 c9) : Int32) = nI (lbN (h2 hf w) (fun b c => bh (25 * (s9 + 1) + 5 * b + c)) tol s9 a b9 (c9 + 1)) := by congr 1; rw [lbN_succ]; split <;> first | (exfalso; contradiction) | (split <;> first | rfl | (exfalso; omega))
            have hl : lv_has ls 9 [(7, .int (nI (c9 + 1))), (6, .int (nI (lbN (h2 hf w) (fun b c => bh (25 * (s9 + 1) + 5 * b + c)) tol s9 a b9 (c9 + 1)))), (8, .int (nI 100000000)), (0, .ref mm), (1, .int (nI w)), (2, .int (nI s9)), (3, .int (nI a)), (4, .int (nI b9)), (5, .int (nI tol))] := xl_eq hl (xl_cons rfl (xl_cons (congrArg (fun x => ((6 : Nat), Value.int x)) e_3) rfl))
            exact ih7 (c9 + 1) _ _ _ (by omega) (by omega) hH hS (lv_sub hl [0, 1, 3, 4, 5, 6, 7, 8] rfl)
          · skip
            refine lv_iload hx hb dX5_leastBy_53 (lv_at hl 0 rfl) ?_
            refine lv_goto (tgt := 60) hx hb dX5_leastBy_55 (by decide) ?_
            refine lv_istore (lv' := [(6, .int (nI 100000000)), (8, .int (nI 100000000)), (7, .int (nI c9)), (0, .ref mm), (1, .int (nI w)), (2, .int (nI s9)), (3, .int (nI a)), (4, .int (nI b9)), (5, .int (nI tol))]) hx hb dX5_leastBy_60 hl (by decide) rfl (fun ls hl => ?_)
            refine lv_iinc (v := nI (c9 + 1)) (lv' := [(7, .int (nI (c9 + 1))), (6, .int (nI 100000000)), (8, .int (nI 100000000)), (0, .ref mm), (1, .int (nI w)), (2, .int (nI s9)), (3, .int (nI a)), (4, .int (nI b9)), (5, .int (nI tol))]) hx hb dX5_leastBy_62 hl (k := 2) rfl (nI_inc _) (by decide) rfl (fun ls hl => ?_)
            refine lv_goto (tgt := 7) hx hb dX5_leastBy_65 (by decide) ?_
            have e_4 : (nI 100000000 : Int32) = nI (lbN (h2 hf w) (fun b c => bh (25 * (s9 + 1) + 5 * b + c)) tol s9 a b9 (c9 + 1)) := by congr 1; rw [lbN_succ]; split <;> first | (exfalso; contradiction) | (split <;> first | rfl | (exfalso; omega))
            have hl : lv_has ls 9 [(7, .int (nI (c9 + 1))), (6, .int (nI (lbN (h2 hf w) (fun b c => bh (25 * (s9 + 1) + 5 * b + c)) tol s9 a b9 (c9 + 1)))), (8, .int (nI 100000000)), (0, .ref mm), (1, .int (nI w)), (2, .int (nI s9)), (3, .int (nI a)), (4, .int (nI b9)), (5, .int (nI tol))] := xl_eq hl (xl_cons rfl (xl_cons (congrArg (fun x => ((6 : Nat), Value.int x)) e_4) rfl))
            exact ih7 (c9 + 1) _ _ _ (by omega) (by omega) hH hS (lv_sub hl [0, 1, 3, 4, 5, 6, 7, 8] rfl)
        · skip
          have hbb := bbN_le (h := h2 hf w) (nx := (fun b c => bh (25 * (s9 + 1) + 5 * b + c))) (s := s9) (a := a) (b := b9) (c := c9) (fun j hj => hB w j hw hj) hs ha hb9 (by omega)
          have hbh9 := hbh b9 c9 hb9 (by omega)
          refine lv_aload_n hx hb dX5_leastBy_28 rfl (lv_at hl 2 rfl) ?_
          refine lv_iload_n hx hb dX5_leastBy_29 rfl (lv_at hl 3 rfl) ?_
          refine lv_iload_n hx hb dX5_leastBy_30 rfl (lv_at hl 4 rfl) ?_
          refine lv_iload_n hx hb dX5_leastBy_31 rfl (lv_at hl 5 rfl) ?_
          refine lv_iload hx hb dX5_leastBy_32 (lv_at hl 6 rfl) ?_
          refine lv_iload hx hb dX5_leastBy_34 (lv_at hl 0 rfl) ?_
          refine x_V (n := 5) (As := [.int (nI w), .int (nI s9), .int (nI a), .int (nI b9), .int (nI c9)]) (rest := []) ⟨hx, hb, hml, hown, hts⟩ hK hC hA hH hS (mX5_bendBy l G A f hM w s9 a b9 c9 (by omega) ⟨by omega, by omega⟩ (by omega) (by omega)) q1085 q1087 qs17 q38 q1088 (by decide +kernel) ⟨Nat.le_of_ble_eq_true rfl, Nat.le_of_ble_eq_true rfl⟩ hM.1 rfl rfl rfl hl.1 rfl (Nat.le_of_ble_eq_true rfl) dX5_leastBy_36 (Nat.le_of_ble_eq_true rfl) (Nat.le_of_ble_eq_true rfl) (fun v f_5 H locs hp hH hS hz => ?_)
          obtain ⟨rfl, rfl⟩ := hp
          refine x_norm (g2 := F0 m 39 ls [.int (nI (bbN (h2 hf w) (fun b c => bh (25 * (s9 + 1) + 5 * b + c)) s9 a b9 c9))]) (k := 0) (n := 0) (Nat.le_refl _) (Nat.le_refl _) rfl ?_
          refine lv_goto (tgt := 44) hx hb dX5_leastBy_39 (by decide) ?_
          refine lv_istore (lv' := [(8, .int (nI (bbN (h2 hf w) (fun b c => bh (25 * (s9 + 1) + 5 * b + c)) s9 a b9 c9))), (7, .int (nI c9)), (6, .int (nI (lbN (h2 hf w) (fun b c => bh (25 * (s9 + 1) + 5 * b + c)) tol s9 a b9 c9))), (0, .ref mm), (1, .int (nI w)), (2, .int (nI s9)), (3, .int (nI a)), (4, .int (nI b9)), (5, .int (nI tol))]) hx hb dX5_leastBy_44 hl (by decide) rfl (fun ls hl => ?_)
          refine lv_iload hx hb dX5_leastBy_46 (lv_at hl 0 rfl) ?_
          refine lv_iload hx hb dX5_leastBy_48 (lv_at hl 2 rfl) ?_
          refine x_icmp_ge (tgt := 58) (P := (lbN (h2 hf w) (fun b c => bh (25 * (s9 + 1) + 5 * b + c)) tol s9 a b9 c9) ≤ (bbN (h2 hf w) (fun b c => bh (25 * (s9 + 1) + 5 * b + c)) s9 a b9 c9)) hx hb dX5_leastBy_50 (by decide) (nI_le' (by omega) (by omega)) (fun c50 => ?_) (fun c50 => ?_)
          · skip
            refine lv_iload hx hb dX5_leastBy_58 (lv_at hl 2 rfl) ?_
            refine lv_istore (lv' := [(6, .int (nI (lbN (h2 hf w) (fun b c => bh (25 * (s9 + 1) + 5 * b + c)) tol s9 a b9 c9))), (8, .int (nI (bbN (h2 hf w) (fun b c => bh (25 * (s9 + 1) + 5 * b + c)) s9 a b9 c9))), (7, .int (nI c9)), (0, .ref mm), (1, .int (nI w)), (2, .int (nI s9)), (3, .int (nI a)), (4, .int (nI b9)), (5, .int (nI tol))]) hx hb dX5_leastBy_60 hl (by decide) rfl (fun ls hl => ?_)
            refine lv_iinc (v := nI (c9 + 1)) (lv' := [(7, .int (nI (c9 + 1))), (6, .int (nI (lbN (h2 hf w) (fun b c => bh (25 * (s9 + 1) + 5 * b + c)) tol s9 a b9 c9))), (8, .int (nI (bbN (h2 hf w) (fun b c => bh (25 * (s9 + 1) + 5 * b + c)) s9 a b9 c9))), (0, .ref mm), (1, .int (nI w)), (2, .int (nI s9)), (3, .int (nI a)), (4, .int (nI b9)), (5, .int (nI tol))]) hx hb dX5_leastBy_62 hl (k := 2) rfl (nI_inc _) (by decide) rfl (fun ls hl => ?_)
            refine lv_goto (tgt := 7) hx hb dX5_leastBy_65 (by decide) ?_
            have e_6 : (nI (lbN (h2 hf w) (fun b c => bh (25 * (s9 + 1) + 5 * b + c)) tol s9 a b9 c9) : Int32) = nI (lbN (h2 hf w) (fun b c => bh (25 * (s9 + 1) + 5 * b + c)) tol s9 a b9 (c9 + 1)) := by congr 1; rw [lbN_succ]; split <;> first | (exfalso; contradiction) | (split <;> first | rfl | (exfalso; omega))
            have hl : lv_has ls 9 [(7, .int (nI (c9 + 1))), (6, .int (nI (lbN (h2 hf w) (fun b c => bh (25 * (s9 + 1) + 5 * b + c)) tol s9 a b9 (c9 + 1)))), (8, .int (nI (bbN (h2 hf w) (fun b c => bh (25 * (s9 + 1) + 5 * b + c)) s9 a b9 c9))), (0, .ref mm), (1, .int (nI w)), (2, .int (nI s9)), (3, .int (nI a)), (4, .int (nI b9)), (5, .int (nI tol))] := xl_eq hl (xl_cons rfl (xl_cons (congrArg (fun x => ((6 : Nat), Value.int x)) e_6) rfl))
            exact ih7 (c9 + 1) _ _ _ (by omega) (by omega) hH hS (lv_sub hl [0, 1, 3, 4, 5, 6, 7, 8] rfl)
          · skip
            refine lv_iload hx hb dX5_leastBy_53 (lv_at hl 0 rfl) ?_
            refine lv_goto (tgt := 60) hx hb dX5_leastBy_55 (by decide) ?_
            refine lv_istore (lv' := [(6, .int (nI (bbN (h2 hf w) (fun b c => bh (25 * (s9 + 1) + 5 * b + c)) s9 a b9 c9))), (8, .int (nI (bbN (h2 hf w) (fun b c => bh (25 * (s9 + 1) + 5 * b + c)) s9 a b9 c9))), (7, .int (nI c9)), (0, .ref mm), (1, .int (nI w)), (2, .int (nI s9)), (3, .int (nI a)), (4, .int (nI b9)), (5, .int (nI tol))]) hx hb dX5_leastBy_60 hl (by decide) rfl (fun ls hl => ?_)
            refine lv_iinc (v := nI (c9 + 1)) (lv' := [(7, .int (nI (c9 + 1))), (6, .int (nI (bbN (h2 hf w) (fun b c => bh (25 * (s9 + 1) + 5 * b + c)) s9 a b9 c9))), (8, .int (nI (bbN (h2 hf w) (fun b c => bh (25 * (s9 + 1) + 5 * b + c)) s9 a b9 c9))), (0, .ref mm), (1, .int (nI w)), (2, .int (nI s9)), (3, .int (nI a)), (4, .int (nI b9)), (5, .int (nI tol))]) hx hb dX5_leastBy_62 hl (k := 2) rfl (nI_inc _) (by decide) rfl (fun ls hl => ?_)
            refine lv_goto (tgt := 7) hx hb dX5_leastBy_65 (by decide) ?_
            have e_7 : (nI (bbN (h2 hf w) (fun b c => bh (25 * (s9 + 1) + 5 * b + c)) s9 a b9 c9) : Int32) = nI (lbN (h2 hf w) (fun b c => bh (25 * (s9 + 1) + 5 * b + c)) tol s9 a b9 (c9 + 1)) := by congr 1; rw [lbN_succ]; split <;> first | (exfalso; contradiction) | (split <;> first | rfl | (exfalso; omega))
            have hl : lv_has ls 9 [(7, .int (nI (c9 + 1))), (6, .int (nI (lbN (h2 hf w) (fun b c => bh (25 * (s9 + 1) + 5 * b + c)) tol s9 a b9 (c9 + 1)))), (8, .int (nI (bbN (h2 hf w) (fun b c => bh (25 * (s9 + 1) + 5 * b + c)) s9 a b9 c9))), (0, .ref mm), (1, .int (nI w)), (2, .int (nI s9)), (3, .int (nI a)), (4, .int (nI b9)), (5, .int (nI tol))] := xl_eq hl (xl_cons rfl (xl_cons (congrArg (fun x => ((6 : Nat), Value.int x)) e_7) rfl))
            exact ih7 (c9 + 1) _ _ _ (by omega) (by omega) hH hS (lv_sub hl [0, 1, 3, 4, 5, 6, 7, 8] rfl)
  have e_8 : (nI 100000000 : Int32) = nI (lbN (h2 hf w) (fun b c => bh (25 * (s9 + 1) + 5 * b + c)) tol s9 a b9 0) := by rfl
  have hl : lv_has ls 9 [(7, .int (nI 0)), (6, .int (nI (lbN (h2 hf w) (fun b c => bh (25 * (s9 + 1) + 5 * b + c)) tol s9 a b9 0))), (0, .ref mm), (1, .int (nI w)), (2, .int (nI s9)), (3, .int (nI a)), (4, .int (nI b9)), (5, .int (nI tol))] := xl_eq hl (xl_cons rfl (xl_cons (congrArg (fun x => ((6 : Nat), Value.int x)) e_8) rfl))
  exact hloop7 (5 - 0 + 1) 0 _ _ _ (by omega) (Nat.lt_succ_self _) hH hS (lv_sub hl [0, 1, 2, 3, 4, 5, 6, 7] rfl)
