/-! THE MODEL, leaves (printed by genm.py) -/
set_option maxRecDepth 100000
abbrev rmX5_in : Room := { frames := 1, cells := 0, slots := 0, locals := 40 }
set_option maxHeartbeats 4000000 in
set_option maxRecDepth 100000 in
theorem mX5_in (l : Launch) (G : xG) (A : Nat → Prop) (f : xF) (x lo hi : Int32) (zx zl zh : Int) (ex : x = oI zx) (el : lo = oI zl) (eh : hi = oI zh) (rx : -2147483648 ≤ zx ∧ zx ≤ 2147483647) (rl : -2147483648 ≤ zl ∧ zl ≤ 2147483647) (rh : -2147483648 ≤ zh ∧ zh ≤ 2147483647) : xMet l yX5_in cX5_in 3 (some .boolean) rmX5_in G A f [.int x, .int lo, .int hi] (fun v f1 => v = some (.int (nI (xb (zl ≤ zx ∧ zx ≤ zh)))) ∧ f = f1) := by
  refine x_start (by decide) (Nat.le_of_ble_eq_true rfl) ?_
  intro p e s m below meth c ls X hH hS hl
  obtain ⟨hx, hb, hr, hlk, hml, hown, hts, hK, hC, hA, hnm, hmn⟩ := X
  have hl : lv_has ls 3 [(0, .int x), (1, .int lo), (2, .int hi)] := hl
  refine lv_iload_n hx hb dX5_in_0 rfl (lv_at hl 0 rfl) ?_
  refine lv_iload_n hx hb dX5_in_1 rfl (lv_at hl 1 rfl) ?_
  refine x_icmp_lt (tgt := 14) (P := zx < zl) hx hb dX5_in_2 (by decide) (oI_lt' ex el rx rl) (fun c2 => ?_) (fun c2 => ?_)
  · skip
    refine lv_iconst (v := nI 0) hx hb dX5_in_14 rfl ?_
    exact x_zret (v := 0) hx hb (by decide) hr hlk hH hS ⟨by rw [xb_f (by omega)], rfl⟩ (Nat.le_of_ble_eq_true rfl) (Nat.le_of_ble_eq_true rfl) dX5_in_15
  · skip
    refine lv_iload_n hx hb dX5_in_5 rfl (lv_at hl 0 rfl) ?_
    refine lv_iload_n hx hb dX5_in_6 rfl (lv_at hl 2 rfl) ?_
    refine x_icmp_gt (tgt := 14) (P := zh < zx) hx hb dX5_in_7 (by decide) (oI_lt' eh ex rh rx) (fun c7 => ?_) (fun c7 => ?_)
    · skip
      refine lv_iconst (v := nI 0) hx hb dX5_in_14 rfl ?_
      exact x_zret (v := 0) hx hb (by decide) hr hlk hH hS ⟨by rw [xb_f (by omega)], rfl⟩ (Nat.le_of_ble_eq_true rfl) (Nat.le_of_ble_eq_true rfl) dX5_in_15
    · skip
      refine lv_iconst (v := nI 1) hx hb dX5_in_10 rfl ?_
      refine lv_goto (tgt := 15) hx hb dX5_in_11 (by decide) ?_
      exact x_zret (v := 1) hx hb (by decide) hr hlk hH hS ⟨by rw [xb_t (by omega)], rfl⟩ (Nat.le_of_ble_eq_true rfl) (Nat.le_of_ble_eq_true rfl) dX5_in_15

abbrev rmX5_isStation : Room := { frames := 2, cells := 0, slots := 0, locals := 80 }
set_option maxHeartbeats 4000000 in
set_option maxRecDepth 100000 in
theorem mX5_isStation (l : Launch) (G : xG) (A : Nat → Prop) (f : xF) (z : Int) (rz : -2147483648 ≤ z ∧ z ≤ 2147483647) : xMet l yX5_isStation cX5_isStation 1 (some .boolean) rmX5_isStation G A f [.int (oI z)] (fun v f1 => v = some (.int (nI (xb (0 ≤ z ∧ z ≤ 8)))) ∧ f = f1) := by
  refine x_start (by decide) (Nat.le_of_ble_eq_true rfl) ?_
  intro p e s m below meth c ls X hH hS hl
  obtain ⟨hx, hb, hr, hlk, hml, hown, hts, hK, hC, hA, hnm, hmn⟩ := X
  have hl : lv_has ls 1 [(0, .int (oI z))] := hl
  refine lv_iload_n hx hb dX5_isStation_0 rfl (lv_at hl 0 rfl) ?_
  refine lv_iconst (v := nI 0) hx hb dX5_isStation_1 rfl ?_
  refine lv_bipush (v := nI 8) hx hb dX5_isStation_2 rfl ?_
  refine x_S (n := 3) (As := [.int (oI z), .int (nI 0), .int (nI 8)]) (rest := []) ⟨hx, hb, hml, hown, hts⟩ hK hC hA hH hS (mX5_in l G A f _ _ _ z ((0 : Nat) : Int) ((8 : Nat) : Int) rfl (nI_oI _) (nI_oI _) rz (by decide) (by decide)) q1037 q1038 q38 q1039 (by decide +kernel) ⟨Nat.le_of_ble_eq_true rfl, Nat.le_of_ble_eq_true rfl⟩ rfl hl.1 rfl (Nat.le_of_ble_eq_true rfl) dX5_isStation_4 (Nat.le_of_ble_eq_true rfl) (Nat.le_of_ble_eq_true rfl) (fun v f_1 H locs hp hH hS hz => ?_)
  obtain ⟨rfl, rfl⟩ := hp
  refine x_norm (g2 := F0 m 7 ls [.int (nI (xb (((0 : Nat) : Int) ≤ z ∧ z ≤ ((8 : Nat) : Int))))]) (k := 0) (n := 0) (Nat.le_refl _) (Nat.le_refl _) rfl ?_
  exact x_zret (v := xb (((0 : Nat) : Int) ≤ z ∧ z ≤ ((8 : Nat) : Int))) hx hb (xb_lt _) hr hlk hH hS ⟨rfl, rfl⟩ (Nat.le_of_ble_eq_true rfl) (Nat.le_of_ble_eq_true rfl) dX5_isStation_7

abbrev rmX5_isWaterline : Room := { frames := 2, cells := 0, slots := 0, locals := 80 }
set_option maxHeartbeats 4000000 in
set_option maxRecDepth 100000 in
theorem mX5_isWaterline (l : Launch) (G : xG) (A : Nat → Prop) (f : xF) (z : Int) (rz : -2147483648 ≤ z ∧ z ≤ 2147483647) : xMet l yX5_isWaterline cX5_isWaterline 1 (some .boolean) rmX5_isWaterline G A f [.int (oI z)] (fun v f1 => v = some (.int (nI (xb (0 ≤ z ∧ z ≤ 5)))) ∧ f = f1) := by
  refine x_start (by decide) (Nat.le_of_ble_eq_true rfl) ?_
  intro p e s m below meth c ls X hH hS hl
  obtain ⟨hx, hb, hr, hlk, hml, hown, hts, hK, hC, hA, hnm, hmn⟩ := X
  have hl : lv_has ls 1 [(0, .int (oI z))] := hl
  refine lv_iload_n hx hb dX5_isWaterline_0 rfl (lv_at hl 0 rfl) ?_
  refine lv_iconst (v := nI 0) hx hb dX5_isWaterline_1 rfl ?_
  refine lv_iconst (v := nI 5) hx hb dX5_isWaterline_2 rfl ?_
  refine x_S (n := 3) (As := [.int (oI z), .int (nI 0), .int (nI 5)]) (rest := []) ⟨hx, hb, hml, hown, hts⟩ hK hC hA hH hS (mX5_in l G A f _ _ _ z ((0 : Nat) : Int) ((5 : Nat) : Int) rfl (nI_oI _) (nI_oI _) rz (by decide) (by decide)) q1037 q1038 q38 q1039 (by decide +kernel) ⟨Nat.le_of_ble_eq_true rfl, Nat.le_of_ble_eq_true rfl⟩ rfl hl.1 rfl (Nat.le_of_ble_eq_true rfl) dX5_isWaterline_3 (Nat.le_of_ble_eq_true rfl) (Nat.le_of_ble_eq_true rfl) (fun v f_1 H locs hp hH hS hz => ?_)
  obtain ⟨rfl, rfl⟩ := hp
  refine x_norm (g2 := F0 m 6 ls [.int (nI (xb (((0 : Nat) : Int) ≤ z ∧ z ≤ ((5 : Nat) : Int))))]) (k := 0) (n := 0) (Nat.le_refl _) (Nat.le_refl _) rfl ?_
  exact x_zret (v := xb (((0 : Nat) : Int) ≤ z ∧ z ≤ ((5 : Nat) : Int))) hx hb (xb_lt _) hr hlk hH hS ⟨rfl, rfl⟩ (Nat.le_of_ble_eq_true rfl) (Nat.le_of_ble_eq_true rfl) dX5_isWaterline_6

abbrev rmX5_size : Room := { frames := 1, cells := 0, slots := 0, locals := 40 }
set_option maxHeartbeats 4000000 in
set_option maxRecDepth 100000 in
theorem mX5_size (l : Launch) (G : xG) (A : Nat → Prop) (f : xF) (z : Int) (rz : -2147483648 < z ∧ z ≤ 2147483647) : xMet l yX5_size cX5_size 1 (some .int) rmX5_size G A f [.int (oI z)] (fun v f1 => v = some (.int (nI z.natAbs)) ∧ f = f1) := by
  refine x_start (by decide) (Nat.le_of_ble_eq_true rfl) ?_
  intro p e s m below meth c ls X hH hS hl
  obtain ⟨hx, hb, hr, hlk, hml, hown, hts, hK, hC, hA, hnm, hmn⟩ := X
  have hl : lv_has ls 1 [(0, .int (oI z))] := hl
  refine lv_iload_n hx hb dX5_size_0 rfl (lv_at hl 0 rfl) ?_
  refine x_if_ge (tgt := 9) (P := 0 ≤ z) hx hb dX5_size_1 (by decide) (oI_le' oI_0 rfl (by decide) ⟨by omega, by omega⟩) (fun c1 => ?_) (fun c1 => ?_)
  · skip
    refine lv_iload_n hx hb dX5_size_9 rfl (lv_at hl 0 rfl) ?_
    exact x_iret hx hb hr hlk hH hS ⟨by rw [oI_nI (n := z.natAbs) (by omega)], rfl⟩ (Nat.le_of_ble_eq_true rfl) (Nat.le_of_ble_eq_true rfl) dX5_size_10
  · skip
    refine lv_iload_n hx hb dX5_size_4 rfl (lv_at hl 0 rfl) ?_
    refine x_ineg (v := oI (-z)) hx hb (oI_neg' rfl) dX5_size_5 ?_
    refine lv_goto (tgt := 10) hx hb dX5_size_6 (by decide) ?_
    exact x_iret hx hb hr hlk hH hS ⟨by rw [oI_nI (n := z.natAbs) (by omega)], rfl⟩ (Nat.le_of_ble_eq_true rfl) (Nat.le_of_ble_eq_true rfl) dX5_size_10

abbrev rmX5_halfAt : Room := { frames := 1, cells := 0, slots := 0, locals := 40 }
set_option maxHeartbeats 4000000 in
set_option maxRecDepth 100000 in
theorem mX5_halfAt (l : Launch) (G : xG) (A : Nat → Prop) (f : xF) {mm : Nat} {ad : Nat → Nat} {th nw ln nt sl td la : Nat} {hf sa sw lf cf dd tt bh li : Nat → Nat} (hM : MM G f mm ad th nw ln nt sl td la hf sa sw lf cf dd tt bh li) (s9 w : Nat) (hs : s9 < 9) (hw : w < 6) : xMet l yX5_halfAt cX5_halfAt 3 (some .int) rmX5_halfAt G A f [.ref mm, .int (nI s9), .int (nI w)] (fun v f1 => v = some (.int (nI (h2 hf w s9))) ∧ f = f1) := by
  refine x_start (by decide) (Nat.le_of_ble_eq_true rfl) ?_
  intro p e s m below meth c ls X hH hS hl
  obtain ⟨hx, hb, hr, hlk, hml, hown, hts, hK, hC, hA, hnm, hmn⟩ := X
  have hl : lv_has ls 3 [(0, .ref mm), (1, .int (nI s9)), (2, .int (nI w))] := hl
  refine lv_aload_n hx hb dX5_halfAt_0 rfl (lv_at hl 0 rfl) ?_
  refine x_get (C := RX5) (T := TX5) (N := 16) (ci := 4) (v := .ref (ad 0)) hx hb hts in_X5 hown hK hH hM.1 rfl 1 (by decide) (hts _ q978) (fun _ h9 => h9) rfl dX5_halfAt_1 ?_
  refine lv_bipush (v := nI 9) hx hb dX5_halfAt_4 rfl ?_
  refine lv_iload_n hx hb dX5_halfAt_6 rfl (lv_at hl 2 rfl) ?_
  refine x_imul (v := nI (9 * w)) hx hb (pk_mul _ _) dX5_halfAt_7 ?_
  refine lv_iload_n hx hb dX5_halfAt_8 rfl (lv_at hl 1 rfl) ?_
  refine x_iadd (v := nI ((9 * w) + s9)) hx hb (nI_add _ _) dX5_halfAt_9 ?_
  refine x_iald (j := (9 * w) + s9) hx hb hK hH (show f (ad 0) = some (xN G 1001 54 hf) from hM.2 0 (by decide)) rfl (by omega) (by decide) dX5_halfAt_10 ?_
  exact x_iret hx hb hr hlk hH hS ⟨rfl, rfl⟩ (Nat.le_of_ble_eq_true rfl) (Nat.le_of_ble_eq_true rfl) dX5_halfAt_11

abbrev rmX5_square : Room := { frames := 1, cells := 0, slots := 0, locals := 40 }
set_option maxHeartbeats 4000000 in
set_option maxRecDepth 100000 in
theorem mX5_square (l : Launch) (G : xG) (A : Nat → Prop) (f : xF) (z : Int) : xMet l yX5_square cX5_square 1 (some .int) rmX5_square G A f [.int (oI z)] (fun v f1 => v = some (.int (oI (sqZ z))) ∧ f = f1) := by
  refine x_start (by decide) (Nat.le_of_ble_eq_true rfl) ?_
  intro p e s m below meth c ls X hH hS hl
  obtain ⟨hx, hb, hr, hlk, hml, hown, hts, hK, hC, hA, hnm, hmn⟩ := X
  have hl : lv_has ls 1 [(0, .int (oI z))] := hl
  refine lv_iload_n hx hb dX5_square_0 rfl (lv_at hl 0 rfl) ?_
  refine lv_iload_n hx hb dX5_square_1 rfl (lv_at hl 0 rfl) ?_
  refine x_imul (v := oI (z * z)) hx hb (oI_mul' rfl rfl) dX5_square_2 ?_
  exact x_iret hx hb hr hlk hH hS ⟨rfl, rfl⟩ (Nat.le_of_ble_eq_true rfl) (Nat.le_of_ble_eq_true rfl) dX5_square_3

abbrev rmX5_place : Room := { frames := 1, cells := 0, slots := 0, locals := 40 }
set_option maxHeartbeats 4000000 in
set_option maxRecDepth 100000 in
theorem mX5_place (l : Launch) (G : xG) (A : Nat → Prop) (f : xF) (a b c9 : Nat) : xMet l yX5_place cX5_place 3 (some .int) rmX5_place G A f [.int (nI a), .int (nI b), .int (nI c9)] (fun v f1 => v = some (.int (nI (25 * a + 5 * b + c9))) ∧ f = f1) := by
  refine x_start (by decide) (Nat.le_of_ble_eq_true rfl) ?_
  intro p e s m below meth c ls X hH hS hl
  obtain ⟨hx, hb, hr, hlk, hml, hown, hts, hK, hC, hA, hnm, hmn⟩ := X
  have hl : lv_has ls 3 [(0, .int (nI a)), (1, .int (nI b)), (2, .int (nI c9))] := hl
  refine lv_bipush (v := nI 25) hx hb dX5_place_0 rfl ?_
  refine lv_iload_n hx hb dX5_place_2 rfl (lv_at hl 0 rfl) ?_
  refine x_imul (v := nI (25 * a)) hx hb (pk_mul _ _) dX5_place_3 ?_
  refine lv_iconst (v := nI 5) hx hb dX5_place_4 rfl ?_
  refine lv_iload_n hx hb dX5_place_5 rfl (lv_at hl 1 rfl) ?_
  refine x_imul (v := nI (5 * b)) hx hb (pk_mul _ _) dX5_place_6 ?_
  refine x_iadd (v := nI ((25 * a) + (5 * b))) hx hb (nI_add _ _) dX5_place_7 ?_
  refine lv_iload_n hx hb dX5_place_8 rfl (lv_at hl 2 rfl) ?_
  refine x_iadd (v := nI (((25 * a) + (5 * b)) + c9)) hx hb (nI_add _ _) dX5_place_9 ?_
  exact x_iret hx hb hr hlk hH hS ⟨rfl, rfl⟩ (Nat.le_of_ble_eq_true rfl) (Nat.le_of_ble_eq_true rfl) dX5_place_10

abbrev rmX5_thrown : Room := { frames := 1, cells := 0, slots := 0, locals := 40 }
set_option maxHeartbeats 4000000 in
set_option maxRecDepth 100000 in
theorem mX5_thrown (l : Launch) (G : xG) (A : Nat → Prop) (f : xF) {mm : Nat} {ad : Nat → Nat} {th nw ln nt sl td la : Nat} {hf sa sw lf cf dd tt bh li : Nat → Nat} (hM : MM G f mm ad th nw ln nt sl td la hf sa sw lf cf dd tt bh li) : xMet l yX5_thrown cX5_thrown 1 (some .int) rmX5_thrown G A f [.ref mm] (fun v f1 => v = some (.int (nI th)) ∧ f = f1) := by
  refine x_start (by decide) (Nat.le_of_ble_eq_true rfl) ?_
  intro p e s m below meth c ls X hH hS hl
  obtain ⟨hx, hb, hr, hlk, hml, hown, hts, hK, hC, hA, hnm, hmn⟩ := X
  have hl : lv_has ls 1 [(0, .ref mm)] := hl
  refine lv_aload_n hx hb dX5_thrown_0 rfl (lv_at hl 0 rfl) ?_
  refine x_get (C := RX5) (T := TX5) (N := 16) (ci := 4) (v := .int (nI th)) hx hb hts in_X5 hown hK hH hM.1 rfl 0 (by decide) (hts _ q977) (fun _ h9 => h9) rfl dX5_thrown_1 ?_
  exact x_iret hx hb hr hlk hH hS ⟨rfl, rfl⟩ (Nat.le_of_ble_eq_true rfl) (Nat.le_of_ble_eq_true rfl) dX5_thrown_4

abbrev rmX5_areaOf : Room := { frames := 2, cells := 0, slots := 0, locals := 80 }
set_option maxHeartbeats 4000000 in
set_option maxRecDepth 100000 in
theorem mX5_areaOf (l : Launch) (G : xG) (A : Nat → Prop) (f : xF) {mm : Nat} {ad : Nat → Nat} {th nw ln nt sl td la : Nat} {hf sa sw lf cf dd tt bh li : Nat → Nat} (hM : MM G f mm ad th nw ln nt sl td la hf sa sw lf cf dd tt bh li) (s9 w : Nat) (hs : s9 < 9) (hw : w < 6) : xMet l yX5_areaOf cX5_areaOf 5 (some .int) rmX5_areaOf G A f [.ref mm, .int (nI s9), .int (nI w)] (fun v f1 => v = some (.int (nI (areaN (h2 hf) s9 w))) ∧ f = f1) := by
  refine x_start (by decide) (Nat.le_of_ble_eq_true rfl) ?_
  intro p e s m below meth c ls X hH hS hl
  obtain ⟨hx, hb, hr, hlk, hml, hown, hts, hK, hC, hA, hnm, hmn⟩ := X
  have hl : lv_has ls 5 [(0, .ref mm), (1, .int (nI s9)), (2, .int (nI w))] := hl
  refine lv_iconst (v := nI 0) hx hb dX5_areaOf_0 rfl ?_
  refine lv_istore_n (lv' := [(3, .int (nI 0)), (0, .ref mm), (1, .int (nI s9)), (2, .int (nI w))]) hx hb dX5_areaOf_1 rfl hl (by decide) rfl (fun ls hl => ?_)
  refine lv_iconst (v := nI 0) hx hb dX5_areaOf_2 rfl ?_
  refine lv_istore (lv' := [(4, .int (nI 0)), (3, .int (nI 0)), (0, .ref mm), (1, .int (nI s9)), (2, .int (nI w))]) hx hb dX5_areaOf_3 hl (by decide) rfl (fun ls hl => ?_)
  have hloop5 : ∀ (n : Nat) (k : Nat) (H : Heap) (locs : List Loc) (ls : Array Slot), k ≤ w → (w - k) < n → xH G A f H → va_S A s.heap H locs → lv_has ls 5 [(4, .int (nI k)), (3, .int (nI (sumN (fun j => h2 hf j s9 + h2 hf (j + 1) s9) k))), (0, .ref mm), (1, .int (nI s9)), (2, .int (nI w))] → W p l e rmX5_areaOf s m ([.ref mm, .int (nI s9), .int (nI w)] : List Value).toArray below meth c H locs 0 0 (MQ below (xQ G A (fun v f1 => v = some (.int (nI (areaN (h2 hf) s9 w))) ∧ f = f1)) ([.ref mm, .int (nI s9), .int (nI w)] : List Value).toArray s rmX5_areaOf.cells rmX5_areaOf.slots A) (F0 m 5 ls []) := by
    intro n
    induction n with
    | zero => intro k H locs ls hk hn; exact absurd hn (Nat.not_lt_zero _)
    | succ n ih5 =>
      intro k H locs ls hk hn hH hS hl
      refine lv_iload hx hb dX5_areaOf_5 (lv_at hl 0 rfl) ?_
      refine lv_iload_n hx hb dX5_areaOf_7 rfl (lv_at hl 4 rfl) ?_
      refine x_icmp_ge (tgt := 37) (P := w ≤ k) hx hb dX5_areaOf_8 (by decide) (nI_le' (by omega) (by omega)) (fun c8 => ?_) (fun c8 => ?_)
      · skip
        refine lv_iload_n hx hb dX5_areaOf_37 rfl (lv_at hl 1 rfl) ?_
        exact x_iret hx hb hr hlk hH hS ⟨by rw [show k = w by omega]; rfl, rfl⟩ (Nat.le_of_ble_eq_true rfl) (Nat.le_of_ble_eq_true rfl) dX5_areaOf_38
      · skip
        refine lv_iload_n hx hb dX5_areaOf_11 rfl (lv_at hl 1 rfl) ?_
        refine lv_aload_n hx hb dX5_areaOf_12 rfl (lv_at hl 2 rfl) ?_
        refine lv_iload_n hx hb dX5_areaOf_13 rfl (lv_at hl 3 rfl) ?_
        refine lv_iload hx hb dX5_areaOf_14 (lv_at hl 0 rfl) ?_
        refine x_V (n := 2) (As := [.int (nI s9), .int (nI k)]) (rest := [.int (nI (sumN (fun j => h2 hf j s9 + h2 hf (j + 1) s9) k))]) ⟨hx, hb, hml, hown, hts⟩ hK hC hA hH hS (mX5_halfAt l G A f hM s9 k (by omega) (by omega)) q1043 q1045 qs12 q38 q1046 (by decide +kernel) ⟨Nat.le_of_ble_eq_true rfl, Nat.le_of_ble_eq_true rfl⟩ hM.1 rfl rfl rfl hl.1 rfl (Nat.le_of_ble_eq_true rfl) dX5_areaOf_16 (Nat.le_of_ble_eq_true rfl) (Nat.le_of_ble_eq_true rfl) (fun v f_2 H locs hp hH hS hz => ?_)
        obtain ⟨rfl, rfl⟩ := hp
        refine x_norm (g2 := F0 m 19 ls [.int (nI (h2 hf k s9)), .int (nI (sumN (fun j => h2 hf j s9 + h2 hf (j + 1) s9) k))]) (k := 0) (n := 0) (Nat.le_refl _) (Nat.le_refl _) rfl ?_
        refine lv_aload_n hx hb dX5_areaOf_19 rfl (lv_at hl 2 rfl) ?_
        refine lv_iload_n hx hb dX5_areaOf_20 rfl (lv_at hl 3 rfl) ?_
        refine lv_iload hx hb dX5_areaOf_21 (lv_at hl 0 rfl) ?_
        refine lv_iconst (v := nI 1) hx hb dX5_areaOf_23 rfl ?_
        refine x_iadd (v := nI (k + 1)) hx hb (nI_add _ _) dX5_areaOf_24 ?_
        refine x_V (n := 2) (As := [.int (nI s9), .int (nI (k + 1))]) (rest := [.int (nI (h2 hf k s9)), .int (nI (sumN (fun j => h2 hf j s9 + h2 hf (j + 1) s9) k))]) ⟨hx, hb, hml, hown, hts⟩ hK hC hA hH hS (mX5_halfAt l G A f hM s9 (k + 1) (by omega) (by omega)) q1043 q1045 qs12 q38 q1046 (by decide +kernel) ⟨Nat.le_of_ble_eq_true rfl, Nat.le_of_ble_eq_true rfl⟩ hM.1 rfl rfl rfl hl.1 rfl (Nat.le_of_ble_eq_true rfl) dX5_areaOf_25 (Nat.le_of_ble_eq_true rfl) (Nat.le_of_ble_eq_true rfl) (fun v f_3 H locs hp hH hS hz => ?_)
        obtain ⟨rfl, rfl⟩ := hp
        refine x_norm (g2 := F0 m 28 ls [.int (nI (h2 hf (k + 1) s9)), .int (nI (h2 hf k s9)), .int (nI (sumN (fun j => h2 hf j s9 + h2 hf (j + 1) s9) k))]) (k := 0) (n := 0) (Nat.le_refl _) (Nat.le_refl _) rfl ?_
        refine x_iadd (v := nI ((h2 hf k s9) + (h2 hf (k + 1) s9))) hx hb (nI_add _ _) dX5_areaOf_28 ?_
        refine x_iadd (v := nI ((sumN (fun j => h2 hf j s9 + h2 hf (j + 1) s9) k) + ((h2 hf k s9) + (h2 hf (k + 1) s9)))) hx hb (nI_add _ _) dX5_areaOf_29 ?_
        refine lv_istore_n (lv' := [(3, .int (nI ((sumN (fun j => h2 hf j s9 + h2 hf (j + 1) s9) k) + ((h2 hf k s9) + (h2 hf (k + 1) s9))))), (4, .int (nI k)), (0, .ref mm), (1, .int (nI s9)), (2, .int (nI w))]) hx hb dX5_areaOf_30 rfl hl (by decide) rfl (fun ls hl => ?_)
        refine lv_iinc (v := nI (k + 1)) (lv' := [(4, .int (nI (k + 1))), (3, .int (nI ((sumN (fun j => h2 hf j s9 + h2 hf (j + 1) s9) k) + ((h2 hf k s9) + (h2 hf (k + 1) s9))))), (0, .ref mm), (1, .int (nI s9)), (2, .int (nI w))]) hx hb dX5_areaOf_31 hl (k := 1) rfl (nI_inc _) (by decide) rfl (fun ls hl => ?_)
        refine lv_goto (tgt := 5) hx hb dX5_areaOf_34 (by decide) ?_
        have e_4 : (nI ((sumN (fun j => h2 hf j s9 + h2 hf (j + 1) s9) k) + ((h2 hf k s9) + (h2 hf (k + 1) s9))) : Int32) = nI (sumN (fun j => h2 hf j s9 + h2 hf (j + 1) s9) (k + 1)) := by rfl
        have hl : lv_has ls 5 [(4, .int (nI (k + 1))), (3, .int (nI (sumN (fun j => h2 hf j s9 + h2 hf (j + 1) s9) (k + 1)))), (0, .ref mm), (1, .int (nI s9)), (2, .int (nI w))] := xl_eq hl (xl_cons rfl (xl_cons (congrArg (fun x => ((3 : Nat), Value.int x)) e_4) rfl))
        exact ih5 (k + 1) _ _ _ (by omega) (by omega) hH hS (lv_sub hl [0, 1, 2, 3, 4] rfl)
  have e_5 : (nI 0 : Int32) = nI (sumN (fun j => h2 hf j s9 + h2 hf (j + 1) s9) 0) := by rfl
  have hl : lv_has ls 5 [(4, .int (nI 0)), (3, .int (nI (sumN (fun j => h2 hf j s9 + h2 hf (j + 1) s9) 0))), (0, .ref mm), (1, .int (nI s9)), (2, .int (nI w))] := xl_eq hl (xl_cons rfl (xl_cons (congrArg (fun x => ((3 : Nat), Value.int x)) e_5) rfl))
  exact hloop5 (w - 0 + 1) 0 _ _ _ (by omega) (Nat.lt_succ_self _) hH hS (lv_sub hl [0, 1, 2, 3, 4] rfl)
