/-! THE COMPONENT, the batten (printed by genc.py) -/
set_option maxRecDepth 100000
theorem BT.keep {G : xG} {f f1 : xF} {bt li9 le tl tol : Nat} {la : Nat → Nat} {h : Nat → Nat} {lw : Nat → Nat → Nat} {lo hi : Nat} (H : BT G f bt li9 le la tl h tol lw) (hk : xkeep lo hi f f1) (ht : 540 ≤ lo ∨ hi ≤ 0) : BT G f1 bt li9 le la tl h tol lw := by
  have htl := H.1.2.2.2
  exact ⟨⟨hk _ _ H.1.1 (by show (510 : Nat) < lo ∨ hi ≤ 510; omega), hk _ _ H.1.2.1 (by show tl < lo ∨ hi ≤ tl; omega), hk _ _ H.1.2.2.1 (by show (520 : Nat) < lo ∨ hi ≤ 520; omega), htl⟩, fun k hk2 => hk _ _ (H.2 k hk2) (by show 530 + k < lo ∨ hi ≤ 530 + k; omega)⟩
theorem cbN_nat {h : Nat → Nat} {nx : Nat → Nat → Nat} {tol s a b k : Nat} (hn : ¬ cbN h nx tol s a b k = -1) : cbN h nx tol s a b k = (((cbN h nx tol s a b k).toNat : Nat) : Int) ∧ (cbN h nx tol s a b k).toNat < k := by
  rcases cbN_spec (h := h) (nx := nx) (tol := tol) (s := s) (a := a) (b := b) k with ⟨h1, -⟩ | ⟨j, h1, h2, -⟩
  · exact absurd h1 hn
  · rw [h2]; exact ⟨rfl, h1⟩
theorem oneZ_n {h : Nat → Nat} {tol k : Nat} (hn : ¬ oneZ h tol k = -1) : oneZ h tol k = (((fl0 h tol k).2 / 5 : Nat) : Int) ∧ twoZ h tol k = (((fl0 h tol k).2 % 5 : Nat) : Int) ∧ (fl0 h tol k).1 = LB h tol 7 ((fl0 h tol k).2 / 5) ((fl0 h tol k).2 % 5) := by
  have hne : ¬ (fl0 h tol k).1 = 100000000 := fun e => hn (if_pos e)
  exact ⟨if_neg hne, if_neg hne, (fl0_inv k).resolve_left hne⟩
theorem oneZ_1 {h : Nat → Nat} {tol k : Nat} (hn : oneZ h tol k = -1) : (fl0 h tol k).1 = 100000000 := by
  by_cases e : (fl0 h tol k).1 = 100000000
  · exact e
  · unfold oneZ at hn; rw [if_neg e] at hn; omega
theorem oneZ_t {h : Nat → Nat} {tol k v : Nat} (hf : fl0 h tol (k + 1) = (v, k)) (hv : v < 100000000) : oneZ h tol (k + 1) = ((k / 5 : Nat) : Int) ∧ twoZ h tol (k + 1) = ((k % 5 : Nat) : Int) := by
  unfold oneZ twoZ
  rw [hf]
  have hne : ¬ v = 100000000 := by omega
  exact ⟨if_neg hne, if_neg hne⟩
theorem oneZ_f {h : Nat → Nat} {tol k : Nat} (hf : fl0 h tol (k + 1) = fl0 h tol k) : oneZ h tol (k + 1) = oneZ h tol k ∧ twoZ h tol (k + 1) = twoZ h tol k := by
  unfold oneZ twoZ
  rw [hf]
  exact ⟨rfl, rfl⟩
theorem one_25 {h : Nat → Nat} {tol : Nat} (hB : ∀ j, j < 9 → h j ≤ 200) : oneZ h tol 25 = lnZ h tol 0 ∧ twoZ h tol 25 = lnZ h tol 1 := by
  obtain ⟨-, -, -, h4⟩ := fl0_found (tol := tol) hB
  have hne : ¬ (fl0 h tol 25).1 = 100000000 := by omega
  exact ⟨if_neg hne, if_neg hne⟩

abbrev rmX1_in : Room := { frames := 1, cells := 0, slots := 0, locals := 40 }
set_option maxHeartbeats 4000000 in
set_option maxRecDepth 100000 in
theorem mX1_in (l : Launch) (G : xG) (A : Nat → Prop) (f : xF) (x lo hi : Int32) (zx zl zh : Int) (ex : x = oI zx) (el : lo = oI zl) (eh : hi = oI zh) (rx : -2147483648 ≤ zx ∧ zx ≤ 2147483647) (rl : -2147483648 ≤ zl ∧ zl ≤ 2147483647) (rh : -2147483648 ≤ zh ∧ zh ≤ 2147483647) : xMet l yX1_in cX1_in 3 (some .boolean) rmX1_in G A f [.int x, .int lo, .int hi] (fun v f1 => v = some (.int (nI (xb (zl ≤ zx ∧ zx ≤ zh)))) ∧ f = f1) := by
  refine x_start (by decide) (Nat.le_of_ble_eq_true rfl) ?_
  intro p e s m below meth c ls X hH hS hl
  obtain ⟨hx, hb, hr, hlk, hml, hown, hts, hK, hC, hA, hnm, hmn⟩ := X
  have hl : lv_has ls 3 [(0, .int x), (1, .int lo), (2, .int hi)] := hl
  refine lv_iload_n hx hb dX1_in_0 rfl (lv_at hl 0 rfl) ?_
  refine lv_iload_n hx hb dX1_in_1 rfl (lv_at hl 1 rfl) ?_
  refine x_icmp_lt (tgt := 14) (P := zx < zl) hx hb dX1_in_2 (by decide) (oI_lt' ex el rx rl) (fun c2 => ?_) (fun c2 => ?_)
  · skip
    refine lv_iconst (v := nI 0) hx hb dX1_in_14 rfl ?_
    exact x_zret (v := 0) hx hb (by decide) hr hlk hH hS ⟨by rw [xb_f (by omega)], rfl⟩ (Nat.le_of_ble_eq_true rfl) (Nat.le_of_ble_eq_true rfl) dX1_in_15
  · skip
    refine lv_iload_n hx hb dX1_in_5 rfl (lv_at hl 0 rfl) ?_
    refine lv_iload_n hx hb dX1_in_6 rfl (lv_at hl 2 rfl) ?_
    refine x_icmp_gt (tgt := 14) (P := zh < zx) hx hb dX1_in_7 (by decide) (oI_lt' eh ex rh rx) (fun c7 => ?_) (fun c7 => ?_)
    · skip
      refine lv_iconst (v := nI 0) hx hb dX1_in_14 rfl ?_
      exact x_zret (v := 0) hx hb (by decide) hr hlk hH hS ⟨by rw [xb_f (by omega)], rfl⟩ (Nat.le_of_ble_eq_true rfl) (Nat.le_of_ble_eq_true rfl) dX1_in_15
    · skip
      refine lv_iconst (v := nI 1) hx hb dX1_in_10 rfl ?_
      refine lv_goto (tgt := 15) hx hb dX1_in_11 (by decide) ?_
      exact x_zret (v := 1) hx hb (by decide) hr hlk hH hS ⟨by rw [xb_t (by omega)], rfl⟩ (Nat.le_of_ble_eq_true rfl) (Nat.le_of_ble_eq_true rfl) dX1_in_15

abbrev rmX6_half : Room := { frames := 1, cells := 0, slots := 0, locals := 40 }
set_option maxHeartbeats 4000000 in
set_option maxRecDepth 100000 in
theorem mX6_half (l : Launch) (G : xG) (A : Nat → Prop) (f : xF) {bt li9 le tl tol : Nat} {la h9 : Nat → Nat} {lw : Nat → Nat → Nat} (hT : BT G f bt li9 le la tl h9 tol lw) (st9 c9 : Nat) (hst : st9 < 9) : xMet l yX6_half cX6_half 3 (some .int) rmX6_half G A f [.ref bt, .int (nI st9), .int (nI c9)] (fun v f1 => v = some (.int (oI (((h9 st9 + c9 : Nat) : Int) - ((2 : Nat) : Int)))) ∧ f = f1) := by
  refine x_start (by decide) (Nat.le_of_ble_eq_true rfl) ?_
  intro p e s m below meth c ls X hH hS hl
  obtain ⟨hx, hb, hr, hlk, hml, hown, hts, hK, hC, hA, hnm, hmn⟩ := X
  have hl : lv_has ls 3 [(0, .ref bt), (1, .int (nI st9)), (2, .int (nI c9))] := hl
  refine lv_aload_n hx hb dX6_half_0 rfl (lv_at hl 0 rfl) ?_
  refine x_get (C := RX6) (T := TX6) (N := 3) (ci := 5) (v := .ref li9) hx hb hts in_X6 hown hK hH hT.1.1 rfl 0 (by decide) (hts _ q648) (fun _ h9 => h9) rfl dX6_half_1 ?_
  refine lv_iload_n hx hb dX6_half_4 rfl (lv_at hl 1 rfl) ?_
  refine x_iald (j := st9) hx hb hK hH hT.1.2.1 rfl (by omega) (by decide) dX6_half_5 ?_
  refine lv_iload_n hx hb dX6_half_6 rfl (lv_at hl 2 rfl) ?_
  refine x_iadd (v := nI ((h9 st9) + c9)) hx hb (nI_add _ _) dX6_half_7 ?_
  refine lv_iconst (v := nI 2) hx hb dX6_half_8 rfl ?_
  refine x_isub (v := oI ((((h9 st9) + c9 : Nat) : Int) - ((2 : Nat) : Int))) hx hb (oI_sub' (nI_oI _) (nI_oI _)) dX6_half_9 ?_
  exact x_iret hx hb hr hlk hH hS ⟨rfl, rfl⟩ (Nat.le_of_ble_eq_true rfl) (Nat.le_of_ble_eq_true rfl) dX6_half_10

abbrev rmX6_can : Room := { frames := 2, cells := 0, slots := 0, locals := 80 }
set_option maxHeartbeats 4000000 in
set_option maxRecDepth 100000 in
theorem mX6_can (l : Launch) (G : xG) (A : Nat → Prop) (f : xF) {bt li9 le tl tol : Nat} {la h9 : Nat → Nat} {lw : Nat → Nat → Nat} (hT : BT G f bt li9 le la tl h9 tol lw) (hB9 : ∀ j, j < 9 → h9 j ≤ 200) (htol : tol < 3) (st9 c9 : Nat) (hst : st9 < 9) (hc9 : c9 < 5) : xMet l yX6_can cX6_can 3 (some .boolean) rmX6_can G A f [.ref bt, .int (nI st9), .int (nI c9)] (fun v f1 => v = some (.int (nI (xb (mayP (h9 st9) c9 tol)))) ∧ f = f1) := by
  refine x_start (by decide) (Nat.le_of_ble_eq_true rfl) ?_
  intro p e s m below meth c ls X hH hS hl
  obtain ⟨hx, hb, hr, hlk, hml, hown, hts, hK, hC, hA, hnm, hmn⟩ := X
  have hl : lv_has ls 3 [(0, .ref bt), (1, .int (nI st9)), (2, .int (nI c9))] := hl
  have hb1 := hB9 st9 hst
  refine lv_iload_n hx hb dX6_can_0 rfl (lv_at hl 2 rfl) ?_
  refine lv_iconst (v := nI 2) hx hb dX6_can_1 rfl ?_
  refine lv_aload_n hx hb dX6_can_2 rfl (lv_at hl 0 rfl) ?_
  refine x_get (C := RX6) (T := TX6) (N := 3) (ci := 5) (v := .int (nI tol)) hx hb hts in_X6 hown hK hH hT.1.1 rfl 1 (by decide) (hts _ q649) (fun _ h9 => h9) rfl dX6_can_3 ?_
  refine x_isub (v := oI (((2 : Nat) : Int) - ((tol : Nat) : Int))) hx hb (oI_sub' (nI_oI _) (nI_oI _)) dX6_can_6 ?_
  refine lv_iconst (v := nI 2) hx hb dX6_can_7 rfl ?_
  refine lv_aload_n hx hb dX6_can_8 rfl (lv_at hl 0 rfl) ?_
  refine x_get (C := RX6) (T := TX6) (N := 3) (ci := 5) (v := .int (nI tol)) hx hb hts in_X6 hown hK hH hT.1.1 rfl 1 (by decide) (hts _ q649) (fun _ h9 => h9) rfl dX6_can_9 ?_
  refine x_iadd (v := nI (2 + tol)) hx hb (nI_add _ _) dX6_can_12 ?_
  refine x_SN (n := 3) (As := [.int (nI c9), .int (oI (((2 : Nat) : Int) - ((tol : Nat) : Int))), .int (nI (2 + tol))]) (rest := []) ⟨hx, hb, hml, hown, hts⟩ hK hC hA hH hS (mX1_in l G A f _ _ _ ((c9 : Nat) : Int) (((2 : Nat) : Int) - ((tol : Nat) : Int)) ((2 + tol : Nat) : Int) (nI_oI _) rfl (nI_oI _) ⟨by omega, by omega⟩ ⟨by omega, by omega⟩ ⟨by omega, by omega⟩) q639 q535 q32 q536 (by decide +kernel) ⟨Nat.le_of_ble_eq_true rfl, Nat.le_of_ble_eq_true rfl⟩ rfl hl.1 rfl (Nat.le_of_ble_eq_true rfl) dX6_can_13 (Nat.le_of_ble_eq_true rfl) (Nat.le_of_ble_eq_true rfl) (fun v f_1 H locs hp hH hS hz => ?_)
  obtain ⟨rfl, rfl⟩ := hp
  refine x_norm (g2 := F0 m 16 ls [.int (nI (xb ((((2 : Nat) : Int) - ((tol : Nat) : Int)) ≤ ((c9 : Nat) : Int) ∧ ((c9 : Nat) : Int) ≤ ((2 + tol : Nat) : Int))))]) (k := 0) (n := 0) (Nat.le_refl _) (Nat.le_refl _) rfl ?_
  refine x_ifbeq (tgt := 39) (B := (((2 : Nat) : Int) - ((tol : Nat) : Int)) ≤ ((c9 : Nat) : Int) ∧ ((c9 : Nat) : Int) ≤ ((2 + tol : Nat) : Int)) hx hb dX6_can_16 (by decide) (fun c16 => ?_) (fun c16 => ?_)
  · skip
    refine lv_iconst (v := nI 0) hx hb dX6_can_39 rfl ?_
    exact x_zret (v := 0) hx hb (by decide) hr hlk hH hS ⟨by rw [xb_f (by unfold mayP; omega)], rfl⟩ (Nat.le_of_ble_eq_true rfl) (Nat.le_of_ble_eq_true rfl) dX6_can_40
  · skip
    refine lv_aload_n hx hb dX6_can_19 rfl (lv_at hl 0 rfl) ?_
    refine lv_iload_n hx hb dX6_can_20 rfl (lv_at hl 1 rfl) ?_
    refine lv_iload_n hx hb dX6_can_21 rfl (lv_at hl 2 rfl) ?_
    refine x_V (n := 2) (As := [.int (nI st9), .int (nI c9)]) (rest := []) ⟨hx, hb, hml, hown, hts⟩ hK hC hA hH hS (mX6_half l G A f hT st9 c9 (by omega)) q640 q642 qs7 q47 q643 (by decide +kernel) ⟨Nat.le_of_ble_eq_true rfl, Nat.le_of_ble_eq_true rfl⟩ hT.1.1 rfl rfl rfl hl.1 rfl (Nat.le_of_ble_eq_true rfl) dX6_can_22 (Nat.le_of_ble_eq_true rfl) (Nat.le_of_ble_eq_true rfl) (fun v f_2 H locs hp hH hS hz => ?_)
    obtain ⟨rfl, rfl⟩ := hp
    refine x_norm (g2 := F0 m 25 ls [.int (oI (((h9 st9 + c9 : Nat) : Int) - ((2 : Nat) : Int)))]) (k := 0) (n := 0) (Nat.le_refl _) (Nat.le_refl _) rfl ?_
    refine lv_iconst (v := nI 0) hx hb dX6_can_25 rfl ?_
    refine lv_sipush (v := nI 200) hx hb dX6_can_26 rfl ?_
    refine x_SN (n := 3) (As := [.int (oI (((h9 st9 + c9 : Nat) : Int) - ((2 : Nat) : Int))), .int (nI 0), .int (nI 200)]) (rest := []) ⟨hx, hb, hml, hown, hts⟩ hK hC hA hH hS (mX1_in l G A f _ _ _ (((h9 st9 + c9 : Nat) : Int) - ((2 : Nat) : Int)) ((0 : Nat) : Int) ((200 : Nat) : Int) rfl (nI_oI _) (nI_oI _) ⟨by omega, by omega⟩ (by decide) (by decide)) q639 q535 q32 q536 (by decide +kernel) ⟨Nat.le_of_ble_eq_true rfl, Nat.le_of_ble_eq_true rfl⟩ rfl hl.1 rfl (Nat.le_of_ble_eq_true rfl) dX6_can_29 (Nat.le_of_ble_eq_true rfl) (Nat.le_of_ble_eq_true rfl) (fun v f_3 H locs hp hH hS hz => ?_)
    obtain ⟨rfl, rfl⟩ := hp
    refine x_norm (g2 := F0 m 32 ls [.int (nI (xb (((0 : Nat) : Int) ≤ (((h9 st9 + c9 : Nat) : Int) - ((2 : Nat) : Int)) ∧ (((h9 st9 + c9 : Nat) : Int) - ((2 : Nat) : Int)) ≤ ((200 : Nat) : Int))))]) (k := 0) (n := 0) (Nat.le_refl _) (Nat.le_refl _) rfl ?_
    refine x_ifbeq (tgt := 39) (B := ((0 : Nat) : Int) ≤ (((h9 st9 + c9 : Nat) : Int) - ((2 : Nat) : Int)) ∧ (((h9 st9 + c9 : Nat) : Int) - ((2 : Nat) : Int)) ≤ ((200 : Nat) : Int)) hx hb dX6_can_32 (by decide) (fun c32 => ?_) (fun c32 => ?_)
    · skip
      refine lv_iconst (v := nI 0) hx hb dX6_can_39 rfl ?_
      exact x_zret (v := 0) hx hb (by decide) hr hlk hH hS ⟨by rw [xb_f (by unfold mayP; omega)], rfl⟩ (Nat.le_of_ble_eq_true rfl) (Nat.le_of_ble_eq_true rfl) dX6_can_40
    · skip
      refine lv_iconst (v := nI 1) hx hb dX6_can_35 rfl ?_
      refine lv_goto (tgt := 40) hx hb dX6_can_36 (by decide) ?_
      exact x_zret (v := 1) hx hb (by decide) hr hlk hH hS ⟨by rw [xb_t (by unfold mayP; omega)], rfl⟩ (Nat.le_of_ble_eq_true rfl) (Nat.le_of_ble_eq_true rfl) dX6_can_40

abbrev rmX6_behind : Room := { frames := 2, cells := 0, slots := 0, locals := 80 }
set_option maxHeartbeats 4000000 in
set_option maxRecDepth 100000 in
theorem mX6_behind (l : Launch) (G : xG) (A : Nat → Prop) (f : xF) {bt li9 le tl tol : Nat} {la h9 : Nat → Nat} {lw : Nat → Nat → Nat} (hT : BT G f bt li9 le la tl h9 tol lw) (at9 one9 two9 thr9 : Nat) (hat : at9 ≤ 6) (htwo : two9 < 5) (hthr : thr9 < 5) : xMet l yX6_behind cX6_behind 6 (some .int) rmX6_behind G A f [.ref bt, .int (nI at9), .int (nI one9), .int (nI two9), .int (nI thr9)] (fun v f1 => v = some (.int (nI (bbN h9 (fun b c => lw (at9 + 1) (5 * b + c)) (at9 + 1) one9 two9 thr9))) ∧ f = f1) := by
  refine x_start (by decide) (Nat.le_of_ble_eq_true rfl) ?_
  intro p e s m below meth c ls X hH hS hl
  obtain ⟨hx, hb, hr, hlk, hml, hown, hts, hK, hC, hA, hnm, hmn⟩ := X
  have hl : lv_has ls 6 [(0, .ref bt), (1, .int (nI at9)), (2, .int (nI one9)), (3, .int (nI two9)), (4, .int (nI thr9))] := hl
  refine lv_aload_n hx hb dX6_behind_0 rfl (lv_at hl 0 rfl) ?_
  refine lv_iload_n hx hb dX6_behind_1 rfl (lv_at hl 1 rfl) ?_
  refine lv_iload_n hx hb dX6_behind_2 rfl (lv_at hl 2 rfl) ?_
  refine x_V (n := 2) (As := [.int (nI at9), .int (nI one9)]) (rest := []) ⟨hx, hb, hml, hown, hts⟩ hK hC hA hH hS (mX6_half l G A f hT at9 one9 (by omega)) q640 q642 qs7 q47 q643 (by decide +kernel) ⟨Nat.le_of_ble_eq_true rfl, Nat.le_of_ble_eq_true rfl⟩ hT.1.1 rfl rfl rfl hl.1 rfl (Nat.le_of_ble_eq_true rfl) dX6_behind_3 (Nat.le_of_ble_eq_true rfl) (Nat.le_of_ble_eq_true rfl) (fun v f_1 H locs hp hH hS hz => ?_)
  obtain ⟨rfl, rfl⟩ := hp
  refine x_norm (g2 := F0 m 6 ls [.int (oI (((h9 at9 + one9 : Nat) : Int) - ((2 : Nat) : Int)))]) (k := 0) (n := 0) (Nat.le_refl _) (Nat.le_refl _) rfl ?_
  refine lv_aload_n hx hb dX6_behind_6 rfl (lv_at hl 0 rfl) ?_
  refine lv_iload_n hx hb dX6_behind_7 rfl (lv_at hl 1 rfl) ?_
  refine lv_iconst (v := nI 2) hx hb dX6_behind_8 rfl ?_
  refine x_iadd (v := nI (at9 + 2)) hx hb (nI_add _ _) dX6_behind_9 ?_
  refine lv_iload hx hb dX6_behind_10 (lv_at hl 4 rfl) ?_
  refine x_V (n := 2) (As := [.int (nI (at9 + 2)), .int (nI thr9)]) (rest := [.int (oI (((h9 at9 + one9 : Nat) : Int) - ((2 : Nat) : Int)))]) ⟨hx, hb, hml, hown, hts⟩ hK hC hA hH hS (mX6_half l G A f hT (at9 + 2) thr9 (by omega)) q640 q642 qs7 q47 q643 (by decide +kernel) ⟨Nat.le_of_ble_eq_true rfl, Nat.le_of_ble_eq_true rfl⟩ hT.1.1 rfl rfl rfl hl.1 rfl (Nat.le_of_ble_eq_true rfl) dX6_behind_12 (Nat.le_of_ble_eq_true rfl) (Nat.le_of_ble_eq_true rfl) (fun v f_2 H locs hp hH hS hz => ?_)
  obtain ⟨rfl, rfl⟩ := hp
  refine x_norm (g2 := F0 m 15 ls [.int (oI (((h9 (at9 + 2) + thr9 : Nat) : Int) - ((2 : Nat) : Int))), .int (oI (((h9 at9 + one9 : Nat) : Int) - ((2 : Nat) : Int)))]) (k := 0) (n := 0) (Nat.le_refl _) (Nat.le_refl _) rfl ?_
  refine x_iadd (v := oI ((((h9 at9 + one9 : Nat) : Int) - ((2 : Nat) : Int)) + (((h9 (at9 + 2) + thr9 : Nat) : Int) - ((2 : Nat) : Int)))) hx hb (oI_add' rfl rfl) dX6_behind_15 ?_
  refine lv_iconst (v := nI 2) hx hb dX6_behind_16 rfl ?_
  refine lv_aload_n hx hb dX6_behind_17 rfl (lv_at hl 0 rfl) ?_
  refine lv_iload_n hx hb dX6_behind_18 rfl (lv_at hl 1 rfl) ?_
  refine lv_iconst (v := nI 1) hx hb dX6_behind_19 rfl ?_
  refine x_iadd (v := nI (at9 + 1)) hx hb (nI_add _ _) dX6_behind_20 ?_
  refine lv_iload_n hx hb dX6_behind_21 rfl (lv_at hl 3 rfl) ?_
  refine x_V (n := 2) (As := [.int (nI (at9 + 1)), .int (nI two9)]) (rest := [.int (nI 2), .int (oI ((((h9 at9 + one9 : Nat) : Int) - ((2 : Nat) : Int)) + (((h9 (at9 + 2) + thr9 : Nat) : Int) - ((2 : Nat) : Int))))]) ⟨hx, hb, hml, hown, hts⟩ hK hC hA hH hS (mX6_half l G A f hT (at9 + 1) two9 (by omega)) q640 q642 qs7 q47 q643 (by decide +kernel) ⟨Nat.le_of_ble_eq_true rfl, Nat.le_of_ble_eq_true rfl⟩ hT.1.1 rfl rfl rfl hl.1 rfl (Nat.le_of_ble_eq_true rfl) dX6_behind_22 (Nat.le_of_ble_eq_true rfl) (Nat.le_of_ble_eq_true rfl) (fun v f_3 H locs hp hH hS hz => ?_)
  obtain ⟨rfl, rfl⟩ := hp
  refine x_norm (g2 := F0 m 25 ls [.int (oI (((h9 (at9 + 1) + two9 : Nat) : Int) - ((2 : Nat) : Int))), .int (nI 2), .int (oI ((((h9 at9 + one9 : Nat) : Int) - ((2 : Nat) : Int)) + (((h9 (at9 + 2) + thr9 : Nat) : Int) - ((2 : Nat) : Int))))]) (k := 0) (n := 0) (Nat.le_refl _) (Nat.le_refl _) rfl ?_
  refine x_imul (v := oI (((2 : Nat) : Int) * (((h9 (at9 + 1) + two9 : Nat) : Int) - ((2 : Nat) : Int)))) hx hb (oI_mul' (nI_oI _) rfl) dX6_behind_25 ?_
  refine x_isub (v := oI (((((h9 at9 + one9 : Nat) : Int) - ((2 : Nat) : Int)) + (((h9 (at9 + 2) + thr9 : Nat) : Int) - ((2 : Nat) : Int))) - (((2 : Nat) : Int) * (((h9 (at9 + 1) + two9 : Nat) : Int) - ((2 : Nat) : Int))))) hx hb (oI_sub' rfl rfl) dX6_behind_26 ?_
  refine lv_istore (lv' := [(5, .int (oI (((((h9 at9 + one9 : Nat) : Int) - ((2 : Nat) : Int)) + (((h9 (at9 + 2) + thr9 : Nat) : Int) - ((2 : Nat) : Int))) - (((2 : Nat) : Int) * (((h9 (at9 + 1) + two9 : Nat) : Int) - ((2 : Nat) : Int)))))), (0, .ref bt), (1, .int (nI at9)), (2, .int (nI one9)), (3, .int (nI two9)), (4, .int (nI thr9))]) hx hb dX6_behind_27 hl (by decide) rfl (fun ls hl => ?_)
  refine lv_iload hx hb dX6_behind_29 (lv_at hl 0 rfl) ?_
  refine lv_iload hx hb dX6_behind_31 (lv_at hl 0 rfl) ?_
  refine x_imul (v := oI ((((((h9 at9 + one9 : Nat) : Int) - ((2 : Nat) : Int)) + (((h9 (at9 + 2) + thr9 : Nat) : Int) - ((2 : Nat) : Int))) - (((2 : Nat) : Int) * (((h9 (at9 + 1) + two9 : Nat) : Int) - ((2 : Nat) : Int)))) * (((((h9 at9 + one9 : Nat) : Int) - ((2 : Nat) : Int)) + (((h9 (at9 + 2) + thr9 : Nat) : Int) - ((2 : Nat) : Int))) - (((2 : Nat) : Int) * (((h9 (at9 + 1) + two9 : Nat) : Int) - ((2 : Nat) : Int)))))) hx hb (oI_mul' rfl rfl) dX6_behind_33 ?_
  refine lv_aload_n hx hb dX6_behind_34 rfl (lv_at hl 1 rfl) ?_
  refine x_get (C := RX6) (T := TX6) (N := 3) (ci := 5) (v := .ref le) hx hb hts in_X6 hown hK hH hT.1.1 rfl 2 (by decide) (hts _ q650) (fun _ h9 => h9) rfl dX6_behind_35 ?_
  refine lv_iload_n hx hb dX6_behind_38 rfl (lv_at hl 2 rfl) ?_
  refine lv_iconst (v := nI 1) hx hb dX6_behind_39 rfl ?_
  refine x_iadd (v := nI (at9 + 1)) hx hb (nI_add _ _) dX6_behind_40 ?_
  refine x_aald (j := at9 + 1) (k := 3) hx hb hK hH hT.1.2.2.1 rfl rfl rfl (by omega) (by decide) dX6_behind_41 ?_
  refine x_norm (g2 := F0 m 42 ls [.ref (la (at9 + 1)), .int (oI ((((((h9 at9 + one9 : Nat) : Int) - ((2 : Nat) : Int)) + (((h9 (at9 + 2) + thr9 : Nat) : Int) - ((2 : Nat) : Int))) - (((2 : Nat) : Int) * (((h9 (at9 + 1) + two9 : Nat) : Int) - ((2 : Nat) : Int)))) * (((((h9 at9 + one9 : Nat) : Int) - ((2 : Nat) : Int)) + (((h9 (at9 + 2) + thr9 : Nat) : Int) - ((2 : Nat) : Int))) - (((2 : Nat) : Int) * (((h9 (at9 + 1) + two9 : Nat) : Int) - ((2 : Nat) : Int))))))]) (Nat.le_refl _) (Nat.le_refl _) (congrArg (fun x9 => F0 m 42 ls (va_rf x9 :: [.int (oI ((((((h9 at9 + one9 : Nat) : Int) - ((2 : Nat) : Int)) + (((h9 (at9 + 2) + thr9 : Nat) : Int) - ((2 : Nat) : Int))) - (((2 : Nat) : Int) * (((h9 (at9 + 1) + two9 : Nat) : Int) - ((2 : Nat) : Int)))) * (((((h9 at9 + one9 : Nat) : Int) - ((2 : Nat) : Int)) + (((h9 (at9 + 2) + thr9 : Nat) : Int) - ((2 : Nat) : Int))) - (((2 : Nat) : Int) * (((h9 (at9 + 1) + two9 : Nat) : Int) - ((2 : Nat) : Int))))))])) (show (fun k => some (la k)) (at9 + 1) = some (la (at9 + 1)) from rfl)) ?_
  refine lv_iconst (v := nI 5) hx hb dX6_behind_42 rfl ?_
  refine lv_iload_n hx hb dX6_behind_43 rfl (lv_at hl 4 rfl) ?_
  refine x_imul (v := nI (5 * two9)) hx hb (pk_mul _ _) dX6_behind_44 ?_
  refine lv_iload hx hb dX6_behind_45 (lv_at hl 5 rfl) ?_
  refine x_iadd (v := nI ((5 * two9) + thr9)) hx hb (nI_add _ _) dX6_behind_47 ?_
  refine x_iald (j := (5 * two9) + thr9) hx hb hK hH (hT.2 (at9 + 1) (by omega)) rfl (by omega) (by decide) dX6_behind_48 ?_
  refine x_iadd (v := oI (((((((h9 at9 + one9 : Nat) : Int) - ((2 : Nat) : Int)) + (((h9 (at9 + 2) + thr9 : Nat) : Int) - ((2 : Nat) : Int))) - (((2 : Nat) : Int) * (((h9 (at9 + 1) + two9 : Nat) : Int) - ((2 : Nat) : Int)))) * (((((h9 at9 + one9 : Nat) : Int) - ((2 : Nat) : Int)) + (((h9 (at9 + 2) + thr9 : Nat) : Int) - ((2 : Nat) : Int))) - (((2 : Nat) : Int) * (((h9 (at9 + 1) + two9 : Nat) : Int) - ((2 : Nat) : Int))))) + (((lw (at9 + 1)) ((5 * two9) + thr9) : Nat) : Int))) hx hb (oI_add' rfl (nI_oI _)) dX6_behind_49 ?_
  exact x_iret hx hb hr hlk hH hS ⟨congrArg (fun q => some (Value.int q)) (oI_nI (n := bbN h9 (fun b c => lw (at9 + 1) (5 * b + c)) (at9 + 1) one9 two9 thr9) (by have e9 : ((((h9 at9 + one9 : Nat) : Int) - ((2 : Nat) : Int)) + (((h9 (at9 + 2) + thr9 : Nat) : Int) - ((2 : Nat) : Int))) - (((2 : Nat) : Int) * (((h9 (at9 + 1) + two9 : Nat) : Int) - ((2 : Nat) : Int))) = offZ h9 (at9 + 1) one9 two9 thr9 := (by unfold offZ; rw [show at9 + 1 - 1 = at9 from rfl, show at9 + 1 + 1 = at9 + 2 from rfl]; omega); have n9 := sqZ_nonneg (offZ h9 (at9 + 1) one9 two9 thr9); rw [e9]; unfold bbN; show sqZ (offZ h9 (at9 + 1) one9 two9 thr9) + ((lw (at9 + 1) (5 * two9 + thr9) : Nat) : Int) = (((sqZ (offZ h9 (at9 + 1) one9 two9 thr9)).toNat + lw (at9 + 1) (5 * two9 + thr9) : Nat) : Int); omega)), rfl⟩ (Nat.le_of_ble_eq_true rfl) (Nat.le_of_ble_eq_true rfl) dX6_behind_50

abbrev rmX6_choice : Room := { frames := 3, cells := 0, slots := 0, locals := 120 }
set_option maxHeartbeats 4000000 in
set_option maxRecDepth 100000 in
theorem mX6_choice (l : Launch) (G : xG) (A : Nat → Prop) (f : xF) {bt li9 le tl tol : Nat} {la h9 : Nat → Nat} {lw : Nat → Nat → Nat} (hT : BT G f bt li9 le la tl h9 tol lw) (hB9 : ∀ j, j < 9 → h9 j ≤ 200) (htol : tol < 3) (at9 one9 two9 : Nat) (hat : at9 ≤ 6) (hone : one9 < 5) (htwo : two9 < 5) (hL : leP h9 tol (at9 + 1) lw) : xMet l yX6_choice cX6_choice 6 (some .int) rmX6_choice G A f [.ref bt, .int (nI at9), .int (nI one9), .int (nI two9)] (fun v f1 => v = some (.int (nI (ch h9 tol (at9 + 1) one9 two9))) ∧ f = f1) := by
  refine x_start (by decide) (Nat.le_of_ble_eq_true rfl) ?_
  intro p e s m below meth c ls X hH hS hl
  obtain ⟨hx, hb, hr, hlk, hml, hown, hts, hK, hC, hA, hnm, hmn⟩ := X
  have hl : lv_has ls 6 [(0, .ref bt), (1, .int (nI at9)), (2, .int (nI one9)), (3, .int (nI two9))] := hl
  refine lv_iconst (v := oI (-1)) hx hb dX6_choice_0 rfl ?_
  refine lv_istore (lv' := [(4, .int (oI (-1))), (0, .ref bt), (1, .int (nI at9)), (2, .int (nI one9)), (3, .int (nI two9))]) hx hb dX6_choice_1 hl (by decide) rfl (fun ls hl => ?_)
  refine lv_iconst (v := nI 0) hx hb dX6_choice_3 rfl ?_
  refine lv_istore (lv' := [(5, .int (nI 0)), (4, .int (oI (-1))), (0, .ref bt), (1, .int (nI at9)), (2, .int (nI one9)), (3, .int (nI two9))]) hx hb dX6_choice_4 hl (by decide) rfl (fun ls hl => ?_)
  have hloop6 : ∀ (n : Nat) (k : Nat) (H : Heap) (locs : List Loc) (ls : Array Slot), k ≤ 5 → (5 - k) < n → xH G A f H → va_S A s.heap H locs → lv_has ls 6 [(5, .int (nI k)), (4, .int (oI (cbN h9 (fun b c => lw (at9 + 1) (5 * b + c)) tol (at9 + 1) one9 two9 k))), (0, .ref bt), (1, .int (nI at9)), (2, .int (nI one9)), (3, .int (nI two9))] → W p l e rmX6_choice s m ([.ref bt, .int (nI at9), .int (nI one9), .int (nI two9)] : List Value).toArray below meth c H locs 0 0 (MQ below (xQ G A (fun v f1 => v = some (.int (nI (ch h9 tol (at9 + 1) one9 two9))) ∧ f = f1)) ([.ref bt, .int (nI at9), .int (nI one9), .int (nI two9)] : List Value).toArray s rmX6_choice.cells rmX6_choice.slots A) (F0 m 6 ls []) := by
    intro n
    induction n with
    | zero => intro k H locs ls hk hn; exact absurd hn (Nat.not_lt_zero _)
    | succ n ih6 =>
      intro k H locs ls hk hn hH hS hl
      refine lv_iload hx hb dX6_choice_6 (lv_at hl 0 rfl) ?_
      refine lv_iconst (v := nI 5) hx hb dX6_choice_8 rfl ?_
      refine x_icmp_ge (tgt := 61) (P := 5 ≤ k) hx hb dX6_choice_9 (by decide) (nI_le' (by decide) (by omega)) (fun c9 => ?_) (fun c9 => ?_)
      · skip
        refine lv_iload hx hb dX6_choice_61 (lv_at hl 1 rfl) ?_
        exact x_iret hx hb hr hlk hH hS ⟨congrArg (fun q => some (Value.int q)) (oI_nI (by rw [show k = 5 by omega]; exact cb_ch hB9 (by omega) (by omega) hone htwo (fun c hc => leP_at hL (Nat.le_refl _) (by omega) htwo hc))), rfl⟩ (Nat.le_of_ble_eq_true rfl) (Nat.le_of_ble_eq_true rfl) dX6_choice_63
      · skip
        have hcr : -1 ≤ cbN h9 (fun b c => lw (at9 + 1) (5 * b + c)) tol (at9 + 1) one9 two9 k ∧ cbN h9 (fun b c => lw (at9 + 1) (5 * b + c)) tol (at9 + 1) one9 two9 k ≤ 5 := by rcases cbN_spec (h := h9) (nx := (fun b c => lw (at9 + 1) (5 * b + c))) (tol := tol) (s := at9 + 1) (a := one9) (b := two9) k with ⟨h1, -⟩ | ⟨j, h1, h2, -⟩ <;> omega
        refine lv_aload_n hx hb dX6_choice_12 rfl (lv_at hl 2 rfl) ?_
        refine lv_iload_n hx hb dX6_choice_13 rfl (lv_at hl 3 rfl) ?_
        refine lv_iconst (v := nI 2) hx hb dX6_choice_14 rfl ?_
        refine x_iadd (v := nI (at9 + 2)) hx hb (nI_add _ _) dX6_choice_15 ?_
        refine lv_iload hx hb dX6_choice_16 (lv_at hl 0 rfl) ?_
        refine x_V (n := 2) (As := [.int (nI (at9 + 2)), .int (nI k)]) (rest := []) ⟨hx, hb, hml, hown, hts⟩ hK hC hA hH hS (mX6_can l G A f hT hB9 htol (at9 + 2) k (by omega) (by omega)) q635 q636 q637 q47 q638 (by decide +kernel) ⟨Nat.le_of_ble_eq_true rfl, Nat.le_of_ble_eq_true rfl⟩ hT.1.1 rfl rfl rfl hl.1 rfl (Nat.le_of_ble_eq_true rfl) dX6_choice_18 (Nat.le_of_ble_eq_true rfl) (Nat.le_of_ble_eq_true rfl) (fun v f_2 H locs hp hH hS hz => ?_)
        obtain ⟨rfl, rfl⟩ := hp
        refine x_norm (g2 := F0 m 21 ls [.int (nI (xb (mayP (h9 (at9 + 2)) k tol)))]) (k := 0) (n := 0) (Nat.le_refl _) (Nat.le_refl _) rfl ?_
        refine x_ifbeq (tgt := 55) (B := mayP (h9 (at9 + 2)) k tol) hx hb dX6_choice_21 (by decide) (fun c21 => ?_) (fun c21 => ?_)
        · skip
          refine lv_iinc (v := nI (k + 1)) (lv' := [(5, .int (nI (k + 1))), (4, .int (oI (cbN h9 (fun b c => lw (at9 + 1) (5 * b + c)) tol (at9 + 1) one9 two9 k))), (0, .ref bt), (1, .int (nI at9)), (2, .int (nI one9)), (3, .int (nI two9))]) hx hb dX6_choice_55 hl (k := 0) rfl (nI_inc _) (by decide) rfl (fun ls hl => ?_)
          refine lv_goto (tgt := 6) hx hb dX6_choice_58 (by decide) ?_
          have e_3 : (oI (cbN h9 (fun b c => lw (at9 + 1) (5 * b + c)) tol (at9 + 1) one9 two9 k) : Int32) = oI (cbN h9 (fun b c => lw (at9 + 1) (5 * b + c)) tol (at9 + 1) one9 two9 (k + 1)) := by first | (rw [cbN_f (fun hx => c21 hx.1)]) | (rw [cbN_t c21 (Or.inl c27)]; exact nI_oI _) | (rw [cbN_t c21 (Or.inr (by omega))]; exact nI_oI _) | (rw [cbN_f (fun hx => hx.2.elim (fun e9 => c27 e9) (fun e9 => by omega)), nI_oI]; exact congrArg oI hcn.1.symm)
          have hl : lv_has ls 6 [(5, .int (nI (k + 1))), (4, .int (oI (cbN h9 (fun b c => lw (at9 + 1) (5 * b + c)) tol (at9 + 1) one9 two9 (k + 1)))), (0, .ref bt), (1, .int (nI at9)), (2, .int (nI one9)), (3, .int (nI two9))] := xl_eq hl (xl_cons rfl (xl_cons (congrArg (fun x => ((4 : Nat), Value.int x)) e_3) rfl))
          exact ih6 (k + 1) _ _ _ (by omega) (by omega) hH hS (lv_sub hl [0, 1, 2, 3, 4, 5] rfl)
        · skip
          refine lv_iload hx hb dX6_choice_24 (lv_at hl 1 rfl) ?_
          refine lv_iconst (v := oI (-1)) hx hb dX6_choice_26 rfl ?_
          refine x_icmp_eq (tgt := 51) (P := (cbN h9 (fun b c => lw (at9 + 1) (5 * b + c)) tol (at9 + 1) one9 two9 k) = (-1)) hx hb dX6_choice_27 (by decide) (oI_eq' rfl rfl ⟨by omega, by omega⟩ ⟨by omega, by omega⟩) (fun c27 => ?_) (fun c27 => ?_)
          · skip
            refine lv_iload hx hb dX6_choice_51 (lv_at hl 0 rfl) ?_
            refine lv_istore (lv' := [(4, .int (nI k)), (5, .int (nI k)), (0, .ref bt), (1, .int (nI at9)), (2, .int (nI one9)), (3, .int (nI two9))]) hx hb dX6_choice_53 hl (by decide) rfl (fun ls hl => ?_)
            refine lv_iinc (v := nI (k + 1)) (lv' := [(5, .int (nI (k + 1))), (4, .int (nI k)), (0, .ref bt), (1, .int (nI at9)), (2, .int (nI one9)), (3, .int (nI two9))]) hx hb dX6_choice_55 hl (k := 1) rfl (nI_inc _) (by decide) rfl (fun ls hl => ?_)
            refine lv_goto (tgt := 6) hx hb dX6_choice_58 (by decide) ?_
            have e_4 : (nI k : Int32) = oI (cbN h9 (fun b c => lw (at9 + 1) (5 * b + c)) tol (at9 + 1) one9 two9 (k + 1)) := by first | (rw [cbN_f (fun hx => c21 hx.1)]) | (rw [cbN_t c21 (Or.inl c27)]; exact nI_oI _) | (rw [cbN_t c21 (Or.inr (by omega))]; exact nI_oI _) | (rw [cbN_f (fun hx => hx.2.elim (fun e9 => c27 e9) (fun e9 => by omega)), nI_oI]; exact congrArg oI hcn.1.symm)
            have hl : lv_has ls 6 [(5, .int (nI (k + 1))), (4, .int (oI (cbN h9 (fun b c => lw (at9 + 1) (5 * b + c)) tol (at9 + 1) one9 two9 (k + 1)))), (0, .ref bt), (1, .int (nI at9)), (2, .int (nI one9)), (3, .int (nI two9))] := xl_eq hl (xl_cons rfl (xl_cons (congrArg (fun x => ((4 : Nat), Value.int x)) e_4) rfl))
            exact ih6 (k + 1) _ _ _ (by omega) (by omega) hH hS (lv_sub hl [0, 1, 2, 3, 4, 5] rfl)
          · skip
            have hcn := cbN_nat c27
            have e_5 : (oI (cbN h9 (fun b c => lw (at9 + 1) (5 * b + c)) tol (at9 + 1) one9 two9 k) : Int32) = nI ((cbN h9 (fun b c => lw (at9 + 1) (5 * b + c)) tol (at9 + 1) one9 two9 k).toNat) := oI_nI hcn.1
            have hl : lv_has ls 6 [(5, .int (nI k)), (4, .int (nI ((cbN h9 (fun b c => lw (at9 + 1) (5 * b + c)) tol (at9 + 1) one9 two9 k).toNat))), (0, .ref bt), (1, .int (nI at9)), (2, .int (nI one9)), (3, .int (nI two9))] := xl_eq hl (xl_cons rfl (xl_cons (congrArg (fun x => ((4 : Nat), Value.int x)) e_5) rfl))
            have hbba := bbN_le (h := h9) (nx := (fun b c => lw (at9 + 1) (5 * b + c))) (s := at9 + 1) (a := one9) (b := two9) (c := k) hB9 (by omega) hone htwo (by omega)
            have hbbb := bbN_le (h := h9) (nx := (fun b c => lw (at9 + 1) (5 * b + c))) (s := at9 + 1) (a := one9) (b := two9) (c := (cbN h9 (fun b c => lw (at9 + 1) (5 * b + c)) tol (at9 + 1) one9 two9 k).toNat) hB9 (by omega) hone htwo (by omega)
            have hlwa : lw (at9 + 1) (5 * two9 + k) ≤ 100000000 := by rw [leP_at hL (Nat.le_refl _) (by omega) htwo (by omega)]; exact LB_le _ _
            have hlwb : lw (at9 + 1) (5 * two9 + (cbN h9 (fun b c => lw (at9 + 1) (5 * b + c)) tol (at9 + 1) one9 two9 k).toNat) ≤ 100000000 := by rw [leP_at hL (Nat.le_refl _) (by omega) htwo (by omega)]; exact LB_le _ _
            refine lv_aload_n hx hb dX6_choice_30 rfl (lv_at hl 2 rfl) ?_
            refine lv_iload_n hx hb dX6_choice_31 rfl (lv_at hl 3 rfl) ?_
            refine lv_iload_n hx hb dX6_choice_32 rfl (lv_at hl 4 rfl) ?_
            refine lv_iload_n hx hb dX6_choice_33 rfl (lv_at hl 5 rfl) ?_
            refine lv_iload hx hb dX6_choice_34 (lv_at hl 0 rfl) ?_
            refine x_V (n := 4) (As := [.int (nI at9), .int (nI one9), .int (nI two9), .int (nI k)]) (rest := []) ⟨hx, hb, hml, hown, hts⟩ hK hC hA hH hS (mX6_behind l G A f hT at9 one9 two9 k (by omega) (by omega) (by omega)) q644 q646 qs8 q47 q647 (by decide +kernel) ⟨Nat.le_of_ble_eq_true rfl, Nat.le_of_ble_eq_true rfl⟩ hT.1.1 rfl rfl rfl hl.1 rfl (Nat.le_of_ble_eq_true rfl) dX6_choice_36 (Nat.le_of_ble_eq_true rfl) (Nat.le_of_ble_eq_true rfl) (fun v f_6 H locs hp hH hS hz => ?_)
            obtain ⟨rfl, rfl⟩ := hp
            refine x_norm (g2 := F0 m 39 ls [.int (nI (bbN h9 (fun b c => lw (at9 + 1) (5 * b + c)) (at9 + 1) one9 two9 k))]) (k := 0) (n := 0) (Nat.le_refl _) (Nat.le_refl _) rfl ?_
            refine lv_aload_n hx hb dX6_choice_39 rfl (lv_at hl 2 rfl) ?_
            refine lv_iload_n hx hb dX6_choice_40 rfl (lv_at hl 3 rfl) ?_
            refine lv_iload_n hx hb dX6_choice_41 rfl (lv_at hl 4 rfl) ?_
            refine lv_iload_n hx hb dX6_choice_42 rfl (lv_at hl 5 rfl) ?_
            refine lv_iload hx hb dX6_choice_43 (lv_at hl 1 rfl) ?_
            refine x_V (n := 4) (As := [.int (nI at9), .int (nI one9), .int (nI two9), .int (nI ((cbN h9 (fun b c => lw (at9 + 1) (5 * b + c)) tol (at9 + 1) one9 two9 k).toNat))]) (rest := [.int (nI (bbN h9 (fun b c => lw (at9 + 1) (5 * b + c)) (at9 + 1) one9 two9 k))]) ⟨hx, hb, hml, hown, hts⟩ hK hC hA hH hS (mX6_behind l G A f hT at9 one9 two9 ((cbN h9 (fun b c => lw (at9 + 1) (5 * b + c)) tol (at9 + 1) one9 two9 k).toNat) (by omega) (by omega) (by omega)) q644 q646 qs8 q47 q647 (by decide +kernel) ⟨Nat.le_of_ble_eq_true rfl, Nat.le_of_ble_eq_true rfl⟩ hT.1.1 rfl rfl rfl hl.1 rfl (Nat.le_of_ble_eq_true rfl) dX6_choice_45 (Nat.le_of_ble_eq_true rfl) (Nat.le_of_ble_eq_true rfl) (fun v f_7 H locs hp hH hS hz => ?_)
            obtain ⟨rfl, rfl⟩ := hp
            refine x_norm (g2 := F0 m 48 ls [.int (nI (bbN h9 (fun b c => lw (at9 + 1) (5 * b + c)) (at9 + 1) one9 two9 ((cbN h9 (fun b c => lw (at9 + 1) (5 * b + c)) tol (at9 + 1) one9 two9 k).toNat))), .int (nI (bbN h9 (fun b c => lw (at9 + 1) (5 * b + c)) (at9 + 1) one9 two9 k))]) (k := 0) (n := 0) (Nat.le_refl _) (Nat.le_refl _) rfl ?_
            refine x_icmp_ge (tgt := 55) (P := (bbN h9 (fun b c => lw (at9 + 1) (5 * b + c)) (at9 + 1) one9 two9 ((cbN h9 (fun b c => lw (at9 + 1) (5 * b + c)) tol (at9 + 1) one9 two9 k).toNat)) ≤ (bbN h9 (fun b c => lw (at9 + 1) (5 * b + c)) (at9 + 1) one9 two9 k)) hx hb dX6_choice_48 (by decide) (nI_le' (by omega) (by omega)) (fun c48 => ?_) (fun c48 => ?_)
            · skip
              refine lv_iinc (v := nI (k + 1)) (lv' := [(5, .int (nI (k + 1))), (4, .int (nI ((cbN h9 (fun b c => lw (at9 + 1) (5 * b + c)) tol (at9 + 1) one9 two9 k).toNat))), (0, .ref bt), (1, .int (nI at9)), (2, .int (nI one9)), (3, .int (nI two9))]) hx hb dX6_choice_55 hl (k := 0) rfl (nI_inc _) (by decide) rfl (fun ls hl => ?_)
              refine lv_goto (tgt := 6) hx hb dX6_choice_58 (by decide) ?_
              have e_8 : (nI ((cbN h9 (fun b c => lw (at9 + 1) (5 * b + c)) tol (at9 + 1) one9 two9 k).toNat) : Int32) = oI (cbN h9 (fun b c => lw (at9 + 1) (5 * b + c)) tol (at9 + 1) one9 two9 (k + 1)) := by first | (rw [cbN_f (fun hx => c21 hx.1)]) | (rw [cbN_t c21 (Or.inl c27)]; exact nI_oI _) | (rw [cbN_t c21 (Or.inr (by omega))]; exact nI_oI _) | (rw [cbN_f (fun hx => hx.2.elim (fun e9 => c27 e9) (fun e9 => by omega)), nI_oI]; exact congrArg oI hcn.1.symm)
              have hl : lv_has ls 6 [(5, .int (nI (k + 1))), (4, .int (oI (cbN h9 (fun b c => lw (at9 + 1) (5 * b + c)) tol (at9 + 1) one9 two9 (k + 1)))), (0, .ref bt), (1, .int (nI at9)), (2, .int (nI one9)), (3, .int (nI two9))] := xl_eq hl (xl_cons rfl (xl_cons (congrArg (fun x => ((4 : Nat), Value.int x)) e_8) rfl))
              exact ih6 (k + 1) _ _ _ (by omega) (by omega) hH hS (lv_sub hl [0, 1, 2, 3, 4, 5] rfl)
            · skip
              refine lv_iload hx hb dX6_choice_51 (lv_at hl 0 rfl) ?_
              refine lv_istore (lv' := [(4, .int (nI k)), (5, .int (nI k)), (0, .ref bt), (1, .int (nI at9)), (2, .int (nI one9)), (3, .int (nI two9))]) hx hb dX6_choice_53 hl (by decide) rfl (fun ls hl => ?_)
              refine lv_iinc (v := nI (k + 1)) (lv' := [(5, .int (nI (k + 1))), (4, .int (nI k)), (0, .ref bt), (1, .int (nI at9)), (2, .int (nI one9)), (3, .int (nI two9))]) hx hb dX6_choice_55 hl (k := 1) rfl (nI_inc _) (by decide) rfl (fun ls hl => ?_)
              refine lv_goto (tgt := 6) hx hb dX6_choice_58 (by decide) ?_
              have e_9 : (nI k : Int32) = oI (cbN h9 (fun b c => lw (at9 + 1) (5 * b + c)) tol (at9 + 1) one9 two9 (k + 1)) := by first | (rw [cbN_f (fun hx => c21 hx.1)]) | (rw [cbN_t c21 (Or.inl c27)]; exact nI_oI _) | (rw [cbN_t c21 (Or.inr (by omega))]; exact nI_oI _) | (rw [cbN_f (fun hx => hx.2.elim (fun e9 => c27 e9) (fun e9 => by omega)), nI_oI]; exact congrArg oI hcn.1.symm)
              have hl : lv_has ls 6 [(5, .int (nI (k + 1))), (4, .int (oI (cbN h9 (fun b c => lw (at9 + 1) (5 * b + c)) tol (at9 + 1) one9 two9 (k + 1)))), (0, .ref bt), (1, .int (nI at9)), (2, .int (nI one9)), (3, .int (nI two9))] := xl_eq hl (xl_cons rfl (xl_cons (congrArg (fun x => ((4 : Nat), Value.int x)) e_9) rfl))
              exact ih6 (k + 1) _ _ _ (by omega) (by omega) hH hS (lv_sub hl [0, 1, 2, 3, 4, 5] rfl)
  have e_10 : (oI (-1) : Int32) = oI (cbN h9 (fun b c => lw (at9 + 1) (5 * b + c)) tol (at9 + 1) one9 two9 0) := by rfl
  have hl : lv_has ls 6 [(5, .int (nI 0)), (4, .int (oI (cbN h9 (fun b c => lw (at9 + 1) (5 * b + c)) tol (at9 + 1) one9 two9 0))), (0, .ref bt), (1, .int (nI at9)), (2, .int (nI one9)), (3, .int (nI two9))] := xl_eq hl (xl_cons rfl (xl_cons (congrArg (fun x => ((4 : Nat), Value.int x)) e_10) rfl))
  exact hloop6 (5 - 0 + 1) 0 _ _ _ (by omega) (Nat.lt_succ_self _) hH hS (lv_sub hl [0, 1, 2, 3, 4, 5] rfl)
