/-! THE COMPONENT, the batten lays its line (printed by genc.py) -/
set_option maxRecDepth 100000
abbrev rmX6_fair : Room := { frames := 4, cells := 1, slots := 9, locals := 160 }
set_option maxHeartbeats 4000000 in
set_option maxRecDepth 100000 in
theorem mX6_fair (l : Launch) (G : xG) (A : Nat → Prop) (f : xF) {bt li9 le tl tol : Nat} {la h9 : Nat → Nat} {lw : Nat → Nat → Nat} (hT : BT G f bt li9 le la tl h9 tol lw) (hB9 : ∀ j, j < 9 → h9 j ≤ 200) (htol : tol < 3) (hL : leP h9 tol 0 lw) : xMet l yX6_fair cX6_fair 6 (some (.array .int)) rmX6_fair G A f [.ref bt] (fun v f1 => ∃ (q9 : Nat) (g9 : Nat → Nat), v = some (.ref q9) ∧ f1 q9 = some (xN G 570 9 g9) ∧ (∀ j, j < 9 → g9 j = h9 j + LN h9 tol j - 2) ∧ xkeep 570 571 f f1) := by
  refine x_start (by decide) (Nat.le_of_ble_eq_true rfl) ?_
  intro p e s m below meth c ls X hH hS hl
  obtain ⟨hx, hb, hr, hlk, hml, hown, hts, hK, hC, hA, hnm, hmn⟩ := X
  have hl : lv_has ls 6 [(0, .ref bt)] := hl
  refine lv_iconst (v := oI (-1)) hx hb dX6_fair_0 rfl ?_
  refine lv_istore_n (lv' := [(1, .int (oI (-1))), (0, .ref bt)]) hx hb dX6_fair_1 rfl hl (by decide) rfl (fun ls hl => ?_)
  refine lv_iconst (v := oI (-1)) hx hb dX6_fair_2 rfl ?_
  refine lv_istore_n (lv' := [(2, .int (oI (-1))), (1, .int (oI (-1))), (0, .ref bt)]) hx hb dX6_fair_3 rfl hl (by decide) rfl (fun ls hl => ?_)
  refine lv_iconst (v := nI 0) hx hb dX6_fair_4 rfl ?_
  refine lv_istore_n (lv' := [(3, .int (nI 0)), (2, .int (oI (-1))), (1, .int (oI (-1))), (0, .ref bt)]) hx hb dX6_fair_5 rfl hl (by decide) rfl (fun ls hl => ?_)
  have hloop6 : ∀ (n : Nat) (k : Nat) (H : Heap) (locs : List Loc) (ls : Array Slot), k ≤ 25 → (25 - k) < n → xH G A f H → va_S A s.heap H locs → lv_has ls 6 [(3, .int (nI k)), (2, .int (oI (twoZ h9 tol k))), (1, .int (oI (oneZ h9 tol k))), (0, .ref bt)] → W p l e rmX6_fair s m ([.ref bt] : List Value).toArray below meth c H locs 0 0 (MQ below (xQ G A (fun v f1 => ∃ (q9 : Nat) (g9 : Nat → Nat), v = some (.ref q9) ∧ f1 q9 = some (xN G 570 9 g9) ∧ (∀ j, j < 9 → g9 j = h9 j + LN h9 tol j - 2) ∧ xkeep 570 571 f f1)) ([.ref bt] : List Value).toArray s rmX6_fair.cells rmX6_fair.slots A) (F0 m 6 ls []) := by
    intro n
    induction n with
    | zero => intro k H locs ls hk hn; exact absurd hn (Nat.not_lt_zero _)
    | succ n ih6 =>
      intro k H locs ls hk hn hH hS hl
      refine lv_iload_n hx hb dX6_fair_6 rfl (lv_at hl 0 rfl) ?_
      refine lv_bipush (v := nI 25) hx hb dX6_fair_7 rfl ?_
      refine x_icmp_ge (tgt := 88) (P := 25 ≤ k) hx hb dX6_fair_9 (by decide) (nI_le' (by decide) (by omega)) (fun c9 => ?_) (fun c9 => ?_)
      · skip
        refine lv_bipush (v := nI 9) hx hb dX6_fair_88 rfl ?_
        refine x_newi hx hb 570 (hts _ q84) hK hH hS hA rfl (by decide) (Nat.le_of_ble_eq_true rfl) (Nat.le_of_ble_eq_true rfl) dX6_fair_90 (fun q_2 H f_3 ef_3 hn_4 hH hS => ?_)
        refine x_norm (g2 := F0 m 92 ls [.ref q_2]) (k := 1) (n := 9) (Nat.le_refl _) (Nat.le_refl _) rfl ?_
        have hP_5 : BT G f_3 bt li9 le la tl h9 tol lw := by rw [ef_3]; exact hT.keep ((xkeep.refl (lo := 0) (hi := 0)).new hn_4) (Or.inr (Nat.zero_le _))
        have hkp_6 : xkeep 570 571 f f_3 := by rw [ef_3]; exact xkeep.refl.new hn_4
        have h_7 : f_3 q_2 = some (xN G 570 9 (fun _ => 0)) := by rw [ef_3]; exact xset_eq
        refine lv_astore_n (lv' := [(3, .ref q_2), (2, .int (oI (twoZ h9 tol k))), (1, .int (oI (oneZ h9 tol k))), (0, .ref bt)]) hx hb dX6_fair_92 rfl hl (by decide) rfl (fun ls hl => ?_)
        refine lv_iconst (v := nI 0) hx hb dX6_fair_93 rfl ?_
        refine lv_istore (lv' := [(4, .int (nI 0)), (3, .ref q_2), (2, .int (oI (twoZ h9 tol k))), (1, .int (oI (oneZ h9 tol k))), (0, .ref bt)]) hx hb dX6_fair_94 hl (by decide) rfl (fun ls hl => ?_)
        have hloop96 : ∀ (n : Nat) (i : Nat) (gL : Nat → Nat) (fL : xF) (H : Heap) (locs : List Loc) (ls : Array Slot), i ≤ 9 → fL q_2 = some (xN G 570 9 gL) → BT G fL bt li9 le la tl h9 tol lw → xkeep 570 571 f fL → (∀ j, j < i → gL j = h9 j + LN h9 tol j - 2) → (9 - i) < n → xH G A fL H → va_S A s.heap H locs → lv_has ls 6 [(4, .int (nI i)), (3, .ref q_2), (2, .int (oI (lnZ h9 tol (i + 1)))), (1, .int (oI (lnZ h9 tol i))), (0, .ref bt)] → W p l e rmX6_fair s m ([.ref bt] : List Value).toArray below meth c H locs 1 9 (MQ below (xQ G A (fun v f1 => ∃ (q9 : Nat) (g9 : Nat → Nat), v = some (.ref q9) ∧ f1 q9 = some (xN G 570 9 g9) ∧ (∀ j, j < 9 → g9 j = h9 j + LN h9 tol j - 2) ∧ xkeep 570 571 f f1)) ([.ref bt] : List Value).toArray s rmX6_fair.cells rmX6_fair.slots A) (F0 m 96 ls []) := by
          intro n
          induction n with
          | zero => intro i gL fL H locs ls hi hqL hTL hkL hgL hn; exact absurd hn (Nat.not_lt_zero _)
          | succ n ih96 =>
            intro i gL fL H locs ls hi hqL hTL hkL hgL hn hH hS hl
            refine lv_iload hx hb dX6_fair_96 (lv_at hl 0 rfl) ?_
            refine lv_bipush (v := nI 9) hx hb dX6_fair_98 rfl ?_
            refine x_icmp_ge (tgt := 148) (P := 9 ≤ i) hx hb dX6_fair_100 (by decide) (nI_le' (by decide) (by omega)) (fun c100 => ?_) (fun c100 => ?_)
            · skip
              refine lv_aload_n hx hb dX6_fair_148 rfl (lv_at hl 1 rfl) ?_
              exact x_aret (r := some q_2) hx hb hr (Or.inr ⟨_, rfl⟩) hlk hH hS ⟨_, _, rfl, hqL, fun j hj => hgL j (by omega), hkL⟩ (Nat.le_of_ble_eq_true rfl) (Nat.le_of_ble_eq_true rfl) dX6_fair_149
            · skip
              have e_9 : (oI (lnZ h9 tol i) : Int32) = nI (LN h9 tol i) := oI_nI (if_pos (by omega))
              have hl : lv_has ls 6 [(4, .int (nI i)), (3, .ref q_2), (2, .int (oI (lnZ h9 tol (i + 1)))), (1, .int (nI (LN h9 tol i))), (0, .ref bt)] := xl_eq hl (xl_cons rfl (xl_cons rfl (xl_cons rfl (xl_cons (congrArg (fun x => ((1 : Nat), Value.int x)) e_9) rfl))))
              have hLNb := (LN_ok (tol := tol) hB9 (show i < 9 by omega)).1
              have hLN := (LN_ok (tol := tol) hB9 (show i < 9 by omega)).2
              unfold mayP at hLN
              refine lv_aload_n hx hb dX6_fair_103 rfl (lv_at hl 1 rfl) ?_
              refine lv_iload hx hb dX6_fair_104 (lv_at hl 0 rfl) ?_
              refine lv_aload_n hx hb dX6_fair_106 rfl (lv_at hl 4 rfl) ?_
              refine lv_iload hx hb dX6_fair_107 (lv_at hl 0 rfl) ?_
              refine lv_iload_n hx hb dX6_fair_109 rfl (lv_at hl 3 rfl) ?_
              refine x_V (n := 2) (As := [.int (nI i), .int (nI (LN h9 tol i))]) (rest := [.int (nI i), .ref q_2]) ⟨hx, hb, hml, hown, hts⟩ hK hC hA hH hS (mX6_half l G A fL hTL i (LN h9 tol i) (by omega)) q640 q642 qs7 q47 q643 (by decide +kernel) ⟨Nat.le_of_ble_eq_true rfl, Nat.le_of_ble_eq_true rfl⟩ hTL.1.1 rfl rfl rfl hl.1 rfl (Nat.le_of_ble_eq_true rfl) dX6_fair_110 (Nat.le_of_ble_eq_true rfl) (Nat.le_of_ble_eq_true rfl) (fun v f_10 H locs hp hH hS hz => ?_)
              obtain ⟨rfl, rfl⟩ := hp
              refine x_norm (g2 := F0 m 113 ls [.int (oI (((h9 i + (LN h9 tol i) : Nat) : Int) - ((2 : Nat) : Int))), .int (nI i), .ref q_2]) (k := 1) (n := 9) (Nat.le_refl _) (Nat.le_refl _) rfl ?_
              refine x_iast (j := i) (v := h9 i + LN h9 tol i - 2) hx hb hK hH hS hqL rfl (by omega) (by decide) (oI_nI (by omega)) dX6_fair_113 (fun H locs f_11 ef_11 hH hS => ?_)
              have hP_12 : BT G f_11 bt li9 le la tl h9 tol lw := by rw [ef_11]; exact hTL.keep ((xkeep.refl (lo := 570) (hi := 570 + 1)).set hqL ⟨Nat.le_refl _, Nat.lt_succ_self _⟩) (by decide)
              have hkp_13 : xkeep 570 571 f f_11 := by rw [ef_11]; exact hkL.set hqL (by decide)
              have h_14 : f_11 q_2 = some (xN G 570 9 (va_up gL i (h9 i + LN h9 tol i - 2))) := by rw [ef_11]; exact xset_eq
              refine lv_iload hx hb dX6_fair_114 (lv_at hl 0 rfl) ?_
              refine lv_iconst (v := nI 2) hx hb dX6_fair_116 rfl ?_
              refine x_iadd (v := nI (i + 2)) hx hb (nI_add _ _) dX6_fair_117 ?_
              refine lv_bipush (v := nI 9) hx hb dX6_fair_118 rfl ?_
              refine x_icmp_ge (tgt := 134) (P := 9 ≤ (i + 2)) hx hb dX6_fair_120 (by decide) (nI_le' (by decide) (by omega)) (fun c120 => ?_) (fun c120 => ?_)
              · skip
                refine lv_iconst (v := oI (-1)) hx hb dX6_fair_134 rfl ?_
                refine lv_istore (lv' := [(5, .int (oI (-1))), (4, .int (nI i)), (3, .ref q_2), (2, .int (oI (lnZ h9 tol (i + 1)))), (1, .int (nI (LN h9 tol i))), (0, .ref bt)]) hx hb dX6_fair_135 hl (by decide) rfl (fun ls hl => ?_)
                refine lv_iload_n hx hb dX6_fair_137 rfl (lv_at hl 3 rfl) ?_
                refine lv_istore_n (lv' := [(1, .int (oI (lnZ h9 tol (i + 1)))), (5, .int (oI (-1))), (4, .int (nI i)), (3, .ref q_2), (2, .int (oI (lnZ h9 tol (i + 1)))), (0, .ref bt)]) hx hb dX6_fair_138 rfl hl (by decide) rfl (fun ls hl => ?_)
                refine lv_iload hx hb dX6_fair_139 (lv_at hl 1 rfl) ?_
                refine lv_istore_n (lv' := [(2, .int (oI (-1))), (1, .int (oI (lnZ h9 tol (i + 1)))), (5, .int (oI (-1))), (4, .int (nI i)), (3, .ref q_2), (0, .ref bt)]) hx hb dX6_fair_141 rfl hl (by decide) rfl (fun ls hl => ?_)
                refine lv_iinc (v := nI (i + 1)) (lv' := [(4, .int (nI (i + 1))), (2, .int (oI (-1))), (1, .int (oI (lnZ h9 tol (i + 1)))), (5, .int (oI (-1))), (3, .ref q_2), (0, .ref bt)]) hx hb dX6_fair_142 hl (k := 3) rfl (nI_inc _) (by decide) rfl (fun ls hl => ?_)
                refine lv_goto (tgt := 96) hx hb dX6_fair_145 (by decide) ?_
                have e_15 : (oI (-1) : Int32) = oI (lnZ h9 tol ((i + 1) + 1)) := by first | (unfold lnZ; rw [if_neg (by omega)]; done) | (unfold lnZ; rw [if_pos (by omega), LN_next (h := h9) (tol := tol) (s := i + 1) (by omega)]; exact nI_oI _)
                have hl : lv_has ls 6 [(4, .int (nI (i + 1))), (2, .int (oI (lnZ h9 tol ((i + 1) + 1)))), (1, .int (oI (lnZ h9 tol (i + 1)))), (5, .int (oI (-1))), (3, .ref q_2), (0, .ref bt)] := xl_eq hl (xl_cons rfl (xl_cons (congrArg (fun x => ((2 : Nat), Value.int x)) e_15) rfl))
                exact ih96 (i + 1) (va_up gL i (h9 i + LN h9 tol i - 2)) f_11 _ _ _ (by omega) h_14 hP_12 hkp_13 (fun j hj => by unfold va_up; split; (· rename_i e9; rw [e9]); (· exact hgL j (by omega))) (by omega) hH hS (lv_sub hl [0, 4, 1, 2, 5] rfl)
              · skip
                have e_16 : (oI (lnZ h9 tol (i + 1)) : Int32) = nI (LN h9 tol (i + 1)) := oI_nI (if_pos (by omega))
                have hl : lv_has ls 6 [(4, .int (nI i)), (3, .ref q_2), (2, .int (nI (LN h9 tol (i + 1)))), (1, .int (nI (LN h9 tol i))), (0, .ref bt)] := xl_eq hl (xl_cons rfl (xl_cons rfl (xl_cons (congrArg (fun x => ((2 : Nat), Value.int x)) e_16) rfl)))
                have hLN2 := (LN_ok (tol := tol) hB9 (show i + 1 < 9 by omega)).1
                refine lv_aload_n hx hb dX6_fair_123 rfl (lv_at hl 4 rfl) ?_
                refine lv_iload hx hb dX6_fair_124 (lv_at hl 0 rfl) ?_
                refine lv_iload_n hx hb dX6_fair_126 rfl (lv_at hl 3 rfl) ?_
                refine lv_iload_n hx hb dX6_fair_127 rfl (lv_at hl 2 rfl) ?_
                refine x_V (n := 3) (As := [.int (nI i), .int (nI (LN h9 tol i)), .int (nI (LN h9 tol (i + 1)))]) (rest := []) ⟨hx, hb, hml, hown, hts⟩ hK hC hA hH hS (mX6_choice l G A f_11 hP_12 hB9 htol i (LN h9 tol i) (LN h9 tol (i + 1)) (by omega) (by omega) (by omega) (fun x h1 h2 => hL x (Nat.zero_le _) h2)) q631 q633 qs6 q47 q634 (by decide +kernel) ⟨Nat.le_of_ble_eq_true rfl, Nat.le_of_ble_eq_true rfl⟩ hP_12.1.1 rfl rfl rfl hl.1 rfl (Nat.le_of_ble_eq_true rfl) dX6_fair_128 (Nat.le_of_ble_eq_true rfl) (Nat.le_of_ble_eq_true rfl) (fun v f_17 H locs hp hH hS hz => ?_)
                obtain ⟨rfl, rfl⟩ := hp
                refine x_norm (g2 := F0 m 131 ls [.int (nI (ch h9 tol (i + 1) (LN h9 tol i) (LN h9 tol (i + 1))))]) (k := 1) (n := 9) (Nat.le_refl _) (Nat.le_refl _) rfl ?_
                refine lv_goto (tgt := 135) hx hb dX6_fair_131 (by decide) ?_
                refine lv_istore (lv' := [(5, .int (nI (ch h9 tol (i + 1) (LN h9 tol i) (LN h9 tol (i + 1))))), (4, .int (nI i)), (3, .ref q_2), (2, .int (nI (LN h9 tol (i + 1)))), (1, .int (nI (LN h9 tol i))), (0, .ref bt)]) hx hb dX6_fair_135 hl (by decide) rfl (fun ls hl => ?_)
                refine lv_iload_n hx hb dX6_fair_137 rfl (lv_at hl 3 rfl) ?_
                refine lv_istore_n (lv' := [(1, .int (nI (LN h9 tol (i + 1)))), (5, .int (nI (ch h9 tol (i + 1) (LN h9 tol i) (LN h9 tol (i + 1))))), (4, .int (nI i)), (3, .ref q_2), (2, .int (nI (LN h9 tol (i + 1)))), (0, .ref bt)]) hx hb dX6_fair_138 rfl hl (by decide) rfl (fun ls hl => ?_)
                refine lv_iload hx hb dX6_fair_139 (lv_at hl 1 rfl) ?_
                refine lv_istore_n (lv' := [(2, .int (nI (ch h9 tol (i + 1) (LN h9 tol i) (LN h9 tol (i + 1))))), (1, .int (nI (LN h9 tol (i + 1)))), (5, .int (nI (ch h9 tol (i + 1) (LN h9 tol i) (LN h9 tol (i + 1))))), (4, .int (nI i)), (3, .ref q_2), (0, .ref bt)]) hx hb dX6_fair_141 rfl hl (by decide) rfl (fun ls hl => ?_)
                refine lv_iinc (v := nI (i + 1)) (lv' := [(4, .int (nI (i + 1))), (2, .int (nI (ch h9 tol (i + 1) (LN h9 tol i) (LN h9 tol (i + 1))))), (1, .int (nI (LN h9 tol (i + 1)))), (5, .int (nI (ch h9 tol (i + 1) (LN h9 tol i) (LN h9 tol (i + 1))))), (3, .ref q_2), (0, .ref bt)]) hx hb dX6_fair_142 hl (k := 3) rfl (nI_inc _) (by decide) rfl (fun ls hl => ?_)
                refine lv_goto (tgt := 96) hx hb dX6_fair_145 (by decide) ?_
                have e_18 : (nI (ch h9 tol (i + 1) (LN h9 tol i) (LN h9 tol (i + 1))) : Int32) = oI (lnZ h9 tol ((i + 1) + 1)) := by first | (unfold lnZ; rw [if_neg (by omega)]; done) | (unfold lnZ; rw [if_pos (by omega), LN_next (h := h9) (tol := tol) (s := i + 1) (by omega)]; exact nI_oI _)
                have e_19 : (nI (LN h9 tol (i + 1)) : Int32) = oI (lnZ h9 tol (i + 1)) := by unfold lnZ; rw [if_pos (by omega)]; exact nI_oI _
                have hl : lv_has ls 6 [(4, .int (nI (i + 1))), (2, .int (oI (lnZ h9 tol ((i + 1) + 1)))), (1, .int (oI (lnZ h9 tol (i + 1)))), (5, .int (nI (ch h9 tol (i + 1) (LN h9 tol i) (LN h9 tol (i + 1))))), (3, .ref q_2), (0, .ref bt)] := xl_eq hl (xl_cons rfl (xl_cons (congrArg (fun x => ((2 : Nat), Value.int x)) e_18) (xl_cons (congrArg (fun x => ((1 : Nat), Value.int x)) e_19) rfl)))
                exact ih96 (i + 1) (va_up gL i (h9 i + LN h9 tol i - 2)) f_11 _ _ _ (by omega) h_14 hP_12 hkp_13 (fun j hj => by unfold va_up; split; (· rename_i e9; rw [e9]); (· exact hgL j (by omega))) (by omega) hH hS (lv_sub hl [0, 4, 1, 2, 5] rfl)
        have e_20 : (oI (twoZ h9 tol k) : Int32) = oI (lnZ h9 tol (0 + 1)) := by rw [show k = 25 by omega, (one_25 hB9).2]
        have e_21 : (oI (oneZ h9 tol k) : Int32) = oI (lnZ h9 tol 0) := by rw [show k = 25 by omega, (one_25 hB9).1]
        have hl : lv_has ls 6 [(4, .int (nI 0)), (3, .ref q_2), (2, .int (oI (lnZ h9 tol (0 + 1)))), (1, .int (oI (lnZ h9 tol 0))), (0, .ref bt)] := xl_eq hl (xl_cons rfl (xl_cons rfl (xl_cons (congrArg (fun x => ((2 : Nat), Value.int x)) e_20) (xl_cons (congrArg (fun x => ((1 : Nat), Value.int x)) e_21) rfl))))
        exact hloop96 (9 - 0 + 1) 0 (fun _ => 0) f_3 _ _ _ (by omega) h_7 hP_5 hkp_6 (fun j hj => absurd hj (Nat.not_lt_zero _)) (Nat.lt_succ_self _) hH hS (lv_sub hl [0, 1, 2, 3, 4] rfl)
      · skip
        have hfl := fl0_le (h := h9) (tol := tol) hk
        have hk1 : lw 0 k = LB h9 tol 7 (k / 5) (k % 5) := hL 0 (Nat.le_refl _) (by decide) k (by omega)
        have hsm : LB h9 tol 7 (k / 5) (k % 5) < 100000000 := by have := LB_small (tol := tol) hB9 (n := 7) (Nat.le_refl _) (k / 5) (k % 5) (by omega) (by omega); omega
        have hor : -1 ≤ oneZ h9 tol k ∧ oneZ h9 tol k ≤ 25 := by unfold oneZ; split <;> omega
        refine lv_aload_n hx hb dX6_fair_12 rfl (lv_at hl 3 rfl) ?_
        refine lv_iconst (v := nI 0) hx hb dX6_fair_13 rfl ?_
        refine lv_iload_n hx hb dX6_fair_14 rfl (lv_at hl 0 rfl) ?_
        refine lv_iconst (v := nI 5) hx hb dX6_fair_15 rfl ?_
        refine x_idivN hx hb (by omega) (by decide) (by decide) dX6_fair_16 ?_
        refine x_V (n := 2) (As := [.int (nI 0), .int (nI (k / 5))]) (rest := []) ⟨hx, hb, hml, hown, hts⟩ hK hC hA hH hS (mX6_can l G A f hT hB9 htol 0 (k / 5) (by omega) (by omega)) q635 q636 q637 q47 q638 (by decide +kernel) ⟨Nat.le_of_ble_eq_true rfl, Nat.le_of_ble_eq_true rfl⟩ hT.1.1 rfl rfl rfl hl.1 rfl (Nat.le_of_ble_eq_true rfl) dX6_fair_17 (Nat.le_of_ble_eq_true rfl) (Nat.le_of_ble_eq_true rfl) (fun v f_22 H locs hp hH hS hz => ?_)
        obtain ⟨rfl, rfl⟩ := hp
        refine x_norm (g2 := F0 m 20 ls [.int (nI (xb (mayP (h9 0) (k / 5) tol)))]) (k := 0) (n := 0) (Nat.le_refl _) (Nat.le_refl _) rfl ?_
        refine x_ifbeq (tgt := 38) (B := mayP (h9 0) (k / 5) tol) hx hb dX6_fair_20 (by decide) (fun c20 => ?_) (fun c20 => ?_)
        · skip
          refine lv_iconst (v := nI 0) hx hb dX6_fair_38 rfl ?_
          refine lv_istore (lv' := [(4, .int (nI 0)), (3, .int (nI k)), (2, .int (oI (twoZ h9 tol k))), (1, .int (oI (oneZ h9 tol k))), (0, .ref bt)]) hx hb dX6_fair_39 hl (by decide) rfl (fun ls hl => ?_)
          refine lv_iload hx hb dX6_fair_41 (lv_at hl 0 rfl) ?_
          refine x_if_eq (tgt := 82) (P := 0 = 0) hx hb dX6_fair_43 (by decide) (nI_eq0 (by omega)) (fun c43 => ?_) (fun c43 => ?_)
          · skip
            have hz8 := oneZ_f (fl0_f (h := h9) (tol := tol) (k := k) (fun hx => by first | exact absurd hx.1.1 c20 | exact absurd hx.1.2 c31))
            refine lv_iinc (v := nI (k + 1)) (lv' := [(3, .int (nI (k + 1))), (4, .int (nI 0)), (2, .int (oI (twoZ h9 tol k))), (1, .int (oI (oneZ h9 tol k))), (0, .ref bt)]) hx hb dX6_fair_82 hl (k := 1) rfl (nI_inc _) (by decide) rfl (fun ls hl => ?_)
            refine lv_goto (tgt := 6) hx hb dX6_fair_85 (by decide) ?_
            have e_23 : (oI (twoZ h9 tol k) : Int32) = oI (twoZ h9 tol (k + 1)) := by first | (rw [hz9.2]; exact nI_oI _) | (rw [hz8.2, hn9.2.1]; exact nI_oI _) | (rw [hz8.2])
            have e_24 : (oI (oneZ h9 tol k) : Int32) = oI (oneZ h9 tol (k + 1)) := by first | (rw [hz9.1]; exact nI_oI _) | (rw [hz8.1, hn9.1]; exact nI_oI _) | (rw [hz8.1])
            have hl : lv_has ls 6 [(3, .int (nI (k + 1))), (4, .int (nI 0)), (2, .int (oI (twoZ h9 tol (k + 1)))), (1, .int (oI (oneZ h9 tol (k + 1)))), (0, .ref bt)] := xl_eq hl (xl_cons rfl (xl_cons rfl (xl_cons (congrArg (fun x => ((2 : Nat), Value.int x)) e_23) (xl_cons (congrArg (fun x => ((1 : Nat), Value.int x)) e_24) rfl))))
            exact ih6 (k + 1) _ _ _ (by omega) (by omega) hH hS (lv_sub hl [0, 2, 3, 4] rfl)
          · skip
            exact absurd rfl c43
        · skip
          refine lv_aload_n hx hb dX6_fair_23 rfl (lv_at hl 3 rfl) ?_
          refine lv_iconst (v := nI 1) hx hb dX6_fair_24 rfl ?_
          refine lv_iload_n hx hb dX6_fair_25 rfl (lv_at hl 0 rfl) ?_
          refine lv_iconst (v := nI 5) hx hb dX6_fair_26 rfl ?_
          refine x_iremN hx hb (by omega) (by decide) (by decide) dX6_fair_27 ?_
          refine x_V (n := 2) (As := [.int (nI 1), .int (nI (k % 5))]) (rest := []) ⟨hx, hb, hml, hown, hts⟩ hK hC hA hH hS (mX6_can l G A f hT hB9 htol 1 (k % 5) (by omega) (by omega)) q635 q636 q637 q47 q638 (by decide +kernel) ⟨Nat.le_of_ble_eq_true rfl, Nat.le_of_ble_eq_true rfl⟩ hT.1.1 rfl rfl rfl hl.1 rfl (Nat.le_of_ble_eq_true rfl) dX6_fair_28 (Nat.le_of_ble_eq_true rfl) (Nat.le_of_ble_eq_true rfl) (fun v f_25 H locs hp hH hS hz => ?_)
          obtain ⟨rfl, rfl⟩ := hp
          refine x_norm (g2 := F0 m 31 ls [.int (nI (xb (mayP (h9 1) (k % 5) tol)))]) (k := 0) (n := 0) (Nat.le_refl _) (Nat.le_refl _) rfl ?_
          refine x_ifbeq (tgt := 38) (B := mayP (h9 1) (k % 5) tol) hx hb dX6_fair_31 (by decide) (fun c31 => ?_) (fun c31 => ?_)
          · skip
            refine lv_iconst (v := nI 0) hx hb dX6_fair_38 rfl ?_
            refine lv_istore (lv' := [(4, .int (nI 0)), (3, .int (nI k)), (2, .int (oI (twoZ h9 tol k))), (1, .int (oI (oneZ h9 tol k))), (0, .ref bt)]) hx hb dX6_fair_39 hl (by decide) rfl (fun ls hl => ?_)
            refine lv_iload hx hb dX6_fair_41 (lv_at hl 0 rfl) ?_
            refine x_if_eq (tgt := 82) (P := 0 = 0) hx hb dX6_fair_43 (by decide) (nI_eq0 (by omega)) (fun c43 => ?_) (fun c43 => ?_)
            · skip
              have hz8 := oneZ_f (fl0_f (h := h9) (tol := tol) (k := k) (fun hx => by first | exact absurd hx.1.1 c20 | exact absurd hx.1.2 c31))
              refine lv_iinc (v := nI (k + 1)) (lv' := [(3, .int (nI (k + 1))), (4, .int (nI 0)), (2, .int (oI (twoZ h9 tol k))), (1, .int (oI (oneZ h9 tol k))), (0, .ref bt)]) hx hb dX6_fair_82 hl (k := 1) rfl (nI_inc _) (by decide) rfl (fun ls hl => ?_)
              refine lv_goto (tgt := 6) hx hb dX6_fair_85 (by decide) ?_
              have e_26 : (oI (twoZ h9 tol k) : Int32) = oI (twoZ h9 tol (k + 1)) := by first | (rw [hz9.2]; exact nI_oI _) | (rw [hz8.2, hn9.2.1]; exact nI_oI _) | (rw [hz8.2])
              have e_27 : (oI (oneZ h9 tol k) : Int32) = oI (oneZ h9 tol (k + 1)) := by first | (rw [hz9.1]; exact nI_oI _) | (rw [hz8.1, hn9.1]; exact nI_oI _) | (rw [hz8.1])
              have hl : lv_has ls 6 [(3, .int (nI (k + 1))), (4, .int (nI 0)), (2, .int (oI (twoZ h9 tol (k + 1)))), (1, .int (oI (oneZ h9 tol (k + 1)))), (0, .ref bt)] := xl_eq hl (xl_cons rfl (xl_cons rfl (xl_cons (congrArg (fun x => ((2 : Nat), Value.int x)) e_26) (xl_cons (congrArg (fun x => ((1 : Nat), Value.int x)) e_27) rfl))))
              exact ih6 (k + 1) _ _ _ (by omega) (by omega) hH hS (lv_sub hl [0, 2, 3, 4] rfl)
            · skip
              exact absurd rfl c43
          · skip
            refine lv_iconst (v := nI 1) hx hb dX6_fair_34 rfl ?_
            refine lv_goto (tgt := 39) hx hb dX6_fair_35 (by decide) ?_
            refine lv_istore (lv' := [(4, .int (nI 1)), (3, .int (nI k)), (2, .int (oI (twoZ h9 tol k))), (1, .int (oI (oneZ h9 tol k))), (0, .ref bt)]) hx hb dX6_fair_39 hl (by decide) rfl (fun ls hl => ?_)
            refine lv_iload hx hb dX6_fair_41 (lv_at hl 0 rfl) ?_
            refine x_if_eq (tgt := 82) (P := 1 = 0) hx hb dX6_fair_43 (by decide) (nI_eq0 (by omega)) (fun c43 => ?_) (fun c43 => ?_)
            · skip
              exact absurd c43 (by decide)
            · skip
              refine lv_iload_n hx hb dX6_fair_46 rfl (lv_at hl 3 rfl) ?_
              refine lv_iconst (v := oI (-1)) hx hb dX6_fair_47 rfl ?_
              refine x_icmp_eq (tgt := 74) (P := (oneZ h9 tol k) = (-1)) hx hb dX6_fair_48 (by decide) (oI_eq' rfl rfl ⟨by omega, by omega⟩ ⟨by omega, by omega⟩) (fun c48 => ?_) (fun c48 => ?_)
              · skip
                have h46 := oneZ_1 c48
                have hz9 := oneZ_t (fl0_t c20 c31 (by omega)) hsm
                refine lv_iload_n hx hb dX6_fair_74 rfl (lv_at hl 1 rfl) ?_
                refine lv_iconst (v := nI 5) hx hb dX6_fair_75 rfl ?_
                refine x_idivN hx hb (by omega) (by decide) (by decide) dX6_fair_76 ?_
                refine lv_istore_n (lv' := [(1, .int (nI (k / 5))), (4, .int (nI 1)), (3, .int (nI k)), (2, .int (oI (twoZ h9 tol k))), (0, .ref bt)]) hx hb dX6_fair_77 rfl hl (by decide) rfl (fun ls hl => ?_)
                refine lv_iload_n hx hb dX6_fair_78 rfl (lv_at hl 2 rfl) ?_
                refine lv_iconst (v := nI 5) hx hb dX6_fair_79 rfl ?_
                refine x_iremN hx hb (by omega) (by decide) (by decide) dX6_fair_80 ?_
                refine lv_istore_n (lv' := [(2, .int (nI (k % 5))), (1, .int (nI (k / 5))), (4, .int (nI 1)), (3, .int (nI k)), (0, .ref bt)]) hx hb dX6_fair_81 rfl hl (by decide) rfl (fun ls hl => ?_)
                refine lv_iinc (v := nI (k + 1)) (lv' := [(3, .int (nI (k + 1))), (2, .int (nI (k % 5))), (1, .int (nI (k / 5))), (4, .int (nI 1)), (0, .ref bt)]) hx hb dX6_fair_82 hl (k := 3) rfl (nI_inc _) (by decide) rfl (fun ls hl => ?_)
                refine lv_goto (tgt := 6) hx hb dX6_fair_85 (by decide) ?_
                have e_28 : (nI (k % 5) : Int32) = oI (twoZ h9 tol (k + 1)) := by first | (rw [hz9.2]; exact nI_oI _) | (rw [hz8.2, hn9.2.1]; exact nI_oI _) | (rw [hz8.2])
                have e_29 : (nI (k / 5) : Int32) = oI (oneZ h9 tol (k + 1)) := by first | (rw [hz9.1]; exact nI_oI _) | (rw [hz8.1, hn9.1]; exact nI_oI _) | (rw [hz8.1])
                have hl : lv_has ls 6 [(3, .int (nI (k + 1))), (2, .int (oI (twoZ h9 tol (k + 1)))), (1, .int (oI (oneZ h9 tol (k + 1)))), (4, .int (nI 1)), (0, .ref bt)] := xl_eq hl (xl_cons rfl (xl_cons (congrArg (fun x => ((2 : Nat), Value.int x)) e_28) (xl_cons (congrArg (fun x => ((1 : Nat), Value.int x)) e_29) rfl)))
                exact ih6 (k + 1) _ _ _ (by omega) (by omega) hH hS (lv_sub hl [0, 1, 2, 4] rfl)
              · skip
                have hn9 := oneZ_n c48
                have e_30 : (oI (oneZ h9 tol k) : Int32) = nI ((fl0 h9 tol k).2 / 5) := oI_nI hn9.1
                have hl : lv_has ls 6 [(4, .int (nI 1)), (3, .int (nI k)), (2, .int (oI (twoZ h9 tol k))), (1, .int (nI ((fl0 h9 tol k).2 / 5))), (0, .ref bt)] := xl_eq hl (xl_cons rfl (xl_cons rfl (xl_cons rfl (xl_cons (congrArg (fun x => ((1 : Nat), Value.int x)) e_30) rfl))))
                have e_31 : (oI (twoZ h9 tol k) : Int32) = nI ((fl0 h9 tol k).2 % 5) := oI_nI hn9.2.1
                have hl : lv_has ls 6 [(4, .int (nI 1)), (3, .int (nI k)), (2, .int (nI ((fl0 h9 tol k).2 % 5))), (1, .int (nI ((fl0 h9 tol k).2 / 5))), (0, .ref bt)] := xl_eq hl (xl_cons rfl (xl_cons rfl (xl_cons (congrArg (fun x => ((2 : Nat), Value.int x)) e_31) rfl)))
                have hk2 : lw 0 (5 * ((fl0 h9 tol k).2 / 5) + (fl0 h9 tol k).2 % 5) = (fl0 h9 tol k).1 := by rw [hn9.2.2]; exact leP_at hL (Nat.le_refl _) (by decide) (by omega) (by omega)
                refine lv_aload_n hx hb dX6_fair_51 rfl (lv_at hl 4 rfl) ?_
                refine x_get (C := RX6) (T := TX6) (N := 3) (ci := 5) (v := .ref le) hx hb hts in_X6 hown hK hH hT.1.1 rfl 2 (by decide) (hts _ q650) (fun _ h9 => h9) rfl dX6_fair_52 ?_
                refine lv_iconst (v := nI 0) hx hb dX6_fair_55 rfl ?_
                refine x_aald (j := 0) (k := 3) hx hb hK hH hT.1.2.2.1 rfl rfl rfl (by omega) (by decide) dX6_fair_56 ?_
                refine x_norm (g2 := F0 m 57 ls [.ref (la 0)]) (Nat.le_refl _) (Nat.le_refl _) (congrArg (fun x9 => F0 m 57 ls (va_rf x9 :: [])) (show (fun k => some (la k)) 0 = some (la 0) from rfl)) ?_
                refine lv_iload_n hx hb dX6_fair_57 rfl (lv_at hl 1 rfl) ?_
                refine x_iald (j := k) hx hb hK hH (hT.2 0 (by omega)) rfl (by omega) (by decide) dX6_fair_58 ?_
                refine lv_aload_n hx hb dX6_fair_59 rfl (lv_at hl 4 rfl) ?_
                refine x_get (C := RX6) (T := TX6) (N := 3) (ci := 5) (v := .ref le) hx hb hts in_X6 hown hK hH hT.1.1 rfl 2 (by decide) (hts _ q650) (fun _ h9 => h9) rfl dX6_fair_60 ?_
                refine lv_iconst (v := nI 0) hx hb dX6_fair_63 rfl ?_
                refine x_aald (j := 0) (k := 3) hx hb hK hH hT.1.2.2.1 rfl rfl rfl (by omega) (by decide) dX6_fair_64 ?_
                refine x_norm (g2 := F0 m 65 ls [.ref (la 0), .int (nI ((lw 0) k))]) (Nat.le_refl _) (Nat.le_refl _) (congrArg (fun x9 => F0 m 65 ls (va_rf x9 :: [.int (nI ((lw 0) k))])) (show (fun k => some (la k)) 0 = some (la 0) from rfl)) ?_
                refine lv_iconst (v := nI 5) hx hb dX6_fair_65 rfl ?_
                refine lv_iload_n hx hb dX6_fair_66 rfl (lv_at hl 3 rfl) ?_
                refine x_imul (v := nI (5 * ((fl0 h9 tol k).2 / 5))) hx hb (pk_mul _ _) dX6_fair_67 ?_
                refine lv_iload_n hx hb dX6_fair_68 rfl (lv_at hl 2 rfl) ?_
                refine x_iadd (v := nI ((5 * ((fl0 h9 tol k).2 / 5)) + ((fl0 h9 tol k).2 % 5))) hx hb (nI_add _ _) dX6_fair_69 ?_
                refine x_iald (j := (5 * ((fl0 h9 tol k).2 / 5)) + ((fl0 h9 tol k).2 % 5)) hx hb hK hH (hT.2 0 (by omega)) rfl (by omega) (by decide) dX6_fair_70 ?_
                refine x_icmp_ge (tgt := 82) (P := ((lw 0) ((5 * ((fl0 h9 tol k).2 / 5)) + ((fl0 h9 tol k).2 % 5))) ≤ ((lw 0) k)) hx hb dX6_fair_71 (by decide) (nI_le' (by omega) (by omega)) (fun c71 => ?_) (fun c71 => ?_)
                · skip
                  have hz8 := oneZ_f (fl0_f (h := h9) (tol := tol) (k := k) (fun hx => by have h8 := hx.2; omega))
                  refine lv_iinc (v := nI (k + 1)) (lv' := [(3, .int (nI (k + 1))), (4, .int (nI 1)), (2, .int (nI ((fl0 h9 tol k).2 % 5))), (1, .int (nI ((fl0 h9 tol k).2 / 5))), (0, .ref bt)]) hx hb dX6_fair_82 hl (k := 1) rfl (nI_inc _) (by decide) rfl (fun ls hl => ?_)
                  refine lv_goto (tgt := 6) hx hb dX6_fair_85 (by decide) ?_
                  have e_32 : (nI ((fl0 h9 tol k).2 % 5) : Int32) = oI (twoZ h9 tol (k + 1)) := by first | (rw [hz9.2]; exact nI_oI _) | (rw [hz8.2, hn9.2.1]; exact nI_oI _) | (rw [hz8.2])
                  have e_33 : (nI ((fl0 h9 tol k).2 / 5) : Int32) = oI (oneZ h9 tol (k + 1)) := by first | (rw [hz9.1]; exact nI_oI _) | (rw [hz8.1, hn9.1]; exact nI_oI _) | (rw [hz8.1])
                  have hl : lv_has ls 6 [(3, .int (nI (k + 1))), (4, .int (nI 1)), (2, .int (oI (twoZ h9 tol (k + 1)))), (1, .int (oI (oneZ h9 tol (k + 1)))), (0, .ref bt)] := xl_eq hl (xl_cons rfl (xl_cons rfl (xl_cons (congrArg (fun x => ((2 : Nat), Value.int x)) e_32) (xl_cons (congrArg (fun x => ((1 : Nat), Value.int x)) e_33) rfl))))
                  exact ih6 (k + 1) _ _ _ (by omega) (by omega) hH hS (lv_sub hl [0, 2, 3, 4] rfl)
                · skip
                  have hz9 := oneZ_t (fl0_t c20 c31 (by omega)) hsm
                  refine lv_iload_n hx hb dX6_fair_74 rfl (lv_at hl 1 rfl) ?_
                  refine lv_iconst (v := nI 5) hx hb dX6_fair_75 rfl ?_
                  refine x_idivN hx hb (by omega) (by decide) (by decide) dX6_fair_76 ?_
                  refine lv_istore_n (lv' := [(1, .int (nI (k / 5))), (4, .int (nI 1)), (3, .int (nI k)), (2, .int (nI ((fl0 h9 tol k).2 % 5))), (0, .ref bt)]) hx hb dX6_fair_77 rfl hl (by decide) rfl (fun ls hl => ?_)
                  refine lv_iload_n hx hb dX6_fair_78 rfl (lv_at hl 2 rfl) ?_
                  refine lv_iconst (v := nI 5) hx hb dX6_fair_79 rfl ?_
                  refine x_iremN hx hb (by omega) (by decide) (by decide) dX6_fair_80 ?_
                  refine lv_istore_n (lv' := [(2, .int (nI (k % 5))), (1, .int (nI (k / 5))), (4, .int (nI 1)), (3, .int (nI k)), (0, .ref bt)]) hx hb dX6_fair_81 rfl hl (by decide) rfl (fun ls hl => ?_)
                  refine lv_iinc (v := nI (k + 1)) (lv' := [(3, .int (nI (k + 1))), (2, .int (nI (k % 5))), (1, .int (nI (k / 5))), (4, .int (nI 1)), (0, .ref bt)]) hx hb dX6_fair_82 hl (k := 3) rfl (nI_inc _) (by decide) rfl (fun ls hl => ?_)
                  refine lv_goto (tgt := 6) hx hb dX6_fair_85 (by decide) ?_
                  have e_34 : (nI (k % 5) : Int32) = oI (twoZ h9 tol (k + 1)) := by first | (rw [hz9.2]; exact nI_oI _) | (rw [hz8.2, hn9.2.1]; exact nI_oI _) | (rw [hz8.2])
                  have e_35 : (nI (k / 5) : Int32) = oI (oneZ h9 tol (k + 1)) := by first | (rw [hz9.1]; exact nI_oI _) | (rw [hz8.1, hn9.1]; exact nI_oI _) | (rw [hz8.1])
                  have hl : lv_has ls 6 [(3, .int (nI (k + 1))), (2, .int (oI (twoZ h9 tol (k + 1)))), (1, .int (oI (oneZ h9 tol (k + 1)))), (4, .int (nI 1)), (0, .ref bt)] := xl_eq hl (xl_cons rfl (xl_cons (congrArg (fun x => ((2 : Nat), Value.int x)) e_34) (xl_cons (congrArg (fun x => ((1 : Nat), Value.int x)) e_35) rfl)))
                  exact ih6 (k + 1) _ _ _ (by omega) (by omega) hH hS (lv_sub hl [0, 1, 2, 4] rfl)
  have e_36 : (oI (-1) : Int32) = oI (twoZ h9 tol 0) := by rfl
  have e_37 : (oI (-1) : Int32) = oI (oneZ h9 tol 0) := by rfl
  have hl : lv_has ls 6 [(3, .int (nI 0)), (2, .int (oI (twoZ h9 tol 0))), (1, .int (oI (oneZ h9 tol 0))), (0, .ref bt)] := xl_eq hl (xl_cons rfl (xl_cons (congrArg (fun x => ((2 : Nat), Value.int x)) e_36) (xl_cons (congrArg (fun x => ((1 : Nat), Value.int x)) e_37) rfl)))
  exact hloop6 (25 - 0 + 1) 0 _ _ _ (by omega) (Nat.lt_succ_self _) hH hS (lv_sub hl [0, 1, 2, 3] rfl)
