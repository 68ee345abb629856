/-! LAMBDAS: Measure.at on an object that a site made (printed by mklam2.py) -/
set_option maxRecDepth 100000
abbrev lmAt : MethodName := ⟨"FairBatten$Measure", "at", "(I)I"⟩
theorem lm_named {U : State} {y : MethodName} {t : MethodId} (hn : U.methodNamed? y = some t) (hy : y.cls ≠ "java/lang/invoke/MethodHandle" ∧ y.cls ≠ "java/lang/invoke/VarHandle") {cI : ClassId} {kI : Class} (hf : U.vm.findClass y.cls = some cI) (hk : U.vm.classes[cI]? = some kI) : ((methodIn cI y.name y.desc kI.isInterface none).ask { classPath := fun _ => none } U.vm).1 = .ok t := by
  have h1 : U.methodFound? y.cls y.name y.desc = some t := State.methodFound?_of_named hn hy
  simp only [State.methodFound?, hf, hk, Option.bind_eq_bind, Option.bind_some] at h1
  cases hq : ((methodIn cI y.name y.desc kI.isInterface none).ask { classPath := fun _ => none } U.vm).1 with
  | ok v => rw [hq] at h1; exact congrArg Except.ok (Option.some.inj h1)
  | error x => rw [hq] at h1; cases h1
/-- the implementation that a made body calls -/
def lmT (y : MethodName) (n : Nat) (toy : ClassId) (t : MethodId) (U : State) : Prop := ∃ (kr : Class) (metht : Method), U.vm.classes[t.cls]? = some kr ∧ U.vm.method? t = some metht ∧ signaturePolymorphic kr metht = false ∧ metht.isStatic = false ∧ metht.sig.parameters.length = n ∧ selectMethod {} U.vm toy t = .method t ∧ metht.isAbstract = false ∧ kr.isInterface = false ∧ U.methodNamed? y = some t
theorem lm_tgt {U : State} {A : Array Value} {y : MethodName} {bytes : ByteArray} {maxL n : Nat} {ret : Option FieldType} {toy : ClassId} {tk : Class} {t : MethodId} (hcode : (Cond.code y bytes maxL ret).before A U = true) (hinst : (Cond.instanceMethod y).before A U = true) (hsel : (Cond.selects y.cls y y).before A U = true)
    (hd : y.cls ≠ "java/lang/invoke/MethodHandle" ∧ y.cls ≠ "java/lang/invoke/VarHandle" ∧ (parseMethodDescriptor y.desc).map (fun d => d.parameters.length) = some n) (htoy : U.vm.findClass y.cls = some toy) (htk : U.vm.classes[toy]? = some tk) (hask : ((methodIn toy y.name y.desc tk.isInterface none).ask { classPath := fun _ => none } U.vm).1 = .ok t) : lmT y n toy t U := by
  obtain ⟨mk, methM, hnamed, hmethM, hst, hab⟩ := Cond.instanceMethod_spec hinst
  have e1 := lm_named hnamed ⟨hd.1, hd.2.1⟩ htoy htk
  rw [hask] at e1
  cases e1
  obtain ⟨methB, cB', hmB, -, -, -, -, -, -, hsigB⟩ := Cond.code_spec hnamed hcode
  cases hmB.symm.trans hmethM
  obtain ⟨c2, r2, m2, q1, q2, q3, q4, kP, hkP, hkPi⟩ := Cond.selects_spec hsel
  cases htoy.symm.trans q1
  cases (State.methodFound?_of_named hnamed ⟨hd.1, hd.2.1⟩).symm.trans q2
  cases hnamed.symm.trans q3
  obtain ⟨kT, hkT, hnameT⟩ := className_of_methodNamed hnamed
  cases hkT.symm.trans hkP
  have h3 := hd.2.2
  rw [hsigB] at h3
  exact ⟨kP, methM, hkP, hmethM, by simp [signaturePolymorphic, hnameT, hd.1, hd.2.1], hst, Option.some.inj h3, q4, hab, hkPi, hnamed⟩

/-- what the made class with its 1 captured says of a state -/
def lmM1 (y : MethodName) (cK : ClassId) (U : State) : Prop := ∃ (k : Class) (methk : Method) (ck : Code) (toy : ClassId) (t : MethodId) (f0 : Field),
  U.vm.classes[cK]? = some k ∧ k.name = "FairBatten$Hull$$Lambda" ∧ U.vm.method? ⟨cK, 1⟩ = some methk ∧ methk.code = some ck ∧ ck.code = lmB1 ∧ ck.maxLocals = 2 ∧ methk.locks = false ∧ methk.accessFlags = 0x0001 ∧ methk.sig.returnType = some .int ∧
  U.vm.findClass y.cls = some toy ∧ namesAClass U cK 22 ∧ U.vm.methodReady cK 22 t ∧ lmT y 1 toy t U ∧ U.vm.fieldReady cK 15 cK f0 ∧ f0.isStatic = false ∧ f0.slot = 0
theorem lm3_M {y : MethodName} {pc ix maxL : Nat} {cK : ClassId} {bytes : ByteArray} {ret : Option FieldType} {A A1 : Array Value} {s U : State} (hy9 : y.cls = "FairBatten$Hull") (h : lmF y pc ix lm3_s cK s) (hObj : (Cond.instantiable "java/lang/Object" 0).before A1 s = true) (hW : s.WarmedH U.vm)
    (hcode : (Cond.code ⟨"FairBatten$Hull", "lambda$volumeAnew$3", "(I)I"⟩ bytes maxL ret).before A U = true) (hinst : (Cond.instanceMethod ⟨"FairBatten$Hull", "lambda$volumeAnew$3", "(I)I"⟩).before A U = true) (hsel : (Cond.selects "FairBatten$Hull" ⟨"FairBatten$Hull", "lambda$volumeAnew$3", "(I)I"⟩ ⟨"FairBatten$Hull", "lambda$volumeAnew$3", "(I)I"⟩).before A U = true) : lmM1 ⟨"FairBatten$Hull", "lambda$volumeAnew$3", "(I)I"⟩ cK U := by
  obtain ⟨m', dk, cf, i0, p0, h1, h2, h3, h4, h5, h6, h7⟩ := h.warm hW
  obtain ⟨kS, hkS, hnameS⟩ := className_of_methodNamed h1
  cases h2.symm.trans hkS
  have hO : ∀ o ok, U.vm.findClass "java/lang/Object" = some o → U.vm.classes[o]? = some ok → ok.instanceTypes.size = 0 := fun o ok h1 h2 => by
    have h3 := lm_hO hObj
    rw [hW.alike.findClass] at h1
    cases hq : s.vm.classes[o]? with
    | none => rw [hW.alike.none hq] at h2; cases h2
    | some k0 =>
      obtain ⟨k', hk', he⟩ := hW.alike.2.2 _ _ hq
      cases h2.symm.trans hk'
      rw [he]
      exact h3 o k0 h1 hq
  obtain ⟨k, tk, file, methk, ck, toy, t, f0, g1, g2, g3, g4, g5, g6, g7, g8, g9, g10, g11, g12, g13, g14, g15, g16, g17, g18⟩ := lm3_made h2 (hnameS.trans hy9) h6 hO
  exact ⟨k, methk, ck, toy, t, f0, g1, g2, g5, g6, g7, g8, g9, g10, g11, g12, ⟨k, file, 19, 21, toy, tk, g1, g3, by rw [g4]; exact lm3_eM.1, g17, g13, g14⟩, g16, lm_tgt hcode hinst hsel (by decide +kernel) g12 g13 g15, g18⟩
section XL1
variable {p : Program} {l : Launch} {e : Env} {R : Room} {s : State} {m : MethodId} {args : Array Value} {below : List Frame} {meth : Method} {c : Code} {H : Heap} {locs : List Loc} {cells slots : Nat} {Q : State → Prop}
variable {cc : ByteArray} {pc : Nat} {ls : Array Slot} {rest : List Value} {G : xG} {A : Nat → Prop} {f : xF}
set_option maxHeartbeats 4000000 in
theorem x_at1 {own : String} {index count maxL nL : Nat} {y ys : MethodName} {bytes : ByteArray} {rm : Room} {post : Option Value → xF → Prop} {σ : Lambda.Shape} {cK : ClassId} {pcS ixS mo hu t9 ci9 : Nat} {x : Int32} {fs : List Value} {r9 : vw_C}
    (S : CallFix p m c cc nL s args lw_all own) (hK : xK G s) (hC : xC G A s s.heap) (hA : ∀ q, s.heap.size ≤ q → A q) (hH : xH G A f H) (hS : va_S A s.heap H locs)
    (hF : lmF ys pcS ixS σ cK s) (hσ : σ.iface = "FairBatten$Measure" ∧ σ.name = "at" ∧ σ.sam.toString = "(I)I") (hMade : ∀ U : State, s.WarmedH U.vm → lmM1 y cK U)
    (hcell : H[mo]? = some { cls := cK, slots := #[.ref hu], vm := .none }) (hf : f hu = some (xO t9 ci9 fs)) (hc : xcl[ci9]? = some r9) (hrC : r9.1 = y.cls)
    (hM : xMet l y bytes maxL (some .int) rm G A f (.ref hu :: [.int x]) post) (hpv : ∀ v f1, post v f1 → ∃ w : Int32, v = some (.int w)) (q1 : Cond.methodLink own index lmAt ∈ lw_all) (q4 : Cond.initialized y.cls ∈ lw_all) (q5 : Cond.code y bytes maxL (some .int) ∈ lw_all)
    (q6 : Cond.declares lmAt ∈ lw_tbl) (q7 : Cond.interfaceMethod "FairBatten$Measure" "FairBatten$Measure" "at" "(I)I" ∈ lw_tbl)
    (hR : rm.frames + 2 ≤ R.frames ∧ 8 + 13 + (maxL + 11) + rm.locals ≤ R.locals) (hsize : ls.size = nL) (hW : (rest.map fun v => v.category).sum ≤ 8) (hdg : decode cc pc = .ok (.invokeinterface index count, 5))
    (hc1 : cells + rm.cells ≤ R.cells) (hs1 : slots + rm.slots ≤ R.slots)
    (kk : ∀ (v : Option Value) (f1 : xF) (H1 : Heap) (locs1 : List Loc), post v f1 → xH G A f1 H1 → va_S A s.heap H1 locs1 → H.size ≤ H1.size → W p l e R s m args below meth c H1 locs1 (cells + rm.cells) (slots + rm.slots) Q (F0 m (pc + 5) ls (v.toList ++ rest))) : W p l e R s m args below meth c H locs cells slots Q (F0 m pc ls (.int x :: .ref mo :: rest)) := by
  obtain ⟨hexec, hb, hml, hown, hts⟩ := S
  have hlink := hts _ q1
  refine x_back5 (B := A) (av := #[]) (rest := rest) (mc := rm.cells) (ms := rm.slots) (post := post) ?_ hS (fun _ h => h) (fun v f1 H1 locs1 hp h1 h2 h3 _ => kk v f1 H1 locs1 hp h1 h2 h3)
  intro T hT X
  have hF0 := hF
  obtain ⟨m', dk, cf, i0, p0, h1, h2, h3, h4, h5, h6, h7⟩ := hF
  obtain ⟨r0, r, hn, hrm, hstR, hsigR⟩ := Cond.declares_spec (hK.use q6 rfl)
  obtain ⟨cL, kL, r1, hcL, hkL, hiL, hfoundL, hn1⟩ := Cond.interfaceMethod_spec (hK.use q7 rfl)
  cases hn.symm.trans hn1
  have hr0cls : r0.cls = cL := Option.some.inj ((findClass_of_methodNamed hn).symm.trans hcL)
  obtain ⟨hnameR, hdescR⟩ := name_of_methodNamed hn hrm
  obtain ⟨-, -, -, -, -, -, -, iface', -, -, -, -, found, -, -, -, -, -, hi', -, -, -, -, -, -, hfound', -, -, -, -, -, -, -, -, -, -, hsel⟩ := Lambda.isMade_spec h6
  rw [hσ.1] at hi'
  cases hcL.symm.trans hi'
  have hfr : found = r0 := by
    have h1 : s.methodFound? "FairBatten$Measure" "at" "(I)I" = some r0 := hfoundL
    simp only [State.methodFound?, hcL, hkL, hiL, Option.bind_eq_bind, Option.bind_some] at h1
    rw [hσ.2.1, hσ.2.2] at hfound'
    rw [hfound'] at h1
    exact Option.some.inj h1
  subst hfr
  obtain ⟨i2, hi2, hasg, hway⟩ := State.lambdaCallable_spec h7
  rw [hσ.1] at hi2
  cases hcL.symm.trans hi2
  obtain ⟨ks, methks, cks, toys, ts, gs0, gk1, gk2, gk3, -, -, -, -, gk8, -⟩ := hMade s (State.WarmedH.refl s)
  obtain ⟨vm₁, X₁, hstep₁⟩ := X.invokeinterface hexec hown hlink hn hrm hstR (by rw [hr0cls]; exact hkL) hiL (by decide) (a := mo) (cell := { cls := cK, slots := #[.ref hu], vm := .none }) (kcell := ks) (by rw [hT]; exact hcell)
    (fun z h => by cases h) gk1 (by rw [hr0cls]; exact hasg) (by rw [Launch.admits_selectMethod X.admits]; exact hsel) gk3 (by rw [hnameR, hdescR]; rw [hσ.2.1, hσ.2.2] at hway; exact hway) (by rw [gk8]; decide) (by simp [Method.isAbstract, gk8, hasFlag, Acc.abstract]) (g := F0 m pc ls (.int x :: .ref mo :: rest)) rfl (argsL := [.int x]) (rest := rest)
    (by have h9 : (parseMethodDescriptor "(I)I").map (fun d => d.parameters.length) = some 1 := by decide +kernel
        have h8 : parseMethodDescriptor "(I)I" = some r.sig := hsigR
        rw [h8] at h9
        exact (Option.some.inj h9).symm) rfl (by rw [hb]; exact hdg)
  obtain ⟨k, methk, ck, toy, t, g0, gk1', gk2', gk3', gk4', hckb, hckl, hlkk, gk8', hretk, htoy, hnc, hmr, ⟨kr, metht, hkr, hmt, hpol, hstt, hpar, hselT, habT, hitT, hntT⟩, hg0, hg0s, hg0k⟩ := hMade (T.setVm vm₁) X₁.warmed
  obtain ⟨cellB, hcB, hoB, hclB⟩ := va_recv hK.1 (hH.one hf) hc (q0 := 0) rfl
  have hclB' : cellB.cls = toy := by
    have e1 : (T.setVm vm₁).vm.findClass y.cls = some cellB.cls := by rw [X₁.warmed.alike.findClass, ← hrC]; exact hclB
    exact Option.some.inj (e1.symm.trans htoy)
  have hG : GoodIn lw_all (ws_ y bytes maxL (some .int)) := lw_meth q5
  have hinner := back_of (l := l) (R := { frames := rm.frames + 1, cells := rm.cells, slots := rm.slots, locals := maxL + 11 + rm.locals }) (p := p) (e := e) (below := .java (F0 m pc ls rest) :: below) (s := (T.setVm vm₁).calling (F0 m pc ls rest) ⟨cK, 1⟩ #[.ref mo, .int x]) (sargs := #[.ref mo, .int x]) (len := 3) (W := 0) (bytes := bytes) (maxL := maxL) (ret := some .int) hM xP.blind rfl rfl (Nat.le_refl _) (by show 0 + (maxL + 11) + rm.locals ≤ maxL + 11 + rm.locals; omega)
    (fun w hw a' U hU => pay_in hts hG w hw a' U (State.WarmedH.trans X₁.warmed (show (T.setVm vm₁).WarmedH U.vm from hU))) (by exact List.mem_cons_self) (fun a' U hU => word_at (State.WarmedH.trans X₁.warmed (show (T.setVm vm₁).WarmedH U.vm from hU)) (Or.inl (by first | rfl | simp [Cond.onTables, Cond.keeps, Cond.steady])) (hts _ q4))
  have hent : entryFrame ⟨cK, 1⟩ #[.ref mo, .int x] ck.maxLocals = { method := ⟨cK, 1⟩, pc := 0, locals := #[.val (.ref mo), .val (.int x)], stack := [], locked := none } := by rw [hckl]; rfl
  obtain ⟨v, T2, U1, L1, c1, n1, XT, ⟨st0, t0, z1, z2, z3, z4, z5, z6, z7⟩, hh, hv, st⟩ := lm_thru X₁ (g := F0 m pc ls rest) rfl (hsize.trans hml.symm) (by rw [hb]; exact hdg) (mk := ⟨cK, 1⟩) (a := #[.ref mo, .int x]) (R2 := { frames := rm.frames + 1, cells := rm.cells, slots := rm.slots, locals := maxL + 11 + rm.locals }) gk3' gk4' hlkk
    (State.plainMethod.of_name (fun k9 hk9 => by cases gk1'.symm.trans hk9; rw [gk2']; decide +kernel)) (by show rm.frames + 1 + 1 ≤ R.frames; omega) (by rw [hckl]; show 2 * 0 + (rest.map fun v => v.category).sum + (2 + 11) + (maxL + 11 + rm.locals) ≤ R.locals; omega) hc1 hs1
    (Z := fun v U1 L1 c1 n1 => ∃ (st0 t0 : State), st0.heap = H ∧ U1.heap = t0.heap ∧ U1.vm = t0.vm ∧ (∀ q ∈ L1, A q.base) ∧ c1 = rm.cells ∧ n1 = rm.slots ∧ xQ G A post #[] st0 (.returned v) t0)
    (fun U0 hU0 Y => by
      have hvm0 : U0.vm = vm₁ := by rw [hU0]; rfl
      have hh0 : U0.heap = H := by rw [hU0, ← hT]; rfl
      have hnc0 : namesAClass U0 cK 22 := by
        obtain ⟨kc, cf, ci, n, c', k', n1, n2, n3, n4, n5, n6⟩ := hnc
        exact ⟨kc, cf, ci, n, c', k', by rw [hvm0]; exact n1, n2, n3, by rw [hvm0]; exact n4, by rw [hvm0]; exact n5, n6⟩
      have hnt0 : U0.methodNamed? y = some t := by
        have e9 : U0.methodNamed? y = (T.setVm vm₁).methodNamed? y := by
          show (State.setVm U0 U0.vm).methodNamed? y = _
          rw [hvm0]
          rfl
        rw [e9]
        exact hntT
      obtain ⟨v, ⟨U', L', c', n'⟩, Y', ⟨g', mk', t', L, e1, e2, hq, hL1, hL2, hc1', hs1'⟩, hst⟩ := hinner ⟨cK, 1⟩ methk ck ⟨U0, [], 0, 0⟩ { method := ⟨cK, 1⟩, pc := 5, locals := #[.val (.ref mo), .val (.int x)], stack := [], locked := none } (.invokevirtual 22) t (.ref hu :: [.int x]).toArray Y rfl (by rw [hckl]; rfl) (by rw [hckb]; exact lmB1_5) (by show 2 * 0 + 0 ≤ 0; decide) hnt0
        ⟨by show 0 + rm.cells ≤ rm.cells; omega, by show 0 + rm.slots ≤ rm.slots; omega, xP.of hK hC hS (fun _ h => h) (fun q hq => hA q (Nat.le_trans hS.1 hq)) hH hh0 (by show s.WarmedH U0.vm; rw [hvm0]; exact X₁.warmed)⟩
      dsimp only [Pt.U, Pt.locs, Pt.cells, Pt.slots] at Y' e1 e2 hL1 hc1' hs1' hst
      obtain ⟨⟨v', f1, hv', hp', hh'⟩, hF'⟩ := hq
      cases hv'
      obtain ⟨w, rfl⟩ := hpv _ _ hp'
      refine ⟨some (.int w), U', L', c', n', Y', (fun h => by rw [hretk] at h; cases h), ⟨_, t', hh0, e1, e2, by rw [hL1]; exact hL2, by omega, by omega, ⟨_, f1, rfl, hp', hh'⟩, hF'⟩, fun fs hleave => ?_⟩
      rw [hent]
      jvm_step Y.here [hexec, hckb, lmB1_0, Value.isRef]
      jvm_step Y.here [hexec, hckb, lmB1_1, getfield.wp_ready (e := e) (s := U0) (c := cK) (field := g0) (a := mo) (rest := []) (cell := { cls := cK, slots := #[.ref hu], vm := .none }) (v := .ref hu)
        (f := { method := ⟨cK, 1⟩, pc := 1, locals := #[.val (.ref mo), .val (.int x)], stack := [.ref mo], locked := none }) Y.here.top (by rw [hvm0]; exact hg0) hg0s rfl (by rw [hh0]; exact hcell) (by intro h; cases h) (by rw [hg0k]; rfl)]
      jvm_step Y.here [hexec, hckb, lmB1_4]
      jvm_step Y.here [hexec, hckb, lmB1_5, invokevirtual.wp_ready (e := e) (s := U0) (r := t) (m := t) (k := kr) (mk := kr) (rmeth := metht) (meth := metht) (a := hu) (args := [.int x]) (rest := []) (cell := cellB)
        (f := { method := ⟨cK, 1⟩, pc := 5, locals := #[.val (.ref mo), .val (.int x)], stack := [.int x, .ref hu], locked := none }) Y.here.top hnc0 (by rw [hvm0]; exact hmr) (by rw [hvm0]; exact hkr) (by rw [hvm0]; exact hmt) hpol hstt hpar.symm rfl
        (by rw [hh0]; exact hcB) (fun z h => by rw [h] at hoB; cases hoB) (by rw [hvm0, Launch.admits_selectMethod X.admits, hclB']; exact hselT) (by rw [hvm0]; exact hmt) habT (by rw [hvm0]; exact hkr) hitT]
      intro acts'
      rw [doInvoke_state]
      refine hst.trans ?_
      show Steps p.tables e (.java (F0 m pc ls rest) :: below) (U'.setTop { method := ⟨cK, 1⟩, pc := 8, locals := #[.val (.ref mo), .val (.int x)], stack := [.int w], locked := none }) _
      jvm_step Y'.here [Y.here.top, hexec, hckb, lmB1_8, Y'.method', hretk, narrow]
      intro acts''
      rw [hleave { method := ⟨cK, 1⟩, pc := 8, locals := #[.val (.ref mo), .val (.int x)], stack := [], locked := none } acts'' rfl rfl rfl]
      exact Steps.refl _)
  subst z5; subst z6
  exact ⟨v, st0, t0, T2, L1, z1, XT, z4, hh.trans z2, hv.trans z3, z7, fun target h => hstep₁ _ fun acts => by rw [doInvoke_state]; exact st.trans h⟩
end XL1
/-- what the made class with its 2 captured says of a state -/
def lmM2 (y : MethodName) (cK : ClassId) (U : State) : Prop := ∃ (k : Class) (methk : Method) (ck : Code) (toy : ClassId) (t : MethodId) (f0 : Field) (f1 : Field),
  U.vm.classes[cK]? = some k ∧ k.name = "FairBatten$Hull$$Lambda" ∧ U.vm.method? ⟨cK, 1⟩ = some methk ∧ methk.code = some ck ∧ ck.code = lmB2 ∧ ck.maxLocals = 2 ∧ methk.locks = false ∧ methk.accessFlags = 0x0001 ∧ methk.sig.returnType = some .int ∧
  U.vm.findClass y.cls = some toy ∧ namesAClass U cK 27 ∧ U.vm.methodReady cK 27 t ∧ lmT y 2 toy t U ∧ U.vm.fieldReady cK 17 cK f0 ∧ f0.isStatic = false ∧ f0.slot = 0 ∧ U.vm.fieldReady cK 19 cK f1 ∧ f1.isStatic = false ∧ f1.slot = 1
theorem lm1_M {y : MethodName} {pc ix maxL : Nat} {cK : ClassId} {bytes : ByteArray} {ret : Option FieldType} {A A1 : Array Value} {s U : State} (hy9 : y.cls = "FairBatten$Hull") (h : lmF y pc ix lm1_s cK s) (hObj : (Cond.instantiable "java/lang/Object" 0).before A1 s = true) (hW : s.WarmedH U.vm)
    (hcode : (Cond.code ⟨"FairBatten$Hull", "lambda$volume$1", "(II)I"⟩ bytes maxL ret).before A U = true) (hinst : (Cond.instanceMethod ⟨"FairBatten$Hull", "lambda$volume$1", "(II)I"⟩).before A U = true) (hsel : (Cond.selects "FairBatten$Hull" ⟨"FairBatten$Hull", "lambda$volume$1", "(II)I"⟩ ⟨"FairBatten$Hull", "lambda$volume$1", "(II)I"⟩).before A U = true) : lmM2 ⟨"FairBatten$Hull", "lambda$volume$1", "(II)I"⟩ cK U := by
  obtain ⟨m', dk, cf, i0, p0, h1, h2, h3, h4, h5, h6, h7⟩ := h.warm hW
  obtain ⟨kS, hkS, hnameS⟩ := className_of_methodNamed h1
  cases h2.symm.trans hkS
  have hO : ∀ o ok, U.vm.findClass "java/lang/Object" = some o → U.vm.classes[o]? = some ok → ok.instanceTypes.size = 0 := fun o ok h1 h2 => by
    have h3 := lm_hO hObj
    rw [hW.alike.findClass] at h1
    cases hq : s.vm.classes[o]? with
    | none => rw [hW.alike.none hq] at h2; cases h2
    | some k0 =>
      obtain ⟨k', hk', he⟩ := hW.alike.2.2 _ _ hq
      cases h2.symm.trans hk'
      rw [he]
      exact h3 o k0 h1 hq
  obtain ⟨k, tk, file, methk, ck, toy, t, f0, f1, g1, g2, g3, g4, g5, g6, g7, g8, g9, g10, g11, g12, g13, g14, g15, g16, g17, g18⟩ := lm1_made h2 (hnameS.trans hy9) h6 hO
  exact ⟨k, methk, ck, toy, t, f0, f1, g1, g2, g5, g6, g7, g8, g9, g10, g11, g12, ⟨k, file, 23, 26, toy, tk, g1, g3, by rw [g4]; exact lm1_eM.1, g17, g13, g14⟩, g16, lm_tgt hcode hinst hsel (by decide +kernel) g12 g13 g15, g18⟩
theorem lm2_M {y : MethodName} {pc ix maxL : Nat} {cK : ClassId} {bytes : ByteArray} {ret : Option FieldType} {A A1 : Array Value} {s U : State} (hy9 : y.cls = "FairBatten$Hull") (h : lmF y pc ix lm2_s cK s) (hObj : (Cond.instantiable "java/lang/Object" 0).before A1 s = true) (hW : s.WarmedH U.vm)
    (hcode : (Cond.code ⟨"FairBatten$Hull", "lambda$area$0", "(II)I"⟩ bytes maxL ret).before A U = true) (hinst : (Cond.instanceMethod ⟨"FairBatten$Hull", "lambda$area$0", "(II)I"⟩).before A U = true) (hsel : (Cond.selects "FairBatten$Hull" ⟨"FairBatten$Hull", "lambda$area$0", "(II)I"⟩ ⟨"FairBatten$Hull", "lambda$area$0", "(II)I"⟩).before A U = true) : lmM2 ⟨"FairBatten$Hull", "lambda$area$0", "(II)I"⟩ cK U := by
  obtain ⟨m', dk, cf, i0, p0, h1, h2, h3, h4, h5, h6, h7⟩ := h.warm hW
  obtain ⟨kS, hkS, hnameS⟩ := className_of_methodNamed h1
  cases h2.symm.trans hkS
  have hO : ∀ o ok, U.vm.findClass "java/lang/Object" = some o → U.vm.classes[o]? = some ok → ok.instanceTypes.size = 0 := fun o ok h1 h2 => by
    have h3 := lm_hO hObj
    rw [hW.alike.findClass] at h1
    cases hq : s.vm.classes[o]? with
    | none => rw [hW.alike.none hq] at h2; cases h2
    | some k0 =>
      obtain ⟨k', hk', he⟩ := hW.alike.2.2 _ _ hq
      cases h2.symm.trans hk'
      rw [he]
      exact h3 o k0 h1 hq
  obtain ⟨k, tk, file, methk, ck, toy, t, f0, f1, g1, g2, g3, g4, g5, g6, g7, g8, g9, g10, g11, g12, g13, g14, g15, g16, g17, g18⟩ := lm2_made h2 (hnameS.trans hy9) h6 hO
  exact ⟨k, methk, ck, toy, t, f0, f1, g1, g2, g5, g6, g7, g8, g9, g10, g11, g12, ⟨k, file, 23, 26, toy, tk, g1, g3, by rw [g4]; exact lm2_eM.1, g17, g13, g14⟩, g16, lm_tgt hcode hinst hsel (by decide +kernel) g12 g13 g15, g18⟩
theorem lm4_M {y : MethodName} {pc ix maxL : Nat} {cK : ClassId} {bytes : ByteArray} {ret : Option FieldType} {A A1 : Array Value} {s U : State} (hy9 : y.cls = "FairBatten$Hull") (h : lmF y pc ix lm4_s cK s) (hObj : (Cond.instantiable "java/lang/Object" 0).before A1 s = true) (hW : s.WarmedH U.vm)
    (hcode : (Cond.code ⟨"FairBatten$Hull", "lambda$volumeAnew$2", "(II)I"⟩ bytes maxL ret).before A U = true) (hinst : (Cond.instanceMethod ⟨"FairBatten$Hull", "lambda$volumeAnew$2", "(II)I"⟩).before A U = true) (hsel : (Cond.selects "FairBatten$Hull" ⟨"FairBatten$Hull", "lambda$volumeAnew$2", "(II)I"⟩ ⟨"FairBatten$Hull", "lambda$volumeAnew$2", "(II)I"⟩).before A U = true) : lmM2 ⟨"FairBatten$Hull", "lambda$volumeAnew$2", "(II)I"⟩ cK U := by
  obtain ⟨m', dk, cf, i0, p0, h1, h2, h3, h4, h5, h6, h7⟩ := h.warm hW
  obtain ⟨kS, hkS, hnameS⟩ := className_of_methodNamed h1
  cases h2.symm.trans hkS
  have hO : ∀ o ok, U.vm.findClass "java/lang/Object" = some o → U.vm.classes[o]? = some ok → ok.instanceTypes.size = 0 := fun o ok h1 h2 => by
    have h3 := lm_hO hObj
    rw [hW.alike.findClass] at h1
    cases hq : s.vm.classes[o]? with
    | none => rw [hW.alike.none hq] at h2; cases h2
    | some k0 =>
      obtain ⟨k', hk', he⟩ := hW.alike.2.2 _ _ hq
      cases h2.symm.trans hk'
      rw [he]
      exact h3 o k0 h1 hq
  obtain ⟨k, tk, file, methk, ck, toy, t, f0, f1, g1, g2, g3, g4, g5, g6, g7, g8, g9, g10, g11, g12, g13, g14, g15, g16, g17, g18⟩ := lm4_made h2 (hnameS.trans hy9) h6 hO
  exact ⟨k, methk, ck, toy, t, f0, f1, g1, g2, g5, g6, g7, g8, g9, g10, g11, g12, ⟨k, file, 23, 26, toy, tk, g1, g3, by rw [g4]; exact lm4_eM.1, g17, g13, g14⟩, g16, lm_tgt hcode hinst hsel (by decide +kernel) g12 g13 g15, g18⟩
section XL2
variable {p : Program} {l : Launch} {e : Env} {R : Room} {s : State} {m : MethodId} {args : Array Value} {below : List Frame} {meth : Method} {c : Code} {H : Heap} {locs : List Loc} {cells slots : Nat} {Q : State → Prop}
variable {cc : ByteArray} {pc : Nat} {ls : Array Slot} {rest : List Value} {G : xG} {A : Nat → Prop} {f : xF}
set_option maxHeartbeats 4000000 in
theorem x_at2 {own : String} {index count maxL nL : Nat} {y ys : MethodName} {bytes : ByteArray} {rm : Room} {post : Option Value → xF → Prop} {σ : Lambda.Shape} {cK : ClassId} {pcS ixS mo hu t9 ci9 : Nat} {k0 : Int32} {x : Int32} {fs : List Value} {r9 : vw_C}
    (S : CallFix p m c cc nL s args lw_all own) (hK : xK G s) (hC : xC G A s s.heap) (hA : ∀ q, s.heap.size ≤ q → A q) (hH : xH G A f H) (hS : va_S A s.heap H locs)
    (hF : lmF ys pcS ixS σ cK s) (hσ : σ.iface = "FairBatten$Measure" ∧ σ.name = "at" ∧ σ.sam.toString = "(I)I") (hMade : ∀ U : State, s.WarmedH U.vm → lmM2 y cK U)
    (hcell : H[mo]? = some { cls := cK, slots := #[.ref hu, .int k0], vm := .none }) (hf : f hu = some (xO t9 ci9 fs)) (hc : xcl[ci9]? = some r9) (hrC : r9.1 = y.cls)
    (hM : xMet l y bytes maxL (some .int) rm G A f (.ref hu :: [.int k0, .int x]) post) (hpv : ∀ v f1, post v f1 → ∃ w : Int32, v = some (.int w)) (q1 : Cond.methodLink own index lmAt ∈ lw_all) (q4 : Cond.initialized y.cls ∈ lw_all) (q5 : Cond.code y bytes maxL (some .int) ∈ lw_all)
    (q6 : Cond.declares lmAt ∈ lw_tbl) (q7 : Cond.interfaceMethod "FairBatten$Measure" "FairBatten$Measure" "at" "(I)I" ∈ lw_tbl)
    (hR : rm.frames + 2 ≤ R.frames ∧ 8 + 13 + (maxL + 11) + rm.locals ≤ R.locals) (hsize : ls.size = nL) (hW : (rest.map fun v => v.category).sum ≤ 8) (hdg : decode cc pc = .ok (.invokeinterface index count, 5))
    (hc1 : cells + rm.cells ≤ R.cells) (hs1 : slots + rm.slots ≤ R.slots)
    (kk : ∀ (v : Option Value) (f1 : xF) (H1 : Heap) (locs1 : List Loc), post v f1 → xH G A f1 H1 → va_S A s.heap H1 locs1 → H.size ≤ H1.size → W p l e R s m args below meth c H1 locs1 (cells + rm.cells) (slots + rm.slots) Q (F0 m (pc + 5) ls (v.toList ++ rest))) : W p l e R s m args below meth c H locs cells slots Q (F0 m pc ls (.int x :: .ref mo :: rest)) := by
  obtain ⟨hexec, hb, hml, hown, hts⟩ := S
  have hlink := hts _ q1
  refine x_back5 (B := A) (av := #[]) (rest := rest) (mc := rm.cells) (ms := rm.slots) (post := post) ?_ hS (fun _ h => h) (fun v f1 H1 locs1 hp h1 h2 h3 _ => kk v f1 H1 locs1 hp h1 h2 h3)
  intro T hT X
  have hF0 := hF
  obtain ⟨m', dk, cf, i0, p0, h1, h2, h3, h4, h5, h6, h7⟩ := hF
  obtain ⟨r0, r, hn, hrm, hstR, hsigR⟩ := Cond.declares_spec (hK.use q6 rfl)
  obtain ⟨cL, kL, r1, hcL, hkL, hiL, hfoundL, hn1⟩ := Cond.interfaceMethod_spec (hK.use q7 rfl)
  cases hn.symm.trans hn1
  have hr0cls : r0.cls = cL := Option.some.inj ((findClass_of_methodNamed hn).symm.trans hcL)
  obtain ⟨hnameR, hdescR⟩ := name_of_methodNamed hn hrm
  obtain ⟨-, -, -, -, -, -, -, iface', -, -, -, -, found, -, -, -, -, -, hi', -, -, -, -, -, -, hfound', -, -, -, -, -, -, -, -, -, -, hsel⟩ := Lambda.isMade_spec h6
  rw [hσ.1] at hi'
  cases hcL.symm.trans hi'
  have hfr : found = r0 := by
    have h1 : s.methodFound? "FairBatten$Measure" "at" "(I)I" = some r0 := hfoundL
    simp only [State.methodFound?, hcL, hkL, hiL, Option.bind_eq_bind, Option.bind_some] at h1
    rw [hσ.2.1, hσ.2.2] at hfound'
    rw [hfound'] at h1
    exact Option.some.inj h1
  subst hfr
  obtain ⟨i2, hi2, hasg, hway⟩ := State.lambdaCallable_spec h7
  rw [hσ.1] at hi2
  cases hcL.symm.trans hi2
  obtain ⟨ks, methks, cks, toys, ts, gs0, gs1, gk1, gk2, gk3, -, -, -, -, gk8, -⟩ := hMade s (State.WarmedH.refl s)
  obtain ⟨vm₁, X₁, hstep₁⟩ := X.invokeinterface hexec hown hlink hn hrm hstR (by rw [hr0cls]; exact hkL) hiL (by decide) (a := mo) (cell := { cls := cK, slots := #[.ref hu, .int k0], vm := .none }) (kcell := ks) (by rw [hT]; exact hcell)
    (fun z h => by cases h) gk1 (by rw [hr0cls]; exact hasg) (by rw [Launch.admits_selectMethod X.admits]; exact hsel) gk3 (by rw [hnameR, hdescR]; rw [hσ.2.1, hσ.2.2] at hway; exact hway) (by rw [gk8]; decide) (by simp [Method.isAbstract, gk8, hasFlag, Acc.abstract]) (g := F0 m pc ls (.int x :: .ref mo :: rest)) rfl (argsL := [.int x]) (rest := rest)
    (by have h9 : (parseMethodDescriptor "(I)I").map (fun d => d.parameters.length) = some 1 := by decide +kernel
        have h8 : parseMethodDescriptor "(I)I" = some r.sig := hsigR
        rw [h8] at h9
        exact (Option.some.inj h9).symm) rfl (by rw [hb]; exact hdg)
  obtain ⟨k, methk, ck, toy, t, g0, g1, gk1', gk2', gk3', gk4', hckb, hckl, hlkk, gk8', hretk, htoy, hnc, hmr, ⟨kr, metht, hkr, hmt, hpol, hstt, hpar, hselT, habT, hitT, hntT⟩, hg0, hg0s, hg0k, hg1, hg1s, hg1k⟩ := hMade (T.setVm vm₁) X₁.warmed
  obtain ⟨cellB, hcB, hoB, hclB⟩ := va_recv hK.1 (hH.one hf) hc (q0 := 0) rfl
  have hclB' : cellB.cls = toy := by
    have e1 : (T.setVm vm₁).vm.findClass y.cls = some cellB.cls := by rw [X₁.warmed.alike.findClass, ← hrC]; exact hclB
    exact Option.some.inj (e1.symm.trans htoy)
  have hG : GoodIn lw_all (ws_ y bytes maxL (some .int)) := lw_meth q5
  have hinner := back_of (l := l) (R := { frames := rm.frames + 1, cells := rm.cells, slots := rm.slots, locals := maxL + 11 + rm.locals }) (p := p) (e := e) (below := .java (F0 m pc ls rest) :: below) (s := (T.setVm vm₁).calling (F0 m pc ls rest) ⟨cK, 1⟩ #[.ref mo, .int x]) (sargs := #[.ref mo, .int x]) (len := 3) (W := 0) (bytes := bytes) (maxL := maxL) (ret := some .int) hM xP.blind rfl rfl (Nat.le_refl _) (by show 0 + (maxL + 11) + rm.locals ≤ maxL + 11 + rm.locals; omega)
    (fun w hw a' U hU => pay_in hts hG w hw a' U (State.WarmedH.trans X₁.warmed (show (T.setVm vm₁).WarmedH U.vm from hU))) (by exact List.mem_cons_self) (fun a' U hU => word_at (State.WarmedH.trans X₁.warmed (show (T.setVm vm₁).WarmedH U.vm from hU)) (Or.inl (by first | rfl | simp [Cond.onTables, Cond.keeps, Cond.steady])) (hts _ q4))
  have hent : entryFrame ⟨cK, 1⟩ #[.ref mo, .int x] ck.maxLocals = { method := ⟨cK, 1⟩, pc := 0, locals := #[.val (.ref mo), .val (.int x)], stack := [], locked := none } := by rw [hckl]; rfl
  obtain ⟨v, T2, U1, L1, c1, n1, XT, ⟨st0, t0, z1, z2, z3, z4, z5, z6, z7⟩, hh, hv, st⟩ := lm_thru X₁ (g := F0 m pc ls rest) rfl (hsize.trans hml.symm) (by rw [hb]; exact hdg) (mk := ⟨cK, 1⟩) (a := #[.ref mo, .int x]) (R2 := { frames := rm.frames + 1, cells := rm.cells, slots := rm.slots, locals := maxL + 11 + rm.locals }) gk3' gk4' hlkk
    (State.plainMethod.of_name (fun k9 hk9 => by cases gk1'.symm.trans hk9; rw [gk2']; decide +kernel)) (by show rm.frames + 1 + 1 ≤ R.frames; omega) (by rw [hckl]; show 2 * 0 + (rest.map fun v => v.category).sum + (2 + 11) + (maxL + 11 + rm.locals) ≤ R.locals; omega) hc1 hs1
    (Z := fun v U1 L1 c1 n1 => ∃ (st0 t0 : State), st0.heap = H ∧ U1.heap = t0.heap ∧ U1.vm = t0.vm ∧ (∀ q ∈ L1, A q.base) ∧ c1 = rm.cells ∧ n1 = rm.slots ∧ xQ G A post #[] st0 (.returned v) t0)
    (fun U0 hU0 Y => by
      have hvm0 : U0.vm = vm₁ := by rw [hU0]; rfl
      have hh0 : U0.heap = H := by rw [hU0, ← hT]; rfl
      have hnc0 : namesAClass U0 cK 27 := by
        obtain ⟨kc, cf, ci, n, c', k', n1, n2, n3, n4, n5, n6⟩ := hnc
        exact ⟨kc, cf, ci, n, c', k', by rw [hvm0]; exact n1, n2, n3, by rw [hvm0]; exact n4, by rw [hvm0]; exact n5, n6⟩
      have hnt0 : U0.methodNamed? y = some t := by
        have e9 : U0.methodNamed? y = (T.setVm vm₁).methodNamed? y := by
          show (State.setVm U0 U0.vm).methodNamed? y = _
          rw [hvm0]
          rfl
        rw [e9]
        exact hntT
      obtain ⟨v, ⟨U', L', c', n'⟩, Y', ⟨g', mk', t', L, e1, e2, hq, hL1, hL2, hc1', hs1'⟩, hst⟩ := hinner ⟨cK, 1⟩ methk ck ⟨U0, [], 0, 0⟩ { method := ⟨cK, 1⟩, pc := 9, locals := #[.val (.ref mo), .val (.int x)], stack := [], locked := none } (.invokevirtual 27) t (.ref hu :: [.int k0, .int x]).toArray Y rfl (by rw [hckl]; rfl) (by rw [hckb]; exact lmB2_9) (by show 2 * 0 + 0 ≤ 0; decide) hnt0
        ⟨by show 0 + rm.cells ≤ rm.cells; omega, by show 0 + rm.slots ≤ rm.slots; omega, xP.of hK hC hS (fun _ h => h) (fun q hq => hA q (Nat.le_trans hS.1 hq)) hH hh0 (by show s.WarmedH U0.vm; rw [hvm0]; exact X₁.warmed)⟩
      dsimp only [Pt.U, Pt.locs, Pt.cells, Pt.slots] at Y' e1 e2 hL1 hc1' hs1' hst
      obtain ⟨⟨v', f1, hv', hp', hh'⟩, hF'⟩ := hq
      cases hv'
      obtain ⟨w, rfl⟩ := hpv _ _ hp'
      refine ⟨some (.int w), U', L', c', n', Y', (fun h => by rw [hretk] at h; cases h), ⟨_, t', hh0, e1, e2, by rw [hL1]; exact hL2, by omega, by omega, ⟨_, f1, rfl, hp', hh'⟩, hF'⟩, fun fs hleave => ?_⟩
      rw [hent]
      jvm_step Y.here [hexec, hckb, lmB2_0, Value.isRef]
      jvm_step Y.here [hexec, hckb, lmB2_1, getfield.wp_ready (e := e) (s := U0) (c := cK) (field := g0) (a := mo) (rest := []) (cell := { cls := cK, slots := #[.ref hu, .int k0], vm := .none }) (v := .ref hu)
        (f := { method := ⟨cK, 1⟩, pc := 1, locals := #[.val (.ref mo), .val (.int x)], stack := [.ref mo], locked := none }) Y.here.top (by rw [hvm0]; exact hg0) hg0s rfl (by rw [hh0]; exact hcell) (by intro h; cases h) (by rw [hg0k]; rfl)]
      jvm_step Y.here [hexec, hckb, lmB2_4, Value.isRef]
      jvm_step Y.here [hexec, hckb, lmB2_5, getfield.wp_ready (e := e) (s := U0) (c := cK) (field := g1) (a := mo) (rest := [.ref hu]) (cell := { cls := cK, slots := #[.ref hu, .int k0], vm := .none }) (v := .int k0)
        (f := { method := ⟨cK, 1⟩, pc := 5, locals := #[.val (.ref mo), .val (.int x)], stack := [.ref mo, .ref hu], locked := none }) Y.here.top (by rw [hvm0]; exact hg1) hg1s rfl (by rw [hh0]; exact hcell) (by intro h; cases h) (by rw [hg1k]; rfl)]
      jvm_step Y.here [hexec, hckb, lmB2_8]
      jvm_step Y.here [hexec, hckb, lmB2_9, invokevirtual.wp_ready (e := e) (s := U0) (r := t) (m := t) (k := kr) (mk := kr) (rmeth := metht) (meth := metht) (a := hu) (args := [.int k0, .int x]) (rest := []) (cell := cellB)
        (f := { method := ⟨cK, 1⟩, pc := 9, locals := #[.val (.ref mo), .val (.int x)], stack := [.int x, .int k0, .ref hu], locked := none }) Y.here.top hnc0 (by rw [hvm0]; exact hmr) (by rw [hvm0]; exact hkr) (by rw [hvm0]; exact hmt) hpol hstt hpar.symm rfl
        (by rw [hh0]; exact hcB) (fun z h => by rw [h] at hoB; cases hoB) (by rw [hvm0, Launch.admits_selectMethod X.admits, hclB']; exact hselT) (by rw [hvm0]; exact hmt) habT (by rw [hvm0]; exact hkr) hitT]
      intro acts'
      rw [doInvoke_state]
      refine hst.trans ?_
      show Steps p.tables e (.java (F0 m pc ls rest) :: below) (U'.setTop { method := ⟨cK, 1⟩, pc := 12, locals := #[.val (.ref mo), .val (.int x)], stack := [.int w], locked := none }) _
      jvm_step Y'.here [Y.here.top, hexec, hckb, lmB2_12, Y'.method', hretk, narrow]
      intro acts''
      rw [hleave { method := ⟨cK, 1⟩, pc := 12, locals := #[.val (.ref mo), .val (.int x)], stack := [], locked := none } acts'' rfl rfl rfl]
      exact Steps.refl _)
  subst z5; subst z6
  exact ⟨v, st0, t0, T2, L1, z1, XT, z4, hh.trans z2, hv.trans z3, z7, fun target h => hstep₁ _ fun acts => by rw [doInvoke_state]; exact st.trans h⟩
end XL2
section XL3
variable {p : Program} {l : Launch} {e : Env} {R : Room} {s : State} {m : MethodId} {args : Array Value} {below : List Frame} {meth : Method} {c : Code} {H : Heap} {locs : List Loc} {cells slots : Nat} {Q : State → Prop}
variable {cc : ByteArray} {pc : Nat} {ls : Array Slot} {rest : List Value} {G : xG} {A : Nat → Prop} {f : xF}
/-- the lambda's object is made: the followed cells stay -/
theorem x_mkL2 (hexec : p.tables.exec = Jvm.exec) (hb : c.code = cc) (hml : c.maxLocals = ls.size) {σ : Lambda.Shape} {cK : ClassId} {y : MethodName} {ix hu : Nat} {x : Int32} (hn : s.methodNamed? y = some m) (hF : lmF y pc ix σ cK s) (hObj : (Cond.instantiable "java/lang/Object" 0).before args s = true)
    (hlays : ((σ.file y.cls).bind (layoutFields · 0)).map (·.2.1) = some #[.object "FairBatten$Hull", .int]) (hcap : σ.captured = [.object "FairBatten$Hull", .int]) (hH : xH G A f H) (hS : va_S A s.heap H locs) (hlocals : (rest.map fun v => v.category).sum + 3076 ≤ R.locals) (hcells : cells + 1 ≤ R.cells) (hslots : slots + 2 ≤ R.slots) (hdg : decode cc pc = .ok (.invokedynamic ix, 5))
    (kk : ∀ (H1 : Heap) (mo : Nat), H1[mo]? = some { cls := cK, slots := #[.ref hu, .int x], vm := .none } → s.heap.size ≤ mo → f mo = none → xH G A f H1 → va_S A s.heap H1 locs → W p l e R s m args below meth c H1 locs (cells + 1) (slots + 2) Q (F0 m (pc + 5) ls (.ref mo :: rest))) : W p l e R s m args below meth c H locs cells slots Q (F0 m pc ls (.int x :: .ref hu :: rest)) :=
  x_mk2 hexec hb hml hn hF hObj hlays hcap hS hlocals hcells hslots hdg (fun H1 hz hc hk hS1 => kk H1 H.size hc hS.1 (hH.fresh (Nat.le_refl _)) (hH.kept hk) hS1)
theorem x_mkL1 (hexec : p.tables.exec = Jvm.exec) (hb : c.code = cc) (hml : c.maxLocals = ls.size) {σ : Lambda.Shape} {cK : ClassId} {y : MethodName} {ix hu : Nat} (hn : s.methodNamed? y = some m) (hF : lmF y pc ix σ cK s) (hObj : (Cond.instantiable "java/lang/Object" 0).before args s = true)
    (hlays : ((σ.file y.cls).bind (layoutFields · 0)).map (·.2.1) = some #[.object "FairBatten$Hull"]) (hcap : σ.captured = [.object "FairBatten$Hull"]) (hH : xH G A f H) (hS : va_S A s.heap H locs) (hlocals : (rest.map fun v => v.category).sum + 3076 ≤ R.locals) (hcells : cells + 1 ≤ R.cells) (hslots : slots + 1 ≤ R.slots) (hdg : decode cc pc = .ok (.invokedynamic ix, 5))
    (kk : ∀ (H1 : Heap) (mo : Nat), H1[mo]? = some { cls := cK, slots := #[.ref hu], vm := .none } → s.heap.size ≤ mo → f mo = none → xH G A f H1 → va_S A s.heap H1 locs → W p l e R s m args below meth c H1 locs (cells + 1) (slots + 1) Q (F0 m (pc + 5) ls (.ref mo :: rest))) : W p l e R s m args below meth c H locs cells slots Q (F0 m pc ls (.ref hu :: rest)) :=
  x_mk1 hexec hb hml hn hF hObj hlays hcap hS hlocals hcells hslots hdg (fun H1 hz hc hk hS1 => kk H1 H.size hc hS.1 (hH.fresh (Nat.le_refl _)) (hH.kept hk) hS1)
/-- a static call at which one more cell stands as it is -/
theorem x_SNr {own host : String} {index maxL n nL mo : Nat} {cl : Cell} {y : MethodName} {bytes : ByteArray} {ret : Option FieldType} {rm : Room} {post : Option Value → xF → Prop} {As st0 : List Value} (S : CallFix p m c cc nL s args lw_all own) (hK : xK G s) (hC : xC G A s s.heap) (hA : ∀ q, s.heap.size ≤ q → A q) (hH : xH G A f H) (hS : va_S A s.heap H locs)
    (hmo : H[mo]? = some cl) (hfr : f mo = none)
    (hM : xMet l y bytes maxL ret rm (xGr G mo cl) (fun q => A q ∧ q ≠ mo) f As post) (q1 : Cond.methodLinkNest own index y host ∈ lw_tbl) (q2 : Cond.static y ∈ lw_all) (q3 : Cond.initialized y.cls ∈ lw_all) (q4 : Cond.code y bytes maxL ret ∈ lw_all)
    (hd : y.cls ≠ "java/lang/invoke/MethodHandle" ∧ y.cls ≠ "java/lang/invoke/VarHandle" ∧ (parseMethodDescriptor y.desc).map (fun d => d.parameters.length) = some n) (hR : rm.frames + 1 ≤ R.frames ∧ 8 + (maxL + 11) + rm.locals ≤ R.locals)
    (hn : As.length = n) (hsize : ls.size = nL) (hstack : st0 = As.reverse ++ rest) (hW : (rest.map fun v => v.category).sum ≤ 8) (hdg : decode cc pc = .ok (.invokestatic index, 3))
    (hc1 : cells + rm.cells ≤ R.cells) (hs1 : slots + rm.slots ≤ R.slots)
    (kk : ∀ (v : Option Value) (f1 : xF) (H1 : Heap) (locs1 : List Loc), post v f1 → xH G A f1 H1 → va_S A s.heap H1 locs1 → H.size ≤ H1.size → W p l e R s m args below meth c H1 locs1 (cells + rm.cells) (slots + rm.slots) Q (F0 m (pc + 3) ls (v.toList ++ rest))) : W p l e R s m args below meth c H locs cells slots Q (F0 m pc ls st0) := by
  have hlt : mo < H.size := (Array.getElem?_eq_some_iff.mp hmo).1
  have hKr : xK (xGr G mo cl) s := hK
  refine x_back (G := xGr G mo cl) (A := A) (B := fun q => A q ∧ q ≠ mo) (va_runSN (As := As) (rest := rest) S hM ⟨va_cnB n S.2.2.2.2 (lw_meth q4) rfl rfl rfl (hK.use q1 rfl) (S.2.2.2.2 _ q3) hd hR, S.2.2.2.2 _ q2, trivial⟩ ⟨xP.blind, fun U hU hW => ?_⟩ rfl hn hsize hstack (lv_room hW) hdg ⟨hc1, hs1⟩) hS (fun _ h => h.1) (fun v f1 H1 locs1 hp h1 h2 h3 _ => kk v f1 H1 locs1 hp h1 h2 h3)
  refine ⟨rfl, fun q hq => ⟨hA q (Nat.le_trans hS.1 (by rw [hU] at hq; exact hq)), fun e9 => by rw [hU, e9] at hq; omega⟩, by rw [hU]; exact hH.weaken (B := fun q => A q ∧ q ≠ mo) (fun a e ha hAa => ⟨hAa, fun e9 => by rw [e9, hfr] at ha; cases ha⟩), hKr.warm hW, ?_⟩
  have h9 := ((hC.kept hS.2.1).narrow (B := fun q => A q ∧ q ≠ mo) (fun q h => h.1)).moved hW.alike
  rw [hU]
  refine ⟨h9.1, h9.2.1, h9.2.2.1, h9.2.2.2.1, h9.2.2.2.2.1, h9.2.2.2.2.2.1, h9.2.2.2.2.2.2.1, fun a c hc => ?_⟩
  by_cases e9 : a = mo
  · subst e9
    have e8 : some cl = some c := by simpa [xGr] using hc
    cases e8
    exact ⟨hmo, fun h => h.2 rfl⟩
  · exact h9.2.2.2.2.2.2.2 a c (by simpa [xGr, e9] using hc)
end XL3
