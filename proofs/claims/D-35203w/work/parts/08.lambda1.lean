/-! LAMBDAS: the classes that the sites make (printed by mklam.py) -/
set_option maxRecDepth 100000
def lmB2 : ByteArray := ⟨#[0x2a, 0xb4, 0x00, 0x11, 0x2a, 0xb4, 0x00, 0x13, 0x1b, 0xb6, 0x00, 0x1b, 0xac]⟩
def lmB1 : ByteArray := ⟨#[0x2a, 0xb4, 0x00, 0x0f, 0x1b, 0xb6, 0x00, 0x16, 0xac]⟩
theorem lmB2_0 : decode lmB2 0 = .ok (.aload_n 0, 1) := by decide +kernel
theorem lmB2_1 : decode lmB2 1 = .ok (.getfield 17, 3) := by decide +kernel
theorem lmB2_4 : decode lmB2 4 = .ok (.aload_n 0, 1) := by decide +kernel
theorem lmB2_5 : decode lmB2 5 = .ok (.getfield 19, 3) := by decide +kernel
theorem lmB2_8 : decode lmB2 8 = .ok (.iload_n 1, 1) := by decide +kernel
theorem lmB2_9 : decode lmB2 9 = .ok (.invokevirtual 27, 3) := by decide +kernel
theorem lmB2_12 : decode lmB2 12 = .ok (.ireturn, 1) := by decide +kernel
theorem lmB1_0 : decode lmB1 0 = .ok (.aload_n 0, 1) := by decide +kernel
theorem lmB1_1 : decode lmB1 1 = .ok (.getfield 15, 3) := by decide +kernel
theorem lmB1_4 : decode lmB1 4 = .ok (.iload_n 1, 1) := by decide +kernel
theorem lmB1_5 : decode lmB1 5 = .ok (.invokevirtual 22, 3) := by decide +kernel
theorem lmB1_8 : decode lmB1 8 = .ok (.ireturn, 1) := by decide +kernel
def lm1_s : Lambda.Shape := { iface := "FairBatten$Measure", name := "at", sam := ⟨[.int], some .int⟩, captured := [.object "FairBatten$Hull", .int], kind := 5, implClass := "FairBatten$Hull", implName := "lambda$volume$1", implDesc := ⟨[.int, .int], some .int⟩, implItf := false, inst := ⟨[.int], some .int⟩ }
def lm1_D : ClassFile := (lm1_s.file "FairBatten$Hull").getD { minorVersion := 0, majorVersion := 0, constantPool := #[], accessFlags := 0, thisClass := 0, superClass := 0, interfaces := #[], fields := #[], methods := #[], attributes := #[] }
def lm1_forw : Method := ((layoutMethods lm1_D).bind (·[1]?)).getD default
def lm1_laid : Array Field × Array FieldType × Array FieldType := (layoutFields lm1_D 0).getD (#[], #[], #[])
theorem lm1_file_is : lm1_s.file "FairBatten$Hull" = some lm1_D := by
  have h : (lm1_s.file "FairBatten$Hull").isSome = true := by decide +kernel
  obtain ⟨x, hx⟩ := Option.isSome_iff_exists.mp h
  simp [lm1_D, hx]
theorem lm1_second_is : ∀ ms, layoutMethods lm1_D = some ms → ms[1]? = some lm1_forw := by
  intro ms hms
  have h : ((layoutMethods lm1_D).bind (·[1]?)).isSome = true := by decide +kernel
  obtain ⟨x, hx⟩ := Option.isSome_iff_exists.mp h
  have hf : lm1_forw = x := by simp [lm1_forw, hx]
  rw [hms] at hx
  rw [hf]
  exact hx
theorem lm1_laid_is : layoutFields lm1_D 0 = some lm1_laid := by
  have h : (layoutFields lm1_D 0).isSome = true := by decide +kernel
  obtain ⟨x, hx⟩ := Option.isSome_iff_exists.mp h
  simp [lm1_laid, hx]
theorem lm1_f_code : (lm1_forw.code.map fun c => (c.code.data, c.maxLocals)) = some (lmB2.data, 2) := by decide +kernel
theorem lm1_f_flags : (lm1_forw.accessFlags, lm1_forw.name, lm1_forw.sig.returnType) = (0x0001, "at", some FieldType.int) := by decide +kernel
theorem lm1_eM : lm1_D.constantPool[27]? = some (.methodref 23 26) ∧ lm1_D.constantPool.className? 23 = some "FairBatten$Hull" ∧ lm1_D.constantPool.nameAndType? 26 = some ("lambda$volume$1", "(II)I") := by decide +kernel
theorem lm1_eC : lm1_D.constantPool[23]? = some (.class_ 22) ∧ lm1_D.constantPool.string? 22 = some "FairBatten$Hull" ∧ 23 ≠ lm1_D.thisClass := by decide +kernel
theorem lm1_eF0 : lm1_D.constantPool[17]? = some (.fieldref 2 16) ∧ lm1_D.constantPool.nameAndType? 16 = some ("arg$1", "LFairBatten$Hull;") ∧ lm1_laid.1.findIdx? (·.name == "arg$1") = some 0 ∧ (lm1_laid.1[0]?).map (fun f => (f.isStatic, f.slot)) = some (false, 0) := by decide +kernel
theorem lm1_eF1 : lm1_D.constantPool[19]? = some (.fieldref 2 18) ∧ lm1_D.constantPool.nameAndType? 18 = some ("arg$2", "I") ∧ lm1_laid.1.findIdx? (·.name == "arg$2") = some 1 ∧ (lm1_laid.1[1]?).map (fun f => (f.isStatic, f.slot)) = some (false, 1) := by decide +kernel
set_option maxHeartbeats 1000000 in
theorem lm1_made {e : Setting} {vm : Vm} {d c : ClassId} {dk : Class} (hd : vm.classes[d]? = some dk) (hname : dk.name = "FairBatten$Hull") (h : Lambda.isMade e vm d lm1_s c = true)
    (hO : ∀ o ok, vm.findClass "java/lang/Object" = some o → vm.classes[o]? = some ok → ok.instanceTypes.size = 0) :
    ∃ (k tk : Class) (file : ClassFile) (methk : Method) (ck : Code) (toy : ClassId) (t : MethodId) (f0 : Field) (f1 : Field),
      vm.classes[c]? = some k ∧ k.name = "FairBatten$Hull$$Lambda" ∧ k.cf = some file ∧ file.constantPool = lm1_D.constantPool ∧
      vm.method? ⟨c, 1⟩ = some methk ∧ methk.code = some ck ∧ ck.code = lmB2 ∧ ck.maxLocals = 2 ∧ methk.locks = false ∧ methk.accessFlags = 0x0001 ∧ methk.sig.returnType = some .int ∧
      vm.findClass "FairBatten$Hull" = some toy ∧ vm.classes[toy]? = some tk ∧ tk.isInterface = false ∧ ((methodIn toy "lambda$volume$1" "(II)I" tk.isInterface none).ask e vm).1 = .ok t ∧
      vm.methodReady c 27 t ∧ vm.classReady c 23 toy ∧ vm.fieldReady c 17 c f0 ∧ f0.isStatic = false ∧ f0.slot = 0 ∧ vm.fieldReady c 19 c f1 ∧ f1.isStatic = false ∧ f1.slot = 1 := by
  obtain ⟨dk', k, ok, tk, file, cf, object, iface, toy, lay, methods, target, found, hd', hk, hfile, hcf, hobj, -, hok, hlay, hms, ht, htk, hg, -, hrec, -, -, -, hitf, hpool, hmeth, hfields, -, hres, -⟩ := Lambda.isMade_spec h
  cases hd.symm.trans hd'
  rw [hname, lm1_file_is] at hcf
  cases hcf
  rw [hO object ok hobj hok, lm1_laid_is] at hlay
  cases hlay
  obtain ⟨b, hb, hsame⟩ := hmeth 1 lm1_forw (lm1_second_is methods hms)
  simp only [Lambda.sameMethod, Bool.and_eq_true, decide_eq_true_eq] at hsame
  obtain ⟨⟨hn, -, hsig, hfl⟩, hcode⟩ := hsame
  have fc := lm1_f_code
  have ff := lm1_f_flags
  simp only [Prod.mk.injEq] at ff
  obtain ⟨g0, hg0, hp0⟩ := Option.map_eq_some_iff.mp lm1_eF0.2.2.2
  simp only [Prod.mk.injEq] at hp0
  obtain ⟨g1, hg1, hp1⟩ := Option.map_eq_some_iff.mp lm1_eF1.2.2.2
  simp only [Prod.mk.injEq] at hp1
  cases hfc : lm1_forw.code with
  | none => rw [hfc] at fc; cases fc
  | some x =>
    cases hbc : b.code with
    | none => simp [hfc, hbc] at hcode
    | some y =>
      simp only [hfc, hbc, Bool.and_eq_true, decide_eq_true_eq] at hcode
      simp only [hfc, Option.map_some, Option.some.injEq, Prod.mk.injEq] at fc
      refine ⟨k, tk, file, b, y, toy, target, g0, g1, hk, by rw [hrec.1, hname]; rfl, hfile, hpool.2.1, by simp [Vm.method?, hk, hb], hbc, ?_, by rw [← hcode.1.1.1.1.2.1]; exact fc.2, ?_, by rw [← hfl]; exact ff.1, by rw [← hsig]; exact ff.2.2, ht, htk, hitf, hg,
        ⟨k, hk, hres 27 _ (Lambda.resolvedOf_method lm1_eM.1 lm1_eM.2.1 ht htk lm1_eM.2.2 hg)⟩, ⟨k, hk, hres 23 _ (Lambda.resolvedOf_class lm1_eC.1 lm1_eC.2.2 lm1_eC.2.1 ht)⟩,
        ⟨k, 0, k, hk, hres 17 _ (Lambda.resolvedOf_field lm1_eF0.1 lm1_eF0.2.1 lm1_eF0.2.2.1), hk, hfields 0 _ hg0⟩, hp0.1, hp0.2,
        ⟨k, 1, k, hk, hres 19 _ (Lambda.resolvedOf_field lm1_eF1.1 lm1_eF1.2.1 lm1_eF1.2.2.1), hk, hfields 1 _ hg1⟩, hp1.1, hp1.2⟩
      · rw [← hcode.1.1.1.1.2.2]
        exact ByteArray.ext fc.1
      · simp [Method.locks, Method.isSynchronized, ← hfl, ff.1, hasFlag, Acc.synchronized]
def lm2_s : Lambda.Shape := { iface := "FairBatten$Measure", name := "at", sam := ⟨[.int], some .int⟩, captured := [.object "FairBatten$Hull", .int], kind := 5, implClass := "FairBatten$Hull", implName := "lambda$area$0", implDesc := ⟨[.int, .int], some .int⟩, implItf := false, inst := ⟨[.int], some .int⟩ }
def lm2_D : ClassFile := (lm2_s.file "FairBatten$Hull").getD { minorVersion := 0, majorVersion := 0, constantPool := #[], accessFlags := 0, thisClass := 0, superClass := 0, interfaces := #[], fields := #[], methods := #[], attributes := #[] }
def lm2_forw : Method := ((layoutMethods lm2_D).bind (·[1]?)).getD default
def lm2_laid : Array Field × Array FieldType × Array FieldType := (layoutFields lm2_D 0).getD (#[], #[], #[])
theorem lm2_file_is : lm2_s.file "FairBatten$Hull" = some lm2_D := by
  have h : (lm2_s.file "FairBatten$Hull").isSome = true := by decide +kernel
  obtain ⟨x, hx⟩ := Option.isSome_iff_exists.mp h
  simp [lm2_D, hx]
theorem lm2_second_is : ∀ ms, layoutMethods lm2_D = some ms → ms[1]? = some lm2_forw := by
  intro ms hms
  have h : ((layoutMethods lm2_D).bind (·[1]?)).isSome = true := by decide +kernel
  obtain ⟨x, hx⟩ := Option.isSome_iff_exists.mp h
  have hf : lm2_forw = x := by simp [lm2_forw, hx]
  rw [hms] at hx
  rw [hf]
  exact hx
theorem lm2_laid_is : layoutFields lm2_D 0 = some lm2_laid := by
  have h : (layoutFields lm2_D 0).isSome = true := by decide +kernel
  obtain ⟨x, hx⟩ := Option.isSome_iff_exists.mp h
  simp [lm2_laid, hx]
theorem lm2_f_code : (lm2_forw.code.map fun c => (c.code.data, c.maxLocals)) = some (lmB2.data, 2) := by decide +kernel
theorem lm2_f_flags : (lm2_forw.accessFlags, lm2_forw.name, lm2_forw.sig.returnType) = (0x0001, "at", some FieldType.int) := by decide +kernel
theorem lm2_eM : lm2_D.constantPool[27]? = some (.methodref 23 26) ∧ lm2_D.constantPool.className? 23 = some "FairBatten$Hull" ∧ lm2_D.constantPool.nameAndType? 26 = some ("lambda$area$0", "(II)I") := by decide +kernel
theorem lm2_eC : lm2_D.constantPool[23]? = some (.class_ 22) ∧ lm2_D.constantPool.string? 22 = some "FairBatten$Hull" ∧ 23 ≠ lm2_D.thisClass := by decide +kernel
theorem lm2_eF0 : lm2_D.constantPool[17]? = some (.fieldref 2 16) ∧ lm2_D.constantPool.nameAndType? 16 = some ("arg$1", "LFairBatten$Hull;") ∧ lm2_laid.1.findIdx? (·.name == "arg$1") = some 0 ∧ (lm2_laid.1[0]?).map (fun f => (f.isStatic, f.slot)) = some (false, 0) := by decide +kernel
theorem lm2_eF1 : lm2_D.constantPool[19]? = some (.fieldref 2 18) ∧ lm2_D.constantPool.nameAndType? 18 = some ("arg$2", "I") ∧ lm2_laid.1.findIdx? (·.name == "arg$2") = some 1 ∧ (lm2_laid.1[1]?).map (fun f => (f.isStatic, f.slot)) = some (false, 1) := by decide +kernel
set_option maxHeartbeats 1000000 in
theorem lm2_made {e : Setting} {vm : Vm} {d c : ClassId} {dk : Class} (hd : vm.classes[d]? = some dk) (hname : dk.name = "FairBatten$Hull") (h : Lambda.isMade e vm d lm2_s c = true)
    (hO : ∀ o ok, vm.findClass "java/lang/Object" = some o → vm.classes[o]? = some ok → ok.instanceTypes.size = 0) :
    ∃ (k tk : Class) (file : ClassFile) (methk : Method) (ck : Code) (toy : ClassId) (t : MethodId) (f0 : Field) (f1 : Field),
      vm.classes[c]? = some k ∧ k.name = "FairBatten$Hull$$Lambda" ∧ k.cf = some file ∧ file.constantPool = lm2_D.constantPool ∧
      vm.method? ⟨c, 1⟩ = some methk ∧ methk.code = some ck ∧ ck.code = lmB2 ∧ ck.maxLocals = 2 ∧ methk.locks = false ∧ methk.accessFlags = 0x0001 ∧ methk.sig.returnType = some .int ∧
      vm.findClass "FairBatten$Hull" = some toy ∧ vm.classes[toy]? = some tk ∧ tk.isInterface = false ∧ ((methodIn toy "lambda$area$0" "(II)I" tk.isInterface none).ask e vm).1 = .ok t ∧
      vm.methodReady c 27 t ∧ vm.classReady c 23 toy ∧ vm.fieldReady c 17 c f0 ∧ f0.isStatic = false ∧ f0.slot = 0 ∧ vm.fieldReady c 19 c f1 ∧ f1.isStatic = false ∧ f1.slot = 1 := by
  obtain ⟨dk', k, ok, tk, file, cf, object, iface, toy, lay, methods, target, found, hd', hk, hfile, hcf, hobj, -, hok, hlay, hms, ht, htk, hg, -, hrec, -, -, -, hitf, hpool, hmeth, hfields, -, hres, -⟩ := Lambda.isMade_spec h
  cases hd.symm.trans hd'
  rw [hname, lm2_file_is] at hcf
  cases hcf
  rw [hO object ok hobj hok, lm2_laid_is] at hlay
  cases hlay
  obtain ⟨b, hb, hsame⟩ := hmeth 1 lm2_forw (lm2_second_is methods hms)
  simp only [Lambda.sameMethod, Bool.and_eq_true, decide_eq_true_eq] at hsame
  obtain ⟨⟨hn, -, hsig, hfl⟩, hcode⟩ := hsame
  have fc := lm2_f_code
  have ff := lm2_f_flags
  simp only [Prod.mk.injEq] at ff
  obtain ⟨g0, hg0, hp0⟩ := Option.map_eq_some_iff.mp lm2_eF0.2.2.2
  simp only [Prod.mk.injEq] at hp0
  obtain ⟨g1, hg1, hp1⟩ := Option.map_eq_some_iff.mp lm2_eF1.2.2.2
  simp only [Prod.mk.injEq] at hp1
  cases hfc : lm2_forw.code with
  | none => rw [hfc] at fc; cases fc
  | some x =>
    cases hbc : b.code with
    | none => simp [hfc, hbc] at hcode
    | some y =>
      simp only [hfc, hbc, Bool.and_eq_true, decide_eq_true_eq] at hcode
      simp only [hfc, Option.map_some, Option.some.injEq, Prod.mk.injEq] at fc
      refine ⟨k, tk, file, b, y, toy, target, g0, g1, hk, by rw [hrec.1, hname]; rfl, hfile, hpool.2.1, by simp [Vm.method?, hk, hb], hbc, ?_, by rw [← hcode.1.1.1.1.2.1]; exact fc.2, ?_, by rw [← hfl]; exact ff.1, by rw [← hsig]; exact ff.2.2, ht, htk, hitf, hg,
        ⟨k, hk, hres 27 _ (Lambda.resolvedOf_method lm2_eM.1 lm2_eM.2.1 ht htk lm2_eM.2.2 hg)⟩, ⟨k, hk, hres 23 _ (Lambda.resolvedOf_class lm2_eC.1 lm2_eC.2.2 lm2_eC.2.1 ht)⟩,
        ⟨k, 0, k, hk, hres 17 _ (Lambda.resolvedOf_field lm2_eF0.1 lm2_eF0.2.1 lm2_eF0.2.2.1), hk, hfields 0 _ hg0⟩, hp0.1, hp0.2,
        ⟨k, 1, k, hk, hres 19 _ (Lambda.resolvedOf_field lm2_eF1.1 lm2_eF1.2.1 lm2_eF1.2.2.1), hk, hfields 1 _ hg1⟩, hp1.1, hp1.2⟩
      · rw [← hcode.1.1.1.1.2.2]
        exact ByteArray.ext fc.1
      · simp [Method.locks, Method.isSynchronized, ← hfl, ff.1, hasFlag, Acc.synchronized]
def lm3_s : Lambda.Shape := { iface := "FairBatten$Measure", name := "at", sam := ⟨[.int], some .int⟩, captured := [.object "FairBatten$Hull"], kind := 5, implClass := "FairBatten$Hull", implName := "lambda$volumeAnew$3", implDesc := ⟨[.int], some .int⟩, implItf := false, inst := ⟨[.int], some .int⟩ }
def lm3_D : ClassFile := (lm3_s.file "FairBatten$Hull").getD { minorVersion := 0, majorVersion := 0, constantPool := #[], accessFlags := 0, thisClass := 0, superClass := 0, interfaces := #[], fields := #[], methods := #[], attributes := #[] }
def lm3_forw : Method := ((layoutMethods lm3_D).bind (·[1]?)).getD default
def lm3_laid : Array Field × Array FieldType × Array FieldType := (layoutFields lm3_D 0).getD (#[], #[], #[])
theorem lm3_file_is : lm3_s.file "FairBatten$Hull" = some lm3_D := by
  have h : (lm3_s.file "FairBatten$Hull").isSome = true := by decide +kernel
  obtain ⟨x, hx⟩ := Option.isSome_iff_exists.mp h
  simp [lm3_D, hx]
theorem lm3_second_is : ∀ ms, layoutMethods lm3_D = some ms → ms[1]? = some lm3_forw := by
  intro ms hms
  have h : ((layoutMethods lm3_D).bind (·[1]?)).isSome = true := by decide +kernel
  obtain ⟨x, hx⟩ := Option.isSome_iff_exists.mp h
  have hf : lm3_forw = x := by simp [lm3_forw, hx]
  rw [hms] at hx
  rw [hf]
  exact hx
theorem lm3_laid_is : layoutFields lm3_D 0 = some lm3_laid := by
  have h : (layoutFields lm3_D 0).isSome = true := by decide +kernel
  obtain ⟨x, hx⟩ := Option.isSome_iff_exists.mp h
  simp [lm3_laid, hx]
theorem lm3_f_code : (lm3_forw.code.map fun c => (c.code.data, c.maxLocals)) = some (lmB1.data, 2) := by decide +kernel
theorem lm3_f_flags : (lm3_forw.accessFlags, lm3_forw.name, lm3_forw.sig.returnType) = (0x0001, "at", some FieldType.int) := by decide +kernel
theorem lm3_eM : lm3_D.constantPool[22]? = some (.methodref 19 21) ∧ lm3_D.constantPool.className? 19 = some "FairBatten$Hull" ∧ lm3_D.constantPool.nameAndType? 21 = some ("lambda$volumeAnew$3", "(I)I") := by decide +kernel
theorem lm3_eC : lm3_D.constantPool[19]? = some (.class_ 18) ∧ lm3_D.constantPool.string? 18 = some "FairBatten$Hull" ∧ 19 ≠ lm3_D.thisClass := by decide +kernel
theorem lm3_eF0 : lm3_D.constantPool[15]? = some (.fieldref 2 14) ∧ lm3_D.constantPool.nameAndType? 14 = some ("arg$1", "LFairBatten$Hull;") ∧ lm3_laid.1.findIdx? (·.name == "arg$1") = some 0 ∧ (lm3_laid.1[0]?).map (fun f => (f.isStatic, f.slot)) = some (false, 0) := by decide +kernel
set_option maxHeartbeats 1000000 in
theorem lm3_made {e : Setting} {vm : Vm} {d c : ClassId} {dk : Class} (hd : vm.classes[d]? = some dk) (hname : dk.name = "FairBatten$Hull") (h : Lambda.isMade e vm d lm3_s c = true)
    (hO : ∀ o ok, vm.findClass "java/lang/Object" = some o → vm.classes[o]? = some ok → ok.instanceTypes.size = 0) :
    ∃ (k tk : Class) (file : ClassFile) (methk : Method) (ck : Code) (toy : ClassId) (t : MethodId) (f0 : Field),
      vm.classes[c]? = some k ∧ k.name = "FairBatten$Hull$$Lambda" ∧ k.cf = some file ∧ file.constantPool = lm3_D.constantPool ∧
      vm.method? ⟨c, 1⟩ = some methk ∧ methk.code = some ck ∧ ck.code = lmB1 ∧ ck.maxLocals = 2 ∧ methk.locks = false ∧ methk.accessFlags = 0x0001 ∧ methk.sig.returnType = some .int ∧
      vm.findClass "FairBatten$Hull" = some toy ∧ vm.classes[toy]? = some tk ∧ tk.isInterface = false ∧ ((methodIn toy "lambda$volumeAnew$3" "(I)I" tk.isInterface none).ask e vm).1 = .ok t ∧
      vm.methodReady c 22 t ∧ vm.classReady c 19 toy ∧ vm.fieldReady c 15 c f0 ∧ f0.isStatic = false ∧ f0.slot = 0 := by
  obtain ⟨dk', k, ok, tk, file, cf, object, iface, toy, lay, methods, target, found, hd', hk, hfile, hcf, hobj, -, hok, hlay, hms, ht, htk, hg, -, hrec, -, -, -, hitf, hpool, hmeth, hfields, -, hres, -⟩ := Lambda.isMade_spec h
  cases hd.symm.trans hd'
  rw [hname, lm3_file_is] at hcf
  cases hcf
  rw [hO object ok hobj hok, lm3_laid_is] at hlay
  cases hlay
  obtain ⟨b, hb, hsame⟩ := hmeth 1 lm3_forw (lm3_second_is methods hms)
  simp only [Lambda.sameMethod, Bool.and_eq_true, decide_eq_true_eq] at hsame
  obtain ⟨⟨hn, -, hsig, hfl⟩, hcode⟩ := hsame
  have fc := lm3_f_code
  have ff := lm3_f_flags
  simp only [Prod.mk.injEq] at ff
  obtain ⟨g0, hg0, hp0⟩ := Option.map_eq_some_iff.mp lm3_eF0.2.2.2
  simp only [Prod.mk.injEq] at hp0
  cases hfc : lm3_forw.code with
  | none => rw [hfc] at fc; cases fc
  | some x =>
    cases hbc : b.code with
    | none => simp [hfc, hbc] at hcode
    | some y =>
      simp only [hfc, hbc, Bool.and_eq_true, decide_eq_true_eq] at hcode
      simp only [hfc, Option.map_some, Option.some.injEq, Prod.mk.injEq] at fc
      refine ⟨k, tk, file, b, y, toy, target, g0, hk, by rw [hrec.1, hname]; rfl, hfile, hpool.2.1, by simp [Vm.method?, hk, hb], hbc, ?_, by rw [← hcode.1.1.1.1.2.1]; exact fc.2, ?_, by rw [← hfl]; exact ff.1, by rw [← hsig]; exact ff.2.2, ht, htk, hitf, hg,
        ⟨k, hk, hres 22 _ (Lambda.resolvedOf_method lm3_eM.1 lm3_eM.2.1 ht htk lm3_eM.2.2 hg)⟩, ⟨k, hk, hres 19 _ (Lambda.resolvedOf_class lm3_eC.1 lm3_eC.2.2 lm3_eC.2.1 ht)⟩,
        ⟨k, 0, k, hk, hres 15 _ (Lambda.resolvedOf_field lm3_eF0.1 lm3_eF0.2.1 lm3_eF0.2.2.1), hk, hfields 0 _ hg0⟩, hp0.1, hp0.2⟩
      · rw [← hcode.1.1.1.1.2.2]
        exact ByteArray.ext fc.1
      · simp [Method.locks, Method.isSynchronized, ← hfl, ff.1, hasFlag, Acc.synchronized]
def lm4_s : Lambda.Shape := { iface := "FairBatten$Measure", name := "at", sam := ⟨[.int], some .int⟩, captured := [.object "FairBatten$Hull", .int], kind := 5, implClass := "FairBatten$Hull", implName := "lambda$volumeAnew$2", implDesc := ⟨[.int, .int], some .int⟩, implItf := false, inst := ⟨[.int], some .int⟩ }
def lm4_D : ClassFile := (lm4_s.file "FairBatten$Hull").getD { minorVersion := 0, majorVersion := 0, constantPool := #[], accessFlags := 0, thisClass := 0, superClass := 0, interfaces := #[], fields := #[], methods := #[], attributes := #[] }
def lm4_forw : Method := ((layoutMethods lm4_D).bind (·[1]?)).getD default
def lm4_laid : Array Field × Array FieldType × Array FieldType := (layoutFields lm4_D 0).getD (#[], #[], #[])
theorem lm4_file_is : lm4_s.file "FairBatten$Hull" = some lm4_D := by
  have h : (lm4_s.file "FairBatten$Hull").isSome = true := by decide +kernel
  obtain ⟨x, hx⟩ := Option.isSome_iff_exists.mp h
  simp [lm4_D, hx]
theorem lm4_second_is : ∀ ms, layoutMethods lm4_D = some ms → ms[1]? = some lm4_forw := by
  intro ms hms
  have h : ((layoutMethods lm4_D).bind (·[1]?)).isSome = true := by decide +kernel
  obtain ⟨x, hx⟩ := Option.isSome_iff_exists.mp h
  have hf : lm4_forw = x := by simp [lm4_forw, hx]
  rw [hms] at hx
  rw [hf]
  exact hx
theorem lm4_laid_is : layoutFields lm4_D 0 = some lm4_laid := by
  have h : (layoutFields lm4_D 0).isSome = true := by decide +kernel
  obtain ⟨x, hx⟩ := Option.isSome_iff_exists.mp h
  simp [lm4_laid, hx]
theorem lm4_f_code : (lm4_forw.code.map fun c => (c.code.data, c.maxLocals)) = some (lmB2.data, 2) := by decide +kernel
theorem lm4_f_flags : (lm4_forw.accessFlags, lm4_forw.name, lm4_forw.sig.returnType) = (0x0001, "at", some FieldType.int) := by decide +kernel
theorem lm4_eM : lm4_D.constantPool[27]? = some (.methodref 23 26) ∧ lm4_D.constantPool.className? 23 = some "FairBatten$Hull" ∧ lm4_D.constantPool.nameAndType? 26 = some ("lambda$volumeAnew$2", "(II)I") := by decide +kernel
theorem lm4_eC : lm4_D.constantPool[23]? = some (.class_ 22) ∧ lm4_D.constantPool.string? 22 = some "FairBatten$Hull" ∧ 23 ≠ lm4_D.thisClass := by decide +kernel
theorem lm4_eF0 : lm4_D.constantPool[17]? = some (.fieldref 2 16) ∧ lm4_D.constantPool.nameAndType? 16 = some ("arg$1", "LFairBatten$Hull;") ∧ lm4_laid.1.findIdx? (·.name == "arg$1") = some 0 ∧ (lm4_laid.1[0]?).map (fun f => (f.isStatic, f.slot)) = some (false, 0) := by decide +kernel
theorem lm4_eF1 : lm4_D.constantPool[19]? = some (.fieldref 2 18) ∧ lm4_D.constantPool.nameAndType? 18 = some ("arg$2", "I") ∧ lm4_laid.1.findIdx? (·.name == "arg$2") = some 1 ∧ (lm4_laid.1[1]?).map (fun f => (f.isStatic, f.slot)) = some (false, 1) := by decide +kernel
set_option maxHeartbeats 1000000 in
theorem lm4_made {e : Setting} {vm : Vm} {d c : ClassId} {dk : Class} (hd : vm.classes[d]? = some dk) (hname : dk.name = "FairBatten$Hull") (h : Lambda.isMade e vm d lm4_s c = true)
    (hO : ∀ o ok, vm.findClass "java/lang/Object" = some o → vm.classes[o]? = some ok → ok.instanceTypes.size = 0) :
    ∃ (k tk : Class) (file : ClassFile) (methk : Method) (ck : Code) (toy : ClassId) (t : MethodId) (f0 : Field) (f1 : Field),
      vm.classes[c]? = some k ∧ k.name = "FairBatten$Hull$$Lambda" ∧ k.cf = some file ∧ file.constantPool = lm4_D.constantPool ∧
      vm.method? ⟨c, 1⟩ = some methk ∧ methk.code = some ck ∧ ck.code = lmB2 ∧ ck.maxLocals = 2 ∧ methk.locks = false ∧ methk.accessFlags = 0x0001 ∧ methk.sig.returnType = some .int ∧
      vm.findClass "FairBatten$Hull" = some toy ∧ vm.classes[toy]? = some tk ∧ tk.isInterface = false ∧ ((methodIn toy "lambda$volumeAnew$2" "(II)I" tk.isInterface none).ask e vm).1 = .ok t ∧
      vm.methodReady c 27 t ∧ vm.classReady c 23 toy ∧ vm.fieldReady c 17 c f0 ∧ f0.isStatic = false ∧ f0.slot = 0 ∧ vm.fieldReady c 19 c f1 ∧ f1.isStatic = false ∧ f1.slot = 1 := by
  obtain ⟨dk', k, ok, tk, file, cf, object, iface, toy, lay, methods, target, found, hd', hk, hfile, hcf, hobj, -, hok, hlay, hms, ht, htk, hg, -, hrec, -, -, -, hitf, hpool, hmeth, hfields, -, hres, -⟩ := Lambda.isMade_spec h
  cases hd.symm.trans hd'
  rw [hname, lm4_file_is] at hcf
  cases hcf
  rw [hO object ok hobj hok, lm4_laid_is] at hlay
  cases hlay
  obtain ⟨b, hb, hsame⟩ := hmeth 1 lm4_forw (lm4_second_is methods hms)
  simp only [Lambda.sameMethod, Bool.and_eq_true, decide_eq_true_eq] at hsame
  obtain ⟨⟨hn, -, hsig, hfl⟩, hcode⟩ := hsame
  have fc := lm4_f_code
  have ff := lm4_f_flags
  simp only [Prod.mk.injEq] at ff
  obtain ⟨g0, hg0, hp0⟩ := Option.map_eq_some_iff.mp lm4_eF0.2.2.2
  simp only [Prod.mk.injEq] at hp0
  obtain ⟨g1, hg1, hp1⟩ := Option.map_eq_some_iff.mp lm4_eF1.2.2.2
  simp only [Prod.mk.injEq] at hp1
  cases hfc : lm4_forw.code with
  | none => rw [hfc] at fc; cases fc
  | some x =>
    cases hbc : b.code with
    | none => simp [hfc, hbc] at hcode
    | some y =>
      simp only [hfc, hbc, Bool.and_eq_true, decide_eq_true_eq] at hcode
      simp only [hfc, Option.map_some, Option.some.injEq, Prod.mk.injEq] at fc
      refine ⟨k, tk, file, b, y, toy, target, g0, g1, hk, by rw [hrec.1, hname]; rfl, hfile, hpool.2.1, by simp [Vm.method?, hk, hb], hbc, ?_, by rw [← hcode.1.1.1.1.2.1]; exact fc.2, ?_, by rw [← hfl]; exact ff.1, by rw [← hsig]; exact ff.2.2, ht, htk, hitf, hg,
        ⟨k, hk, hres 27 _ (Lambda.resolvedOf_method lm4_eM.1 lm4_eM.2.1 ht htk lm4_eM.2.2 hg)⟩, ⟨k, hk, hres 23 _ (Lambda.resolvedOf_class lm4_eC.1 lm4_eC.2.2 lm4_eC.2.1 ht)⟩,
        ⟨k, 0, k, hk, hres 17 _ (Lambda.resolvedOf_field lm4_eF0.1 lm4_eF0.2.1 lm4_eF0.2.2.1), hk, hfields 0 _ hg0⟩, hp0.1, hp0.2,
        ⟨k, 1, k, hk, hres 19 _ (Lambda.resolvedOf_field lm4_eF1.1 lm4_eF1.2.1 lm4_eF1.2.2.1), hk, hfields 1 _ hg1⟩, hp1.1, hp1.2⟩
      · rw [← hcode.1.1.1.1.2.2]
        exact ByteArray.ext fc.1
      · simp [Method.locks, Method.isSynchronized, ← hfl, ff.1, hasFlag, Acc.synchronized]
