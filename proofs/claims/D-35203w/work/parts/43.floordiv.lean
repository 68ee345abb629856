/-! Math.floorDiv of two naturals -/
set_option maxRecDepth 100000
theorem nI_ex {a : Int32} (h : 0 ≤ a) : ∃ x, x < 2147483648 ∧ a = nI x := by
  have h0 : 0 ≤ a.toInt := by
    have h1 := Int32.le_iff_toInt_le.mp h
    simpa using h1
  have h2 := a.toInt_lt
  refine ⟨a.toInt.toNat, by omega, ?_⟩
  apply Int32.toInt_inj.mp
  rw [nI_toInt (by omega)]
  omega
theorem nI_xor0 {a b : Nat} (ha : a < 2147483648) (hb : b < 2147483648) : 0 ≤ nI a ^^^ nI b := by
  have h1 : nI a ^^^ nI b = nI (a ^^^ b) := by
    unfold nI
    apply Int32.toBitVec_inj.mp
    simp
  rw [h1]
  exact nI_pos' (Nat.xor_lt_two_pow (n := 31) ha hb)
theorem FDv_noRow0 : (NativeRow.find? natives yJ10_floorDiv.cls yJ10_floorDiv.name yJ10_floorDiv.desc).isNone = true := by decide +kernel
theorem FDv_noRow (p : Program) : NativeRow.find? p.tables.natives yJ10_floorDiv.cls yJ10_floorDiv.name yJ10_floorDiv.desc = none := by
  cases p <;> exact Option.isNone_iff_eq_none.mp FDv_noRow0
def FDv_spec : Spec where
  pre := .and (.code yJ10_floorDiv cJ10_floorDiv 3 (some .int)) (.and (.count 2) (.and (.isInt (.arg 0)) (.and (.isInt (.arg 1)) (.and (.le (.int 0) (.arg 0)) (.lt (.int 0) (.arg 1))))))
  post := .and .returned (.eq .result (.div (.arg 0) (.arg 1)))
  changes := some []
set_option maxHeartbeats 4000000 in
theorem FDv_meets (l : Launch) : MeetsLoose l yJ10_floorDiv FDv_spec := by
  refine MeetsLoose.of_body_ov (code := cJ10_floorDiv) (maxLocals := 3) (ret := some .int) FDv_noRow ?_ ?_
  · intro args s h
    simp only [FDv_spec, Cond.before_and, Bool.and_eq_true] at h
    exact h.1
  · intro p e s m args below meth c s₁ B
    have hpre := B.pre
    simp only [FDv_spec, Cond.before_and, Bool.and_eq_true] at hpre
    obtain ⟨a, b, rfl⟩ := Cond.two_ints hpre.2.1 hpre.2.2.1 hpre.2.2.2.1
    have h0 : 0 ≤ a := by simpa [Cond.before, Cond.holds, Cond.value, Term.eval] using hpre.2.2.2.2.1
    have h1 : 0 < b := by simpa [Cond.before, Cond.holds, Cond.value, Term.eval] using hpre.2.2.2.2.2
    obtain ⟨x, hx, rfl⟩ := nI_ex h0
    obtain ⟨y, hy, rfl⟩ := nI_ex (Int32.le_of_lt h1)
    have hy0 : 0 < y := by
      rcases Nat.eq_zero_or_pos y with h | h
      · subst h; exact absurd h1 (by decide)
      · exact h
    have hne : ¬ nI y = 0 := nI_ne0 hy0 hy
    have hxo : 0 ≤ nI x ^^^ nI y := nI_xor0 hx hy
    have hloc : argsToLocals #[.int (nI x), .int (nI y)] 3 = #[.val (.int (nI x)), .val (.int (nI y)), .unset] := rfl
    obtain ⟨fs, hfs⟩ := handOver_isSome (s := s₁) (some (.int (nI x / nI y))) B.hears₁
    refine ⟨s₁.setFrames fs, .returned (some (.int (nI x / nI y))), ?_, B.here.running, B.ended hfs (by intro h; cases h), ?_, State.sameBut_nil.mpr ?_⟩
    · unfold entryFrame; rw [hloc]
      refine Steps.instrAtOv (c := _) (by simpa using B.here) ?_
      simp [jvm, wpRun, exec, B.here.top, B.exec, B.bytes, dJ10_floorDiv_0]
      refine Steps.instrAtOv (c := _) (by simpa using B.here) ?_
      simp [jvm, wpRun, exec, B.here.top, B.exec, B.bytes, dJ10_floorDiv_1]
      refine Steps.instrAtOv (c := _) (by simpa using B.here) ?_
      simp [jvm, wpRun, exec, B.here.top, B.exec, B.bytes, dJ10_floorDiv_2, hne]
      refine Steps.instrAtOv (c := _) (by simpa using B.here) ?_
      simp [jvm, wpRun, exec, B.here.top, B.exec, B.bytes, dJ10_floorDiv_3]
      refine ⟨#[.val (.int (nI x)), .val (.int (nI y)), .val (.int (nI x / nI y))], rfl, ?_⟩
      refine Steps.instrAtOv (c := _) (by simpa using B.here) ?_
      simp [jvm, wpRun, exec, B.here.top, B.exec, B.bytes, dJ10_floorDiv_4]
      refine Steps.instrAtOv (c := _) (by simpa using B.here) ?_
      simp [jvm, wpRun, exec, B.here.top, B.exec, B.bytes, dJ10_floorDiv_5]
      refine Steps.instrAtOv (c := _) (by simpa using B.here) ?_
      simp [jvm, wpRun, exec, B.here.top, B.exec, B.bytes, dJ10_floorDiv_6]
      refine Steps.instrAtOv (c := _) (by simpa using B.here) ?_
      simp [jvm, wpRun, exec, B.here.top, B.exec, B.bytes, dJ10_floorDiv_7, ifCond.holds, hxo]
      refine Steps.instrAtOv (c := _) (by simpa using B.here) ?_
      simp [jvm, wpRun, exec, B.here.top, B.exec, B.bytes, dJ10_floorDiv_21]
      refine Steps.instrAtOv (c := _) (by simpa using B.here) ?_
      simp [jvm, wpRun, exec, B.here.top, B.exec, B.bytes, dJ10_floorDiv_22, B.method₁, B.returns, narrow]
      intro acts
      rw [ret_to B.frames₁ B.method₁ B.notSynchronized rfl rfl hfs]
      exact Steps.refl _
    · simp [FDv_spec, Cond.after, Cond.holds, Cond.value, Term.eval, hne]
    · rw [State.frames_setFrames _ B.cur₁, B.back]
section XE
variable {p : Program} {l : Launch} {e : Env} {R : Room} {s : State} {m : MethodId} {args : Array Value} {below : List Frame} {meth : Method} {c : Code} {H : Heap} {locs : List Loc} {cells slots : Nat} {Q : State → Prop}
variable {cc : ByteArray} {pc : Nat} {ls : Array Slot} {rest : List Value}
theorem x_fdiv (hexec : p.tables.exec = Jvm.exec) (hb : c.code = cc) (hml : c.maxLocals = ls.size) {own : String} {index : Nat} (hown : s.vm.findClass own = some m.cls) (hlink : (Cond.methodLink own index yJ10_floorDiv).before args s = true) (hstat : (Cond.static yJ10_floorDiv).before args s = true) (hini : (Cond.initialized "java/lang/Math").before args s = true) (hcode : (Cond.code yJ10_floorDiv cJ10_floorDiv 3 (some .int)).before args s = true) (hframes : 1 ≤ R.frames) (hlocals : (rest.map fun v => v.category).sum + 14 ≤ R.locals) (hc : cells ≤ R.cells) (hs : slots ≤ R.slots) {a d : Nat} (ha : a < 2147483648) (h0 : 0 < d) (hd : d < 2147483648) (hdg : decode cc pc = .ok (.invokestatic index, 3)) (kk : W p l e R s m args below meth c H locs cells slots Q (F0 m (pc + 3) ls (.int (nI (a / d)) :: rest))) : W p l e R s m args below meth c H locs cells slots Q (F0 m pc ls (.int (nI d) :: .int (nI a) :: rest)) := by
  intro T hT X
  have hne : ¬ nI d = 0 := nI_ne0 h0 hd
  obtain ⟨v, vm', X', ⟨first, t, hpost⟩, hstep⟩ := X.staticByContractV hexec hown hlink hstat hini hcode (by decide)
    (FDv_meets l) rfl rfl rfl rfl
    (fun args' first o s₂ h => by
      cases o with
      | returned r => exact ⟨r, rfl⟩
      | threw y => simp [FDv_spec, Cond.after, Cond.holds, Cond.value] at h)
    (g := F0 m pc ls (.int (nI d) :: .int (nI a) :: rest)) rfl (by rw [hml]) (argsL := [.int (nI a), .int (nI d)]) (rest := rest)
    (fun sig hs => by
      have h : parseMethodDescriptor "(II)I" = some { parameters := [.int, .int], returnType := some .int } := by decide +kernel
      rw [show yJ10_floorDiv.desc = "(II)I" from rfl, h] at hs
      rw [← Option.some.inj hs]; rfl)
    rfl (by rw [hb]; exact hdg)
    (fun vm' hW => by
      simp only [FDv_spec, Cond.before_and, Bool.and_eq_true]
      refine ⟨?_, rfl, rfl, rfl, ?_, ?_⟩
      · have q := hcode
        rw [← Cond.code_setVm hW.alike] at q
        simp only [Cond.before, Cond.holds, Cond.value, State.methodNamed?, State.vm_setVm] at q ⊢
        exact q
      · simpa [Cond.before, Cond.holds, Cond.value, Term.eval] using nI_pos' ha
      · have h9 : (0 : Int32) < nI d := nI_lt h0 hd
        simpa [Cond.before, Cond.holds, Cond.value, Term.eval] using h9)
    hframes (by show 2 * 0 + _ + (3 + 11) + 0 ≤ _; omega) hc hs
  have hv : v = some (.int (nI (a / d))) := by
    have h := hpost
    rw [← pk_div ha h0 hd]
    cases v with
    | none => simp [FDv_spec, Cond.after, Cond.holds, Cond.value, Term.eval] at h
    | some w => cases w <;> simp [FDv_spec, Cond.after, Cond.holds, Cond.value, Term.eval, hne] at h <;> simp [h]
  subst hv
  obtain ⟨t2, a1, b1⟩ := kk (T.setVm vm') hT X'
  exact ⟨t2, hstep t2 a1, b1⟩
end XE
