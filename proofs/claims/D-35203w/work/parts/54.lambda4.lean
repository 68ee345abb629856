/-! LAMBDAS: a frame of a made class's method, gone in and come out of -/
set_option maxRecDepth 100000
theorem lm_thru {p : Program} {l : Launch} {e : Env} {R R2 : Room} {s : State} {m mk : MethodId} {args a : Array Value} {below : List Frame} {meth mth : Method} {c ck : Code} {U : State} {L : List Loc} {cc nn : Nat} (X : Stand p l e R s m args below meth c U L cc nn) {g : JFrame} (hg : g.method = m) (hsize : g.locals.size = c.maxLocals) {ig : Instr} {len : Nat} (hdg : decode c.code g.pc = .ok (ig, len))
    (h1 : U.vm.method? mk = some mth) (h2 : mth.code = some ck) (h3 : mth.locks = false) (h4 : U.plainMethod mk) (hf : R2.frames + 1 ≤ R.frames) (hl : 2 * g.monitorRoom + (g.stack.map fun v => v.category).sum + (ck.maxLocals + 11) + R2.locals ≤ R.locals) (hc : cc + R2.cells ≤ R.cells) (hs : nn + R2.slots ≤ R.slots)
    {Z : Option Value → State → List Loc → Nat → Nat → Prop}
    (body : ∀ U0, U0 = (U.setTop g).pushFrame (.java (entryFrame mk a ck.maxLocals)) → Stand p l e R2 (U.calling g mk a) mk a (.java g :: below) mth ck U0 [] 0 0 →
      ∃ v U1 L1 c1 n1, Stand p l e R2 (U.calling g mk a) mk a (.java g :: below) mth ck U1 L1 c1 n1 ∧ (mth.sig.returnType = none → v = none) ∧ Z v U1 L1 c1 n1 ∧
        ∀ fs, (∀ (f : JFrame) (acts : List Action), f.method = mk → f.locked = none → f.entered = [] → (doReturn e (U1.setTop f) acts v).1 = U1.setFrames fs) → Steps p.tables e (.java g :: below) (U0.setTop (entryFrame mk a ck.maxLocals)) (U1.setFrames fs)) :
    ∃ v T U1 L1 c1 n1, Stand p l e R s m args below meth c T (L ++ L1) (cc + c1) (nn + n1) ∧ Z v U1 L1 c1 n1 ∧ T.heap = U1.heap ∧ T.vm = U1.vm ∧
      Steps p.tables e below (doInvoke e (U.setTop g) [] mk a).1 (T.setTop { g with pc := g.pc + len, stack := v.toList ++ g.stack }) := by
  obtain ⟨Y, hin⟩ := X.into hg hsize hdg a (R' := R2) h1 h2 h3 h4 hf hl hc hs
  obtain ⟨v, U1, L1, c1, n1, Y1, hv, hZ, st⟩ := body _ rfl Y
  obtain ⟨fs, hq, -, he, hw, hb⟩ := Y1.leave (v := v) hv h3
  obtain ⟨T, XT, -, -, ht⟩ := X.outOf hg hdg he hw hb
  refine ⟨v, T, U1, L1, c1, n1, XT, hZ, (congrArg State.heap ht).symm, (congrArg State.vm ht).symm, ?_⟩
  rw [hin [], ← ht]
  exact Steps.weaken (mid := [.java g]) (st fs hq)
