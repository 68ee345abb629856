/-! LAMBDAS: what a linked site says of a state -/
set_option maxRecDepth 100000
theorem lm_hO {args : Array Value} {s : State} (h : (Cond.instantiable "java/lang/Object" 0).before args s = true) : ∀ o ok, s.vm.findClass "java/lang/Object" = some o → s.vm.classes[o]? = some ok → ok.instanceTypes.size = 0 := by
  intro o ok h1 h2
  simp only [Cond.before, Cond.holds, Cond.value, h1, Option.bind_some, h2, Option.map_some] at h
  simp at h
  simp [h]
/-- the site at pc of y is linked to the class cK -/
def lmF (y : MethodName) (pc ix : Nat) (σ : Lambda.Shape) (cK : ClassId) (U : State) : Prop := ∃ (m : MethodId) (k : Class) (cf : ClassFile) (i0 p0 : Nat), U.methodNamed? y = some m ∧ U.vm.classes[m.cls]? = some k ∧ k.cf = some cf ∧ Lambda.shapeOf? cf ix = some σ ∧ (k.callSites.find? fun z => z.1 == m.idx && z.2.1 == pc) = some (i0, p0, .makes cK) ∧ Lambda.isMade { classPath := fun _ => none } U.vm m.cls σ cK = true ∧ U.lambdaCallable σ cK = true
theorem lmF.of {y : MethodName} {pc ix : Nat} {σ : Lambda.Shape} {args : Array Value} {s : State} (h : (Cond.lambdaSite y pc ix σ).before args s = true) (hc : σ.captured ≠ []) : ∃ cK, lmF y pc ix σ cK s := by
  obtain ⟨cK, one, hat⟩ := Cond.lambdaSite_spec h
  obtain ⟨m, k, cf, i0, p0, lk, h1, h2, h3, h4, -, h5, h6, h7, h8⟩ := State.lambdaAt?_spec hat
  rcases h8 with ⟨a, cell, -, -, h9, -⟩ | ⟨h9, -, -⟩
  · exact absurd h9 hc
  · subst h9
    exact ⟨cK, m, k, cf, i0, p0, h1, h2, h3, h4, h5, h6, h7⟩
theorem lmF.warm {y : MethodName} {pc ix : Nat} {σ : Lambda.Shape} {cK : ClassId} {s U : State} (hW : s.WarmedH U.vm) (h : lmF y pc ix σ cK s) : lmF y pc ix σ cK U := by
  obtain ⟨m, k, cf, i0, p0, h1, h2, h3, h4, h5, h6, h7⟩ := h
  obtain ⟨k', hk', he⟩ := hW.alike.2.2 _ _ h2
  refine ⟨m, k', cf, i0, p0, ?_, hk', by rw [he]; exact h3, h4, by rw [he]; exact h5, Lambda.isMade_warmer hW h6, ?_⟩
  · have := State.methodNamed?_setVm (s := s) hW.alike y
    rw [h1] at this
    exact this
  · have hA := hW.alike
    simp only [State.lambdaCallable, hA.findClass, hA.assignable, hA.superclasses, hA.declaredIn] at h7 ⊢
    exact h7
/-- the four sites, by their classes -/
def lmS (c1 c2 c3 c4 : ClassId) (U : State) : Prop := lmF ⟨"FairBatten$Hull", "volume", "(I)I"⟩ 2 28 lm1_s c1 U ∧ lmF ⟨"FairBatten$Hull", "area", "(II)I"⟩ 2 20 lm2_s c2 U ∧ lmF ⟨"FairBatten$Hull", "volumeAnew", "(I)I"⟩ 1 29 lm3_s c3 U ∧ lmF ⟨"FairBatten$Hull", "lambda$volumeAnew$3", "(I)I"⟩ 2 42 lm4_s c4 U
theorem lmS.warm {c1 c2 c3 c4 : ClassId} {s U : State} (hW : s.WarmedH U.vm) (h : lmS c1 c2 c3 c4 s) : lmS c1 c2 c3 c4 U := ⟨h.1.warm hW, h.2.1.warm hW, h.2.2.1.warm hW, h.2.2.2.warm hW⟩
theorem lmS.of {args : Array Value} {s : State} (h1 : siteWord_1_1.before args s = true) (h2 : siteWord_1_2.before args s = true) (h3 : siteWord_1_3.before args s = true) (h4 : siteWord_1_4.before args s = true) : ∃ c1 c2 c3 c4, lmS c1 c2 c3 c4 s := by
  obtain ⟨c1, g1⟩ := lmF.of (σ := lm1_s) h1 (by decide)
  obtain ⟨c2, g2⟩ := lmF.of (σ := lm2_s) h2 (by decide)
  obtain ⟨c3, g3⟩ := lmF.of (σ := lm3_s) h3 (by decide)
  obtain ⟨c4, g4⟩ := lmF.of (σ := lm4_s) h4 (by decide)
  exact ⟨c1, c2, c3, c4, g1, g2, g3, g4⟩
/-! THE DEFAULT METHOD: what the start says of the call of FairBatten$Piece's cuts -/
abbrev xPC : MethodName := ⟨"FairBatten$Piece", "cuts", "([III)I"⟩
abbrev xCC : MethodName := ⟨"FairBatten$Cutter", "cuts", "([III)I"⟩
def xD (U : State) : Prop := (Cond.methodLink "FairBatten" 174 xPC).before #[] U = true ∧ (Cond.methodLink "FairBatten$Scarfed" 7 xPC).before #[] U = true ∧ (Cond.sameMethod "FairBatten$Piece" "FairBatten$Cutter" "cuts" "([III)I").before #[] U = true ∧ (Cond.landsInDefault "FairBatten$1" xPC xCC).before #[] U = true ∧ (Cond.landsInDefault "FairBatten$Piece" xPC xCC).before #[] U = true
theorem xD_land {s U : State} {C : String} {x y : MethodName} (hW : s.WarmedH U.vm) (h : (Cond.landsInDefault C x y).before #[] s = true) : (Cond.landsInDefault C x y).before #[] U = true := by
  have h1 : (Cond.landsInDefault C x y).before #[] (s.setVm U.vm) = true := (Cond.landsInDefault_setVm hW.alike (State.methodFound?_setVm hW.alike _ _ _)).trans h
  exact h1
theorem xD_tab {s U : State} {w : Cond} (hc : (w.onTables && w.keeps) = true) (hW : s.WarmedH U.vm) (h : w.before #[] s = true) : w.before #[] U = true := word_at hW (Or.inl hc) h
theorem xD.warm {s U : State} (hW : s.WarmedH U.vm) (h : xD s) : xD U := ⟨xD_tab (by first | rfl | simp [Cond.onTables, Cond.keeps, Cond.steady]) hW h.1, xD_tab (by first | rfl | simp [Cond.onTables, Cond.keeps, Cond.steady]) hW h.2.1, xD_tab (by first | rfl | simp [Cond.onTables, Cond.keeps, Cond.steady]) hW h.2.2.1, xD_land hW h.2.2.2.1, xD_land hW h.2.2.2.2⟩
