/-! LAMBDAS: the objects are made -/
set_option maxRecDepth 100000
theorem lm_arr3 {α : Type} {x : Array Nat} {f : Nat → Nat → Nat → Option α} {r : α} (h : Lambda.shapeOf?.match_15 (fun _ => Option α) x f (fun _ => none) = some r) : ∃ a0 a1 a2, f a0 a1 a2 = some r := by
  obtain ⟨L⟩ := x
  match L, h with
  | [], h => cases h
  | [_], h => cases h
  | [_, _], h => cases h
  | [a, b, c], h => exact ⟨a, b, c, h⟩
  | _ :: _ :: _ :: _ :: _, h => cases h
theorem lm_site {cf : ClassFile} {ix : Nat} {σ : Lambda.Shape} (h : Lambda.shapeOf? cf ix = some σ) : ∃ (b nt : Nat) (desc : String) (site : MethodDescriptor), cf.constantPool[ix]? = some (.invokeDynamic b nt) ∧ cf.constantPool.nameAndType? nt = some (σ.name, desc) ∧ parseMethodDescriptor desc = some site ∧ site.parameters = σ.captured := by
  unfold Lambda.shapeOf? at h
  split at h
  · rename_i b nt hc
    obtain ⟨_, -, h⟩ := Option.bind_eq_some_iff.mp h
    obtain ⟨_, -, h⟩ := Option.bind_eq_some_iff.mp h
    split at h
    · obtain ⟨_, -, h⟩ := Option.bind_eq_some_iff.mp h
      obtain ⟨a0, a1, a2, h⟩ := lm_arr3 h
      · split at h
        · split at h
          · split at h
            · obtain ⟨⟨name, desc⟩, hnt, h⟩ := Option.bind_eq_some_iff.mp h
              obtain ⟨site, hs, h⟩ := Option.bind_eq_some_iff.mp h
              dsimp only at h
              split at h
              · obtain ⟨_, -, h⟩ := Option.bind_eq_some_iff.mp h
                obtain ⟨_, -, h⟩ := Option.bind_eq_some_iff.mp h
                obtain ⟨_, -, h⟩ := Option.bind_eq_some_iff.mp h
                obtain ⟨_, -, h⟩ := Option.bind_eq_some_iff.mp h
                obtain ⟨_, -, h⟩ := Option.bind_eq_some_iff.mp h
                obtain ⟨_, -, h⟩ := Option.bind_eq_some_iff.mp h
                cases h
                exact ⟨b, nt, desc, site, hc, hnt, hs, rfl⟩
              · cases h
            · cases h
          · cases h
        · cases h
    · cases h
  · cases h
theorem lm_types {s : State} {args : Array Value} {d c : ClassId} {σ : Lambda.Shape} {dk : Class} {T : Array FieldType} (h : Lambda.isMade { classPath := fun _ => none } s.vm d σ c = true) (hd : s.vm.classes[d]? = some dk) (hO : (Cond.instantiable "java/lang/Object" 0).before args s = true) (hlay : ((σ.file dk.name).bind (layoutFields · 0)).map (·.2.1) = some T) : ∃ k, s.vm.classes[c]? = some k ∧ k.instanceTypes = T ∧ k.kind = .ordinary := by
  obtain ⟨dk', k, ok, tk, file, cf, object, iface, t, lay, methods, target, found, h1, h2, h3, h4, h5, h6, h7, h8, h9, h10, h11, h12, h13, ⟨-, hkind, -⟩, -, hhid, -, -, -, -, -, ⟨hty, -⟩, -⟩ := Lambda.isMade_spec h
  cases hd.symm.trans h1
  have hsz := lm_hO hO object ok h5 h7
  have hemp : ok.instanceTypes = #[] := Array.eq_empty_of_size_eq_zero hsz
  rw [hsz] at h8
  rw [h4] at hlay
  simp only [Option.bind_some, h8, Option.map_some, Option.some.injEq] at hlay
  exact ⟨k, h2, by rw [hty, hemp, hlay]; simp, hkind⟩
section XL
variable {p : Program} {l : Launch} {e : Env} {R : Room} {s : State} {m : MethodId} {args : Array Value} {below : List Frame} {meth : Method} {c : Code} {H : Heap} {locs : List Loc} {cells slots : Nat} {Q : State → Prop}
variable {cc : ByteArray} {pc : Nat} {ls : Array Slot} {rest : List Value} {A : Nat → Prop} {H0 : Heap}
theorem x_mk2 (hexec : p.tables.exec = Jvm.exec) (hb : c.code = cc) (hml : c.maxLocals = ls.size) {σ : Lambda.Shape} {cK : ClassId} {y : MethodName} {ix hu : Nat} {x : Int32} (hn : s.methodNamed? y = some m) (hF : lmF y pc ix σ cK s) (hObj : (Cond.instantiable "java/lang/Object" 0).before args s = true)
    (hlays : ((σ.file y.cls).bind (layoutFields · 0)).map (·.2.1) = some #[.object "FairBatten$Hull", .int]) (hcap : σ.captured = [.object "FairBatten$Hull", .int]) (hS : va_S A H0 H locs) (hlocals : (rest.map fun v => v.category).sum + 3076 ≤ R.locals) (hcells : cells + 1 ≤ R.cells) (hslots : slots + 2 ≤ R.slots) (hdg : decode cc pc = .ok (.invokedynamic ix, 5))
    (kk : ∀ H1 : Heap, H1.size = H.size + 1 → H1[H.size]? = some { cls := cK, slots := #[.ref hu, .int x], vm := .none } → (∀ q : Nat, q < H.size → H1[q]? = H[q]?) → va_S A H0 H1 locs → W p l e R s m args below meth c H1 locs (cells + 1) (slots + 2) Q (F0 m (pc + 5) ls (.ref H.size :: rest))) : W p l e R s m args below meth c H locs cells slots Q (F0 m pc ls (.int x :: .ref hu :: rest)) := by
  intro T hT X
  subst hT
  obtain ⟨m', k, cf, i0, p0, h1, h2, h3, h4, h5, h6, h7⟩ := hF
  cases hn.symm.trans h1
  obtain ⟨kS', hkS', hnameS⟩ := className_of_methodNamed hn
  cases h2.symm.trans hkS'
  obtain ⟨bsm, nt, desc, site, hc, hnt, hsite, hpar⟩ := lm_site h4
  obtain ⟨kK, hkK, htyK, hkindK⟩ := lm_types h6 h2 hObj (by rw [hnameS]; exact hlays)
  have hslotsE : ((kK.instanceTypes.toList.zip [(.ref hu : Value), .int x]).map fun (t, v) => narrow t v) = [.ref hu, .int x] := by
    rw [htyK]
    simp [narrow]
  obtain ⟨X₁, st1⟩ := X.lambdaMakes hexec (g := F0 m pc ls (.int x :: .ref hu :: rest)) rfl (by rw [hml]) (by rw [hb]; exact hdg) (vals := [.ref hu, .int x]) (rest := rest)
    h2 h5 h3 hc hnt (parseLong_of_parse hsite) (by rw [hpar, hcap]; rfl) rfl hkK
    (by rw [X.admits.platform]; show 2 * 0 + (1 + (1 + (rest.map fun v => v.category).sum)) + 3072 ≤ R.locals; omega) hcells (by rw [hslotsE]; exact hslots)
    (fun i v hv => by
      rw [hslotsE] at hv
      match i, hv with
      | 0, hv => simp at hv; subst hv; simp [State.fitsSlot, State.slotType?, hkK, hkindK, htyK, fits]
      | 1, hv => simp at hv; subst hv; simp [State.fitsSlot, State.slotType?, hkK, hkindK, htyK, fits]
      | k + 2, hv => simp at hv)
  rw [hslotsE] at X₁ st1
  have hnew : (T.pushCell { cls := cK, slots := [Value.ref hu, .int x].toArray, vm := .none }).heap[T.heap.size]? = some { cls := cK, slots := [Value.ref hu, .int x].toArray, vm := .none } := State.heap_pushCell_size _ _
  have hold : ∀ q : Nat, q < T.heap.size → (T.pushCell { cls := cK, slots := [Value.ref hu, .int x].toArray, vm := .none }).heap[q]? = T.heap[q]? := fun q hq => State.heap_pushCell_of_lt _ _ hq
  have hsz : (T.pushCell { cls := cK, slots := [Value.ref hu, .int x].toArray, vm := .none }).heap.size = T.heap.size + 1 := by simp [State.pushCell]
  obtain ⟨t2, a1, b1⟩ := kk (T.pushCell { cls := cK, slots := [Value.ref hu, .int x].toArray, vm := .none }).heap hsz hnew hold ⟨Nat.le_trans hS.1 (by rw [hsz]; omega), fun q q1 q2 => (hold q (Nat.lt_of_lt_of_le q1 hS.1)).trans (hS.2.1 q q1 q2), hS.2.2⟩ (T.pushCell { cls := cK, slots := [Value.ref hu, .int x].toArray, vm := .none }) rfl X₁
  exact ⟨t2, st1 t2 a1, b1⟩
theorem x_mk1 (hexec : p.tables.exec = Jvm.exec) (hb : c.code = cc) (hml : c.maxLocals = ls.size) {σ : Lambda.Shape} {cK : ClassId} {y : MethodName} {ix hu : Nat} (hn : s.methodNamed? y = some m) (hF : lmF y pc ix σ cK s) (hObj : (Cond.instantiable "java/lang/Object" 0).before args s = true)
    (hlays : ((σ.file y.cls).bind (layoutFields · 0)).map (·.2.1) = some #[.object "FairBatten$Hull"]) (hcap : σ.captured = [.object "FairBatten$Hull"]) (hS : va_S A H0 H locs) (hlocals : (rest.map fun v => v.category).sum + 3076 ≤ R.locals) (hcells : cells + 1 ≤ R.cells) (hslots : slots + 1 ≤ R.slots) (hdg : decode cc pc = .ok (.invokedynamic ix, 5))
    (kk : ∀ H1 : Heap, H1.size = H.size + 1 → H1[H.size]? = some { cls := cK, slots := #[.ref hu], vm := .none } → (∀ q : Nat, q < H.size → H1[q]? = H[q]?) → va_S A H0 H1 locs → W p l e R s m args below meth c H1 locs (cells + 1) (slots + 1) Q (F0 m (pc + 5) ls (.ref H.size :: rest))) : W p l e R s m args below meth c H locs cells slots Q (F0 m pc ls (.ref hu :: rest)) := by
  intro T hT X
  subst hT
  obtain ⟨m', k, cf, i0, p0, h1, h2, h3, h4, h5, h6, h7⟩ := hF
  cases hn.symm.trans h1
  obtain ⟨kS', hkS', hnameS⟩ := className_of_methodNamed hn
  cases h2.symm.trans hkS'
  obtain ⟨bsm, nt, desc, site, hc, hnt, hsite, hpar⟩ := lm_site h4
  obtain ⟨kK, hkK, htyK, hkindK⟩ := lm_types h6 h2 hObj (by rw [hnameS]; exact hlays)
  have hslotsE : ((kK.instanceTypes.toList.zip [(.ref hu : Value)]).map fun (t, v) => narrow t v) = [.ref hu] := by
    rw [htyK]
    simp [narrow]
  obtain ⟨X₁, st1⟩ := X.lambdaMakes hexec (g := F0 m pc ls (.ref hu :: rest)) rfl (by rw [hml]) (by rw [hb]; exact hdg) (vals := [.ref hu]) (rest := rest)
    h2 h5 h3 hc hnt (parseLong_of_parse hsite) (by rw [hpar, hcap]; rfl) rfl hkK
    (by rw [X.admits.platform]; show 2 * 0 + (1 + (rest.map fun v => v.category).sum) + 3072 ≤ R.locals; omega) hcells (by rw [hslotsE]; exact hslots)
    (fun i v hv => by
      rw [hslotsE] at hv
      match i, hv with
      | 0, hv => simp at hv; subst hv; simp [State.fitsSlot, State.slotType?, hkK, hkindK, htyK, fits]
      | k + 1, hv => simp at hv)
  rw [hslotsE] at X₁ st1
  have hnew : (T.pushCell { cls := cK, slots := [Value.ref hu].toArray, vm := .none }).heap[T.heap.size]? = some { cls := cK, slots := [Value.ref hu].toArray, vm := .none } := State.heap_pushCell_size _ _
  have hold : ∀ q : Nat, q < T.heap.size → (T.pushCell { cls := cK, slots := [Value.ref hu].toArray, vm := .none }).heap[q]? = T.heap[q]? := fun q hq => State.heap_pushCell_of_lt _ _ hq
  have hsz : (T.pushCell { cls := cK, slots := [Value.ref hu].toArray, vm := .none }).heap.size = T.heap.size + 1 := by simp [State.pushCell]
  obtain ⟨t2, a1, b1⟩ := kk (T.pushCell { cls := cK, slots := [Value.ref hu].toArray, vm := .none }).heap hsz hnew hold ⟨Nat.le_trans hS.1 (by rw [hsz]; omega), fun q q1 q2 => (hold q (Nat.lt_of_lt_of_le q1 hS.1)).trans (hS.2.1 q q1 q2), hS.2.2⟩ (T.pushCell { cls := cK, slots := [Value.ref hu].toArray, vm := .none }) rfl X₁
  exact ⟨t2, st1 t2 a1, b1⟩
end XL
