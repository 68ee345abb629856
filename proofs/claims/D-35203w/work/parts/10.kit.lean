/-! OWN KIT, PART A: an abstract heap. A cell that is followed is told by a function f from addresses to (mark, thing): the mark is the prover's own (cells of different marks lie apart); A: what may be written. -/
set_option maxRecDepth 100000
abbrev xcl : List vw_C := [(RX1, TX1, 7), (RX2, TX2, 2), (RX3, TX3, 3), (RX4, TX4, 2), (RX5, TX5, 16), (RX6, TX6, 3), (RX7, TX7, 2), (RX9, TX10, 0), (RX10, TX10, 1), (RJ1, TJ1, 8), (RJ13, TJ13, 4), (RJ15, TJ15, 11), (RJ12, TJ12, 1)]
/-- classes and slots; array classes, behind them (10 .. 13) classes of the lambdas; the cached Integers; their table; cells that stand as they are, outside A -/
abbrev xG : Type := va_G × (Nat → ClassId) × (Nat → Nat) × Nat × (Nat → Option Cell)
/-- the same, and one more cell that stands as it is -/
abbrev xGr (G : xG) (a : Nat) (c : Cell) : xG := (G.1, G.2.1, G.2.2.1, G.2.2.2.1, fun q => if q = a then some c else G.2.2.2.2 q)
abbrev xE : Type := Nat × va_E
abbrev xF : Type := Nat → Option xE
def xset (f : xF) (a : Nat) (e : xE) : xF := fun q => if q = a then some e else f q
theorem xset_eq {f : xF} {a : Nat} {e : xE} : xset f a e a = some e := by simp [xset]
theorem xset_ne {f : xF} {a b : Nat} {e : xE} (h : b ≠ a) : xset f a e b = f b := by simp [xset, h]
/-- an object of the class ci of xcl -/
abbrev xO (t ci : Nat) (fs : List Value) : xE := (t, .inr (ci, fs))
/-- an int array of naturals -/
abbrev xN (G : xG) (t n : Nat) (g : Nat → Nat) : xE := (t, .inl (G.2.1 0, n, .inl (fun j => nI (g j))))
abbrev xJ (G : xG) (t n : Nat) (g : Nat → Int64) : xE := (t, .inl (G.2.1 1, n, .inr (.inl g)))
abbrev xZ (G : xG) (t n : Nat) (g : Nat → Nat) : xE := (t, .inl (G.2.1 2, n, .inl (fun j => nI (g j))))
/-- an array of references: k = 3: of int arrays; 4: of weights; 5: of nodes -/
abbrev xR (G : xG) (k t n : Nat) (g : Nat → Option Nat) : xE := (t, .inl (G.2.1 k, n, .inr (.inr (.inr (.inr g)))))
abbrev xty (G : xG) : List (ClassId × FieldType) := [(G.2.1 0, .int), (G.2.1 1, .long), (G.2.1 2, .boolean), (G.2.1 3, .array .int), (G.2.1 4, .object RX4), (G.2.1 5, .object RJ13)]
theorem xne {f : xF} {a b t1 t2 : Nat} {x1 x2 : va_E} (h1 : f a = some (t1, x1)) (h2 : f b = some (t2, x2)) (ht : t1 ≠ t2) : a ≠ b := fun h => ht (by rw [h, h2] at h1; exact (congrArg Prod.fst (Option.some.inj h1)).symm)
theorem xneE {f : xF} {a b : Nat} {e1 e2 : xE} (h1 : f a = some e1) (h2 : f b = some e2) (ht : e1 ≠ e2) : a ≠ b := fun h => ht (by rw [h, h2] at h1; exact (Option.some.inj h1).symm)
theorem xneN {f : xF} {a b : Nat} {e1 : xE} (h1 : f a = some e1) (h2 : f b = none) : a ≠ b := fun h => by rw [h, h2] at h1; cases h1
/-- the heap holds what f says, in A -/
def xH (G : xG) (A : Nat → Prop) (f : xF) (H : Heap) : Prop := ∀ (a : Nat) (e : xE), f a = some e → va_at G.1 xcl (a, e.2) H ∧ A a
theorem xH.lt {G : xG} {A : Nat → Prop} {f : xF} {H : Heap} (h : xH G A f H) {a : Nat} {e : xE} (ha : f a = some e) : a < H.size := (h a e ha).1.lt
theorem xH.fresh {G : xG} {A : Nat → Prop} {f : xF} {H : Heap} (h : xH G A f H) {a : Nat} (ha : H.size ≤ a) : f a = none := by
  cases hq : f a with
  | none => rfl
  | some e => exact absurd (h.lt hq) (Nat.not_lt.mpr ha)
theorem xH.kept {G : xG} {A : Nat → Prop} {f : xF} {H H1 : Heap} (h : xH G A f H) (hk : ∀ q : Nat, q < H.size → H1[q]? = H[q]?) : xH G A f H1 := fun a e ha => ⟨(h a e ha).1.kept (hk a (h.lt ha)), (h a e ha).2⟩
theorem xH.weaken {G : xG} {A B : Nat → Prop} {f : xF} {H : Heap} (h : xH G A f H) (hAB : ∀ (a : Nat) (e : xE), f a = some e → A a → B a) : xH G B f H := fun a e ha => ⟨(h a e ha).1, hAB a e ha (h a e ha).2⟩
theorem xH.one {G : xG} {A : Nat → Prop} {f : xF} {H : Heap} (h : xH G A f H) {a : Nat} {e : xE} (ha : f a = some e) : va_P G.1 xcl [(a, e.2)] H := by
  intro k q hq
  have hz : k < 1 := (List.getElem?_eq_some_iff.mp hq).1
  rw [show k = 0 by omega] at hq
  cases hq
  exact (h a e ha).1
/-- the followed cells below n, as a list -/
def xw (f : xF) (n : Nat) : va_W := (List.range n).filterMap (fun a => (f a).map (fun e => (a, e.2)))
theorem xw_mem {f : xF} {n k : Nat} {q : Nat × va_E} (h : (xw f n)[k]? = some q) : ∃ e : xE, f q.1 = some e ∧ e.2 = q.2 ∧ q.1 < n := by
  have h1 : q ∈ xw f n := List.mem_of_getElem? h
  obtain ⟨a, ha, hb⟩ := List.mem_filterMap.mp h1
  cases hf : f a with
  | none => rw [hf] at hb; cases hb
  | some e =>
    rw [hf] at hb
    cases hb
    exact ⟨e, hf, rfl, List.mem_range.mp ha⟩
theorem xw_get {f : xF} {n a : Nat} {e : xE} (h : f a = some e) (hn : a < n) : ∃ k : Nat, (xw f n)[k]? = some (a, e.2) := by
  have h1 : (a, e.2) ∈ xw f n := List.mem_filterMap.mpr ⟨a, List.mem_range.mpr hn, by rw [h]; rfl⟩
  exact List.getElem?_of_mem h1
theorem xw_pair (f : xF) (n : Nat) : (xw f n).Pairwise (fun p q => p.1 ≠ q.1) := by
  unfold xw
  rw [List.pairwise_filterMap]
  have h := (List.nodup_range (n := n))
  refine List.Pairwise.imp ?_ h
  intro a b hab p hp q hq
  cases hfa : f a with
  | none => rw [hfa] at hp; cases hp
  | some e1 =>
    cases hfb : f b with
    | none => rw [hfb] at hq; cases hq
    | some e2 =>
      rw [hfa] at hp
      rw [hfb] at hq
      cases hp
      cases hq
      exact hab
theorem xw_inj {f : xF} {n i j : Nat} {p q : Nat × va_E} (hi : (xw f n)[i]? = some p) (hj : (xw f n)[j]? = some q) (h : p.1 = q.1) : i = j := by
  obtain ⟨li, ei⟩ := List.getElem?_eq_some_iff.mp hi
  obtain ⟨lj, ej⟩ := List.getElem?_eq_some_iff.mp hj
  have hp := List.pairwise_iff_getElem.mp (xw_pair f n)
  rcases Nat.lt_trichotomy i j with h1 | h1 | h1
  · exact absurd (by rw [ei, ej]; exact h) (hp i j li lj h1)
  · exact h1
  · exact absurd (by rw [ei, ej]; exact h.symm) (hp j i lj li h1)
theorem xH.P {G : xG} {A : Nat → Prop} {f : xF} {H : Heap} (h : xH G A f H) (n : Nat) : va_P G.1 xcl (xw f n) H := by
  intro k q hq
  obtain ⟨e, h1, h2, -⟩ := xw_mem hq
  have h3 := (h _ _ h1).1
  rw [h2] at h3
  exact h3
theorem xH.D {G : xG} {A : Nat → Prop} {f : xF} {H : Heap} (h : xH G A f H) (n : Nat) : va_D A (xw f n) := by
  refine ⟨fun i j p q hi hj hpq => xw_inj hi hj hpq, fun k q hq => ?_⟩
  obtain ⟨e, h1, -, -⟩ := xw_mem hq
  exact (h _ _ h1).2
theorem xH.put {G : xG} {A : Nat → Prop} {f : xF} {H H1 : Heap} {a q0 : Nat} {e0 : va_E} {e : xE} (h : xH G A f H) (hq : (xw f H.size)[q0]? = some (a, e0)) (hP : va_P G.1 xcl ((xw f H.size).set q0 (a, e.2)) H1) : xH G A (xset f a e) H1 := by
  have hlt : q0 < (xw f H.size).length := (List.getElem?_eq_some_iff.mp hq).1
  intro b eb hb
  by_cases hab : b = a
  · subst hab
    rw [xset_eq] at hb
    cases hb
    obtain ⟨e1, h1, -, -⟩ := xw_mem hq
    exact ⟨hP q0 _ (by rw [List.getElem?_set_self hlt]), (h _ _ h1).2⟩
  · rw [xset_ne hab] at hb
    obtain ⟨k, hk⟩ := xw_get hb (h.lt hb)
    have hne : q0 ≠ k := fun hz => by
      subst hz
      rw [hk] at hq
      exact hab (congrArg Prod.fst (Option.some.inj hq))
    exact ⟨hP k _ (by rw [List.getElem?_set_ne hne]; exact hk), (h _ _ hb).2⟩
theorem xH.push {G : xG} {A : Nat → Prop} {f : xF} {H H1 : Heap} {q : Nat} {e : xE} (h : xH G A f H) (hP : va_P G.1 xcl (xw f H.size ++ [(q, e.2)]) H1) (hD : va_D A (xw f H.size ++ [(q, e.2)])) : xH G A (xset f q e) H1 ∧ f q = none := by
  have hlast : (xw f H.size ++ [(q, e.2)])[(xw f H.size).length]? = some (q, e.2) := by simp
  have hn : f q = none := by
    cases hq : f q with
    | none => rfl
    | some e2 =>
      obtain ⟨k, hk⟩ := xw_get hq (h.lt hq)
      have hkl := (List.getElem?_eq_some_iff.mp hk).1
      have := hD.1 k _ (q, e2.2) (q, e.2) (by rw [List.getElem?_append_left hkl]; exact hk) hlast rfl
      omega
  refine ⟨fun b eb hb => ?_, hn⟩
  by_cases hab : b = q
  · subst hab
    rw [xset_eq] at hb
    cases hb
    exact ⟨hP _ _ hlast, hD.2 _ _ hlast⟩
  · rw [xset_ne hab] at hb
    obtain ⟨k, hk⟩ := xw_get hb (h.lt hb)
    have hkl := (List.getElem?_eq_some_iff.mp hk).1
    exact ⟨hP k _ (by rw [List.getElem?_append_left hkl]; exact hk), (h _ _ hb).2⟩
/-! the words that don't ride in the lists: facts of the tables alone -/
def xnest : Cond → Bool
  | .fieldLinkNest .. => true
  | .methodLinkNest .. => true
  | _ => false
def xover : Cond → Bool
  | .arrayOver (.object _) => true
  | .arrayOver (.array .int) => true
  | _ => false
theorem xAOA_moved {u U : State} (hvm : u.vm.Alike U.vm) (h : va_Nw (.arrayOver (.array .int)) u) : va_Nw (.arrayOver (.array .int)) U := by
  obtain ⟨comp, c, k, h1, h2, h3, h4, h5⟩ : ∃ comp c k, u.vm.findClass (FieldType.array .int).toString = some comp ∧ (u.vm.classes.findIdx? fun (x : Class) => match x.kind with | .array component _ => component == comp | _ => false) = some c ∧ u.vm.classes[c]? = some k ∧ k.kind = .array comp (.array .int) ∧ u.vm.findClass ("[" ++ (FieldType.array .int).toString) = some c := by
    unfold va_Nw Cond.before at h
    simp only [Cond.holds, Cond.value, beq_iff_eq] at h
    cases hc : u.vm.findClass (FieldType.array .int).toString with
    | none => simp [hc] at h
    | some comp =>
      simp only [hc, Option.bind_some, Option.bind_eq_some_iff, Option.map_eq_some_iff] at h
      obtain ⟨c, hi, k, hk, hb⟩ := h
      obtain ⟨hlt, hp, -⟩ := Array.findIdx?_eq_some_iff_getElem.mp hi
      have hkk : u.vm.classes[c] = k := (Array.getElem?_eq_some_iff.mp hk).2
      rw [hkk] at hp
      cases hkind : k.kind with
      | array component ty =>
        rw [hkind] at hb hp
        simp at hb hp
        exact ⟨comp, c, k, rfl, hi, hk, by rw [hkind, hp, hb.1], hb.2⟩
      | _ => rw [hkind] at hb; simp at hb
  obtain ⟨k', hk', he⟩ := hvm.2.2 _ _ h3
  have hi : (U.vm.classes.findIdx? fun (x : Class) => match x.kind with | .array component _ => component == comp | _ => false) = some c := by
    refine (va_idx_bare U.vm comp).symm.trans ?_
    first | rw [hvm.bare_eq] | rw [← hvm.bare_eq]
    exact (va_idx_bare u.vm comp).trans h2
  have hkind : k'.kind = .array comp (.array .int) := by rw [he]; exact h4
  have f1 : U.vm.findClass (FieldType.array .int).toString = some comp := by rw [hvm.findClass]; exact h1
  have f2 : U.vm.findClass ("[" ++ (FieldType.array .int).toString) = some c := by rw [hvm.findClass]; exact h5
  unfold va_Nw Cond.before Cond.holds
  simp only [Cond.value]
  rw [f1, Option.bind_some]
  refine (congrArg (fun o : Option Nat => (o.bind (fun c => (U.vm.classes[c]?).map fun (k : Class) => match k.kind with | .array _ ty => decide (ty = FieldType.array .int) && decide (U.vm.findClass ("[" ++ (FieldType.array .int).toString) = some c) | _ => false) == some true)) hi).trans ?_
  simp [hk', hkind, f2]
def xwok (w : Cond) : Bool := (w.onTables && w.keepsFace) || xnest w || xover w
def xnw : List Cond := lw_tbl.filter xwok
theorem xw_in {w : Cond} (h : w ∈ lw_tbl) (g : xwok w = true) : w ∈ xnw := List.mem_filter.mpr ⟨h, g⟩
theorem xnw_warm {w : Cond} (g : xwok w = true) {s U : State} (hW : s.WarmedH U.vm) (h : va_Nw w s) : va_Nw w U := by
  by_cases g1 : (w.onTables && w.keepsFace) = true
  · simp only [Bool.and_eq_true] at g1
    have h1 : w.before #[] (s.setVm U.vm) = true := Cond.before_shiftedFace (State.Shifted.of_warmed hW) w g1.2 h
    exact va_Nw.same (u := s.setVm U.vm) g1.1 rfl h1
  · by_cases g2 : xnest w = true
    · cases w <;> first | exact va_Nw.warmF hW h | exact va_Nw.warmM hW h | (simp [xnest] at g2)
    · have g3 : xover w = true := by
        cases h3 : xover w with
        | true => rfl
        | false => simp [xwok, g1, g2, h3] at g
      cases w with
      | arrayOver ty =>
        cases ty with
        | object C => exact va_AO.moved hW.alike h
        | array t => cases t with
          | int => exact xAOA_moved hW.alike h
          | _ => simp [xover] at g3
        | _ => simp [xover] at g3
      | _ => simp [xover] at g3
/-- what the tables know, all through a run -/
def xK (G : xG) (U : State) : Prop := va_K G.1 xcl (xty G) U ∧ (∀ w ∈ xnw, va_Nw w U) ∧ lmS (G.2.1 10) (G.2.1 11) (G.2.1 12) (G.2.1 13) U ∧ xD U
theorem xK.warm {G : xG} {s U : State} (hW : s.WarmedH U.vm) (h : xK G s) : xK G U := ⟨va_K.moved hW.alike h.1, fun w hw => xnw_warm (List.mem_filter.mp hw).2 hW (h.2.1 w hw), h.2.2.1.warm hW, h.2.2.2.warm hW⟩
theorem xK.use {G : xG} {s : State} (h : xK G s) {w : Cond} (hw : w ∈ lw_tbl) (g : xwok w = true) : va_Nw w s := h.2.1 w (xw_in hw g)
abbrev xIC : String := "java/lang/Integer$IntegerCache"
/-- the constants in old cells: the Integers' cache, a switch of HashMap's, two of Throwable's -/
def xC (G : xG) (A : Nat → Prop) (U : State) (H : Heap) : Prop := va_Z xIC "high" "I" (.int 127) A U H ∧ va_Z xIC "cache" "[Ljava/lang/Integer;" (.ref G.2.2.2.1) A U H ∧ va_T (.object "java/lang/Integer") G.2.2.2.1 256 (fun k => .ref (G.2.2.1 k)) A U H ∧ vb_C G.2.2.1 A U H ∧ va_Z "java/util/HashMap$TreeNode" "$assertionsDisabled" "Z" (.int 1) A U H ∧ vx_Zq Bundle.tN "UNASSIGNED_STACK" Bundle.steD A U H ∧ vx_Zq Bundle.tN "SUPPRESSED_SENTINEL" Bundle.listD A U H ∧ (∀ a c, G.2.2.2.2 a = some c → H[a]? = some c ∧ ¬ A a)
theorem xC.moved {G : xG} {A : Nat → Prop} {u U : State} {H : Heap} (hvm : u.vm.Alike U.vm) (h : xC G A u H) : xC G A U H := ⟨h.1.moved hvm, h.2.1.moved hvm, h.2.2.1.moved hvm, h.2.2.2.1.moved hvm, h.2.2.2.2.1.moved hvm, h.2.2.2.2.2.1.moved hvm, h.2.2.2.2.2.2.1.moved hvm, h.2.2.2.2.2.2.2⟩
theorem xC.kept {G : xG} {A : Nat → Prop} {U : State} {H H1 : Heap} (h : xC G A U H) (hq : ∀ a : Nat, a < H.size → ¬ A a → H1[a]? = H[a]?) : xC G A U H1 := ⟨h.1.kept hq, h.2.1.kept hq, h.2.2.1.kept hq, h.2.2.2.1.kept hq, h.2.2.2.2.1.kept hq, h.2.2.2.2.2.1.kept hq, h.2.2.2.2.2.2.1.kept hq, fun a c hc => ⟨(hq a (Array.getElem?_eq_some_iff.mp (h.2.2.2.2.2.2.2 a c hc).1).1 (h.2.2.2.2.2.2.2 a c hc).2).trans (h.2.2.2.2.2.2.2 a c hc).1, (h.2.2.2.2.2.2.2 a c hc).2⟩⟩
theorem xC.narrow {G : xG} {A B : Nat → Prop} {U : State} {H : Heap} (h : xC G A U H) (hAB : ∀ q, B q → A q) : xC G B U H := ⟨h.1.narrow hAB, h.2.1.narrow hAB, h.2.2.1.narrow hAB, h.2.2.2.1.narrow hAB, h.2.2.2.2.1.narrow hAB, h.2.2.2.2.2.1.narrow hAB, h.2.2.2.2.2.2.1.narrow hAB, fun a c hc => ⟨(h.2.2.2.2.2.2.2 a c hc).1, fun hb => (h.2.2.2.2.2.2.2 a c hc).2 (hAB a hb)⟩⟩
theorem xcalling_vm (U : State) (g : JFrame) (mk : MethodId) (a : Array Value) : (U.calling g mk a).vm = U.vm := rfl
theorem xcalling_heap (U : State) (g : JFrame) (mk : MethodId) (a : Array Value) : (U.calling g mk a).heap = U.heap := rfl
theorem xK.calling {G : xG} {U : State} {g : JFrame} {mk : MethodId} {a : Array Value} (h : xK G U) : xK G (U.calling g mk a) := xK.warm (s := U) (U := U.calling g mk a) (State.WarmedH.refl U) h
/-- a method's start: followed cells f, arguments av -/
def xP (G : xG) (A : Nat → Prop) (f : xF) (av : List Value) : Array Value → State → Prop := va_Pc av (fun U => (∀ q : Nat, U.heap.size ≤ q → A q) ∧ xH G A f U.heap ∧ xK G U ∧ xC G A U U.heap)
/-- its end: the answer and the followed cells -/
def xQ (G : xG) (A : Nat → Prop) (post : Option Value → xF → Prop) : Array Value → State → Outcome → State → Prop := fun _ st oc t => (∃ (v : Option Value) (f' : xF), oc = .returned v ∧ post v f' ∧ xH G A f' t.heap) ∧ va_F A st t
theorem xP.blind {G : xG} {A : Nat → Prop} {f : xF} {av : List Value} : FrameBlind (xP G A f av) := by
  intro a U g mk h
  obtain ⟨h1, h2, h3, h4, h5⟩ := h
  exact ⟨h1, h2, h3, h4.calling, xC.moved (u := U) (U := U.calling g mk a) (Vm.Alike.refl U.vm) h5⟩
theorem xP.of {G : xG} {A B : Nat → Prop} {f : xF} {av : List Value} {s U : State} {H : Heap} (hK : xK G s) (hC : xC G A s s.heap) {locs : List Loc} (hS : va_S A s.heap H locs) (hB : ∀ q, B q → A q) (hBn : ∀ q : Nat, H.size ≤ q → B q) (hH : xH G B f H) (hU : U.heap = H) (hW : s.WarmedH U.vm) : xP G B f av av.toArray U :=
  ⟨rfl, by rw [hU]; exact hBn, by rw [hU]; exact hH, hK.warm hW, by rw [hU]; exact ((hC.kept hS.2.1).narrow hB).moved hW.alike⟩
abbrev xMet (l : Launch) (y : MethodName) (cc : ByteArray) (maxL : Nat) (ret : Option FieldType) (rm : Room) (G : xG) (A : Nat → Prop) (f : xF) (av : List Value) (post : Option Value → xF → Prop) : Prop := Met l y (ws_ y cc maxL ret) rm (xP G A f av) (xQ G A post) rm.cells rm.slots A
/-- what a body knows of its surroundings -/
def xX (G : xG) (A : Nat → Prop) (cc : ByteArray) (maxL : Nat) (ret : Option FieldType) (y : MethodName) (p : Program) (s : State) (m : MethodId) (args : Array Value) (meth : Method) (c : Code) : Prop :=
  p.tables.exec = Jvm.exec ∧ c.code = cc ∧ meth.sig.returnType = ret ∧ meth.locks = false ∧ c.maxLocals = maxL ∧ s.vm.findClass y.cls = some m.cls ∧ (∀ w ∈ lw_all, w.before args s = true) ∧ xK G s ∧ xC G A s s.heap ∧ (∀ q : Nat, s.heap.size ≤ q → A q) ∧ meth.name = y.name ∧ s.methodNamed? y = some m
theorem x_start {l : Launch} {y : MethodName} {cc : ByteArray} {maxL : Nat} {ret : Option FieldType} {rm : Room} {G : xG} {A : Nat → Prop} {f : xF} {av : List Value} {post : Option Value → xF → Prop} (hy : plainName y.cls = true) (hn : (lg_sl av).length ≤ maxL)
    (body : ∀ (p : Program) (e : Env) (s : State) (m : MethodId) (below : List Frame) (meth : Method) (c : Code) (ls : Array Slot), xX G A cc maxL ret y p s m av.toArray meth c → xH G A f s.heap → va_S A s.heap s.heap [] → lv_has ls maxL (lv_args 0 av) →
      W p l e rm s m av.toArray below meth c s.heap [] 0 0 (MQ below (xQ G A post) av.toArray s rm.cells rm.slots A) (F0 m 0 ls [])) : xMet l y cc maxL ret rm G A f av post := by
  refine Met.ofW (cc := cc) (maxL := maxL) (ret := ret) hy rfl ?_
  intro p e s m args below meth c s₁ B hml hv
  obtain ⟨rfl, hA, hH, hK, hC⟩ := hv
  have hts := atoms_spec (ws := ws_ y cc maxL ret) B.pre
  have hts : ∀ w ∈ lw_all, w.before _ s = true := fun w h => hts w (List.mem_cons_of_mem _ h)
  have hl := lv_entry av (n := maxL) hn
  rw [lg_entry_eq]
  exact body p e s m below meth c _ ⟨B.exec, B.bytes, B.returns, B.notSynchronized, hml, findClass_of_methodNamed B.named, hts, hK, hC, hA, (name_of_methodNamed B.named B.method).1, B.named⟩ hH va_S.rf hl
