/-! OWN KIT, PART B: rows over the abstract heap -/
set_option maxRecDepth 100000
section XB
variable {p : Program} {l : Launch} {e : Env} {R : Room} {s : State} {m : MethodId} {args : Array Value} {below : List Frame} {meth : Method} {c : Code} {H : Heap} {locs : List Loc} {cells slots : Nat} {Q : State → Prop}
variable {cc : ByteArray} {pc : Nat} {ls : Array Slot} {rest : List Value} {G : xG} {A : Nat → Prop} {f : xF} {a : Nat} {H0 : Heap}
theorem x_get (hexec : p.tables.exec = Jvm.exec) (hb : c.code = cc) {own ref C : String} {T : u_T} {N t ci index : Nat} (hts : ∀ w ∈ lw_all, w.before args s = true) (hin : ∀ w ∈ u_ws C T N, w ∈ lw_all) (hown : s.vm.findClass own = some m.cls) (hK : xK G s) (hH : xH G A f H) {fs : List Value} (hf : f a = some (xO t ci fs)) (hc : xcl[ci]? = some (C, T, N)) (k : Nat) (hk : k < N) (hlink : (Cond.fieldLink own index ref (T k).2.1 (T k).2.2.1).before args s = true) (hsame : ∀ x, s.fieldFound? (T k).1 (T k).2.1 (T k).2.2.1 = some x → s.fieldFound? ref (T k).2.1 (T k).2.2.1 = some x) {v : Value} (hv : fs[k]? = some v) (hdg : decode cc pc = .ok (.getfield index, 3))
    (kk : W p l e R s m args below meth c H locs cells slots Q (F0 m (pc + 3) ls (v :: rest))) : W p l e R s m args below meth c H locs cells slots Q (F0 m pc ls (.ref a :: rest)) :=
  va_get hexec hb hts hin hown hK.1 (hH.one hf) 0 rfl hc k hk hlink hsame hv hdg kk
theorem x_getN (hexec : p.tables.exec = Jvm.exec) (hb : c.code = cc) {own ref C host : String} {T : u_T} {N t ci index : Nat} (hts : ∀ w ∈ lw_all, w.before args s = true) (hin : ∀ w ∈ u_ws C T N, w ∈ lw_all) (hown : s.vm.findClass own = some m.cls) (hK : xK G s) (hH : xH G A f H) {fs : List Value} (hf : f a = some (xO t ci fs)) (hc : xcl[ci]? = some (C, T, N)) (k : Nat) (hk : k < N) (hlink : (Cond.fieldLinkNest own index ref (T k).2.1 (T k).2.2.1 host).before args s = true) (hsame : ∀ x, s.fieldFound? (T k).1 (T k).2.1 (T k).2.2.1 = some x → s.fieldFound? ref (T k).2.1 (T k).2.2.1 = some x) {v : Value} (hv : fs[k]? = some v) (hdg : decode cc pc = .ok (.getfield index, 3))
    (kk : W p l e R s m args below meth c H locs cells slots Q (F0 m (pc + 3) ls (v :: rest))) : W p l e R s m args below meth c H locs cells slots Q (F0 m pc ls (.ref a :: rest)) :=
  va_getN hexec hb hts hin hown hK.1 (hH.one hf) 0 rfl hc k hk hlink hsame hv hdg kk
theorem x_put (hexec : p.tables.exec = Jvm.exec) (hb : c.code = cc) {own ref C : String} {T : u_T} {N t ci index : Nat} (hts : ∀ w ∈ lw_all, w.before args s = true) (hin : ∀ w ∈ u_ws C T N, w ∈ lw_all) {ty0 : Nat → FieldType} (hty : ∀ k, k < N → parseFieldDescriptor (T k).2.2.1 = some (ty0 k)) (hnm : ∀ a, a < N → ∀ b, b < N → a ≠ b → (T a).2.1 ≠ (T b).2.1) (hown : s.vm.findClass own = some m.cls) (hK : xK G s) (hH : xH G A f H) (hS0 : va_S A H0 H locs) {fs : List Value} (hf : f a = some (xO t ci fs)) (hc : xcl[ci]? = some (C, T, N)) (k : Nat) (hk : k < N) (hlink : (Cond.fieldLink own index ref (T k).2.1 (T k).2.2.1).before args s = true) (hsame : ∀ x, s.fieldFound? (T k).1 (T k).2.1 (T k).2.2.1 = some x → s.fieldFound? ref (T k).2.1 (T k).2.2.1 = some x) (hfin : (T k).2.2.2 = false) {ty : FieldType} {v : Value} (hd : parseFieldDescriptor (T k).2.2.1 = some ty) (hn : narrow ty v = v) (hfit : fits ty v = true) (hl : k < fs.length)
    (hdg : decode cc pc = .ok (.putfield index, 3)) (kk : ∀ (H1 : Heap) (locs1 : List Loc) (f1 : xF), f1 = xset f a (xO t ci (fs.set k v)) → xH G A f1 H1 → va_S A H0 H1 locs1 → W p l e R s m args below meth c H1 locs1 cells slots Q (F0 m (pc + 3) ls rest)) : W p l e R s m args below meth c H locs cells slots Q (F0 m pc ls (v :: .ref a :: rest)) := by
  obtain ⟨q0, hq⟩ := xw_get hf (hH.lt hf)
  exact va_put hexec hb hts hin ty0 hty hnm hown hK.1 (hH.P _) (hH.D _) hS0 q0 hq hc k hk hlink hsame hfin hd hn hfit hl hdg (fun H1 locs1 hP1 _ hS1 => kk H1 locs1 _ rfl (hH.put (e := xO t ci (fs.set k v)) hq hP1) hS1)
theorem x_putN (hexec : p.tables.exec = Jvm.exec) (hb : c.code = cc) {own ref C host : String} {T : u_T} {N t ci index : Nat} (hts : ∀ w ∈ lw_all, w.before args s = true) (hin : ∀ w ∈ u_ws C T N, w ∈ lw_all) {ty0 : Nat → FieldType} (hty : ∀ k, k < N → parseFieldDescriptor (T k).2.2.1 = some (ty0 k)) (hnm : ∀ a, a < N → ∀ b, b < N → a ≠ b → (T a).2.1 ≠ (T b).2.1) (hown : s.vm.findClass own = some m.cls) (hK : xK G s) (hH : xH G A f H) (hS0 : va_S A H0 H locs) {fs : List Value} (hf : f a = some (xO t ci fs)) (hc : xcl[ci]? = some (C, T, N)) (k : Nat) (hk : k < N) (hlink : (Cond.fieldLinkNest own index ref (T k).2.1 (T k).2.2.1 host).before args s = true) (hsame : ∀ x, s.fieldFound? (T k).1 (T k).2.1 (T k).2.2.1 = some x → s.fieldFound? ref (T k).2.1 (T k).2.2.1 = some x) (hfin : (T k).2.2.2 = false) {ty : FieldType} {v : Value} (hd : parseFieldDescriptor (T k).2.2.1 = some ty) (hn : narrow ty v = v) (hfit : fits ty v = true) (hl : k < fs.length)
    (hdg : decode cc pc = .ok (.putfield index, 3)) (kk : ∀ (H1 : Heap) (locs1 : List Loc) (f1 : xF), f1 = xset f a (xO t ci (fs.set k v)) → xH G A f1 H1 → va_S A H0 H1 locs1 → W p l e R s m args below meth c H1 locs1 cells slots Q (F0 m (pc + 3) ls rest)) : W p l e R s m args below meth c H locs cells slots Q (F0 m pc ls (v :: .ref a :: rest)) := by
  obtain ⟨q0, hq⟩ := xw_get hf (hH.lt hf)
  exact va_putN hexec hb hts hin ty0 hty hnm hown hK.1 (hH.P _) (hH.D _) hS0 q0 hq hc k hk hlink hsame hfin hd hn hfit hl hdg (fun H1 locs1 hP1 _ hS1 => kk H1 locs1 _ rfl (hH.put (e := xO t ci (fs.set k v)) hq hP1) hS1)
theorem x_putF (hexec : p.tables.exec = Jvm.exec) (hb : c.code = cc) {own ref C : String} {T : u_T} {N t ci index : Nat} (hts : ∀ w ∈ lw_all, w.before args s = true) (hin : ∀ w ∈ u_ws C T N, w ∈ lw_all) {ty0 : Nat → FieldType} (hty : ∀ k, k < N → parseFieldDescriptor (T k).2.2.1 = some (ty0 k)) (hnm : ∀ a, a < N → ∀ b, b < N → a ≠ b → (T a).2.1 ≠ (T b).2.1) (hown : s.vm.findClass own = some m.cls) (hK : xK G s) (hH : xH G A f H) (hS0 : va_S A H0 H locs) {fs : List Value} (hf : f a = some (xO t ci fs)) (hc : xcl[ci]? = some (C, T, N)) (k : Nat) (hk : k < N) (hlink : (Cond.fieldLink own index ref (T k).2.1 (T k).2.2.1).before args s = true) (hsame : ∀ x, s.fieldFound? (T k).1 (T k).2.1 (T k).2.2.1 = some x → s.fieldFound? ref (T k).2.1 (T k).2.2.1 = some x) (hfin : (T k).2.2.2 = true) (hin2 : meth.name = "<init>") (hdecl : (T k).1 = own) {ty : FieldType} {v : Value} (hd : parseFieldDescriptor (T k).2.2.1 = some ty) (hn : narrow ty v = v) (hfit : fits ty v = true) (hl : k < fs.length)
    (hdg : decode cc pc = .ok (.putfield index, 3)) (kk : ∀ (H1 : Heap) (locs1 : List Loc) (f1 : xF), f1 = xset f a (xO t ci (fs.set k v)) → xH G A f1 H1 → va_S A H0 H1 locs1 → W p l e R s m args below meth c H1 locs1 cells slots Q (F0 m (pc + 3) ls rest)) : W p l e R s m args below meth c H locs cells slots Q (F0 m pc ls (v :: .ref a :: rest)) := by
  obtain ⟨q0, hq⟩ := xw_get hf (hH.lt hf)
  exact va_putF hexec hb hts hin ty0 hty hnm hown hK.1 (hH.P _) (hH.D _) hS0 q0 hq hc k hk hlink hsame hfin hin2 hdecl hd hn hfit hl hdg (fun H1 locs1 hP1 _ hS1 => kk H1 locs1 _ rfl (hH.put (e := xO t ci (fs.set k v)) hq hP1) hS1)
theorem xin {j n : Nat} (hj : j < n) (hn : n < 2 ^ 31) : vp_in (nI j) n := vp_in_nI hj hn
theorem xcl_ {j n : Nat} (hj : j < n) (hn : n < 2 ^ 31) : (nI j).toNatClampNeg = j := nI_clamp (Nat.lt_trans hj hn)
theorem x_iald (hexec : p.tables.exec = Jvm.exec) (hb : c.code = cc) (hK : xK G s) (hH : xH G A f H) {t n : Nat} {g : Nat → Nat} (hf : f a = some (xN G t n g)) {i : Int32} {j : Nat} (hi : i = nI j) (hj : j < n) (hn : n < 2 ^ 31) (hdg : decode cc pc = .ok (.iaload, 1))
    (kk : W p l e R s m args below meth c H locs cells slots Q (F0 m (pc + 1) ls (.int (nI (g j)) :: rest))) : W p l e R s m args below meth c H locs cells slots Q (F0 m pc ls (.int i :: .ref a :: rest)) := by
  subst hi
  refine va_iald (f := fun j => nI (g j)) hexec hb hK.1 (hH.one hf) 0 0 rfl rfl (xin hj hn) hdg ?_
  rw [xcl_ hj hn]
  exact kk
theorem x_zald (hexec : p.tables.exec = Jvm.exec) (hb : c.code = cc) (hK : xK G s) (hH : xH G A f H) {t n : Nat} {g : Nat → Nat} (hf : f a = some (xZ G t n g)) {i : Int32} {j : Nat} (hi : i = nI j) (hj : j < n) (hn : n < 2 ^ 31) (hdg : decode cc pc = .ok (.baload, 1))
    (kk : W p l e R s m args below meth c H locs cells slots Q (F0 m (pc + 1) ls (.int (nI (g j)) :: rest))) : W p l e R s m args below meth c H locs cells slots Q (F0 m pc ls (.int i :: .ref a :: rest)) := by
  subst hi
  refine va_zald (f := fun j => nI (g j)) hexec hb hK.1 (hH.one hf) 0 2 rfl rfl (xin hj hn) hdg ?_
  rw [xcl_ hj hn]
  exact kk
theorem x_lald (hexec : p.tables.exec = Jvm.exec) (hb : c.code = cc) (hK : xK G s) (hH : xH G A f H) {t n : Nat} {g : Nat → Int64} (hf : f a = some (xJ G t n g)) {i : Int32} {j : Nat} (hi : i = nI j) (hj : j < n) (hn : n < 2 ^ 31) (hdg : decode cc pc = .ok (.laload, 1))
    (kk : W p l e R s m args below meth c H locs cells slots Q (F0 m (pc + 1) ls (.long (g j) :: rest))) : W p l e R s m args below meth c H locs cells slots Q (F0 m pc ls (.int i :: .ref a :: rest)) := by
  subst hi
  refine va_lald (f := g) hexec hb hK.1 (hH.one hf) 0 1 rfl rfl (xin hj hn) hdg ?_
  rw [xcl_ hj hn]
  exact kk
theorem xupd_nI (g : Nat → Nat) (j v : Nat) : (fun q => nI (va_up g j v q)) = upd (fun q => nI (g q)) j (nI v) := by
  funext q
  by_cases h : q = j
  · subst h; simp [va_up, upd]
  · simp [va_up, upd, h]
theorem x_iast (hexec : p.tables.exec = Jvm.exec) (hb : c.code = cc) (hK : xK G s) (hH : xH G A f H) (hS : va_S A H0 H locs) {t n : Nat} {g : Nat → Nat} (hf : f a = some (xN G t n g)) {i : Int32} {j v : Nat} (hi : i = nI j) (hj : j < n) (hn : n < 2 ^ 31) {x : Int32} (hx : x = nI v) (hdg : decode cc pc = .ok (.iastore, 1))
    (kk : ∀ (H1 : Heap) (locs1 : List Loc) (f1 : xF), f1 = xset f a (xN G t n (va_up g j v)) → xH G A f1 H1 → va_S A H0 H1 locs1 → W p l e R s m args below meth c H1 locs1 cells slots Q (F0 m (pc + 1) ls rest)) : W p l e R s m args below meth c H locs cells slots Q (F0 m pc ls (.int x :: .int i :: .ref a :: rest)) := by
  subst hi
  subst hx
  obtain ⟨q0, hq⟩ := xw_get hf (hH.lt hf)
  refine va_iast (f := fun j => nI (g j)) hexec hb hK.1 (hH.P _) (hH.D _) hS q0 0 hq rfl (xin hj hn) hdg (fun H1 locs1 hP1 _ hS1 => kk H1 locs1 _ rfl (hH.put (e := xN G t n (va_up g j v)) hq ?_) hS1)
  rw [xcl_ hj hn, ← xupd_nI] at hP1
  exact hP1
theorem xnarZ : ∀ v, v < 2 → vp_nar .boolean (nI v) = nI v := by decide +kernel
theorem x_zast (hexec : p.tables.exec = Jvm.exec) (hb : c.code = cc) (hK : xK G s) (hH : xH G A f H) (hS : va_S A H0 H locs) {t n : Nat} {g : Nat → Nat} (hf : f a = some (xZ G t n g)) {i : Int32} {j v : Nat} (hi : i = nI j) (hj : j < n) (hn : n < 2 ^ 31) {x : Int32} (hx : x = nI v) (hv : v < 2) (hdg : decode cc pc = .ok (.bastore, 1))
    (kk : ∀ (H1 : Heap) (locs1 : List Loc) (f1 : xF), f1 = xset f a (xZ G t n (va_up g j v)) → xH G A f1 H1 → va_S A H0 H1 locs1 → W p l e R s m args below meth c H1 locs1 cells slots Q (F0 m (pc + 1) ls rest)) : W p l e R s m args below meth c H locs cells slots Q (F0 m pc ls (.int x :: .int i :: .ref a :: rest)) := by
  subst hi
  subst hx
  obtain ⟨q0, hq⟩ := xw_get hf (hH.lt hf)
  refine va_zast (f := fun j => nI (g j)) hexec hb hK.1 (hH.P _) (hH.D _) hS q0 2 hq rfl (xin hj hn) hdg (fun H1 locs1 hP1 _ hS1 => kk H1 locs1 _ rfl (hH.put (e := xZ G t n (va_up g j v)) hq ?_) hS1)
  rw [xcl_ hj hn, xnarZ v hv, ← xupd_nI] at hP1
  exact hP1
theorem x_last (hexec : p.tables.exec = Jvm.exec) (hb : c.code = cc) (hK : xK G s) (hH : xH G A f H) (hS : va_S A H0 H locs) {t n : Nat} {g : Nat → Int64} (hf : f a = some (xJ G t n g)) {i : Int32} {j : Nat} {x : Int64} (hi : i = nI j) (hj : j < n) (hn : n < 2 ^ 31) (hdg : decode cc pc = .ok (.lastore, 1))
    (kk : ∀ (H1 : Heap) (locs1 : List Loc) (f1 : xF), f1 = xset f a (xJ G t n (vp_updL g j x)) → xH G A f1 H1 → va_S A H0 H1 locs1 → W p l e R s m args below meth c H1 locs1 cells slots Q (F0 m (pc + 1) ls rest)) : W p l e R s m args below meth c H locs cells slots Q (F0 m pc ls (.long x :: .int i :: .ref a :: rest)) := by
  subst hi
  obtain ⟨q0, hq⟩ := xw_get hf (hH.lt hf)
  refine va_last (f := g) hexec hb hK.1 (hH.P _) (hH.D _) hS q0 1 hq rfl (xin hj hn) hdg (fun H1 locs1 hP1 _ hS1 => kk H1 locs1 _ rfl (hH.put (e := xJ G t n (vp_updL g j x)) hq ?_) hS1)
  rw [xcl_ hj hn] at hP1
  exact hP1
/-- arraylength of any followed array -/
theorem x_alen (hexec : p.tables.exec = Jvm.exec) (hb : c.code = cc) (hK : xK G s) (hH : xH G A f H) {t k : Nat} {x : vp_A} {ty : FieldType} (hf : f a = some (t, .inl (G.2.1 k, x))) (ht : (xty G)[k]? = some (G.2.1 k, ty)) {n : Nat} (hn : x.1 = n) (hdg : decode cc pc = .ok (.arraylength, 1))
    (kk : W p l e R s m args below meth c H locs cells slots Q (F0 m (pc + 1) ls (.int (nI n) :: rest))) : W p l e R s m args below meth c H locs cells slots Q (F0 m pc ls (.ref a :: rest)) :=
  va_alen hexec hb hK.1 (hH.one hf) 0 k rfl ht (by rw [hn]; rfl) hdg kk
/-- a row out of an array of references -/
theorem x_aald (hexec : p.tables.exec = Jvm.exec) (hb : c.code = cc) (hK : xK G s) (hH : xH G A f H) {k t n : Nat} {g : Nat → Option Nat} (hf : f a = some (xR G k t n g)) {ty : FieldType} (ht : (xty G)[k]? = some (G.2.1 k, ty)) (hty : ty.isReference = true) {i : Int32} {j : Nat} (hi : i = nI j) (hj : j < n) (hn : n < 2 ^ 31) (hdg : decode cc pc = .ok (.aaload, 1))
    (kk : W p l e R s m args below meth c H locs cells slots Q (F0 m (pc + 1) ls (va_rf (g j) :: rest))) : W p l e R s m args below meth c H locs cells slots Q (F0 m pc ls (.int i :: .ref a :: rest)) := by
  subst hi
  have h1 : H[a]? = some (arrV (G.2.1 k) n (fun j => va_rf (g j))) := (hH a _ hf).1
  have h2 := (hK.1.2 k _ ht).1 n (fun j => va_rf (g j))
  refine W.aald (v := va_rf (g j)) hexec hb h1 h2 hty (fun q => by cases q) ?_ ?_ rfl rfl hdg kk
  · rw [arrV_size]; exact xin hj hn
  · rw [xcl_ hj hn, arrV_read _ _ hj]
/-- a reference into an array of them -/
theorem x_aast (hexec : p.tables.exec = Jvm.exec) (hb : c.code = cc) (hK : xK G s) (hH : xH G A f H) (hS : va_S A H0 H locs) {k t n t2 ci v : Nat} {g : Nat → Option Nat} {vs : List Value} (hf : f a = some (xR G k t n g)) {r : vw_C} {E : String} (ht : (xty G)[k]? = some (G.2.1 k, .object E)) (hv : f v = some (xO t2 ci vs)) (hc : xcl[ci]? = some r) (hca : va_Nw (.castable r.1 E) s ∨ r.1 = E) {i : Int32} {j : Nat} (hi : i = nI j) (hj : j < n) (hn : n < 2 ^ 31) (hdg : decode cc pc = .ok (.aastore, 1))
    (kk : ∀ (H1 : Heap) (locs1 : List Loc) (f1 : xF), f1 = xset f a (xR G k t n (va_up g j (some v))) → xH G A f1 H1 → va_S A H0 H1 locs1 → W p l e R s m args below meth c H1 locs1 cells slots Q (F0 m (pc + 1) ls rest)) : W p l e R s m args below meth c H locs cells slots Q (F0 m pc ls (.ref v :: .int i :: .ref a :: rest)) := by
  subst hi
  obtain ⟨q0, hq⟩ := xw_get hf (hH.lt hf)
  have hr : ∃ cellV : Cell, H[v]? = some cellV ∧ cellV.vm.isStatics = false ∧ s.vm.findClass r.1 = some cellV.cls := va_recv hK.1 (hH.one hv) hc (q0 := 0) rfl
  have hasg : ∀ comp c0 : ClassId, s.vm.findClass E = some comp → s.vm.findClass r.1 = some c0 → s.vm.assignable c0 comp = true := by
    rcases hca with h | h
    · exact vb_asgC h
    · subst h
      exact vb_asgS
  refine vb_astq (f := g) hexec hb hK.1 (hH.P _) (hH.D _) hS q0 k hq ht hr hasg (xin hj hn) hdg (fun H1 locs1 hP1 _ hS1 => kk H1 locs1 _ rfl (hH.put (e := xR G k t n (va_up g j (some v))) hq ?_) hS1)
  rw [xcl_ hj hn] at hP1
  exact hP1
/-- null into an array of references -/
theorem x_aastN (hexec : p.tables.exec = Jvm.exec) (hb : c.code = cc) (hK : xK G s) (hH : xH G A f H) (hS : va_S A H0 H locs) {k t n : Nat} {g : Nat → Option Nat} (hf : f a = some (xR G k t n g)) {E : String} (ht : (xty G)[k]? = some (G.2.1 k, .object E)) {i : Int32} {j : Nat} (hi : i = nI j) (hj : j < n) (hn : n < 2 ^ 31) (hdg : decode cc pc = .ok (.aastore, 1))
    (kk : ∀ (H1 : Heap) (locs1 : List Loc) (f1 : xF), f1 = xset f a (xR G k t n (va_up g j none)) → xH G A f1 H1 → va_S A H0 H1 locs1 → W p l e R s m args below meth c H1 locs1 cells slots Q (F0 m (pc + 1) ls rest)) : W p l e R s m args below meth c H locs cells slots Q (F0 m pc ls (.null :: .int i :: .ref a :: rest)) := by
  subst hi
  obtain ⟨q0, hq⟩ := xw_get hf (hH.lt hf)
  refine va_astqN (f := g) hexec hb hK.1 (hH.P _) (hH.D _) hS q0 k hq ht (xin hj hn) hdg (fun H1 locs1 hP1 _ hS1 => kk H1 locs1 _ rfl (hH.put (e := xR G k t n (va_up g j none)) hq ?_) hS1)
  rw [xcl_ hj hn] at hP1
  exact hP1
/-- new, by a class's place in xcl -/
theorem x_new (hexec : p.tables.exec = Jvm.exec) (hb : c.code = cc) {own C : String} {T : u_T} {N ci index : Nat} (t : Nat) (hts : ∀ w ∈ lw_all, w.before args s = true) (hin : ∀ w ∈ u_ws C T N, w ∈ lw_all) {ty : Nat → FieldType} (hty : ∀ k, k < N → parseFieldDescriptor (T k).2.2.1 = some (ty k)) (hown : s.vm.findClass own = some m.cls) (hcl : (Cond.classLink own index C).before args s = true) (hinst : (Cond.instantiable C N).before args s = true) (hini : (Cond.initialized C).before args s = true)
    (hK : xK G s) (hH : xH G A f H) (hS : va_S A H0 H locs) (hA : ∀ q, H0.size ≤ q → A q) (hc : xcl[ci]? = some (C, T, N)) {fs : List Value} (hfs : ∀ j, j < N → defaultValue (ty j) = vp_V fs j) (hcells : cells + 1 ≤ R.cells) (hslots : slots + N ≤ R.slots) (hdg : decode cc pc = .ok (.new index, 3))
    (kk : ∀ (q : Nat) (H1 : Heap) (f1 : xF), f1 = xset f q (xO t ci fs) → f q = none → xH G A f1 H1 → va_S A H0 H1 locs →
      W p l e R s m args below meth c H1 locs (cells + 1) (slots + N) Q (F0 m (pc + 3) ls (.ref q :: rest))) : W p l e R s m args below meth c H locs cells slots Q (F0 m pc ls rest) :=
  va_new hexec hb hts hin ty hty hown hcl hinst hini hK.1 (hH.P H.size) (hH.D _) hS hA hc hfs hcells hslots hdg (fun q H1 hP1 hD1 hS1 => by
    obtain ⟨h1, h2⟩ := hH.push (e := xO t ci fs) hP1 hD1
    exact kk q H1 _ rfl h2 h1 hS1)
theorem xK.arr {k : Nat} {ty : FieldType} (h : xK G s) (ht : (xty G)[k]? = some (G.2.1 k, ty)) (h9 : ∀ C, ty ≠ .object C) : s.vm.findClass ("[" ++ ty.toString) = some (G.2.1 k) := by
  have h1 := (h.1.2 k _ ht).2
  cases ty <;> first | exact h1 | exact absurd rfl (h9 _)
theorem x_newi (hexec : p.tables.exec = Jvm.exec) (hb : c.code = cc) (t : Nat) (harr : (Cond.arrayClass .int).before args s = true) (hK : xK G s) (hH : xH G A f H) (hS : va_S A H0 H locs) (hA : ∀ q, H0.size ≤ q → A q) {i : Int32} {n : Nat} (hi : i = nI n) (hn : n < 100000000) (hcells : cells + 1 ≤ R.cells) (hslots : slots + n ≤ R.slots) (hdg : decode cc pc = .ok (.newarray .int, 2))
    (kk : ∀ (q : Nat) (H1 : Heap) (f1 : xF), f1 = xset f q (xN G t n (fun _ => 0)) → f q = none → xH G A f1 H1 → va_S A H0 H1 locs →
      W p l e R s m args below meth c H1 locs (cells + 1) (slots + n) Q (F0 m (pc + 2) ls (.ref q :: rest))) : W p l e R s m args below meth c H locs cells slots Q (F0 m pc ls (.int i :: rest)) := by
  subst hi
  refine va_newa (atype := .int) (ty := .int) (a0 := (n, .inl (fun _ => nI 0))) hexec hb harr rfl hK.1 (hH.P H.size) (hH.D _) hS hA (fun cA => rfl) (nI_pos (by omega)) (nI_clamp (by omega)) (by show n * 4 ≤ _; omega) hcells hslots hdg (fun q cA H1 hK1 hP1 hD1 hS1 => ?_)
  have hcA : cA = G.2.1 0 := by
    have h1 := (hK1.2 (xty G).length (cA, .int) (by simp)).2
    have h2 := hK.arr (k := 0) rfl (fun C h => by cases h)
    exact Option.some.inj (h1.symm.trans h2)
  subst hcA
  obtain ⟨h1, h2⟩ := hH.push (e := xN G t n (fun _ => 0)) hP1 hD1
  exact kk q H1 _ rfl h2 h1 hS1
theorem x_newz (hexec : p.tables.exec = Jvm.exec) (hb : c.code = cc) (t : Nat) (harr : (Cond.arrayClass .boolean).before args s = true) (hK : xK G s) (hH : xH G A f H) (hS : va_S A H0 H locs) (hA : ∀ q, H0.size ≤ q → A q) {i : Int32} {n : Nat} (hi : i = nI n) (hn : n < 100000000) (hcells : cells + 1 ≤ R.cells) (hslots : slots + n ≤ R.slots) (hdg : decode cc pc = .ok (.newarray .boolean, 2))
    (kk : ∀ (q : Nat) (H1 : Heap) (f1 : xF), f1 = xset f q (xZ G t n (fun _ => 0)) → f q = none → xH G A f1 H1 → va_S A H0 H1 locs →
      W p l e R s m args below meth c H1 locs (cells + 1) (slots + n) Q (F0 m (pc + 2) ls (.ref q :: rest))) : W p l e R s m args below meth c H locs cells slots Q (F0 m pc ls (.int i :: rest)) := by
  subst hi
  refine va_newa (atype := .boolean) (ty := .boolean) (a0 := (n, .inl (fun _ => nI 0))) hexec hb harr rfl hK.1 (hH.P H.size) (hH.D _) hS hA (fun cA => rfl) (nI_pos (by omega)) (nI_clamp (by omega)) (by show n * 1 ≤ _; omega) hcells hslots hdg (fun q cA H1 hK1 hP1 hD1 hS1 => ?_)
  have hcA : cA = G.2.1 2 := by
    have h1 := (hK1.2 (xty G).length (cA, .boolean) (by simp)).2
    have h2 := hK.arr (k := 2) rfl (fun C h => by cases h)
    exact Option.some.inj (h1.symm.trans h2)
  subst hcA
  obtain ⟨h1, h2⟩ := hH.push (e := xZ G t n (fun _ => 0)) hP1 hD1
  exact kk q H1 _ rfl h2 h1 hS1
theorem x_newl (hexec : p.tables.exec = Jvm.exec) (hb : c.code = cc) (t : Nat) (harr : (Cond.arrayClass .long).before args s = true) (hK : xK G s) (hH : xH G A f H) (hS : va_S A H0 H locs) (hA : ∀ q, H0.size ≤ q → A q) {i : Int32} {n : Nat} (hi : i = nI n) (hn : n < 10000000) (hcells : cells + 1 ≤ R.cells) (hslots : slots + n ≤ R.slots) (hdg : decode cc pc = .ok (.newarray .long, 2))
    (kk : ∀ (q : Nat) (H1 : Heap) (f1 : xF), f1 = xset f q (xJ G t n (fun _ => 0)) → f q = none → xH G A f1 H1 → va_S A H0 H1 locs →
      W p l e R s m args below meth c H1 locs (cells + 1) (slots + n) Q (F0 m (pc + 2) ls (.ref q :: rest))) : W p l e R s m args below meth c H locs cells slots Q (F0 m pc ls (.int i :: rest)) := by
  subst hi
  refine va_newa (atype := .long) (ty := .long) (a0 := (n, .inr (.inl (fun _ => 0)))) hexec hb harr rfl hK.1 (hH.P H.size) (hH.D _) hS hA (fun cA => rfl) (nI_pos (by omega)) (nI_clamp (by omega)) (by show n * 8 ≤ _; omega) hcells hslots hdg (fun q cA H1 hK1 hP1 hD1 hS1 => ?_)
  have hcA : cA = G.2.1 1 := by
    have h1 := (hK1.2 (xty G).length (cA, .long) (by simp)).2
    have h2 := hK.arr (k := 1) rfl (fun C h => by cases h)
    exact Option.some.inj (h1.symm.trans h2)
  subst hcA
  obtain ⟨h1, h2⟩ := hH.push (e := xJ G t n (fun _ => 0)) hP1 hD1
  exact kk q H1 _ rfl h2 h1 hS1
/-- a new array of references of the kind k (4: weights, 5: nodes) -/
theorem x_newq (hexec : p.tables.exec = Jvm.exec) (hb : c.code = cc) (t k : Nat) {own C : String} {index : Nat} (hown : s.vm.findClass own = some m.cls) (hclink : (Cond.classLink own index C).before args s = true) (hover : va_AO C s) (hK : xK G s) (ht : (xty G)[k]? = some (G.2.1 k, .object C)) (hH : xH G A f H) (hS : va_S A H0 H locs) (hA : ∀ q, H0.size ≤ q → A q) {i : Int32} {n : Nat} (hi : i = nI n) (hn : n < 100000000) (hcells : cells + 1 ≤ R.cells) (hslots : slots + n ≤ R.slots) (hdg : decode cc pc = .ok (.anewarray index, 3))
    (kk : ∀ (q : Nat) (H1 : Heap) (f1 : xF), f1 = xset f q (xR G k t n (fun _ => none)) → f q = none → xH G A f1 H1 → va_S A H0 H1 locs →
      W p l e R s m args below meth c H1 locs (cells + 1) (slots + n) Q (F0 m (pc + 3) ls (.ref q :: rest))) : W p l e R s m args below meth c H locs cells slots Q (F0 m pc ls (.int i :: rest)) := by
  subst hi
  refine va_newq hexec hb hown hclink hover hK.1 (hH.P H.size) (hH.D _) hS hA (nI_pos (by omega)) (nI_clamp (by omega)) (by omega) hcells hslots hdg (fun q cA H1 hK1 hP1 hD1 hS1 => ?_)
  have hcA : cA = G.2.1 k := by
    obtain ⟨kA, comp, -, -, -, h1⟩ := (hK1.2 (xty G).length (cA, .object C) (by simp)).2
    obtain ⟨kA2, comp2, -, -, -, h2⟩ := (hK.1.2 k _ ht).2
    exact Option.some.inj (h1.symm.trans h2)
  subst hcA
  obtain ⟨h1, h2⟩ := hH.push (e := xR G k t n (fun _ => none)) hP1 hD1
  exact kk q H1 _ rfl h2 h1 hS1
/-- a call that comes back: the answer, the cells -/
theorem x_back {B : Nat → Prop} {mc ms : Nat} {st0 : List Value} {av : Array Value} {post : Option Value → xF → Prop} (hr : va_Run p l e R s m args below meth c H locs cells slots mc ms (F0 m pc ls st0) rest (xQ G B post av) B) (hS : va_S A H0 H locs) (hBA : ∀ q, B q → A q)
    (kk : ∀ (v : Option Value) (f1 : xF) (H1 : Heap) (locs1 : List Loc), post v f1 → xH G A f1 H1 → va_S A H0 H1 locs1 → H.size ≤ H1.size → (∀ q : Nat, q < H.size → ¬ B q → H1[q]? = H[q]?) → W p l e R s m args below meth c H1 locs1 (cells + mc) (slots + ms) Q (F0 m (pc + 3) ls (v.toList ++ rest))) : W p l e R s m args below meth c H locs cells slots Q (F0 m pc ls st0) := by
  intro T hT X
  obtain ⟨v, st₀, t, T', L, h0, X', hL, e1, e2, ⟨⟨v', f1, hv, hp, hh⟩, hF⟩, st⟩ := hr T hT X
  cases hv
  obtain ⟨hz, hk⟩ := hF
  rw [h0] at hz hk
  obtain ⟨t2, a1, b1⟩ := kk v f1 T'.heap (locs ++ L) hp (by rw [e1]; exact hh.weaken (fun a _ _ => hBA a)) ⟨Nat.le_trans hS.1 (by rw [e1]; exact hz), fun q h1 h2 => by rw [e1, hk q (Nat.lt_of_lt_of_le h1 hS.1) (fun z => h2 (hBA q z))]; exact hS.2.1 q h1 h2, fun q hq => by
      rcases List.mem_append.mp hq with h | h
      · exact hS.2.2 q h
      · exact hBA _ (hL q h)⟩ (by rw [e1]; exact hz) (fun q h1 h2 => by rw [e1]; exact hk q h1 h2) T' rfl X'
  exact ⟨t2, st t2 a1, b1⟩
theorem x_back5 {B : Nat → Prop} {mc ms : Nat} {st0 : List Value} {av : Array Value} {post : Option Value → xF → Prop} (hr : va_Run5 p l e R s m args below meth c H locs cells slots mc ms (F0 m pc ls st0) rest (xQ G B post av) B) (hS : va_S A H0 H locs) (hBA : ∀ q, B q → A q)
    (kk : ∀ (v : Option Value) (f1 : xF) (H1 : Heap) (locs1 : List Loc), post v f1 → xH G A f1 H1 → va_S A H0 H1 locs1 → H.size ≤ H1.size → (∀ q : Nat, q < H.size → ¬ B q → H1[q]? = H[q]?) → W p l e R s m args below meth c H1 locs1 (cells + mc) (slots + ms) Q (F0 m (pc + 5) ls (v.toList ++ rest))) : W p l e R s m args below meth c H locs cells slots Q (F0 m pc ls st0) := by
  intro T hT X
  obtain ⟨v, st₀, t, T', L, h0, X', hL, e1, e2, ⟨⟨v', f1, hv, hp, hh⟩, hF⟩, st⟩ := hr T hT X
  cases hv
  obtain ⟨hz, hk⟩ := hF
  rw [h0] at hz hk
  obtain ⟨t2, a1, b1⟩ := kk v f1 T'.heap (locs ++ L) hp (by rw [e1]; exact hh.weaken (fun a _ _ => hBA a)) ⟨Nat.le_trans hS.1 (by rw [e1]; exact hz), fun q h1 h2 => by rw [e1, hk q (Nat.lt_of_lt_of_le h1 hS.1) (fun z => h2 (hBA q z))]; exact hS.2.1 q h1 h2, fun q hq => by
      rcases List.mem_append.mp hq with h | h
      · exact hS.2.2 q h
      · exact hBA _ (hL q h)⟩ (by rw [e1]; exact hz) (fun q h1 h2 => by rw [e1]; exact hk q h1 h2) T' rfl X'
  exact ⟨t2, st t2 a1, b1⟩
end XB
