/-! OWN KIT, PART D: calls through an interface, casts, copies -/
set_option maxRecDepth 100000
theorem lw_F {own : String} {idx : Nat} {C : String} {x y : MethodName} {b : ByteArray} {L : Nat} {r : Option FieldType} (h1 : Cond.methodLink own idx x ∈ lw_all) (h2 : Cond.selects C x y ∈ lw_all) (h3 : Cond.instanceMethod y ∈ lw_all) (h4 : Cond.initialized y.cls ∈ lw_all) (h5 : Cond.code y b L r ∈ lw_all) : GoodIn lw_all (va_wsF own idx C x y (ws_ y b L r)) := by
  refine lw_app ?_ (lw_meth h5)
  intro w hw
  simp only [List.mem_cons, List.not_mem_nil, or_false] at hw
  rcases hw with e | e | e | e
  · rw [e]; exact h1
  · rw [e]; exact h2
  · rw [e]; exact h3
  · rw [e]; exact h4
section XD
variable {p : Program} {l : Launch} {e : Env} {R : Room} {s : State} {m : MethodId} {args : Array Value} {below : List Frame} {meth : Method} {c : Code} {H : Heap} {locs : List Loc} {cells slots : Nat} {Q : State → Prop}
variable {cc : ByteArray} {pc : Nat} {ls : Array Slot} {rest : List Value} {G : xG} {A : Nat → Prop} {f : xF} {a : Nat} {H0 : Heap}
theorem x_F {own C : String} {index count maxL n nL : Nat} {x y : MethodName} {bytes : ByteArray} {ret : Option FieldType} {rm : Room} {post : Option Value → xF → Prop} {t ci b : Nat} {fs As st0 : List Value} {r : vw_C} (S : CallFix p m c cc nL s args lw_all own) (hK : xK G s) (hC : xC G A s s.heap) (hA : ∀ q, s.heap.size ≤ q → A q) (hH : xH G A f H) (hS : va_S A s.heap H locs)
    (hM : xMet l y bytes maxL ret rm G A f (.ref b :: As) post) (q1 : Cond.methodLink own index x ∈ lw_all) (q2 : Cond.selects C x y ∈ lw_all) (q3 : Cond.instanceMethod y ∈ lw_all) (q4 : Cond.initialized y.cls ∈ lw_all) (q5 : Cond.code y bytes maxL ret ∈ lw_all) (hF : va_Fw C x y s)
    (hd : x.cls ≠ "java/lang/invoke/MethodHandle" ∧ x.cls ≠ "java/lang/invoke/VarHandle" ∧ (parseMethodDescriptor x.desc).map (fun d => d.parameters.length) = some n) (hR : rm.frames + 1 ≤ R.frames ∧ 8 + (maxL + 11) + rm.locals ≤ R.locals)
    (hf : f b = some (xO t ci fs)) (hc : xcl[ci]? = some r) (hrC : r.1 = C) (hn : As.length = n) (hsize : ls.size = nL) (hstack : st0 = As.reverse ++ .ref b :: rest) (hW : (rest.map fun v => v.category).sum ≤ 8) (hdg : decode cc pc = .ok (.invokeinterface index count, 5))
    (hc1 : cells + rm.cells ≤ R.cells) (hs1 : slots + rm.slots ≤ R.slots)
    (kk : ∀ (v : Option Value) (f1 : xF) (H1 : Heap) (locs1 : List Loc), post v f1 → xH G A f1 H1 → va_S A s.heap H1 locs1 → H.size ≤ H1.size → W p l e R s m args below meth c H1 locs1 (cells + rm.cells) (slots + rm.slots) Q (F0 m (pc + 5) ls (v.toList ++ rest))) : W p l e R s m args below meth c H locs cells slots Q (F0 m pc ls st0) := by
  subst hrC
  exact x_back5 (va_runF (As := As) (rest := rest) (hK.1.1 ci r hc).2 S hM (va_cwF n S.2.2.2.2 (lw_F q1 q2 q3 q4 q5) rfl rfl rfl hF hd hR) ⟨xP.blind, va_recv hK.1 (hH.one hf) hc (q0 := 0) rfl, fun U hU hW => xP.of hK hC hS (fun _ h => h) (fun q hq => hA q (Nat.le_trans hS.1 hq)) hH hU hW⟩ rfl hn hsize hstack (lv_room hW) hdg ⟨hc1, hs1⟩) hS (fun _ h => h) (fun v f1 H1 locs1 hp h1 h2 h3 _ => kk v f1 H1 locs1 hp h1 h2 h3)
theorem x_castS (hexec : p.tables.exec = Jvm.exec) (hb : c.code = cc) {own nm : String} {index t ci : Nat} {fs : List Value} {r : vw_C} (hown : s.vm.findClass own = some m.cls) (hlink : (Cond.classLink own index nm).before args s = true) (hK : xK G s) (hH : xH G A f H) (hf : f a = some (xO t ci fs)) (hc : xcl[ci]? = some r) (hr : r.1 = nm) (hdg : decode cc pc = .ok (.checkcast index, 3)) (k : W p l e R s m args below meth c H locs cells slots Q (F0 m (pc + 3) ls (.ref a :: rest))) : W p l e R s m args below meth c H locs cells slots Q (F0 m pc ls (.ref a :: rest)) := by
  subst hr
  exact va_castS hexec hb hown hlink (hK.1.1 ci r hc).2 (va_recv hK.1 (hH.one hf) hc (q0 := 0) rfl) hdg k
theorem x_castY (hexec : p.tables.exec = Jvm.exec) (hb : c.code = cc) {own nm : String} {index t ci : Nat} {fs : List Value} {r : vw_C} (hown : s.vm.findClass own = some m.cls) (hlink : (Cond.classLink own index nm).before args s = true) (hK : xK G s) (hH : xH G A f H) (hf : f a = some (xO t ci fs)) (hc : xcl[ci]? = some r) (hr : va_Nw (.castable r.1 nm) s) (hdg : decode cc pc = .ok (.checkcast index, 3)) (k : W p l e R s m args below meth c H locs cells slots Q (F0 m (pc + 3) ls (.ref a :: rest))) : W p l e R s m args below meth c H locs cells slots Q (F0 m pc ls (.ref a :: rest)) :=
  va_castY hexec hb hown hlink hr (va_recv hK.1 (hH.one hf) hc (q0 := 0) rfl) hdg k
theorem x_copyi (hexec : p.tables.exec = Jvm.exec) (hb : c.code = cc) (hml : c.maxLocals = ls.size) {own : String} {index t0 n0 t1 n1 N a0 : Nat} {g0 g1 : Nat → Nat} (hown : s.vm.findClass own = some m.cls) (hlink : (Cond.methodLink own index arraycopyName).before args s = true) (hnat : (Cond.native arraycopyName).before args s = true) (hstat : (Cond.static arraycopyName).before args s = true) (hini : (Cond.initialized "java/lang/System").before args s = true)
    (hK : xK G s) (hH : xH G A f H) (hS : va_S A H0 H locs) (hf0 : f a0 = some (xN G t0 n0 g0)) (hf : f a = some (xN G t1 n1 g1)) (hN : N < 2 ^ 31) (h0 : N ≤ n0) (h1 : N ≤ n1) (hframes : 1 ≤ R.frames) (hlocals : (rest.map fun v => v.category).sum + (nativeFrameWords "java/lang/System" "arraycopy" 5 + 11) ≤ R.locals) (hdg : decode cc pc = .ok (.invokestatic index, 3))
    (kk : ∀ (H1 : Heap) (locs1 : List Loc) (f1 : xF), f1 = xset f a (xN G t1 n1 (fun j => if j < N then g0 j else g1 j)) → xH G A f1 H1 → va_S A H0 H1 locs1 → W p l e R s m args below meth c H1 locs1 cells slots Q (F0 m (pc + 3) ls rest)) : W p l e R s m args below meth c H locs cells slots Q (F0 m pc ls (.int (nI N) :: .int (nI 0) :: .ref a :: .int (nI 0) :: .ref a0 :: rest)) := by
  obtain ⟨q0, hq0⟩ := xw_get hf0 (hH.lt hf0)
  obtain ⟨q1, hq1⟩ := xw_get hf (hH.lt hf)
  have e0 : (nI 0).toNatClampNeg = 0 := nI_clamp (by decide)
  have eN : (nI N).toNatClampNeg = N := nI_clamp hN
  refine va_copyi (f := fun j => nI (g0 j)) (g := fun j => nI (g1 j)) hexec hb hml hown hlink hnat hstat hini hK.1 (hH.P _) (hH.D _) hS q0 q1 0 0 hq0 hq1 rfl rfl rfl (by decide) (by decide) (nI_pos hN) (by rw [e0, eN]; omega) (by rw [e0, eN]; omega) (fun _ _ => rfl) hframes hlocals hdg (fun H1 locs1 hP1 _ hS1 => kk H1 locs1 _ rfl (hH.put (e := xN G t1 n1 (fun j => if j < N then g0 j else g1 j)) hq1 ?_) hS1)
  have e1 : va_cpy (fun j => nI (g0 j)) (fun j => nI (g1 j)) (nI 0).toNatClampNeg (nI 0).toNatClampNeg (nI N).toNatClampNeg = fun j => nI (if j < N then g0 j else g1 j) := by
    funext j
    rw [e0, eN]
    unfold va_cpy
    by_cases hj : j < N
    · rw [if_pos ⟨Nat.zero_le _, by omega⟩, if_pos hj, show 0 + (j - 0) = j by omega]
    · rw [if_neg (by omega), if_neg hj]
  rw [e1] at hP1
  exact hP1
end XD
