/-! OWN KIT, PART E: an array of arrays -/
set_option maxRecDepth 100000
theorem outer_arrV (c : ClassId) (N h0 : Nat) : ∀ i, Jvm.Free.Multi.outerC c N h0 i = arrV c N (fun j => if j < i then .ref (h0 + 1 + j) else .null)
  | 0 => by
    have h1 : Jvm.Free.Multi.outerC c N h0 0 = ({ cls := c, slots := Array.replicate N .null, vm := .none } : Cell) := rfl
    rw [h1, arrV_new]
    congr 1
  | i + 1 => by
    have h1 : Jvm.Free.Multi.outerC c N h0 (i + 1) = (Jvm.Free.Multi.outerC c N h0 i).setSlot i (.ref (h0 + 1 + i)) := rfl
    rw [h1, outer_arrV c N h0 i, arrV_store]
    congr 1
    funext j
    unfold updV
    by_cases e : j = i
    · subst e; simp
    · by_cases e2 : j < i
      · have e3 : j < i + 1 := by omega
        simp [e, e2, e3]
      · have e3 : ¬ j < i + 1 := by omega
        simp [e, e2, e3]
theorem outer_full (c : ClassId) (N h0 : Nat) : Jvm.Free.Multi.outerC c N h0 N = arrV c N (fun j => va_rf (some (h0 + 1 + j))) := by
  rw [outer_arrV]
  unfold arrV
  congr 1
  congr 1
  funext j
  have := j.isLt
  simp [va_rf]
section XM
variable {p : Program} {l : Launch} {e : Env} {R : Room} {s : State} {m : MethodId} {args : Array Value} {below : List Frame} {meth : Method} {c : Code} {H : Heap} {locs : List Loc} {cells slots : Nat} {Q : State → Prop}
variable {cc : ByteArray} {pc : Nat} {ls : Array Slot} {rest : List Value} {G : xG} {A : Nat → Prop} {f : xF} {H0 : Heap}
theorem x_multi (hexec : p.tables.exec = Jvm.exec) (hb : c.code = cc) (t0 t1 : Nat) {own : String} {index : Nat} (hown : s.vm.findClass own = some m.cls) (hclink : (Cond.classLink own index "[[I").before args s = true) (hover : va_Nw (.arrayOver (.array .int)) s) (harr : (Cond.arrayClass .int).before args s = true)
    (hK : xK G s) (hH : xH G A f H) (hS : va_S A H0 H locs) (hA : ∀ q, H0.size ≤ q → A q) {N M : Nat} (hN : N < 1000) (hM : M < 1000) (hcells : cells + (1 + N) ≤ R.cells) (hslots : slots + (N + N * M) ≤ R.slots) (hdg : decode cc pc = .ok (.multianewarray index 2, 4))
    (kk : ∀ (q : Nat) (ra : Nat → Nat) (H1 : Heap) (f1 : xF), f1 q = some (xR G 3 t0 N (fun k => some (ra k))) → (∀ k, k < N → f1 (ra k) = some (xN G (t1 + k) M (fun _ => 0))) → xkeep 0 0 f f1 → xH G A f1 H1 → va_S A H0 H1 locs →
      W p l e R s m args below meth c H1 locs (cells + 1 + N) (slots + N + N * M) Q (F0 m (pc + 4) ls (.ref q :: rest))) : W p l e R s m args below meth c H locs cells slots Q (F0 m pc ls (.int (nI M) :: .int (nI N) :: rest)) := by
  intro T hT X
  subst hT
  have eN : (nI N).toNatClampNeg = N := nI_clamp (by omega)
  have eM : (nI M).toNatClampNeg = M := nI_clamp (by omega)
  obtain ⟨vm₁, cA, comp, hW, hfA, hfC, -, -, X1, step⟩ := X.multianewarray2F hexec (ty := .int) (own := own) (index := index) hown hclink hover harr (g := F0 m pc ls (.int (nI M) :: .int (nI N) :: rest)) rfl (by rw [hb]; exact hdg) (n := nI N) (k := nI M) (rest := rest) rfl (nI_pos (by omega)) (nI_pos (by omega)) (by rw [eN]; omega) (by rw [eM]; show M * 4 ≤ _; omega) (by rw [eM]; omega) rfl rfl (by rw [eN]; exact hcells) (by rw [eN, eM]; exact hslots)
  rw [eN, eM] at X1 step
  have hcA : cA = G.2.1 3 := Option.some.inj (hfA.symm.trans ((hK.1.2 3 _ rfl).2))
  have hcC : comp = G.2.1 0 := Option.some.inj (hfC.symm.trans ((hK.1.2 0 _ rfl).2))
  subst hcA
  subst hcC
  have z : (T.setVm vm₁).heap.size = T.heap.size := rfl
  obtain ⟨f1, f2, -, -⟩ := Jvm.Free.Multi.fill_facts (T.setVm vm₁) (G.2.1 3) (G.2.1 0) N M (defaultValue .int) N
  have fo := fun (a : Nat) (ha : a < T.heap.size) => Jvm.Free.Multi.fill_old (T.setVm vm₁) (G.2.1 3) (G.2.1 0) N M (defaultValue .int) (a := a) ha N
  have fi := fun (j : Nat) (hj : j < N) => Jvm.Free.Multi.fill_inner (T.setVm vm₁) (G.2.1 3) (G.2.1 0) N M (defaultValue .int) N j hj
  generalize hS1 : Jvm.Free.Multi.fill (T.setVm vm₁) (G.2.1 3) (G.2.1 0) N M (defaultValue .int) N = S1 at X1 step f1 f2 fo fi
  have hnone : ∀ a : Nat, T.heap.size ≤ a → f a = none := fun a ha => hH.fresh ha
  have g1 : (fun a => if a = T.heap.size then some (xR G 3 t0 N (fun k => some (T.heap.size + 1 + k))) else if T.heap.size < a ∧ a ≤ T.heap.size + N then some (xN G (t1 + (a - T.heap.size - 1)) M (fun _ => 0)) else f a : xF) T.heap.size = some (xR G 3 t0 N (fun k => some (T.heap.size + 1 + k))) := if_pos rfl
  refine (fun (h : _) => ?_) (kk T.heap.size (fun k => T.heap.size + 1 + k) S1.heap (fun a => if a = T.heap.size then some (xR G 3 t0 N (fun k => some (T.heap.size + 1 + k))) else if T.heap.size < a ∧ a ≤ T.heap.size + N then some (xN G (t1 + (a - T.heap.size - 1)) M (fun _ => 0)) else f a) g1 ?_ ?_ ?_ ?_)
  · obtain ⟨t2, a1, b1⟩ := h S1 rfl X1
    exact ⟨t2, step t2 a1, b1⟩
  · intro k hk
    show (if T.heap.size + 1 + k = T.heap.size then _ else if T.heap.size < T.heap.size + 1 + k ∧ T.heap.size + 1 + k ≤ T.heap.size + N then _ else _) = _
    rw [if_neg (by omega), if_pos (by omega), show T.heap.size + 1 + k - T.heap.size - 1 = k by omega]
  · intro a ea ha _
    have hlt : a < T.heap.size := hH.lt ha
    show (if a = T.heap.size then _ else if T.heap.size < a ∧ a ≤ T.heap.size + N then _ else _) = _
    rw [if_neg (by omega), if_neg (by omega)]
    exact ha
  · intro a ea ha
    by_cases e1 : a = T.heap.size
    · subst e1
      rw [g1] at ha
      cases ha
      refine ⟨?_, hA _ hS.1⟩
      show S1.heap[T.heap.size]? = some (vp_cell _ _)
      rw [vp_cell_q, ← outer_full]
      exact f2
    · by_cases e2 : T.heap.size < a ∧ a ≤ T.heap.size + N
      · have h3 : (if a = T.heap.size then some (xR G 3 t0 N (fun k => some (T.heap.size + 1 + k))) else if T.heap.size < a ∧ a ≤ T.heap.size + N then some (xN G (t1 + (a - T.heap.size - 1)) M (fun _ => 0)) else f a) = some ea := ha
        rw [if_neg e1, if_pos e2] at h3
        cases h3
        refine ⟨?_, hA _ (Nat.le_trans hS.1 (by omega))⟩
        show S1.heap[a]? = some (vp_cell _ _)
        have h4 := fi (a - T.heap.size - 1) (by omega)
        rw [show (T.setVm vm₁).heap.size + 1 + (a - T.heap.size - 1) = a by rw [z]; omega] at h4
        rw [h4]
        exact congrArg some (arrV_new (G.2.1 0) M (.int (nI 0)))
      · have h3 : (if a = T.heap.size then some (xR G 3 t0 N (fun k => some (T.heap.size + 1 + k))) else if T.heap.size < a ∧ a ≤ T.heap.size + N then some (xN G (t1 + (a - T.heap.size - 1)) M (fun _ => 0)) else f a) = some ea := ha
        rw [if_neg e1, if_neg e2] at h3
        exact ⟨(hH a ea h3).1.kept (fo a (hH.lt h3)), (hH a ea h3).2⟩
  · exact ⟨Nat.le_trans hS.1 (by rw [f1, z]; omega), fun q h1 h2 => (fo q (Nat.lt_of_lt_of_le h1 hS.1)).trans (hS.2.1 q h1 h2), hS.2.2⟩
end XM
