/-! OWN KIT, PART C: numbers, branches, calls, ends -/
set_option maxRecDepth 100000
/-- an Int32 by an integer -/
def oI (z : Int) : Int32 := Int32.ofInt z
theorem nI_oI (n : Nat) : nI n = oI (n : Int) := by
  unfold nI oI
  apply Int32.toBitVec_inj.mp
  simp
theorem oI_add (a b : Int) : oI a + oI b = oI (a + b) := (Int32.ofInt_add a b).symm
theorem oI_sub (a b : Int) : oI a - oI b = oI (a - b) := (Int32.ofInt_sub a b).symm
theorem oI_mul (a b : Int) : oI a * oI b = oI (a * b) := (Int32.ofInt_mul a b).symm
theorem oI_neg (a : Int) : -oI a = oI (-a) := (Int32.ofInt_neg a).symm
theorem oI_add' {x y : Int32} {a b : Int} (hx : x = oI a) (hy : y = oI b) : x + y = oI (a + b) := by rw [hx, hy, oI_add]
theorem oI_sub' {x y : Int32} {a b : Int} (hx : x = oI a) (hy : y = oI b) : x - y = oI (a - b) := by rw [hx, hy, oI_sub]
theorem oI_mul' {x y : Int32} {a b : Int} (hx : x = oI a) (hy : y = oI b) : x * y = oI (a * b) := by rw [hx, hy, oI_mul]
theorem oI_neg' {x : Int32} {a : Int} (hx : x = oI a) : -x = oI (-a) := by rw [hx, oI_neg]
theorem oI_toInt {z : Int} (h : -2147483648 ≤ z ∧ z ≤ 2147483647) : (oI z).toInt = z := by
  unfold oI
  exact Int32.toInt_ofInt_of_le (by simpa using h.1) (by omega)
theorem oI_self (x : Int32) : x = oI x.toInt := by
  unfold oI
  exact (Int32.ofInt_toInt x).symm
theorem oI_nI {z : Int} {n : Nat} (h : z = (n : Int)) : oI z = nI n := by rw [h, nI_oI]
theorem oI_le' {x y : Int32} {a b : Int} (hx : x = oI a) (hy : y = oI b) (ha : -2147483648 ≤ a ∧ a ≤ 2147483647) (hb : -2147483648 ≤ b ∧ b ≤ 2147483647) : x ≤ y ↔ a ≤ b := by
  rw [hx, hy, Int32.le_iff_toInt_le, oI_toInt ha, oI_toInt hb]
theorem oI_lt' {x y : Int32} {a b : Int} (hx : x = oI a) (hy : y = oI b) (ha : -2147483648 ≤ a ∧ a ≤ 2147483647) (hb : -2147483648 ≤ b ∧ b ≤ 2147483647) : x < y ↔ a < b := by
  rw [hx, hy, Int32.lt_iff_toInt_lt, oI_toInt ha, oI_toInt hb]
theorem oI_eq' {x y : Int32} {a b : Int} (hx : x = oI a) (hy : y = oI b) (ha : -2147483648 ≤ a ∧ a ≤ 2147483647) (hb : -2147483648 ≤ b ∧ b ≤ 2147483647) : x = y ↔ a = b := by
  rw [hx, hy, ← Int32.toInt_inj, oI_toInt ha, oI_toInt hb]
theorem oI_0 : (0 : Int32) = oI 0 := by decide
theorem nI_0' : (0 : Int32) = nI 0 := by decide
theorem nI_inc (k : Nat) : nI k + Int32.ofInt 1 = nI (k + 1) := nI_1 k
theorem nI_dec (k : Nat) : nI (k + 1) + Int32.ofInt (-1) = nI k := pk_m1 k
theorem oI_inc (z n : Int) : oI z + Int32.ofInt n = oI (z + n) := oI_add z n
theorem nI_le' {a b : Nat} (ha : a < 2147483648) (hb : b < 2147483648) : nI a ≤ nI b ↔ a ≤ b := nI_leI ha hb
theorem nI_lt' {a b : Nat} (ha : a < 2147483648) (hb : b < 2147483648) : nI a < nI b ↔ a < b := nI_ltI ha hb
theorem nI_eq' {a b : Nat} (ha : a < 2147483648) (hb : b < 2147483648) : nI a = nI b ↔ a = b := nI_eq ha hb
theorem nI_eq0 {a : Nat} (ha : a < 2147483648) : nI a = 0 ↔ a = 0 := by
  rw [nI_0']; exact nI_eq' ha (by decide)
theorem nI_gt0 {a : Nat} (ha : a < 2147483648) : 0 < nI a ↔ 0 < a := by
  rw [nI_0']; exact nI_lt' (by decide) ha
theorem nI_le0 {a : Nat} (ha : a < 2147483648) : nI a ≤ 0 ↔ a = 0 := by
  rw [nI_0', nI_le' ha (by decide)]; omega
theorem nI_lt0 {a : Nat} (ha : a < 2147483648) : nI a < 0 ↔ False := by
  rw [nI_0', nI_lt' ha (by decide)]; exact ⟨fun h => absurd h (Nat.not_lt_zero _), False.elim⟩
theorem nI_ge0 {a : Nat} (ha : a < 2147483648) : 0 ≤ nI a ↔ True := by
  rw [nI_0', nI_le' (by decide) ha]; exact ⟨fun _ => trivial, fun _ => Nat.zero_le _⟩
/-- a truth as a number -/
def xb (P : Prop) [Decidable P] : Nat := if P then 1 else 0
theorem xb_t {P : Prop} [Decidable P] (h : P) : xb P = 1 := if_pos h
theorem xb_f {P : Prop} [Decidable P] (h : ¬ P) : xb P = 0 := if_neg h
theorem xb_lt (P : Prop) [Decidable P] : xb P < 2 := by unfold xb; split <;> omega
theorem xb_eq0 (P : Prop) [Decidable P] : nI (xb P) = 0 ↔ ¬ P := by
  rw [nI_eq0 (Nat.lt_trans (xb_lt P) (by decide))]
  unfold xb
  by_cases h : P <;> simp [h]
theorem xb_le0 (P : Prop) [Decidable P] : nI (xb P) ≤ 0 ↔ ¬ P := by
  rw [nI_le0 (Nat.lt_trans (xb_lt P) (by decide))]
  unfold xb
  by_cases h : P <;> simp [h]
theorem xb_iff {P Q : Prop} [Decidable P] [Decidable Q] (h : P ↔ Q) : xb P = xb Q := by
  unfold xb
  by_cases hp : P
  · rw [if_pos hp, if_pos (h.mp hp)]
  · rw [if_neg hp, if_neg (mt h.mpr hp)]
theorem xabs {x : Int32} {z : Int} (hx : x = oI z) (h : -2147483648 < z ∧ z ≤ 2147483647) : (if 0 ≤ x then x else 0 - x) = nI z.natAbs := by
  subst hx
  by_cases h0 : 0 ≤ z
  · rw [if_pos ((oI_le' oI_0 rfl (by decide) ⟨by omega, by omega⟩).mpr h0), nI_oI]
    congr 1
    omega
  · rw [if_neg (mt (oI_le' oI_0 rfl (by decide) ⟨by omega, by omega⟩).mp h0), nI_oI, oI_sub' oI_0 rfl]
    congr 1
    omega
section XC
variable {p : Program} {l : Launch} {e : Env} {R : Room} {s : State} {m : MethodId} {args : Array Value} {below : List Frame} {meth : Method} {c : Code} {H : Heap} {locs : List Loc} {cells slots : Nat} {Q : State → Prop}
variable {cc : ByteArray} {pc : Nat} {ls : Array Slot} {rest : List Value} {G : xG} {A : Nat → Prop} {f : xF}
theorem x_iadd (hexec : p.tables.exec = Jvm.exec) (hb : c.code = cc) {x y v : Int32} (hv : x + y = v) (hdg : decode cc pc = .ok (.iadd, 1)) (k : W p l e R s m args below meth c H locs cells slots Q (F0 m (pc + 1) ls (.int v :: rest))) : W p l e R s m args below meth c H locs cells slots Q (F0 m pc ls (.int y :: .int x :: rest)) := by
  subst hv
  exact lv_iadd hexec hb hdg k
theorem x_isub (hexec : p.tables.exec = Jvm.exec) (hb : c.code = cc) {x y v : Int32} (hv : x - y = v) (hdg : decode cc pc = .ok (.isub, 1)) (k : W p l e R s m args below meth c H locs cells slots Q (F0 m (pc + 1) ls (.int v :: rest))) : W p l e R s m args below meth c H locs cells slots Q (F0 m pc ls (.int y :: .int x :: rest)) := by
  subst hv
  exact lv_isub hexec hb hdg k
theorem x_imul (hexec : p.tables.exec = Jvm.exec) (hb : c.code = cc) {x y v : Int32} (hv : x * y = v) (hdg : decode cc pc = .ok (.imul, 1)) (k : W p l e R s m args below meth c H locs cells slots Q (F0 m (pc + 1) ls (.int v :: rest))) : W p l e R s m args below meth c H locs cells slots Q (F0 m pc ls (.int y :: .int x :: rest)) := by
  subst hv
  exact lv_imul hexec hb hdg k
theorem x_ineg (hexec : p.tables.exec = Jvm.exec) (hb : c.code = cc) {x v : Int32} (hv : -x = v) (hdg : decode cc pc = .ok (.ineg, 1)) (k : W p l e R s m args below meth c H locs cells slots Q (F0 m (pc + 1) ls (.int v :: rest))) : W p l e R s m args below meth c H locs cells slots Q (F0 m pc ls (.int x :: rest)) := by
  subst hv
  exact lv_ineg hexec hb hdg k
theorem x_idivN (hexec : p.tables.exec = Jvm.exec) (hb : c.code = cc) {a d : Nat} (ha : a < 2147483648) (h0 : 0 < d) (hd : d < 2147483648) (hdg : decode cc pc = .ok (.idiv, 1)) (k : W p l e R s m args below meth c H locs cells slots Q (F0 m (pc + 1) ls (.int (nI (a / d)) :: rest))) : W p l e R s m args below meth c H locs cells slots Q (F0 m pc ls (.int (nI d) :: .int (nI a) :: rest)) := by
  refine lv_idiv hexec hb hdg (nI_ne0 h0 hd) ?_
  rw [pk_div ha h0 hd]
  exact k
theorem x_iremN (hexec : p.tables.exec = Jvm.exec) (hb : c.code = cc) {a d : Nat} (ha : a < 2147483648) (h0 : 0 < d) (hd : d < 2147483648) (hdg : decode cc pc = .ok (.irem, 1)) (k : W p l e R s m args below meth c H locs cells slots Q (F0 m (pc + 1) ls (.int (nI (a % d)) :: rest))) : W p l e R s m args below meth c H locs cells slots Q (F0 m pc ls (.int (nI d) :: .int (nI a) :: rest)) := by
  refine lv_irem hexec hb hdg (nI_ne0 h0 hd) ?_
  rw [pk_rem ha h0 hd]
  exact k
theorem x_if_eq (hexec : p.tables.exec = Jvm.exec) (hb : c.code = cc) {x : Int32} {P : Prop} {off : Int} {tgt : Nat} (hdg : decode cc pc = .ok (.ifCond .eq off, 3)) (ht : (pc : Int) + off = (tgt : Int)) (hP : x = 0 ↔ P) (kt : P → W p l e R s m args below meth c H locs cells slots Q (F0 m tgt ls rest)) (kf : ¬ P → W p l e R s m args below meth c H locs cells slots Q (F0 m (pc + 3) ls rest)) : W p l e R s m args below meth c H locs cells slots Q (F0 m pc ls (.int x :: rest)) :=
  lv_if_eq hexec hb hdg ht (fun h => kt (hP.mp h)) (fun h => kf (mt hP.mpr h))
theorem x_if_ne (hexec : p.tables.exec = Jvm.exec) (hb : c.code = cc) {x : Int32} {P : Prop} {off : Int} {tgt : Nat} (hdg : decode cc pc = .ok (.ifCond .ne off, 3)) (ht : (pc : Int) + off = (tgt : Int)) (hP : x = 0 ↔ P) (kt : ¬ P → W p l e R s m args below meth c H locs cells slots Q (F0 m tgt ls rest)) (kf : P → W p l e R s m args below meth c H locs cells slots Q (F0 m (pc + 3) ls rest)) : W p l e R s m args below meth c H locs cells slots Q (F0 m pc ls (.int x :: rest)) :=
  lv_if_ne hexec hb hdg ht (fun h => kt (mt hP.mpr h)) (fun h => kf (hP.mp h))
theorem x_if_lt (hexec : p.tables.exec = Jvm.exec) (hb : c.code = cc) {x : Int32} {P : Prop} {off : Int} {tgt : Nat} (hdg : decode cc pc = .ok (.ifCond .lt off, 3)) (ht : (pc : Int) + off = (tgt : Int)) (hP : x < 0 ↔ P) (kt : P → W p l e R s m args below meth c H locs cells slots Q (F0 m tgt ls rest)) (kf : ¬ P → W p l e R s m args below meth c H locs cells slots Q (F0 m (pc + 3) ls rest)) : W p l e R s m args below meth c H locs cells slots Q (F0 m pc ls (.int x :: rest)) :=
  lv_if_lt hexec hb hdg ht (fun h => kt (hP.mp h)) (fun h => kf (mt hP.mpr h))
theorem x_if_ge (hexec : p.tables.exec = Jvm.exec) (hb : c.code = cc) {x : Int32} {P : Prop} {off : Int} {tgt : Nat} (hdg : decode cc pc = .ok (.ifCond .ge off, 3)) (ht : (pc : Int) + off = (tgt : Int)) (hP : 0 ≤ x ↔ P) (kt : P → W p l e R s m args below meth c H locs cells slots Q (F0 m tgt ls rest)) (kf : ¬ P → W p l e R s m args below meth c H locs cells slots Q (F0 m (pc + 3) ls rest)) : W p l e R s m args below meth c H locs cells slots Q (F0 m pc ls (.int x :: rest)) :=
  lv_if_ge hexec hb hdg ht (fun h => kt (hP.mp h)) (fun h => kf (mt hP.mpr h))
theorem x_if_gt (hexec : p.tables.exec = Jvm.exec) (hb : c.code = cc) {x : Int32} {P : Prop} {off : Int} {tgt : Nat} (hdg : decode cc pc = .ok (.ifCond .gt off, 3)) (ht : (pc : Int) + off = (tgt : Int)) (hP : 0 < x ↔ P) (kt : P → W p l e R s m args below meth c H locs cells slots Q (F0 m tgt ls rest)) (kf : ¬ P → W p l e R s m args below meth c H locs cells slots Q (F0 m (pc + 3) ls rest)) : W p l e R s m args below meth c H locs cells slots Q (F0 m pc ls (.int x :: rest)) :=
  lv_if_gt hexec hb hdg ht (fun h => kt (hP.mp h)) (fun h => kf (mt hP.mpr h))
theorem x_if_le (hexec : p.tables.exec = Jvm.exec) (hb : c.code = cc) {x : Int32} {P : Prop} {off : Int} {tgt : Nat} (hdg : decode cc pc = .ok (.ifCond .le off, 3)) (ht : (pc : Int) + off = (tgt : Int)) (hP : x ≤ 0 ↔ P) (kt : P → W p l e R s m args below meth c H locs cells slots Q (F0 m tgt ls rest)) (kf : ¬ P → W p l e R s m args below meth c H locs cells slots Q (F0 m (pc + 3) ls rest)) : W p l e R s m args below meth c H locs cells slots Q (F0 m pc ls (.int x :: rest)) :=
  lv_if_le hexec hb hdg ht (fun h => kt (hP.mp h)) (fun h => kf (mt hP.mpr h))
theorem x_icmp_eq (hexec : p.tables.exec = Jvm.exec) (hb : c.code = cc) {x y : Int32} {P : Prop} {off : Int} {tgt : Nat} (hdg : decode cc pc = .ok (.if_icmp .eq off, 3)) (ht : (pc : Int) + off = (tgt : Int)) (hP : x = y ↔ P) (kt : P → W p l e R s m args below meth c H locs cells slots Q (F0 m tgt ls rest)) (kf : ¬ P → W p l e R s m args below meth c H locs cells slots Q (F0 m (pc + 3) ls rest)) : W p l e R s m args below meth c H locs cells slots Q (F0 m pc ls (.int y :: .int x :: rest)) :=
  lv_icmp_eq hexec hb hdg ht (fun h => kt (hP.mp h)) (fun h => kf (mt hP.mpr h))
theorem x_icmp_ne (hexec : p.tables.exec = Jvm.exec) (hb : c.code = cc) {x y : Int32} {P : Prop} {off : Int} {tgt : Nat} (hdg : decode cc pc = .ok (.if_icmp .ne off, 3)) (ht : (pc : Int) + off = (tgt : Int)) (hP : x = y ↔ P) (kt : ¬ P → W p l e R s m args below meth c H locs cells slots Q (F0 m tgt ls rest)) (kf : P → W p l e R s m args below meth c H locs cells slots Q (F0 m (pc + 3) ls rest)) : W p l e R s m args below meth c H locs cells slots Q (F0 m pc ls (.int y :: .int x :: rest)) :=
  lv_icmp_ne hexec hb hdg ht (fun h => kt (mt hP.mpr h)) (fun h => kf (hP.mp h))
theorem x_icmp_lt (hexec : p.tables.exec = Jvm.exec) (hb : c.code = cc) {x y : Int32} {P : Prop} {off : Int} {tgt : Nat} (hdg : decode cc pc = .ok (.if_icmp .lt off, 3)) (ht : (pc : Int) + off = (tgt : Int)) (hP : x < y ↔ P) (kt : P → W p l e R s m args below meth c H locs cells slots Q (F0 m tgt ls rest)) (kf : ¬ P → W p l e R s m args below meth c H locs cells slots Q (F0 m (pc + 3) ls rest)) : W p l e R s m args below meth c H locs cells slots Q (F0 m pc ls (.int y :: .int x :: rest)) :=
  lv_icmp_lt hexec hb hdg ht (fun h => kt (hP.mp h)) (fun h => kf (mt hP.mpr h))
theorem x_icmp_ge (hexec : p.tables.exec = Jvm.exec) (hb : c.code = cc) {x y : Int32} {P : Prop} {off : Int} {tgt : Nat} (hdg : decode cc pc = .ok (.if_icmp .ge off, 3)) (ht : (pc : Int) + off = (tgt : Int)) (hP : y ≤ x ↔ P) (kt : P → W p l e R s m args below meth c H locs cells slots Q (F0 m tgt ls rest)) (kf : ¬ P → W p l e R s m args below meth c H locs cells slots Q (F0 m (pc + 3) ls rest)) : W p l e R s m args below meth c H locs cells slots Q (F0 m pc ls (.int y :: .int x :: rest)) :=
  lv_icmp_ge hexec hb hdg ht (fun h => kt (hP.mp h)) (fun h => kf (mt hP.mpr h))
theorem x_icmp_gt (hexec : p.tables.exec = Jvm.exec) (hb : c.code = cc) {x y : Int32} {P : Prop} {off : Int} {tgt : Nat} (hdg : decode cc pc = .ok (.if_icmp .gt off, 3)) (ht : (pc : Int) + off = (tgt : Int)) (hP : y < x ↔ P) (kt : P → W p l e R s m args below meth c H locs cells slots Q (F0 m tgt ls rest)) (kf : ¬ P → W p l e R s m args below meth c H locs cells slots Q (F0 m (pc + 3) ls rest)) : W p l e R s m args below meth c H locs cells slots Q (F0 m pc ls (.int y :: .int x :: rest)) :=
  lv_icmp_gt hexec hb hdg ht (fun h => kt (hP.mp h)) (fun h => kf (mt hP.mpr h))
theorem x_icmp_le (hexec : p.tables.exec = Jvm.exec) (hb : c.code = cc) {x y : Int32} {P : Prop} {off : Int} {tgt : Nat} (hdg : decode cc pc = .ok (.if_icmp .le off, 3)) (ht : (pc : Int) + off = (tgt : Int)) (hP : x ≤ y ↔ P) (kt : P → W p l e R s m args below meth c H locs cells slots Q (F0 m tgt ls rest)) (kf : ¬ P → W p l e R s m args below meth c H locs cells slots Q (F0 m (pc + 3) ls rest)) : W p l e R s m args below meth c H locs cells slots Q (F0 m pc ls (.int y :: .int x :: rest)) :=
  lv_icmp_le hexec hb hdg ht (fun h => kt (hP.mp h)) (fun h => kf (mt hP.mpr h))
theorem x_ifbeq (hexec : p.tables.exec = Jvm.exec) (hb : c.code = cc) {B : Prop} [Decidable B] {off : Int} {tgt : Nat} (hdg : decode cc pc = .ok (.ifCond .eq off, 3)) (ht : (pc : Int) + off = (tgt : Int)) (kt : ¬ B → W p l e R s m args below meth c H locs cells slots Q (F0 m tgt ls rest)) (kf : B → W p l e R s m args below meth c H locs cells slots Q (F0 m (pc + 3) ls rest)) : W p l e R s m args below meth c H locs cells slots Q (F0 m pc ls (.int (nI (xb B)) :: rest)) :=
  x_if_eq hexec hb hdg ht (xb_eq0 B) kt (fun h => kf (Decidable.not_not.mp h))
theorem x_ifbne (hexec : p.tables.exec = Jvm.exec) (hb : c.code = cc) {B : Prop} [Decidable B] {off : Int} {tgt : Nat} (hdg : decode cc pc = .ok (.ifCond .ne off, 3)) (ht : (pc : Int) + off = (tgt : Int)) (kt : B → W p l e R s m args below meth c H locs cells slots Q (F0 m tgt ls rest)) (kf : ¬ B → W p l e R s m args below meth c H locs cells slots Q (F0 m (pc + 3) ls rest)) : W p l e R s m args below meth c H locs cells slots Q (F0 m pc ls (.int (nI (xb B)) :: rest)) :=
  x_if_ne hexec hb hdg ht (xb_eq0 B) (fun h => kt (Decidable.not_not.mp h)) kf
theorem x_ifnull (hexec : p.tables.exec = Jvm.exec) (hb : c.code = cc) {r : Option Nat} {off : Int} {tgt : Nat} (hdg : decode cc pc = .ok (.ifnull off, 3)) (ht : (pc : Int) + off = (tgt : Int)) (kt : r = none → W p l e R s m args below meth c H locs cells slots Q (F0 m tgt ls rest)) (kf : ∀ q, r = some q → W p l e R s m args below meth c H locs cells slots Q (F0 m (pc + 3) ls rest)) : W p l e R s m args below meth c H locs cells slots Q (F0 m pc ls (va_rf r :: rest)) := by
  cases r with
  | none => exact lv_ifnullN hexec hb hdg ht (kt rfl)
  | some q => exact lv_ifnull (x := q) hexec hb hdg (kf q rfl)
theorem x_ifnonnull (hexec : p.tables.exec = Jvm.exec) (hb : c.code = cc) {r : Option Nat} {off : Int} {tgt : Nat} (hdg : decode cc pc = .ok (.ifnonnull off, 3)) (ht : (pc : Int) + off = (tgt : Int)) (kt : ∀ q, r = some q → W p l e R s m args below meth c H locs cells slots Q (F0 m tgt ls rest)) (kf : r = none → W p l e R s m args below meth c H locs cells slots Q (F0 m (pc + 3) ls rest)) : W p l e R s m args below meth c H locs cells slots Q (F0 m pc ls (va_rf r :: rest)) := by
  cases r with
  | none => exact lv_ifnonnullN hexec hb hdg (kf rfl)
  | some q => exact lv_ifnonnull (x := q) hexec hb hdg ht (kt q rfl)
theorem x_norm {g g2 : JFrame} {k n : Nat} (h1 : cells ≤ k) (h2 : slots ≤ n) (hg : g = g2) (kk : W p l e R s m args below meth c H locs k n Q g2) : W p l e R s m args below meth c H locs cells slots Q g := by
  subst hg
  exact W.widen h1 h2 kk
theorem x_aload_nq (hexec : p.tables.exec = Jvm.exec) (hb : c.code = cc) {k : Fin 4} {i : Nat} {x : Option Nat} (hdg : decode cc pc = .ok (.aload_n k, 1)) (hi : (k : Nat) = i) (hl : ls[i]? = some (.val (va_rf x))) (kk : W p l e R s m args below meth c H locs cells slots Q (F0 m (pc + 1) ls (va_rf x :: rest))) : W p l e R s m args below meth c H locs cells slots Q (F0 m pc ls rest) := by
  cases x with
  | none => exact lv_aload_nN hexec hb hdg hi hl kk
  | some a => exact lv_aload_n hexec hb hdg hi hl kk
theorem x_aloadq (hexec : p.tables.exec = Jvm.exec) (hb : c.code = cc) {i : Nat} {x : Option Nat} (hdg : decode cc pc = .ok (.aload i, 2)) (hl : ls[i]? = some (.val (va_rf x))) (kk : W p l e R s m args below meth c H locs cells slots Q (F0 m (pc + 2) ls (va_rf x :: rest))) : W p l e R s m args below meth c H locs cells slots Q (F0 m pc ls rest) := by
  cases x with
  | none => exact lv_aloadN hexec hb hdg hl kk
  | some a => exact lv_aload hexec hb hdg hl kk
theorem x_astore_nq (hexec : p.tables.exec = Jvm.exec) (hb : c.code = cc) {k : Fin 4} {i nL : Nat} {x : Option Nat} {lv lv' : List (Nat × Value)} (hdg : decode cc pc = .ok (.astore_n k, 1)) (hi : (k : Nat) = i) (h : lv_has ls nL lv) (hn : i < nL) (hl : (i, va_rf x) :: lv.filter (fun q => !(q.1 == i) && !(q.1 + 1 == i && q.2.category == 2)) = lv')
    (kk : ∀ ls' : Array Slot, lv_has ls' nL lv' → W p l e R s m args below meth c H locs cells slots Q (F0 m (pc + 1) ls' rest)) : W p l e R s m args below meth c H locs cells slots Q (F0 m pc ls (va_rf x :: rest)) := by
  cases x with
  | none => exact lv_astore_nN hexec hb hdg hi h hn hl kk
  | some a => exact lv_astore_n hexec hb hdg hi h hn hl kk
theorem x_astoreq (hexec : p.tables.exec = Jvm.exec) (hb : c.code = cc) {i nL : Nat} {x : Option Nat} {lv lv' : List (Nat × Value)} (hdg : decode cc pc = .ok (.astore i, 2)) (h : lv_has ls nL lv) (hn : i < nL) (hl : (i, va_rf x) :: lv.filter (fun q => !(q.1 == i) && !(q.1 + 1 == i && q.2.category == 2)) = lv')
    (kk : ∀ ls' : Array Slot, lv_has ls' nL lv' → W p l e R s m args below meth c H locs cells slots Q (F0 m (pc + 2) ls' rest)) : W p l e R s m args below meth c H locs cells slots Q (F0 m pc ls (va_rf x :: rest)) := by
  cases x with
  | none => exact lv_astoreN hexec hb hdg h hn hl kk
  | some a => exact lv_astore hexec hb hdg h hn hl kk
theorem x_V {own C : String} {index maxL n nL : Nat} {y : MethodName} {bytes : ByteArray} {ret : Option FieldType} {rm : Room} {post : Option Value → xF → Prop} {t ci b : Nat} {fs As st0 : List Value} {r : vw_C} (S : CallFix p m c cc nL s args lw_all own) (hK : xK G s) (hC : xC G A s s.heap) (hA : ∀ q, s.heap.size ≤ q → A q) (hH : xH G A f H) (hS : va_S A s.heap H locs)
    (hM : xMet l y bytes maxL ret rm G A f (.ref b :: As) post) (q1 : Cond.methodLink own index y ∈ lw_all) (q2 : Cond.instanceMethod y ∈ lw_all) (q3 : Cond.selects C y y ∈ lw_all) (q4 : Cond.initialized C ∈ lw_all) (q5 : Cond.code y bytes maxL ret ∈ lw_all)
    (hd : y.cls = C ∧ y.cls ≠ "java/lang/invoke/MethodHandle" ∧ y.cls ≠ "java/lang/invoke/VarHandle" ∧ (parseMethodDescriptor y.desc).map (fun d => d.parameters.length) = some n) (hR : rm.frames + 1 ≤ R.frames ∧ 8 + (maxL + 11) + rm.locals ≤ R.locals)
    (hf : f b = some (xO t ci fs)) (hc : xcl[ci]? = some r) (hrC : r.1 = C) (hn : As.length = n) (hsize : ls.size = nL) (hstack : st0 = As.reverse ++ .ref b :: rest) (hW : (rest.map fun v => v.category).sum ≤ 8) (hdg : decode cc pc = .ok (.invokevirtual index, 3))
    (hc1 : cells + rm.cells ≤ R.cells) (hs1 : slots + rm.slots ≤ R.slots)
    (kk : ∀ (v : Option Value) (f1 : xF) (H1 : Heap) (locs1 : List Loc), post v f1 → xH G A f1 H1 → va_S A s.heap H1 locs1 → H.size ≤ H1.size → W p l e R s m args below meth c H1 locs1 (cells + rm.cells) (slots + rm.slots) Q (F0 m (pc + 3) ls (v.toList ++ rest))) : W p l e R s m args below meth c H locs cells slots Q (F0 m pc ls st0) := by
  subst hrC
  exact x_back (va_runV (As := As) (rest := rest) S hM (cwV n S.2.2.2.2 (lw_V q1 q2 q3 q4 q5) rfl rfl rfl hd hR) ⟨xP.blind, va_recv hK.1 (hH.one hf) hc (q0 := 0) rfl, fun U hU hW => xP.of hK hC hS (fun _ h => h) (fun q hq => hA q (Nat.le_trans hS.1 hq)) hH hU hW⟩ rfl hn hsize hstack (lv_room hW) hdg ⟨hc1, hs1⟩) hS (fun _ h => h) (fun v f1 H1 locs1 hp h1 h2 h3 _ => kk v f1 H1 locs1 hp h1 h2 h3)
theorem x_S {own : String} {index maxL n nL : Nat} {y : MethodName} {bytes : ByteArray} {ret : Option FieldType} {rm : Room} {post : Option Value → xF → Prop} {As st0 : List Value} (S : CallFix p m c cc nL s args lw_all own) (hK : xK G s) (hC : xC G A s s.heap) (hA : ∀ q, s.heap.size ≤ q → A q) (hH : xH G A f H) (hS : va_S A s.heap H locs)
    (hM : xMet l y bytes maxL ret rm G A f As post) (q1 : Cond.methodLink own index y ∈ lw_all) (q2 : Cond.static y ∈ lw_all) (q3 : Cond.initialized y.cls ∈ lw_all) (q4 : Cond.code y bytes maxL ret ∈ lw_all)
    (hd : y.cls ≠ "java/lang/invoke/MethodHandle" ∧ y.cls ≠ "java/lang/invoke/VarHandle" ∧ (parseMethodDescriptor y.desc).map (fun d => d.parameters.length) = some n) (hR : rm.frames + 1 ≤ R.frames ∧ 8 + (maxL + 11) + rm.locals ≤ R.locals)
    (hn : As.length = n) (hsize : ls.size = nL) (hstack : st0 = As.reverse ++ rest) (hW : (rest.map fun v => v.category).sum ≤ 8) (hdg : decode cc pc = .ok (.invokestatic index, 3))
    (hc1 : cells + rm.cells ≤ R.cells) (hs1 : slots + rm.slots ≤ R.slots)
    (kk : ∀ (v : Option Value) (f1 : xF) (H1 : Heap) (locs1 : List Loc), post v f1 → xH G A f1 H1 → va_S A s.heap H1 locs1 → H.size ≤ H1.size → W p l e R s m args below meth c H1 locs1 (cells + rm.cells) (slots + rm.slots) Q (F0 m (pc + 3) ls (v.toList ++ rest))) : W p l e R s m args below meth c H locs cells slots Q (F0 m pc ls st0) :=
  x_back (va_runS (As := As) (rest := rest) S hM (va_cwS n S.2.2.2.2 (lw_S q1 q2 q3 q4) rfl rfl rfl hd hR) ⟨xP.blind, fun U hU hW => xP.of hK hC hS (fun _ h => h) (fun q hq => hA q (Nat.le_trans hS.1 hq)) hH hU hW⟩ rfl hn hsize hstack (lv_room hW) hdg ⟨hc1, hs1⟩) hS (fun _ h => h) (fun v f1 H1 locs1 hp h1 h2 h3 _ => kk v f1 H1 locs1 hp h1 h2 h3)
theorem x_I {own : String} {index maxL n nL : Nat} {y : MethodName} {bytes : ByteArray} {rm : Room} {post : Option Value → xF → Prop} {b : Nat} {As st0 : List Value} (S : CallFix p m c cc nL s args lw_all own) (hK : xK G s) (hC : xC G A s s.heap) (hA : ∀ q, s.heap.size ≤ q → A q) (hH : xH G A f H) (hS : va_S A s.heap H locs)
    (hM : xMet l y bytes maxL none rm G A f (.ref b :: As) post) (q1 : Cond.methodLink own index y ∈ lw_all) (q2 : Cond.instanceMethod y ∈ lw_all) (q3 : Cond.initialized y.cls ∈ lw_all) (q4 : Cond.code y bytes maxL none ∈ lw_all) (hy : y.name = "<init>")
    (hd : y.cls ≠ "java/lang/invoke/MethodHandle" ∧ y.cls ≠ "java/lang/invoke/VarHandle" ∧ (parseMethodDescriptor y.desc).map (fun d => d.parameters.length) = some n) (hR : rm.frames + 1 ≤ R.frames ∧ 8 + (maxL + 11) + rm.locals ≤ R.locals)
    (hn : As.length = n) (hsize : ls.size = nL) (hstack : st0 = As.reverse ++ .ref b :: rest) (hW : (rest.map fun v => v.category).sum ≤ 8) (hdg : decode cc pc = .ok (.invokespecial index, 3))
    (hc1 : cells + rm.cells ≤ R.cells) (hs1 : slots + rm.slots ≤ R.slots)
    (kk : ∀ (v : Option Value) (f1 : xF) (H1 : Heap) (locs1 : List Loc), post v f1 → xH G A f1 H1 → va_S A s.heap H1 locs1 → H.size ≤ H1.size → W p l e R s m args below meth c H1 locs1 (cells + rm.cells) (slots + rm.slots) Q (F0 m (pc + 3) ls (v.toList ++ rest))) : W p l e R s m args below meth c H locs cells slots Q (F0 m pc ls st0) :=
  x_back (va_runI (As := As) (rest := rest) S hM (cwI n S.2.2.2.2 (lw_meth q4) rfl rfl rfl (S.2.2.2.2 _ q3) (S.2.2.2.2 _ q1) (S.2.2.2.2 _ q2) hy hd hR) ⟨xP.blind, fun U hU hW => xP.of hK hC hS (fun _ h => h) (fun q hq => hA q (Nat.le_trans hS.1 hq)) hH hU hW⟩ rfl hn hsize hstack (lv_room hW) hdg ⟨hc1, hs1⟩) hS (fun _ h => h) (fun v f1 H1 locs1 hp h1 h2 h3 _ => kk v f1 H1 locs1 hp h1 h2 h3)
theorem x_VN {own C host : String} {index maxL n nL : Nat} {y : MethodName} {bytes : ByteArray} {ret : Option FieldType} {rm : Room} {post : Option Value → xF → Prop} {t ci b : Nat} {fs As st0 : List Value} {r : vw_C} (S : CallFix p m c cc nL s args lw_all own) (hK : xK G s) (hC : xC G A s s.heap) (hA : ∀ q, s.heap.size ≤ q → A q) (hH : xH G A f H) (hS : va_S A s.heap H locs)
    (hM : xMet l y bytes maxL ret rm G A f (.ref b :: As) post) (q1 : Cond.methodLinkNest own index y host ∈ lw_tbl) (q2 : Cond.instanceMethod y ∈ lw_all) (q3 : Cond.selects C y y ∈ lw_all) (q4 : Cond.initialized y.cls ∈ lw_all) (q5 : Cond.code y bytes maxL ret ∈ lw_all)
    (hd : y.cls ≠ "java/lang/invoke/MethodHandle" ∧ y.cls ≠ "java/lang/invoke/VarHandle" ∧ (parseMethodDescriptor y.desc).map (fun d => d.parameters.length) = some n) (hR : rm.frames + 1 ≤ R.frames ∧ 8 + (maxL + 11) + rm.locals ≤ R.locals)
    (hf : f b = some (xO t ci fs)) (hc : xcl[ci]? = some r) (hrC : r.1 = C) (hn : As.length = n) (hsize : ls.size = nL) (hstack : st0 = As.reverse ++ .ref b :: rest) (hW : (rest.map fun v => v.category).sum ≤ 8) (hdg : decode cc pc = .ok (.invokevirtual index, 3))
    (hc1 : cells + rm.cells ≤ R.cells) (hs1 : slots + rm.slots ≤ R.slots)
    (kk : ∀ (v : Option Value) (f1 : xF) (H1 : Heap) (locs1 : List Loc), post v f1 → xH G A f1 H1 → va_S A s.heap H1 locs1 → H.size ≤ H1.size → W p l e R s m args below meth c H1 locs1 (cells + rm.cells) (slots + rm.slots) Q (F0 m (pc + 3) ls (v.toList ++ rest))) : W p l e R s m args below meth c H locs cells slots Q (F0 m pc ls st0) := by
  subst hrC
  exact x_back (va_runVN (As := As) (rest := rest) S hM ⟨va_cnB n S.2.2.2.2 (lw_meth q5) rfl rfl rfl (hK.use q1 rfl) (S.2.2.2.2 _ q4) hd hR, S.2.2.2.2 _ q2, S.2.2.2.2 _ q3⟩ ⟨xP.blind, va_recv hK.1 (hH.one hf) hc (q0 := 0) rfl, fun U hU hW => xP.of hK hC hS (fun _ h => h) (fun q hq => hA q (Nat.le_trans hS.1 hq)) hH hU hW⟩ rfl hn hsize hstack (lv_room hW) hdg ⟨hc1, hs1⟩) hS (fun _ h => h) (fun v f1 H1 locs1 hp h1 h2 h3 _ => kk v f1 H1 locs1 hp h1 h2 h3)
theorem x_SN {own host : String} {index maxL n nL : Nat} {y : MethodName} {bytes : ByteArray} {ret : Option FieldType} {rm : Room} {post : Option Value → xF → Prop} {As st0 : List Value} (S : CallFix p m c cc nL s args lw_all own) (hK : xK G s) (hC : xC G A s s.heap) (hA : ∀ q, s.heap.size ≤ q → A q) (hH : xH G A f H) (hS : va_S A s.heap H locs)
    (hM : xMet l y bytes maxL ret rm G A f As post) (q1 : Cond.methodLinkNest own index y host ∈ lw_tbl) (q2 : Cond.static y ∈ lw_all) (q3 : Cond.initialized y.cls ∈ lw_all) (q4 : Cond.code y bytes maxL ret ∈ lw_all)
    (hd : y.cls ≠ "java/lang/invoke/MethodHandle" ∧ y.cls ≠ "java/lang/invoke/VarHandle" ∧ (parseMethodDescriptor y.desc).map (fun d => d.parameters.length) = some n) (hR : rm.frames + 1 ≤ R.frames ∧ 8 + (maxL + 11) + rm.locals ≤ R.locals)
    (hn : As.length = n) (hsize : ls.size = nL) (hstack : st0 = As.reverse ++ rest) (hW : (rest.map fun v => v.category).sum ≤ 8) (hdg : decode cc pc = .ok (.invokestatic index, 3))
    (hc1 : cells + rm.cells ≤ R.cells) (hs1 : slots + rm.slots ≤ R.slots)
    (kk : ∀ (v : Option Value) (f1 : xF) (H1 : Heap) (locs1 : List Loc), post v f1 → xH G A f1 H1 → va_S A s.heap H1 locs1 → H.size ≤ H1.size → W p l e R s m args below meth c H1 locs1 (cells + rm.cells) (slots + rm.slots) Q (F0 m (pc + 3) ls (v.toList ++ rest))) : W p l e R s m args below meth c H locs cells slots Q (F0 m pc ls st0) :=
  x_back (va_runSN (As := As) (rest := rest) S hM ⟨va_cnB n S.2.2.2.2 (lw_meth q4) rfl rfl rfl (hK.use q1 rfl) (S.2.2.2.2 _ q3) hd hR, S.2.2.2.2 _ q2, trivial⟩ ⟨xP.blind, fun U hU hW => xP.of hK hC hS (fun _ h => h) (fun q hq => hA q (Nat.le_trans hS.1 hq)) hH hU hW⟩ rfl hn hsize hstack (lv_room hW) hdg ⟨hc1, hs1⟩) hS (fun _ h => h) (fun v f1 H1 locs1 hp h1 h2 h3 _ => kk v f1 H1 locs1 hp h1 h2 h3)
theorem x_IN {own host : String} {index maxL n nL : Nat} {y : MethodName} {bytes : ByteArray} {rm : Room} {post : Option Value → xF → Prop} {b : Nat} {As st0 : List Value} (S : CallFix p m c cc nL s args lw_all own) (hK : xK G s) (hC : xC G A s s.heap) (hA : ∀ q, s.heap.size ≤ q → A q) (hH : xH G A f H) (hS : va_S A s.heap H locs)
    (hM : xMet l y bytes maxL none rm G A f (.ref b :: As) post) (q1 : Cond.methodLinkNest own index y host ∈ lw_tbl) (q2 : Cond.instanceMethod y ∈ lw_all) (q3 : Cond.initialized y.cls ∈ lw_all) (q4 : Cond.code y bytes maxL none ∈ lw_all) (hy : y.name = "<init>")
    (hd : y.cls ≠ "java/lang/invoke/MethodHandle" ∧ y.cls ≠ "java/lang/invoke/VarHandle" ∧ (parseMethodDescriptor y.desc).map (fun d => d.parameters.length) = some n) (hR : rm.frames + 1 ≤ R.frames ∧ 8 + (maxL + 11) + rm.locals ≤ R.locals)
    (hn : As.length = n) (hsize : ls.size = nL) (hstack : st0 = As.reverse ++ .ref b :: rest) (hW : (rest.map fun v => v.category).sum ≤ 8) (hdg : decode cc pc = .ok (.invokespecial index, 3))
    (hc1 : cells + rm.cells ≤ R.cells) (hs1 : slots + rm.slots ≤ R.slots)
    (kk : ∀ (v : Option Value) (f1 : xF) (H1 : Heap) (locs1 : List Loc), post v f1 → xH G A f1 H1 → va_S A s.heap H1 locs1 → H.size ≤ H1.size → W p l e R s m args below meth c H1 locs1 (cells + rm.cells) (slots + rm.slots) Q (F0 m (pc + 3) ls (v.toList ++ rest))) : W p l e R s m args below meth c H locs cells slots Q (F0 m pc ls st0) :=
  x_back (va_runIN (As := As) (rest := rest) S hM ⟨va_cnB n S.2.2.2.2 (lw_meth q4) rfl rfl rfl (hK.use q1 rfl) (S.2.2.2.2 _ q3) hd hR, hy, S.2.2.2.2 _ q2⟩ ⟨xP.blind, fun U hU hW => xP.of hK hC hS (fun _ h => h) (fun q hq => hA q (Nat.le_trans hS.1 hq)) hH hU hW⟩ rfl hn hsize hstack (lv_room hW) hdg ⟨hc1, hs1⟩) hS (fun _ h => h) (fun v f1 H1 locs1 hp h1 h2 h3 _ => kk v f1 H1 locs1 hp h1 h2 h3)
theorem x_iret (hexec : p.tables.exec = Jvm.exec) (hb : c.code = cc) {post : Option Value → xF → Prop} {mc ms : Nat} {v : Int32} (hr : meth.sig.returnType = some .int) (hlk : meth.locks = false) (hH : xH G A f H) (hS : va_S A s.heap H locs) (hp : post (some (.int v)) f) (hc : cells ≤ mc) (hs : slots ≤ ms) (hdg : decode cc pc = .ok (.ireturn, 1)) : W p l e R s m args below meth c H locs cells slots (MQ below (xQ G A post) args s mc ms A) (F0 m pc ls [.int v]) :=
  W.widen hc hs (W.iret hexec hb hr (fun t ht _ => ⟨⟨_, f, rfl, hp, by rw [ht]; exact hH⟩, hS.F ht⟩) hS.2.2 hdg hlk)
theorem x_zret (hexec : p.tables.exec = Jvm.exec) (hb : c.code = cc) {post : Option Value → xF → Prop} {mc ms : Nat} {v : Nat} (hv : v < 2) (hr : meth.sig.returnType = some .boolean) (hlk : meth.locks = false) (hH : xH G A f H) (hS : va_S A s.heap H locs) (hp : post (some (.int (nI v))) f) (hc : cells ≤ mc) (hs : slots ≤ ms) (hdg : decode cc pc = .ok (.ireturn, 1)) : W p l e R s m args below meth c H locs cells slots (MQ below (xQ G A post) args s mc ms A) (F0 m pc ls [.int (nI v)]) :=
  W.widen hc hs (W.zret hexec hb hr (by rcases (show v = 0 ∨ v = 1 by omega) with rfl | rfl <;> rfl) (fun t ht _ => ⟨⟨_, f, rfl, hp, by rw [ht]; exact hH⟩, hS.F ht⟩) hS.2.2 hdg hlk)
theorem x_vret (hexec : p.tables.exec = Jvm.exec) (hb : c.code = cc) {post : Option Value → xF → Prop} {mc ms : Nat} (hr : meth.sig.returnType = none) (hlk : meth.locks = false) (hH : xH G A f H) (hS : va_S A s.heap H locs) (hp : post none f) (hc : cells ≤ mc) (hs : slots ≤ ms) (hdg : decode cc pc = .ok (.return_, 1)) : W p l e R s m args below meth c H locs cells slots (MQ below (xQ G A post) args s mc ms A) (F0 m pc ls []) :=
  W.widen hc hs (W.vret hexec hb hr (fun t ht _ => ⟨⟨_, f, rfl, hp, by rw [ht]; exact hH⟩, hS.F ht⟩) hS.2.2 hdg hlk)
theorem x_aret (hexec : p.tables.exec = Jvm.exec) (hb : c.code = cc) {post : Option Value → xF → Prop} {mc ms : Nat} {rt : FieldType} {r : Option Nat} (hr : meth.sig.returnType = some rt) (hrt : (∃ n, rt = .object n) ∨ ∃ t, rt = .array t) (hlk : meth.locks = false) (hH : xH G A f H) (hS : va_S A s.heap H locs) (hp : post (some (va_rf r)) f) (hc : cells ≤ mc) (hs : slots ≤ ms) (hdg : decode cc pc = .ok (.areturn, 1)) : W p l e R s m args below meth c H locs cells slots (MQ below (xQ G A post) args s mc ms A) (F0 m pc ls [va_rf r]) :=
  W.widen hc hs (W.aret hexec hb hr hrt (va_rf_or r) (fun t ht _ => ⟨⟨_, f, rfl, hp, by rw [ht]; exact hH⟩, hS.F ht⟩) hS.2.2 hdg hlk)
end XC
