/-! the class's side: worlds as lists of cells; contracts' starts and rows -/
set_option maxRecDepth 100000
/-- a writing method's start: the cells ws, apart and in A; what is new is in A -/
def ga_L (D : va_G) (cA : Nat → ClassId) (A : Nat → Prop) (ws : va_W) (av : List Value) : Array Value → State → Prop := va_Pc av (fun U => va_P D ga_cl ws U.heap ∧ ga_K D cA U ∧ va_D A ws ∧ ∀ q : Nat, U.heap.size ≤ q → A q)
theorem ga_LS {s : State} {D : va_G} {cA : Nat → ClassId} {A : Nat → Prop} {ws : va_W} {H : Heap} {As : List Value} (hK : ga_K D cA s) (hP : va_P D ga_cl ws H) (hD : va_D A ws) (hA : ∀ q : Nat, H.size ≤ q → A q) : PreS s H (ga_L D cA A ws As) As :=
  ⟨fun a U g mk q => by obtain ⟨q0, qP, qK, qD, qA⟩ := q; exact ⟨q0, qP, qK.call, qD, qA⟩, fun U hU hW => ⟨rfl, by rw [hU]; exact hP, hK.warm hW, hD, by rw [hU]; exact hA⟩⟩
theorem ga_LV {s : State} {D : va_G} {cA : Nat → ClassId} {A : Nat → Prop} {ws : va_W} {H : Heap} {C : String} {b : Addr} {As : List Value} (hK : ga_K D cA s) (hP : va_P D ga_cl ws H) (hD : va_D A ws) (hA : ∀ q : Nat, H.size ≤ q → A q) (hr : ∃ cell : Cell, H[b]? = some cell ∧ cell.vm.isStatics = false ∧ s.vm.findClass C = some cell.cls) : PreV s H C b (ga_L D cA A ws (.ref b :: As)) As :=
  ⟨fun a U g mk q => by obtain ⟨q0, qP, qK, qD, qA⟩ := q; exact ⟨q0, qP, qK.call, qD, qA⟩, hr, fun U hU hW => ⟨rfl, by rw [hU]; exact hP, hK.warm hW, hD, by rw [hU]; exact hA⟩⟩
theorem ga_nu {D : va_G} {cA : Nat → ClassId} {s : State} {args : Array Value} (hK : ga_K D cA s) {w : Cond} (hw : w ∈ lw_tbl) (hn : ga_nest w = true) : w.before args s = true := va_Nw.use (ga_nest_tab hn) (hK.2.1 w hw hn)
def ga_ad (l : List Nat) : Nat → Nat := fun k => l.getD k 0
def ga_fd (l : List (Nat → Option Nat)) : Nat → Nat → Option Nat := fun k => l.getD k (fun _ => none)
theorem ga_fz {r : Int32} (h : ga_B r) : fits .boolean (.int r) = true := by rcases h with rfl | rfl <;> rfl
theorem ix0 : ix 0 = 0 := by decide
theorem ix1 : ix 1 = 1 := by decide
theorem ix2 : ix 2 = 2 := by decide
def ga_b3 (a b c : Nat) : Nat → Option Nat := va_up (va_up (va_up (fun _ => none) (ix 0) (some a)) (ix 1) (some b)) (ix 2) (some c)
theorem ga_b3_0 {a b c : Nat} : ga_b3 a b c (ix 0) = some a := by simp [ga_b3, va_up, ix0, ix1, ix2]
theorem ga_b3_1 {a b c : Nat} : ga_b3 a b c (ix 1) = some b := by simp [ga_b3, va_up, ix0, ix1, ix2]
theorem ga_b3_2 {a b c : Nat} : ga_b3 a b c (ix 2) = some c := by simp [ga_b3, va_up, ix0, ix1, ix2]
def jimax (x y : Int32) : Int32 := if x < y then y else x
def jimin (x y : Int32) : Int32 := if y < x then y else x
def jiabs (x : Int32) : Int32 := if 0 ≤ x then x else 0 - x
section GA2
variable {p : Program} {l : Launch} {e : Env} {R : Room} {s : State} {m : MethodId} {args : Array Value} {below : List Frame} {meth : Method} {c : Code} {H : Heap} {locs : List Loc} {cells slots : Nat} {Q : State → Prop} {pc : Nat} {ls : Array Slot} {rest : List Value}
theorem ga_rf {o : Option Nat} {a : Nat} (e1 : o = some a) (k : W p l e R s m args below meth c H locs cells slots Q (F0 m pc ls (.ref a :: rest))) : W p l e R s m args below meth c H locs cells slots Q (F0 m pc ls (va_rf o :: rest)) := by
  subst e1
  exact k
theorem ga_rn {o : Option Nat} (e1 : o = none) (k : W p l e R s m args below meth c H locs cells slots Q (F0 m pc ls (.null :: rest))) : W p l e R s m args below meth c H locs cells slots Q (F0 m pc ls (va_rf o :: rest)) := by
  subst e1
  exact k
theorem ga_mmax {cc : ByteArray} (hexec : p.tables.exec = Jvm.exec) (hb : c.code = cc) (hml : c.maxLocals = ls.size) {own : String} {index : Nat} (hown : s.vm.findClass own = some m.cls) (hlink : (Cond.methodLink own index Lib.Math.max.name).before args s = true) (hstat : (Cond.static Lib.Math.max.name).before args s = true) (hini : (Cond.initialized "java/lang/Math").before args s = true) (hcode : (Cond.code Lib.Math.max.name Lib.Math.max.code 2 (some .int)).before args s = true)
    (hframes : 1 ≤ R.frames) (hlocals : (rest.map fun v => v.category).sum + 13 ≤ R.locals) (hc : cells ≤ R.cells) (hs : slots ≤ R.slots) {x y : Int32} (hdg : decode cc pc = .ok (.invokestatic index, 3))
    (kk : W p l e R s m args below meth c H locs cells slots Q (F0 m (pc + 3) ls (.int (jimax x y) :: rest))) : W p l e R s m args below meth c H locs cells slots Q (F0 m pc ls (.int y :: .int x :: rest)) := va_mmax hexec hb hml hown hlink hstat hini hcode hframes hlocals hc hs hdg kk
theorem ga_mmin {cc : ByteArray} (hexec : p.tables.exec = Jvm.exec) (hb : c.code = cc) (hml : c.maxLocals = ls.size) {own : String} {index : Nat} (hown : s.vm.findClass own = some m.cls) (hlink : (Cond.methodLink own index Lib.Math.min.name).before args s = true) (hstat : (Cond.static Lib.Math.min.name).before args s = true) (hini : (Cond.initialized "java/lang/Math").before args s = true) (hcode : (Cond.code Lib.Math.min.name Lib.Math.min.code 2 (some .int)).before args s = true)
    (hframes : 1 ≤ R.frames) (hlocals : (rest.map fun v => v.category).sum + 13 ≤ R.locals) (hc : cells ≤ R.cells) (hs : slots ≤ R.slots) {x y : Int32} (hdg : decode cc pc = .ok (.invokestatic index, 3))
    (kk : W p l e R s m args below meth c H locs cells slots Q (F0 m (pc + 3) ls (.int (jimin x y) :: rest))) : W p l e R s m args below meth c H locs cells slots Q (F0 m pc ls (.int y :: .int x :: rest)) := va_mmin hexec hb hml hown hlink hstat hini hcode hframes hlocals hc hs hdg kk
theorem ga_mabs {cc : ByteArray} (hexec : p.tables.exec = Jvm.exec) (hb : c.code = cc) (hml : c.maxLocals = ls.size) {own : String} {index : Nat} (hown : s.vm.findClass own = some m.cls) (hlink : (Cond.methodLink own index Lib.Math.abs.name).before args s = true) (hstat : (Cond.static Lib.Math.abs.name).before args s = true) (hini : (Cond.initialized "java/lang/Math").before args s = true) (hcode : (Cond.code Lib.Math.abs.name Lib.Math.abs.code 1 (some .int)).before args s = true)
    (hframes : 1 ≤ R.frames) (hlocals : (rest.map fun v => v.category).sum + 13 ≤ R.locals) (hc : cells ≤ R.cells) (hs : slots ≤ R.slots) {x : Int32} (hdg : decode cc pc = .ok (.invokestatic index, 3))
    (kk : W p l e R s m args below meth c H locs cells slots Q (F0 m (pc + 3) ls (.int (jiabs x) :: rest))) : W p l e R s m args below meth c H locs cells slots Q (F0 m pc ls (.int x :: rest)) := va_mabs hexec hb hml hown hlink hstat hini hcode hframes hlocals hc hs hdg kk
end GA2
theorem ga_tyP {D : va_G} {cl : List vw_C} {tys : List (ClassId × FieldType)} {U : State} {c' c : ClassId} {ty : FieldType} (h : va_K D cl (tys ++ [(c', ty)]) U) (k : Nat) (hk : tys[k]? = some (c, ty)) (hp : ∀ q : ClassId, va_RA U q ty → U.vm.findClass ("[" ++ ty.toString) = some q) : c = c' := by
  have h1 := (h.2 tys.length (c', ty) (by rw [List.getElem?_append_right (Nat.le_refl _), Nat.sub_self]; rfl)).2
  have h2 := (h.2 k (c, ty) (by rw [List.getElem?_append_left (List.getElem?_eq_some_iff.mp hk).1]; exact hk)).2
  exact Option.some.inj ((hp _ h2).symm.trans (hp _ h1))
theorem ga_raO {U : State} {C : String} (q : ClassId) (h : va_RA U q (.object C)) : U.vm.findClass ("[" ++ (FieldType.object C).toString) = some q := by
  obtain ⟨kA, comp, h1, h2, h3, h4⟩ := h
  exact h4
theorem ga_tyqI {D : va_G} {cA : Nat → ClassId} {U : State} {c' : ClassId} (h : va_K D ga_cl (ga_ty cA ++ [(c', .int)]) U) : cA 0 = c' := ga_tyP h 0 rfl (fun _ h => h)
theorem ga_tyqJ {D : va_G} {cA : Nat → ClassId} {U : State} {c' : ClassId} (h : va_K D ga_cl (ga_ty cA ++ [(c', .long)]) U) : cA 1 = c' := ga_tyP h 1 rfl (fun _ h => h)
theorem ga_tyqC {D : va_G} {cA : Nat → ClassId} {U : State} {c' : ClassId} (h : va_K D ga_cl (ga_ty cA ++ [(c', .char)]) U) : cA 2 = c' := ga_tyP h 2 rfl (fun _ h => h)
theorem ga_tyqB {D : va_G} {cA : Nat → ClassId} {U : State} {c' : ClassId} (h : va_K D ga_cl (ga_ty cA ++ [(c', .byte)]) U) : cA 3 = c' := ga_tyP h 3 rfl (fun _ h => h)
theorem ga_tyqD {D : va_G} {cA : Nat → ClassId} {U : State} {c' : ClassId} (h : va_K D ga_cl (ga_ty cA ++ [(c', .double)]) U) : cA 4 = c' := ga_tyP h 4 rfl (fun _ h => h)
theorem ga_tyqO {D : va_G} {cA : Nat → ClassId} {U : State} {c' : ClassId} (h : va_K D ga_cl (ga_ty cA ++ [(c', .object "java/lang/Object")]) U) : cA 5 = c' := ga_tyP h 5 rfl (fun q h => ga_raO q h)
theorem ga_tyqR {D : va_G} {cA : Nat → ClassId} {U : State} {c' : ClassId} (h : va_K D ga_cl (ga_ty cA ++ [(c', .object "EnclosureReferee$Board")]) U) : cA 6 = c' := ga_tyP h 6 rfl (fun q h => ga_raO q h)
theorem nw_X6 : ∀ j, j < 33 → defaultValue (tyX6 j) = vp_V [.int 0, .int 0, .int 0, .int 0, .null, .null, .null, .null, .null, .null, .null, .null, .null, .null, .null, .null, .int 0, .int 0, .int 0, .int 0, .null, .null, .int 0, .int 0, .int 0, .null, .null, .int 0, .null, .int 0, .int 0, .int 0, .int 0] j := by
  intro j hj
  match j, hj with
  | 0, _ => rfl
  | 1, _ => rfl
  | 2, _ => rfl
  | 3, _ => rfl
  | 4, _ => rfl
  | 5, _ => rfl
  | 6, _ => rfl
  | 7, _ => rfl
  | 8, _ => rfl
  | 9, _ => rfl
  | 10, _ => rfl
  | 11, _ => rfl
  | 12, _ => rfl
  | 13, _ => rfl
  | 14, _ => rfl
  | 15, _ => rfl
  | 16, _ => rfl
  | 17, _ => rfl
  | 18, _ => rfl
  | 19, _ => rfl
  | 20, _ => rfl
  | 21, _ => rfl
  | 22, _ => rfl
  | 23, _ => rfl
  | 24, _ => rfl
  | 25, _ => rfl
  | 26, _ => rfl
  | 27, _ => rfl
  | 28, _ => rfl
  | 29, _ => rfl
  | 30, _ => rfl
  | 31, _ => rfl
  | 32, _ => rfl
  | k + 33, h => exact absurd h (by omega)
theorem nw_X1 : ∀ j, j < 7 → defaultValue (tyX1 j) = vp_V [.null, .null, .null, .null, .int 0, .null, .null] j := by
  intro j hj
  match j, hj with
  | 0, _ => rfl
  | 1, _ => rfl
  | 2, _ => rfl
  | 3, _ => rfl
  | 4, _ => rfl
  | 5, _ => rfl
  | 6, _ => rfl
  | k + 7, h => exact absurd h (by omega)
theorem nw_X2 : ∀ j, j < 5 → defaultValue (tyX2 j) = vp_V [.null, .null, .int 0, .null, .null] j := by
  intro j hj
  match j, hj with
  | 0, _ => rfl
  | 1, _ => rfl
  | 2, _ => rfl
  | 3, _ => rfl
  | 4, _ => rfl
  | k + 5, h => exact absurd h (by omega)
theorem nw_X3 : ∀ j, j < 5 → defaultValue (tyX3 j) = vp_V [.null, .null, .long 0, .null, .null] j := by
  intro j hj
  match j, hj with
  | 0, _ => rfl
  | 1, _ => rfl
  | 2, _ => rfl
  | 3, _ => rfl
  | 4, _ => rfl
  | k + 5, h => exact absurd h (by omega)
theorem nw_X4 : ∀ j, j < 6 → defaultValue (tyX4 j) = vp_V [.int 0, .int 0, .long 0, .long 0, .long 0, .long 0] j := by
  intro j hj
  match j, hj with
  | 0, _ => rfl
  | 1, _ => rfl
  | 2, _ => rfl
  | 3, _ => rfl
  | 4, _ => rfl
  | 5, _ => rfl
  | k + 6, h => exact absurd h (by omega)
theorem nw_X5 : ∀ j, j < 8 → defaultValue (tyX5 j) = vp_V [.int 0, .int 0, .null, .null, .int 0, .null, .null, .null] j := by
  intro j hj
  match j, hj with
  | 0, _ => rfl
  | 1, _ => rfl
  | 2, _ => rfl
  | 3, _ => rfl
  | 4, _ => rfl
  | 5, _ => rfl
  | 6, _ => rfl
  | 7, _ => rfl
  | k + 8, h => exact absurd h (by omega)
theorem nw_J2 : ∀ j, j < 3 → defaultValue (tyJ2 j) = vp_V [.int 0, .null, .int 0] j := by
  intro j hj
  match j, hj with
  | 0, _ => rfl
  | 1, _ => rfl
  | 2, _ => rfl
  | k + 3, h => exact absurd h (by omega)
theorem nw_X12 : ∀ j, j < 3 → defaultValue (tyX12 j) = vp_V [.int 0, .null, .null] j := by
  intro j hj
  match j, hj with
  | 0, _ => rfl
  | 1, _ => rfl
  | 2, _ => rfl
  | k + 3, h => exact absurd h (by omega)
theorem nw_J22 : ∀ j, j < 4 → defaultValue (tyJ22 j) = vp_V [.null, .int 0, .int 0, .int 0] j := by
  intro j hj
  match j, hj with
  | 0, _ => rfl
  | 1, _ => rfl
  | 2, _ => rfl
  | 3, _ => rfl
  | k + 4, h => exact absurd h (by omega)
theorem nw_J16 : ∀ j, j < 4 → defaultValue (tyJ16 j) = vp_V [.null, .int 0, .int 0, .int 0] j := by
  intro j hj
  match j, hj with
  | 0, _ => rfl
  | 1, _ => rfl
  | 2, _ => rfl
  | 3, _ => rfl
  | k + 4, h => exact absurd h (by omega)
theorem nw_X8 : ∀ j, j < 8 → defaultValue (tyX8 j) = vp_V [.int 0, .int 0, .null, .null, .null, .null, .null, .int 0] j := by
  intro j hj
  match j, hj with
  | 0, _ => rfl
  | 1, _ => rfl
  | 2, _ => rfl
  | 3, _ => rfl
  | 4, _ => rfl
  | 5, _ => rfl
  | 6, _ => rfl
  | 7, _ => rfl
  | k + 8, h => exact absurd h (by omega)
theorem nw_X9 : ∀ j, j < 8 → defaultValue (tyX9 j) = vp_V [.int 0, .int 0, .null, .null, .null, .null, .null, .int 0] j := by
  intro j hj
  match j, hj with
  | 0, _ => rfl
  | 1, _ => rfl
  | 2, _ => rfl
  | 3, _ => rfl
  | 4, _ => rfl
  | 5, _ => rfl
  | 6, _ => rfl
  | 7, _ => rfl
  | k + 8, h => exact absurd h (by omega)
theorem nw_X10 : ∀ j, j < 8 → defaultValue (tyX10 j) = vp_V [.int 0, .int 0, .null, .null, .null, .null, .null, .int 0] j := by
  intro j hj
  match j, hj with
  | 0, _ => rfl
  | 1, _ => rfl
  | 2, _ => rfl
  | 3, _ => rfl
  | 4, _ => rfl
  | 5, _ => rfl
  | 6, _ => rfl
  | 7, _ => rfl
  | k + 8, h => exact absurd h (by omega)
theorem nw_X11 : ∀ j, j < 8 → defaultValue (tyX11 j) = vp_V [.int 0, .int 0, .null, .null, .null, .null, .null, .int 0] j := by
  intro j hj
  match j, hj with
  | 0, _ => rfl
  | 1, _ => rfl
  | 2, _ => rfl
  | 3, _ => rfl
  | 4, _ => rfl
  | 5, _ => rfl
  | 6, _ => rfl
  | 7, _ => rfl
  | k + 8, h => exact absurd h (by omega)
theorem nw_X13 : ∀ j, j < 7 → defaultValue (tyX13 j) = vp_V [.null, .null, .null, .null, .null, .int 0, .int 0] j := by
  intro j hj
  match j, hj with
  | 0, _ => rfl
  | 1, _ => rfl
  | 2, _ => rfl
  | 3, _ => rfl
  | 4, _ => rfl
  | 5, _ => rfl
  | 6, _ => rfl
  | k + 7, h => exact absurd h (by omega)
theorem nw_J19 : ∀ j, j < 1 → defaultValue (tyJ19 j) = vp_V [.int 0] j := by
  intro j hj
  match j, hj with
  | 0, _ => rfl
  | k + 1, h => exact absurd h (by omega)
