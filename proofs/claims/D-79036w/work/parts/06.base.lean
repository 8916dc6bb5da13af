/-! base: the words that don't ride in the lists; the classes; contracts' starts and ends; pure rows of the printed functions -/
set_option maxRecDepth 100000
def ga_nest (w : Cond) : Bool := match w with
  | .fieldLinkNest .. => true
  | .methodLinkNest .. => true
  | .castable .. => true
  | .declares .. => true
  | .privateMethod .. => true
  | _ => false
theorem ga_nest_tab {w : Cond} (h : ga_nest w = true) : w.onTables = true := by
  cases w <;> first | rfl | exact absurd h (by decide) | (simp [ga_nest] at h)
theorem ga_warmP {y : MethodName} {s U : State} (hW : s.WarmedH U.vm) (hZ : va_Nw (.privateMethod y) s) : va_Nw (.privateMethod y) U := by
  first
    | exact Cond.privateMethod_warm hW hZ
    | exact Stand.Cond.privateMethod_warm hW hZ
    | exact va_tabs rfl (rfl : (s.setVm U.vm).vm = U.vm) ((Cond.privateMethod_setVm hW.alike y).trans hZ)
theorem ga_nest_warm {w : Cond} (h : ga_nest w = true) {s U : State} (hW : s.WarmedH U.vm) (hZ : va_Nw w s) : va_Nw w U := by
  cases w <;> first | exact va_Nw.warmF hW hZ | exact va_Nw.warmM hW hZ | exact va_Nw.warmC hW hZ | exact va_Nw.warmD hW hZ | exact ga_warmP hW hZ | (simp [ga_nest] at h)
def ga_NW (U : State) : Prop := (∀ w ∈ lw_tbl, ga_nest w = true → va_Nw w U) ∧ va_AO "java/lang/Object" U ∧ va_AO "EnclosureReferee$Board" U
theorem ga_NW.warm {s U : State} (hW : s.WarmedH U.vm) (h : ga_NW s) : ga_NW U := ⟨fun w hw hn => ga_nest_warm hn hW (h.1 w hw hn), h.2.1.moved hW.alike, h.2.2.moved hW.alike⟩
theorem ga_NW.same {u U : State} (hv : u.vm = U.vm) (h : ga_NW u) : ga_NW U := ⟨fun w hw hn => va_Nw.same (ga_nest_tab hn) hv (h.1 w hw hn), h.2.1.moved (by rw [hv]; exact Vm.Alike.refl _), h.2.2.moved (by rw [hv]; exact Vm.Alike.refl _)⟩
/-- the classes whose objects the claim's code makes -/
abbrev ga_cl : List vw_C := [(RX6, TX6, 33), (RX1, TX1, 7), (RX2, TX2, 5), (RX3, TX3, 5), (RX4, TX4, 6), (RX5, TX5, 8), (RJ2, TJ2, 3), (RX12, TX12, 3), (RJ22, TJ22, 4), (RJ16, TJ16, 4), (RX8, TX8, 8), (RX9, TX9, 8), (RX10, TX10, 8), (RX11, TX11, 8), (RX13, TX13, 7), (RJ19, TJ19, 1), ("java/lang/UnsupportedOperationException", (fun _ => ("", "", "", false)), 0)]
/-- the array classes -/
abbrev ga_ty (cA : Nat → ClassId) : List (ClassId × FieldType) := [(cA 0, .int), (cA 1, .long), (cA 2, .char), (cA 3, .byte), (cA 4, .double), (cA 5, .object "java/lang/Object"), (cA 6, .object "EnclosureReferee$Board")]
def ga_K (D : va_G) (cA : Nat → ClassId) (U : State) : Prop := va_K D ga_cl (ga_ty cA) U ∧ ga_NW U
theorem ga_K.warm {D : va_G} {cA : Nat → ClassId} {s U : State} (h : ga_K D cA s) (hW : s.WarmedH U.vm) : ga_K D cA U := ⟨va_K.moved hW.alike h.1, h.2.warm hW⟩
theorem ga_K.call {D : va_G} {cA : Nat → ClassId} {U : State} {g : JFrame} {mk : MethodId} {a : Array Value} (h : ga_K D cA U) : ga_K D cA (U.calling g mk a) := ⟨va_K.moved (u := U) (U := U.calling g mk a) (Vm.Alike.refl U.vm) h.1, ga_NW.same (u := U) (U := U.calling g mk a) rfl h.2⟩
/-- what every method's walk has at hand -/
def ga_cx (p : Program) (m : MethodId) (c : Code) (meth : Method) (s : State) (args : Array Value) (own : String) (cc : ByteArray) (nL : Nat) (ret : Option FieldType) : Prop :=
  p.tables.exec = Jvm.exec ∧ c.code = cc ∧ meth.sig.returnType = ret ∧ meth.locks = false ∧ c.maxLocals = nL ∧ s.vm.findClass own = some m.cls ∧ ∀ w ∈ lw_all, w.before args s = true
theorem ga_cx_of {p : Program} {l : Launch} {y : MethodName} {rm : Room} {cc : ByteArray} {nL : Nat} {ret : Option FieldType} {e : Env} {s : State} {m : MethodId} {args : Array Value} {below : List Frame} {meth : Method} {c : Code} {s₁ : State}
    (B : BodyLoose p l y (headSpec (ws_ y cc nL ret) rm) cc nL ret e s m args below meth c s₁) (hml : c.maxLocals = nL) : ga_cx p m c meth s args y.cls cc nL ret :=
  ⟨B.exec, B.bytes, B.returns, B.notSynchronized, hml, findClass_of_methodNamed B.named, fun w h => atoms_spec (ws := ws_ y cc nL ret) B.pre w (List.mem_cons_of_mem _ h)⟩
/-- nothing is written -/
abbrev ga_F : Addr → Prop := fun _ => False
/-- a reading method's start: the cells ws -/
def ga_P (D : va_G) (cA : Nat → ClassId) (ws : va_W) (av : List Value) : Array Value → State → Prop := va_Pc av (fun U => va_P D ga_cl ws U.heap ∧ ga_K D cA U)
/-- a writing method's start: the cells ws, apart and in A -/
def ga_N (D : va_G) (cA : Nat → ClassId) (A : Nat → Prop) (ws : va_W) (av : List Value) : Array Value → State → Prop := va_Pc av (fun U => va_P D ga_cl ws U.heap ∧ ga_K D cA U ∧ va_D A ws)
theorem ga_P0 {D : va_G} {H : Heap} : va_P D ga_cl [] H := fun k q h => by simp at h
theorem ga_PS {s : State} {D : va_G} {cA : Nat → ClassId} {ws : va_W} {H : Heap} {As : List Value} (hK : ga_K D cA s) (hP : va_P D ga_cl ws H) : PreS s H (ga_P D cA ws As) As :=
  ⟨fun a U g mk q => by obtain ⟨q0, qP, qK⟩ := q; exact ⟨q0, qP, qK.call⟩, fun U hU hW => ⟨rfl, by rw [hU]; exact hP, hK.warm hW⟩⟩
theorem ga_PV {s : State} {D : va_G} {cA : Nat → ClassId} {ws : va_W} {H : Heap} {C : String} {b : Addr} {As : List Value} (hK : ga_K D cA s) (hP : va_P D ga_cl ws H) (hr : ∃ cell : Cell, H[b]? = some cell ∧ cell.vm.isStatics = false ∧ s.vm.findClass C = some cell.cls) : PreV s H C b (ga_P D cA ws (.ref b :: As)) As :=
  ⟨fun a U g mk q => by obtain ⟨q0, qP, qK⟩ := q; exact ⟨q0, qP, qK.call⟩, hr, fun U hU hW => ⟨rfl, by rw [hU]; exact hP, hK.warm hW⟩⟩
theorem ga_NS {s : State} {D : va_G} {cA : Nat → ClassId} {A : Nat → Prop} {ws : va_W} {H : Heap} {As : List Value} (hK : ga_K D cA s) (hP : va_P D ga_cl ws H) (hD : va_D A ws) : PreS s H (ga_N D cA A ws As) As :=
  ⟨fun a U g mk q => by obtain ⟨q0, qP, qK, qD⟩ := q; exact ⟨q0, qP, qK.call, qD⟩, fun U hU hW => ⟨rfl, by rw [hU]; exact hP, hK.warm hW, hD⟩⟩
theorem ga_NV {s : State} {D : va_G} {cA : Nat → ClassId} {A : Nat → Prop} {ws : va_W} {H : Heap} {C : String} {b : Addr} {As : List Value} (hK : ga_K D cA s) (hP : va_P D ga_cl ws H) (hD : va_D A ws) (hr : ∃ cell : Cell, H[b]? = some cell ∧ cell.vm.isStatics = false ∧ s.vm.findClass C = some cell.cls) : PreV s H C b (ga_N D cA A ws (.ref b :: As)) As :=
  ⟨fun a U g mk q => by obtain ⟨q0, qP, qK, qD⟩ := q; exact ⟨q0, qP, qK.call, qD⟩, hr, fun U hU hW => ⟨rfl, by rw [hU]; exact hP, hK.warm hW, hD⟩⟩
theorem ga_cg {D : va_G} {ws ws' : va_W} {H : Heap} (e : ws = ws') (h : va_P D ga_cl ws H) : va_P D ga_cl ws' H := e ▸ h
theorem ga_cd {A : Nat → Prop} {ws ws' : va_W} (e : ws = ws') (h : va_D A ws) : va_D A ws' := e ▸ h
/-! booleans and chars -/
def ga_B (r : Int32) : Prop := r = 0 ∨ r = 1
def ga_C (r : Int32) : Prop := narrow .char (.int r) = .int r
theorem ga_nb {r : Int32} (h : ga_B r) : narrow .boolean (.int r) = .int r := by rcases h with rfl | rfl <;> rfl
/-! the printed functions -/
theorem ga_ift {α : Type} {c : Prop} {i : Decidable c} {A B : Option α} {o : α} (hc : c) (h : (if c then A else B) = some o) : A = some o := by rw [if_pos hc] at h; exact h
theorem ga_iff {α : Type} {c : Prop} {i : Decidable c} {A B : Option α} {o : α} (hc : ¬ c) (h : (if c then A else B) = some o) : B = some o := by rw [if_neg hc] at h; exact h
theorem ga_gif {α : Type} {c : Prop} {i : Decidable c} {A : Option α} {o : α} (h : (if c then A else none) = some o) : c ∧ A = some o := by
  by_cases hc : c
  · rw [if_pos hc] at h; exact ⟨hc, h⟩
  · rw [if_neg hc] at h; cases h
theorem ga_gb {α β : Type} {x : Option α} {f : α → Option β} {o : β} (h : x.bind f = some o) : ∃ a, x = some a ∧ f a = some o := by
  cases x with
  | none => cases h
  | some a => exact ⟨a, rfl, h⟩
def ix (i : Int32) : Nat := i.toNatClampNeg
def inb (i : Int32) (n : Nat) : Bool := decide (0 ≤ i) && decide (i.toNatClampNeg < n)
theorem ga_in {i : Int32} {n : Nat} (h : inb i n = true) : vp_in i n := by
  simp only [inb, Bool.and_eq_true, decide_eq_true_eq] at h
  intro q
  rcases q with q | q
  · exact absurd h.1 (Int32.not_le.mpr q)
  · omega
def jishl (x y : Int32) : Int32 := x <<< (y &&& 31)
def jishr (x y : Int32) : Int32 := x >>> (y &&& 31)
def jiushr (x y : Int32) : Int32 := (x.toUInt32 >>> (y.toUInt32 &&& Int32.toUInt32 31)).toInt32
def jlshl (x : Int64) (y : Int32) : Int64 := x <<< (y.toInt64 &&& 63)
def jlshr (x : Int64) (y : Int32) : Int64 := x >>> (y.toInt64 &&& 63)
def jlushr (x : Int64) (y : Int32) : Int64 := (x.toUInt64 >>> (y.toInt64.toUInt64 &&& Int64.toUInt64 63)).toInt64
def jirem (x y : Int32) : Int32 := x - x / y * y
def ji2c (x : Int32) : Int32 := (x.toUInt32 % 65536).toInt32
section GA1
variable {p : Program} {l : Launch} {e : Env} {R : Room} {s : State} {m : MethodId} {args : Array Value} {below : List Frame} {meth : Method} {c : Code} {H : Heap} {locs : List Loc} {cells slots : Nat} {Q : State → Prop} {cc : ByteArray} {pc : Nat} {ls : Array Slot} {rest : List Value}
theorem ga_ishl (hexec : p.tables.exec = Jvm.exec) (hb : c.code = cc) {x y : Int32} (hdg : decode cc pc = .ok (.ishl, 1)) (k : W p l e R s m args below meth c H locs cells slots Q (F0 m (pc + 1) ls (.int (jishl x y) :: rest))) : W p l e R s m args below meth c H locs cells slots Q (F0 m pc ls (.int y :: .int x :: rest)) := lv_ishl hexec hb hdg k
theorem ga_ishr (hexec : p.tables.exec = Jvm.exec) (hb : c.code = cc) {x y : Int32} (hdg : decode cc pc = .ok (.ishr, 1)) (k : W p l e R s m args below meth c H locs cells slots Q (F0 m (pc + 1) ls (.int (jishr x y) :: rest))) : W p l e R s m args below meth c H locs cells slots Q (F0 m pc ls (.int y :: .int x :: rest)) := lv_ishr hexec hb hdg k
theorem ga_irem (hexec : p.tables.exec = Jvm.exec) (hb : c.code = cc) {x y : Int32} (hdg : decode cc pc = .ok (.irem, 1)) (hne : ¬ y = 0) (k : W p l e R s m args below meth c H locs cells slots Q (F0 m (pc + 1) ls (.int (jirem x y) :: rest))) : W p l e R s m args below meth c H locs cells slots Q (F0 m pc ls (.int y :: .int x :: rest)) := lv_irem hexec hb hdg hne k
end GA1
def ga_n64b (r : UInt64) : Bool := decide (r &&& 0x7fffffffffffffff ≤ 0x7ff0000000000000)
theorem ga_n64 {r : UInt64} (h : ga_n64b r = true) : vf_n64 r := by
  have h1 : r &&& 0x7fffffffffffffff ≤ 0x7ff0000000000000 := of_decide_eq_true h
  exact h1
