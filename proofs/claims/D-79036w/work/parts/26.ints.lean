abbrev rm_J19_valueOf : Room := { frames := 1, cells := 0, slots := 0, locals := 12 }
def F_J19_valueOf (N : Nat)  (x0 : Int32) : Option (Unit) :=
  (if x0 < (-128) then
  none
  else
  (if 127 < x0 then
  none
  else
  (if inb (x0 + 128) 256 = true then
  some ()
  else none)))
set_option maxHeartbeats 4000000 in
theorem met_J19_valueOf (l : Launch) (D : va_G) (cA : Nat → ClassId) (A : Nat → Prop) (zs : Nat → Nat)  (N : Nat) (x0 : Int32)  (out : Unit) (h : F_J19_valueOf N x0 = some out) : Met l yJ19_valueOf (ws_ yJ19_valueOf cJ19_valueOf 1 (Option.some (.object "java/lang/Integer"))) rm_J19_valueOf (ga_X D cA zs A [] [.int x0]) (va_Qr (fun (u : Unit) => out = u) (fun (u : Unit) (a : Nat) (t : State) => (ga_iv zs x0) = a ∧ (fun (u : Unit) (t : State) => va_P D ga_cl [] t.heap ∧ ga_K D cA t ∧ va_D A []) u t) A) 0 0 A := by
  refine Met.ofW (cc := cJ19_valueOf) (maxL := 1) (ret := (Option.some (.object "java/lang/Integer"))) (by decide) rfl ?_
  intro p e s m args below meth c s₁ B hml hv
  obtain ⟨rfl, hP, hK, hD, hA, hST⟩ := hv
  have hS : va_S A s.heap s.heap [] := va_S.rf
  have C : ga_cx p m c meth s _ RJ19 cJ19_valueOf 1 (Option.some (.object "java/lang/Integer")) := ga_cx_of B hml
  have C0 := C
  obtain ⟨hx, hb, hr, hlocks, hml, hown, hts⟩ := C0
  have hl := lv_entry ([.int x0]) (n := 1) (Nat.le_of_ble_eq_true rfl)
  rw [lg_entry_eq]
  generalize (lg_sl ([.int x0]) ++ List.replicate (1 - (lg_sl ([.int x0])).length) Slot.unset).toArray = ls at hl ⊢
  have hl : lv_has ls 1 [(0, .int x0)] := hl
  rw [F_J19_valueOf] at h
  refine lv_iload_n hx hb dJ19_valueOf_0 rfl (lv_at hl 0 rfl) ?_
  refine lv_bipush (v := (-128)) hx hb dJ19_valueOf_1 (by decide) ?_
  refine lv_icmp_lt (tgt := 23) hx hb dJ19_valueOf_3 (by decide) (fun c_1 => ?_) (fun c_1 => ?_)
  · replace h := ga_ift c_1 h
    cases h
  · replace h := ga_iff c_1 h
    refine lv_iload_n hx hb dJ19_valueOf_6 rfl (lv_at hl 0 rfl) ?_
    refine va_gets hx hb hST.2.2.2.2.1 hS hown (hts _ q1190) (fun _ hh => hh) dJ19_valueOf_7 ?_
    refine lv_icmp_gt (tgt := 23) hx hb dJ19_valueOf_10 (by decide) (fun c_2 => ?_) (fun c_2 => ?_)
    · replace h := ga_ift c_2 h
      cases h
    · replace h := ga_iff c_2 h
      refine va_gets hx hb hST.2.2.2.2.2.1 hS hown (hts _ q1192) (fun _ hh => hh) dJ19_valueOf_13 ?_
      refine lv_iload_n hx hb dJ19_valueOf_16 rfl (lv_at hl 0 rfl) ?_
      refine lv_sipush (v := 128) hx hb dJ19_valueOf_17 (by decide) ?_
      refine lv_iadd hx hb dJ19_valueOf_20 ?_
      obtain ⟨i_3, h⟩ := ga_gif h
      refine vb_tq hx hb hST.2.2.2.2.2.2.1 hS (ga_in i_3) (v := .ref (ga_iv zs x0)) (congrArg Value.ref (ga_ivE i_3)) dJ19_valueOf_21 ?_
      have hP9 := hP.sub (ws' := []) [] rfl
      have hD9 := hD.sub (ws' := []) [] (by decide) rfl
      obtain rfl := Option.some.inj h
      exact W.aret hx hb hr (Or.inl ⟨_, rfl⟩) (Or.inr ⟨_, rfl⟩) (fun t ht hW => ⟨⟨(), _, rfl, rfl, rfl, ⟨by rw [ht]; exact hP9, hK.warm hW, hD9⟩⟩, hS.F ht⟩) hS.2.2 dJ19_valueOf_22
abbrev rm_J19_intValue : Room := { frames := 1, cells := 0, slots := 0, locals := 12 }
def F_J19_intValue (N : Nat) (ich : Int32)  : Option (Int32 × Unit) :=
  (if inb (ich + 128) 256 = true then
  some (ich, ())
  else none)
set_option maxHeartbeats 4000000 in
theorem met_J19_intValue (l : Launch) (D : va_G) (cA : Nat → ClassId) (A : Nat → Prop) (zs : Nat → Nat) (ich : Int32) (N : Nat)   (out : Int32 × Unit) (h : F_J19_intValue N ich = some out) : Met l yJ19_intValue (ws_ yJ19_intValue cJ19_intValue 1 (some .int)) rm_J19_intValue (ga_X D cA zs A [] [.ref (ga_iv zs ich)]) (va_Qi (fun (r : Int32) (u : Unit) => (out.1 = r) ∧ out.2 = u) (fun (u : Unit) (t : State) => va_P D ga_cl [] t.heap ∧ ga_K D cA t ∧ va_D A []) A) 0 0 A := by
  refine Met.ofW (cc := cJ19_intValue) (maxL := 1) (ret := (some .int)) (by decide) rfl ?_
  intro p e s m args below meth c s₁ B hml hv
  obtain ⟨rfl, hP, hK, hD, hA, hST⟩ := hv
  have hS : va_S A s.heap s.heap [] := va_S.rf
  have C : ga_cx p m c meth s _ RJ19 cJ19_intValue 1 (some .int) := ga_cx_of B hml
  have C0 := C
  obtain ⟨hx, hb, hr, hlocks, hml, hown, hts⟩ := C0
  have hl := lv_entry ([.ref (ga_iv zs ich)]) (n := 1) (Nat.le_of_ble_eq_true rfl)
  rw [lg_entry_eq]
  generalize (lg_sl ([.ref (ga_iv zs ich)]) ++ List.replicate (1 - (lg_sl ([.ref (ga_iv zs ich)])).length) Slot.unset).toArray = ls at hl ⊢
  have hl : lv_has ls 1 [(0, .ref (ga_iv zs ich))] := hl
  rw [F_J19_intValue] at h
  refine lv_aload_n hx hb dJ19_intValue_0 rfl (lv_at hl 0 rfl) ?_
  obtain ⟨i_1, h⟩ := ga_gif h
  refine va_getX (i := ix (ich + 128) % 256) (v := fun k => .int (vb_c k)) hx hb hST.2.2.2.2.2.2.2.1.2 (Nat.mod_lt _ (by decide)) hS hown (hts _ q1203) (fun _ hh => hh) dJ19_intValue_1 ?_
  rw [ga_ivv i_1]
  have hP9 := hP.sub (ws' := []) [] rfl
  have hD9 := hD.sub (ws' := []) [] (by decide) rfl
  obtain rfl := Option.some.inj h
  exact W.iret hx hb hr (fun t ht hW => ⟨⟨_, (), rfl, ⟨rfl, rfl⟩, ⟨by rw [ht]; exact hP9, hK.warm hW, hD9⟩⟩, hS.F ht⟩) hS.2.2 dJ19_intValue_4
