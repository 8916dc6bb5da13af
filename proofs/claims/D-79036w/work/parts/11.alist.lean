abbrev rm_J11_checkIndex : Room := { frames := 1, cells := 0, slots := 0, locals := 12 }
def F_J11_checkIndex (N : Nat)  (x0 : Int32) (x1 : Int32) : Option (Int32) :=
  (if x0 < 0 then
  none
  else
  (if x0 < x1 then
  some x0
  else
  none))
set_option maxHeartbeats 4000000 in
theorem met_J11_checkIndex (l : Launch) (D : va_G) (cA : Nat → ClassId)   (N : Nat) (x0 : Int32) (x1 : Int32)  (out : Int32) (h : F_J11_checkIndex N x0 x1 = some out) : Met l yJ11_checkIndex (ws_ yJ11_checkIndex cJ11_checkIndex 3 (some .int)) rm_J11_checkIndex (ga_P D cA [] [.int x0, .int x1, .null]) (vp_Si (fun r => out = r)) 0 0 ga_F := by
  refine Met.ofW (cc := cJ11_checkIndex) (maxL := 3) (ret := (some .int)) (by decide) rfl ?_
  intro p e s m args below meth c s₁ B hml hv
  obtain ⟨rfl, hP, hK⟩ := hv
  have C : ga_cx p m c meth s _ RJ11 cJ11_checkIndex 3 (some .int) := ga_cx_of B hml
  have C0 := C
  obtain ⟨hx, hb, hr, hlocks, hml, hown, hts⟩ := C0
  have hl := lv_entry ([.int x0, .int x1, .null]) (n := 3) (Nat.le_of_ble_eq_true rfl)
  rw [lg_entry_eq]
  generalize (lg_sl ([.int x0, .int x1, .null]) ++ List.replicate (3 - (lg_sl ([.int x0, .int x1, .null])).length) Slot.unset).toArray = ls at hl ⊢
  have hl : lv_has ls 3 [(0, .int x0), (1, .int x1), (2, .null)] := hl
  rw [F_J11_checkIndex] at h
  refine lv_iload_n hx hb dJ11_checkIndex_0 rfl (lv_at hl 0 rfl) ?_
  refine lv_if_lt (tgt := 9) hx hb dJ11_checkIndex_1 (by decide) (fun c_1 => ?_) (fun c_1 => ?_)
  · replace h := ga_ift c_1 h
    cases h
  · replace h := ga_iff c_1 h
    refine lv_iload_n hx hb dJ11_checkIndex_4 rfl (lv_at hl 0 rfl) ?_
    refine lv_iload_n hx hb dJ11_checkIndex_5 rfl (lv_at hl 1 rfl) ?_
    refine lv_icmp_lt (tgt := 16) hx hb dJ11_checkIndex_6 (by decide) (fun c_2 => ?_) (fun c_2 => ?_)
    · replace h := ga_ift c_2 h
      refine lv_iload_n hx hb dJ11_checkIndex_16 rfl (lv_at hl 0 rfl) ?_
      obtain rfl := Option.some.inj h
      exact W.iret hx hb hr (fun t ht hW => ⟨_, rfl, rfl, ht⟩) (fun _ hq => by cases hq) dJ11_checkIndex_17
    · replace h := ga_iff c_2 h
      cases h
abbrev rm_J10_checkIndex : Room := { frames := 2, cells := 0, slots := 0, locals := 34 }
def F_J10_checkIndex (N : Nat)  (x0 : Int32) (x1 : Int32) : Option (Int32) :=
  ((F_J11_checkIndex N x0 x1).bind fun r_1 =>
  some r_1)
set_option maxHeartbeats 4000000 in
theorem met_J10_checkIndex (l : Launch) (D : va_G) (cA : Nat → ClassId)   (N : Nat) (x0 : Int32) (x1 : Int32)  (out : Int32) (h : F_J10_checkIndex N x0 x1 = some out) : Met l yJ10_checkIndex (ws_ yJ10_checkIndex cJ10_checkIndex 2 (some .int)) rm_J10_checkIndex (ga_P D cA [] [.int x0, .int x1]) (vp_Si (fun r => out = r)) 0 0 ga_F := by
  refine Met.ofW (cc := cJ10_checkIndex) (maxL := 2) (ret := (some .int)) (by decide) rfl ?_
  intro p e s m args below meth c s₁ B hml hv
  obtain ⟨rfl, hP, hK⟩ := hv
  have C : ga_cx p m c meth s _ RJ10 cJ10_checkIndex 2 (some .int) := ga_cx_of B hml
  have C0 := C
  obtain ⟨hx, hb, hr, hlocks, hml, hown, hts⟩ := C0
  have hl := lv_entry ([.int x0, .int x1]) (n := 2) (Nat.le_of_ble_eq_true rfl)
  rw [lg_entry_eq]
  generalize (lg_sl ([.int x0, .int x1]) ++ List.replicate (2 - (lg_sl ([.int x0, .int x1])).length) Slot.unset).toArray = ls at hl ⊢
  have hl : lv_has ls 2 [(0, .int x0), (1, .int x1)] := hl
  rw [F_J10_checkIndex] at h
  refine lv_iload_n hx hb dJ10_checkIndex_0 rfl (lv_at hl 0 rfl) ?_
  refine lv_iload_n hx hb dJ10_checkIndex_1 rfl (lv_at hl 1 rfl) ?_
  refine lv_null hx hb dJ10_checkIndex_2 ?_
  obtain ⟨r_1, e_2, h⟩ := ga_gb h
  refine vp_callSi (va_Run.run (va_runS (As := [.int x0, .int x1, .null]) (rest := []) ⟨hx, hb, hml, hown, hts⟩ (met_J11_checkIndex l D cA N x0 x1 r_1 e_2) (va_cwS 3 hts (lw_S q403 q404 q85 q405) rfl rfl rfl (by decide +kernel) ⟨Nat.le_of_ble_eq_true rfl, Nat.le_of_ble_eq_true rfl⟩) (ga_PS hK ga_P0) rfl rfl hl.1 rfl (lv_room (Nat.le_of_ble_eq_true rfl)) dJ10_checkIndex_3 ⟨Nat.le_of_ble_eq_true rfl, Nat.le_of_ble_eq_true rfl⟩)) (fun z_3 w_4 => ?_)
  obtain rfl := w_4
  obtain rfl := Option.some.inj h
  exact W.iret hx hb hr (fun t ht hW => ⟨_, rfl, rfl, ht⟩) (fun _ hq => by cases hq) dJ10_checkIndex_6
abbrev rm_J2_size : Room := { frames := 1, cells := 0, slots := 0, locals := 12 }
def F_J2_size (N : Nat) (lm : Int32) (lz : Int32)  : Option (Int32) :=
  some lz
set_option maxHeartbeats 4000000 in
theorem met_J2_size (l : Launch) (D : va_G) (cA : Nat → ClassId) (al : Nat) (ed : Nat) (lm : Int32) (lz : Int32) (N : Nat)   (out : Int32) (h : F_J2_size N lm lz = some out) : Met l yJ2_size (ws_ yJ2_size cJ2_size 1 (some .int)) rm_J2_size (ga_P D cA [(al, .inr (6, [.int lm, .ref ed, .int lz]))] [.ref al]) (vp_Si (fun r => out = r)) 0 0 ga_F := by
  refine Met.ofW (cc := cJ2_size) (maxL := 1) (ret := (some .int)) (by decide) rfl ?_
  intro p e s m args below meth c s₁ B hml hv
  obtain ⟨rfl, hP, hK⟩ := hv
  have C : ga_cx p m c meth s _ RJ2 cJ2_size 1 (some .int) := ga_cx_of B hml
  have C0 := C
  obtain ⟨hx, hb, hr, hlocks, hml, hown, hts⟩ := C0
  have hl := lv_entry ([.ref al]) (n := 1) (Nat.le_of_ble_eq_true rfl)
  rw [lg_entry_eq]
  generalize (lg_sl ([.ref al]) ++ List.replicate (1 - (lg_sl ([.ref al])).length) Slot.unset).toArray = ls at hl ⊢
  have hl : lv_has ls 1 [(0, .ref al)] := hl
  rw [F_J2_size] at h
  refine lv_aload_n hx hb dJ2_size_0 rfl (lv_at hl 0 rfl) ?_
  refine va_get hx hb hts in_J2 hown hK.1 hP 0 (fs := [.int lm, .ref ed, .int lz]) rfl rfl 2 (by decide) (hts _ q136) (fun _ hh => hh) (v := .int lz) rfl dJ2_size_1 ?_
  obtain rfl := Option.some.inj h
  exact W.iret hx hb hr (fun t ht hW => ⟨_, rfl, rfl, ht⟩) (fun _ hq => by cases hq) dJ2_size_4
abbrev rm_J2_elementData : Room := { frames := 1, cells := 0, slots := 0, locals := 12 }
def F_J2_elementData (N : Nat) (lm : Int32) (lz : Int32) (ln : Nat) (x1 : Int32) : Option (Unit) :=
  (if inb x1 ln = true then
  some ()
  else none)
set_option maxHeartbeats 4000000 in
theorem met_J2_elementData (l : Launch) (D : va_G) (cA : Nat → ClassId) (al : Nat) (ed : Nat) (lf : Nat → Option Nat) (lm : Int32) (lz : Int32) (ln : Nat) (N : Nat) (x1 : Int32)  (out : Unit) (h : F_J2_elementData N lm lz ln x1 = some out) : Met l yJ2_elementData (ws_ yJ2_elementData cJ2_elementData 2 (Option.some (.object "java/lang/Object"))) rm_J2_elementData (ga_P D cA [(al, .inr (6, [.int lm, .ref ed, .int lz])), (ed, .inl (cA 5, ln, .inr (.inr (.inr (.inr lf)))))] [.ref al, .int x1]) (va_Sq (fun r => (lf (ix x1)) = r)) 0 0 ga_F := by
  refine Met.ofW (cc := cJ2_elementData) (maxL := 2) (ret := (Option.some (.object "java/lang/Object"))) (by decide) rfl ?_
  intro p e s m args below meth c s₁ B hml hv
  obtain ⟨rfl, hP, hK⟩ := hv
  have C : ga_cx p m c meth s _ RJ2 cJ2_elementData 2 (Option.some (.object "java/lang/Object")) := ga_cx_of B hml
  have C0 := C
  obtain ⟨hx, hb, hr, hlocks, hml, hown, hts⟩ := C0
  have hl := lv_entry ([.ref al, .int x1]) (n := 2) (Nat.le_of_ble_eq_true rfl)
  rw [lg_entry_eq]
  generalize (lg_sl ([.ref al, .int x1]) ++ List.replicate (2 - (lg_sl ([.ref al, .int x1])).length) Slot.unset).toArray = ls at hl ⊢
  have hl : lv_has ls 2 [(0, .ref al), (1, .int x1)] := hl
  rw [F_J2_elementData] at h
  refine lv_aload_n hx hb dJ2_elementData_0 rfl (lv_at hl 0 rfl) ?_
  refine va_get hx hb hts in_J2 hown hK.1 hP 0 (fs := [.int lm, .ref ed, .int lz]) rfl rfl 1 (by decide) (hts _ q135) (fun _ hh => hh) (v := .ref ed) rfl dJ2_elementData_1 ?_
  refine lv_iload_n hx hb dJ2_elementData_4 rfl (lv_at hl 1 rfl) ?_
  obtain ⟨i_1, h⟩ := ga_gif h
  refine va_aldq hx hb hK.1 hP 1 5 (f := lf) rfl rfl (ga_in i_1) dJ2_elementData_5 ?_
  obtain rfl := Option.some.inj h
  exact W.aret hx hb hr (Or.inl ⟨_, rfl⟩) (va_rf_or _) (fun t ht hW => ⟨(lf (ix x1)), rfl, rfl, ht⟩) (fun _ hq => by cases hq) dJ2_elementData_6
abbrev rm_J2_get : Room := { frames := 3, cells := 0, slots := 0, locals := 55 }
def F_J2_get (N : Nat) (lm : Int32) (lz : Int32) (ln : Nat) (x1 : Int32) : Option (Unit) :=
  ((F_J10_checkIndex N x1 lz).bind fun r_1 =>
  ((F_J2_elementData N lm lz ln x1).bind fun r_6 =>
  some ()))
set_option maxHeartbeats 4000000 in
theorem met_J2_get (l : Launch) (D : va_G) (cA : Nat → ClassId) (al : Nat) (ed : Nat) (lf : Nat → Option Nat) (lm : Int32) (lz : Int32) (ln : Nat) (N : Nat) (x1 : Int32)  (out : Unit) (h : F_J2_get N lm lz ln x1 = some out) : Met l yJ2_get (ws_ yJ2_get cJ2_get 2 (Option.some (.object "java/lang/Object"))) rm_J2_get (ga_P D cA [(al, .inr (6, [.int lm, .ref ed, .int lz])), (ed, .inl (cA 5, ln, .inr (.inr (.inr (.inr lf)))))] [.ref al, .int x1]) (va_Sq (fun r => (lf (ix x1)) = r)) 0 0 ga_F := by
  refine Met.ofW (cc := cJ2_get) (maxL := 2) (ret := (Option.some (.object "java/lang/Object"))) (by decide) rfl ?_
  intro p e s m args below meth c s₁ B hml hv
  obtain ⟨rfl, hP, hK⟩ := hv
  have C : ga_cx p m c meth s _ RJ2 cJ2_get 2 (Option.some (.object "java/lang/Object")) := ga_cx_of B hml
  have C0 := C
  obtain ⟨hx, hb, hr, hlocks, hml, hown, hts⟩ := C0
  have hl := lv_entry ([.ref al, .int x1]) (n := 2) (Nat.le_of_ble_eq_true rfl)
  rw [lg_entry_eq]
  generalize (lg_sl ([.ref al, .int x1]) ++ List.replicate (2 - (lg_sl ([.ref al, .int x1])).length) Slot.unset).toArray = ls at hl ⊢
  have hl : lv_has ls 2 [(0, .ref al), (1, .int x1)] := hl
  rw [F_J2_get] at h
  refine lv_iload_n hx hb dJ2_get_0 rfl (lv_at hl 1 rfl) ?_
  refine lv_aload_n hx hb dJ2_get_1 rfl (lv_at hl 0 rfl) ?_
  refine va_get hx hb hts in_J2 hown hK.1 hP 0 (fs := [.int lm, .ref ed, .int lz]) rfl rfl 2 (by decide) (hts _ q136) (fun _ hh => hh) (v := .int lz) rfl dJ2_get_2 ?_
  obtain ⟨r_1, e_2, h⟩ := ga_gb h
  refine vp_callSi (va_Run.run (va_runS (As := [.int x1, .int lz]) (rest := []) ⟨hx, hb, hml, hown, hts⟩ (met_J10_checkIndex l D cA N x1 lz r_1 e_2) (va_cwS 2 hts (lw_S q400 q401 q84 q402) rfl rfl rfl (by decide +kernel) ⟨Nat.le_of_ble_eq_true rfl, Nat.le_of_ble_eq_true rfl⟩) (ga_PS hK ga_P0) rfl rfl hl.1 rfl (lv_room (Nat.le_of_ble_eq_true rfl)) dJ2_get_5 ⟨Nat.le_of_ble_eq_true rfl, Nat.le_of_ble_eq_true rfl⟩)) (fun z_3 w_4 => ?_)
  obtain rfl := w_4
  refine lv_pop hx hb dJ2_get_8 rfl ?_
  refine lv_aload_n hx hb dJ2_get_9 rfl (lv_at hl 0 rfl) ?_
  refine lv_iload_n hx hb dJ2_get_10 rfl (lv_at hl 1 rfl) ?_
  obtain ⟨r_6, e_7, h⟩ := ga_gb h
  refine va_csq (va_Run.run (va_runV (As := [.int x1]) (rest := []) ⟨hx, hb, hml, hown, hts⟩ (met_J2_elementData l D cA al ed lf lm lz ln N x1 r_6 e_7) (cwV 1 hts (lw_V q406 q407 q408 q71 q409) rfl rfl rfl (by decide +kernel) ⟨Nat.le_of_ble_eq_true rfl, Nat.le_of_ble_eq_true rfl⟩) (ga_PV hK (hP.sub (ws' := [(al, .inr (6, [.int lm, .ref ed, .int lz])), (ed, .inl (cA 5, ln, .inr (.inr (.inr (.inr lf)))))]) [0, 1] rfl) (va_recv hK.1 hP (ci := 6) (q0 := 0) rfl rfl)) rfl rfl hl.1 rfl (lv_room (Nat.le_of_ble_eq_true rfl)) dJ2_get_11 ⟨Nat.le_of_ble_eq_true rfl, Nat.le_of_ble_eq_true rfl⟩)) (fun z_8 w_9 => ?_)
  obtain rfl := w_9
  obtain rfl := Option.some.inj h
  exact W.aret hx hb hr (Or.inl ⟨_, rfl⟩) (va_rf_or _) (fun t ht hW => ⟨(lf (ix x1)), rfl, rfl, ht⟩) (fun _ hq => by cases hq) dJ2_get_14
