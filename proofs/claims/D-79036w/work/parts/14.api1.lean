abbrev rm_X1_checkArgument : Room := { frames := 6, cells := 1, slots := 6, locals := 100 }
def F_X1_checkArgument (N : Nat)  (x0 : Int32) : Option (Unit ⊕ Nat) :=
  (if x0 = 0 then
  some (.inr 1)
  else
  some (.inl ()))
set_option maxHeartbeats 4000000 in
theorem met_X1_checkArgument (l : Launch) (D : va_G) (cA : Nat → ClassId) (A : Nat → Prop) (zs : Nat → Nat)  (N : Nat) (x0 : Int32)  (hstk : l.stackTraces = false) (out : Unit ⊕ Nat) (h : F_X1_checkArgument N x0 = some out) : vx_Met l yX1_checkArgument (ws_ yX1_checkArgument cX1_checkArgument 1 none) rm_X1_checkArgument (ga_X D cA zs A [] [.int x0]) (va_Qv (fun (u : Unit) => ∃ v, out = .inl v ∧ v = u) (fun (u : Unit) (t : State) => va_P D ga_cl [] t.heap ∧ ga_K D cA t ∧ va_D A []) A) (vx_X (fun (u : Nat) => out = .inr u) (fun (E : String) (q9 : Nat) (u : Nat) (t : State) => E = ga_en u ∧ va_P D ga_cl [] t.heap ∧ va_D A []) A) 1 6 A := by
  refine vx_ofW (cc := cX1_checkArgument) (maxL := 1) (ret := none) (by decide) rfl ?_
  intro p e s m args below meth c s₁ B hml htab hv
  have hX : ga_cx2 c l := ⟨htab, hstk⟩
  obtain ⟨rfl, hP, hK, hD, hA, hST⟩ := hv
  have hS : va_S A s.heap s.heap [] := va_S.rf
  have C : ga_cx p m c meth s _ RX1 cX1_checkArgument 1 none := ga_cx_of B hml
  have C0 := C
  obtain ⟨hx, hb, hr, hlocks, hml, hown, hts⟩ := C0
  have hl := lv_entry ([.int x0]) (n := 1) (Nat.le_of_ble_eq_true rfl)
  rw [lg_entry_eq]
  generalize (lg_sl ([.int x0]) ++ List.replicate (1 - (lg_sl ([.int x0])).length) Slot.unset).toArray = ls at hl ⊢
  have hl : lv_has ls 1 [(0, .int x0)] := hl
  rw [F_X1_checkArgument] at h
  refine lv_iload_n hx hb dX1_checkArgument_0 rfl (lv_at hl 0 rfl) ?_
  refine lv_if_ne (tgt := 12) hx hb dX1_checkArgument_1 (by decide) (fun c_1 => ?_) (fun c_1 => ?_)
  · replace h := ga_iff c_1 h
    have hP9 := hP.sub (ws' := []) [] rfl
    have hD9 := hD.sub (ws' := []) [] (by decide) rfl
    obtain rfl := Option.some.inj h
    refine W.widen (k := 1) (n := 6) (by decide) (by decide) ?_
    refine vx_ret ?_
    exact W.vret hx hb hr (fun t ht hW => ⟨⟨(), rfl, ⟨_, rfl, rfl⟩, ⟨by rw [ht]; exact hP9, hK.warm hW, hD9⟩⟩, hS.F ht⟩) hS.2.2 dX1_checkArgument_12
  · replace h := ga_ift c_1 h
    have hP9 := hP.sub (ws' := []) [] rfl
    have hD9 := hD.sub (ws' := []) [] (by decide) rfl
    obtain rfl := Option.some.inj h
    exact vx_throw0 hx hb hX.2 (own := RX1) (cls := "java/lang/IllegalArgumentException") (names := ["java/lang/RuntimeException", "java/lang/Exception"]) (ik := 1) (ic := 3) hown (by decide) (by decide) (hts _ q493) (hts _ q83) (wx_1_3 hts hK) wg_1_3 hST.1 hST.2.1 hS (hl.1.trans hml.symm) dX1_checkArgument_4 dX1_checkArgument_7 dX1_checkArgument_8 dX1_checkArgument_11 (fun x hx9 => (hX.1 x hx9).elim) (Nat.le_of_ble_eq_true rfl) (Nat.le_of_ble_eq_true rfl) (Nat.le_of_ble_eq_true rfl) (Nat.le_of_ble_eq_true rfl) hlocks (fun _ t hal hz hk => ⟨1, rfl, ⟨rfl, ga_pk hP9 hk, hD9⟩, ga_vf hS hz hk⟩) hS.2.2 (by decide) (by decide)
abbrev rm_X1_checkState : Room := { frames := 6, cells := 1, slots := 6, locals := 100 }
def F_X1_checkState (N : Nat)  (x0 : Int32) : Option (Unit ⊕ Nat) :=
  (if x0 = 0 then
  some (.inr 2)
  else
  some (.inl ()))
set_option maxHeartbeats 4000000 in
theorem met_X1_checkState (l : Launch) (D : va_G) (cA : Nat → ClassId) (A : Nat → Prop) (zs : Nat → Nat)  (N : Nat) (x0 : Int32)  (hstk : l.stackTraces = false) (out : Unit ⊕ Nat) (h : F_X1_checkState N x0 = some out) : vx_Met l yX1_checkState (ws_ yX1_checkState cX1_checkState 1 none) rm_X1_checkState (ga_X D cA zs A [] [.int x0]) (va_Qv (fun (u : Unit) => ∃ v, out = .inl v ∧ v = u) (fun (u : Unit) (t : State) => va_P D ga_cl [] t.heap ∧ ga_K D cA t ∧ va_D A []) A) (vx_X (fun (u : Nat) => out = .inr u) (fun (E : String) (q9 : Nat) (u : Nat) (t : State) => E = ga_en u ∧ va_P D ga_cl [] t.heap ∧ va_D A []) A) 1 6 A := by
  refine vx_ofW (cc := cX1_checkState) (maxL := 1) (ret := none) (by decide) rfl ?_
  intro p e s m args below meth c s₁ B hml htab hv
  have hX : ga_cx2 c l := ⟨htab, hstk⟩
  obtain ⟨rfl, hP, hK, hD, hA, hST⟩ := hv
  have hS : va_S A s.heap s.heap [] := va_S.rf
  have C : ga_cx p m c meth s _ RX1 cX1_checkState 1 none := ga_cx_of B hml
  have C0 := C
  obtain ⟨hx, hb, hr, hlocks, hml, hown, hts⟩ := C0
  have hl := lv_entry ([.int x0]) (n := 1) (Nat.le_of_ble_eq_true rfl)
  rw [lg_entry_eq]
  generalize (lg_sl ([.int x0]) ++ List.replicate (1 - (lg_sl ([.int x0])).length) Slot.unset).toArray = ls at hl ⊢
  have hl : lv_has ls 1 [(0, .int x0)] := hl
  rw [F_X1_checkState] at h
  refine lv_iload_n hx hb dX1_checkState_0 rfl (lv_at hl 0 rfl) ?_
  refine lv_if_ne (tgt := 12) hx hb dX1_checkState_1 (by decide) (fun c_1 => ?_) (fun c_1 => ?_)
  · replace h := ga_iff c_1 h
    have hP9 := hP.sub (ws' := []) [] rfl
    have hD9 := hD.sub (ws' := []) [] (by decide) rfl
    obtain rfl := Option.some.inj h
    refine W.widen (k := 1) (n := 6) (by decide) (by decide) ?_
    refine vx_ret ?_
    exact W.vret hx hb hr (fun t ht hW => ⟨⟨(), rfl, ⟨_, rfl, rfl⟩, ⟨by rw [ht]; exact hP9, hK.warm hW, hD9⟩⟩, hS.F ht⟩) hS.2.2 dX1_checkState_12
  · replace h := ga_ift c_1 h
    have hP9 := hP.sub (ws' := []) [] rfl
    have hD9 := hD.sub (ws' := []) [] (by decide) rfl
    obtain rfl := Option.some.inj h
    exact vx_throw0 hx hb hX.2 (own := RX1) (cls := "java/lang/IllegalStateException") (names := ["java/lang/RuntimeException", "java/lang/Exception"]) (ik := 7) (ic := 9) hown (by decide) (by decide) (hts _ q668) (hts _ q91) (wx_2_9 hts hK) wg_2_9 hST.1 hST.2.1 hS (hl.1.trans hml.symm) dX1_checkState_4 dX1_checkState_7 dX1_checkState_8 dX1_checkState_11 (fun x hx9 => (hX.1 x hx9).elim) (Nat.le_of_ble_eq_true rfl) (Nat.le_of_ble_eq_true rfl) (Nat.le_of_ble_eq_true rfl) (Nat.le_of_ble_eq_true rfl) hlocks (fun _ t hal hz hk => ⟨2, rfl, ⟨rfl, ga_pk hP9 hk, hD9⟩, ga_vf hS hz hk⟩) hS.2.2 (by decide) (by decide)
abbrev rm_X1_checkIndex : Room := { frames := 6, cells := 1, slots := 6, locals := 100 }
def F_X1_checkIndex (N : Nat)  (x0 : Int32) (x1 : Int32) : Option (Unit ⊕ Nat) :=
  ((F_X1_inRange N x0 0 (x1 - 1)).bind fun r_1 =>
  (if r_1 = 0 then
  some (.inr 3)
  else
  some (.inl ())))
set_option maxHeartbeats 4000000 in
theorem met_X1_checkIndex (l : Launch) (D : va_G) (cA : Nat → ClassId) (A : Nat → Prop) (zs : Nat → Nat)  (N : Nat) (x0 : Int32) (x1 : Int32)  (hstk : l.stackTraces = false) (out : Unit ⊕ Nat) (h : F_X1_checkIndex N x0 x1 = some out) : vx_Met l yX1_checkIndex (ws_ yX1_checkIndex cX1_checkIndex 2 none) rm_X1_checkIndex (ga_X D cA zs A [] [.int x0, .int x1]) (va_Qv (fun (u : Unit) => ∃ v, out = .inl v ∧ v = u) (fun (u : Unit) (t : State) => va_P D ga_cl [] t.heap ∧ ga_K D cA t ∧ va_D A []) A) (vx_X (fun (u : Nat) => out = .inr u) (fun (E : String) (q9 : Nat) (u : Nat) (t : State) => E = ga_en u ∧ va_P D ga_cl [] t.heap ∧ va_D A []) A) 1 6 A := by
  refine vx_ofW (cc := cX1_checkIndex) (maxL := 2) (ret := none) (by decide) rfl ?_
  intro p e s m args below meth c s₁ B hml htab hv
  have hX : ga_cx2 c l := ⟨htab, hstk⟩
  obtain ⟨rfl, hP, hK, hD, hA, hST⟩ := hv
  have hS : va_S A s.heap s.heap [] := va_S.rf
  have C : ga_cx p m c meth s _ RX1 cX1_checkIndex 2 none := ga_cx_of B hml
  have C0 := C
  obtain ⟨hx, hb, hr, hlocks, hml, hown, hts⟩ := C0
  have hl := lv_entry ([.int x0, .int x1]) (n := 2) (Nat.le_of_ble_eq_true rfl)
  rw [lg_entry_eq]
  generalize (lg_sl ([.int x0, .int x1]) ++ List.replicate (2 - (lg_sl ([.int x0, .int x1])).length) Slot.unset).toArray = ls at hl ⊢
  have hl : lv_has ls 2 [(0, .int x0), (1, .int x1)] := hl
  rw [F_X1_checkIndex] at h
  refine lv_iload_n hx hb dX1_checkIndex_0 rfl (lv_at hl 0 rfl) ?_
  refine lv_iconst (v := 0) hx hb dX1_checkIndex_1 (by decide) ?_
  refine lv_iload_n hx hb dX1_checkIndex_2 rfl (lv_at hl 1 rfl) ?_
  refine lv_iconst (v := 1) hx hb dX1_checkIndex_3 (by decide) ?_
  refine lv_isub hx hb dX1_checkIndex_4 ?_
  obtain ⟨r_1, e_2, h⟩ := ga_gb h
  refine vp_callSi (va_Run.run (va_runS (As := [.int x0, .int 0, .int (x1 - 1)]) (rest := []) ⟨hx, hb, hml, hown, hts⟩ (met_X1_inRange l D cA N x0 0 (x1 - 1) r_1 e_2) (va_cwS 3 hts (lw_S q487 q488 q67 q489) rfl rfl rfl (by decide +kernel) ⟨Nat.le_of_ble_eq_true rfl, Nat.le_of_ble_eq_true rfl⟩) (ga_PS hK ga_P0) rfl rfl hl.1 rfl (lv_room (Nat.le_of_ble_eq_true rfl)) dX1_checkIndex_5 ⟨Nat.le_of_ble_eq_true rfl, Nat.le_of_ble_eq_true rfl⟩)) (fun z_3 w_4 => ?_)
  obtain ⟨rfl, b_5⟩ := w_4
  refine lv_if_ne (tgt := 19) hx hb dX1_checkIndex_8 (by decide) (fun c_6 => ?_) (fun c_6 => ?_)
  · replace h := ga_iff c_6 h
    have hP9 := hP.sub (ws' := []) [] rfl
    have hD9 := hD.sub (ws' := []) [] (by decide) rfl
    obtain rfl := Option.some.inj h
    refine W.widen (k := 1) (n := 6) (by decide) (by decide) ?_
    refine vx_ret ?_
    exact W.vret hx hb hr (fun t ht hW => ⟨⟨(), rfl, ⟨_, rfl, rfl⟩, ⟨by rw [ht]; exact hP9, hK.warm hW, hD9⟩⟩, hS.F ht⟩) hS.2.2 dX1_checkIndex_19
  · replace h := ga_ift c_6 h
    have hP9 := hP.sub (ws' := []) [] rfl
    have hD9 := hD.sub (ws' := []) [] (by decide) rfl
    obtain rfl := Option.some.inj h
    exact vx_throw0 hx hb hX.2 (own := RX1) (cls := "java/lang/IndexOutOfBoundsException") (names := ["java/lang/RuntimeException", "java/lang/Exception"]) (ik := 16) (ic := 18) hown (by decide) (by decide) (hts _ q628) (hts _ q88) (wx_3_18 hts hK) wg_3_18 hST.1 hST.2.1 hS (hl.1.trans hml.symm) dX1_checkIndex_11 dX1_checkIndex_14 dX1_checkIndex_15 dX1_checkIndex_18 (fun x hx9 => (hX.1 x hx9).elim) (Nat.le_of_ble_eq_true rfl) (Nat.le_of_ble_eq_true rfl) (Nat.le_of_ble_eq_true rfl) (Nat.le_of_ble_eq_true rfl) hlocks (fun _ t hal hz hk => ⟨3, rfl, ⟨rfl, ga_pk hP9 hk, hD9⟩, ga_vf hS hz hk⟩) hS.2.2 (by decide) (by decide)
abbrev rm_X1_checkFound : Room := { frames := 6, cells := 1, slots := 6, locals := 100 }
def F_X1_checkFound (N : Nat)  (x0 : Int32) : Option (Unit ⊕ Nat) :=
  (if x0 = 0 then
  some (.inr 4)
  else
  some (.inl ()))
set_option maxHeartbeats 4000000 in
theorem met_X1_checkFound (l : Launch) (D : va_G) (cA : Nat → ClassId) (A : Nat → Prop) (zs : Nat → Nat)  (N : Nat) (x0 : Int32)  (hstk : l.stackTraces = false) (out : Unit ⊕ Nat) (h : F_X1_checkFound N x0 = some out) : vx_Met l yX1_checkFound (ws_ yX1_checkFound cX1_checkFound 1 none) rm_X1_checkFound (ga_X D cA zs A [] [.int x0]) (va_Qv (fun (u : Unit) => ∃ v, out = .inl v ∧ v = u) (fun (u : Unit) (t : State) => va_P D ga_cl [] t.heap ∧ ga_K D cA t ∧ va_D A []) A) (vx_X (fun (u : Nat) => out = .inr u) (fun (E : String) (q9 : Nat) (u : Nat) (t : State) => E = ga_en u ∧ va_P D ga_cl [] t.heap ∧ va_D A []) A) 1 6 A := by
  refine vx_ofW (cc := cX1_checkFound) (maxL := 1) (ret := none) (by decide) rfl ?_
  intro p e s m args below meth c s₁ B hml htab hv
  have hX : ga_cx2 c l := ⟨htab, hstk⟩
  obtain ⟨rfl, hP, hK, hD, hA, hST⟩ := hv
  have hS : va_S A s.heap s.heap [] := va_S.rf
  have C : ga_cx p m c meth s _ RX1 cX1_checkFound 1 none := ga_cx_of B hml
  have C0 := C
  obtain ⟨hx, hb, hr, hlocks, hml, hown, hts⟩ := C0
  have hl := lv_entry ([.int x0]) (n := 1) (Nat.le_of_ble_eq_true rfl)
  rw [lg_entry_eq]
  generalize (lg_sl ([.int x0]) ++ List.replicate (1 - (lg_sl ([.int x0])).length) Slot.unset).toArray = ls at hl ⊢
  have hl : lv_has ls 1 [(0, .int x0)] := hl
  rw [F_X1_checkFound] at h
  refine lv_iload_n hx hb dX1_checkFound_0 rfl (lv_at hl 0 rfl) ?_
  refine lv_if_ne (tgt := 12) hx hb dX1_checkFound_1 (by decide) (fun c_1 => ?_) (fun c_1 => ?_)
  · replace h := ga_iff c_1 h
    have hP9 := hP.sub (ws' := []) [] rfl
    have hD9 := hD.sub (ws' := []) [] (by decide) rfl
    obtain rfl := Option.some.inj h
    refine W.widen (k := 1) (n := 6) (by decide) (by decide) ?_
    refine vx_ret ?_
    exact W.vret hx hb hr (fun t ht hW => ⟨⟨(), rfl, ⟨_, rfl, rfl⟩, ⟨by rw [ht]; exact hP9, hK.warm hW, hD9⟩⟩, hS.F ht⟩) hS.2.2 dX1_checkFound_12
  · replace h := ga_ift c_1 h
    have hP9 := hP.sub (ws' := []) [] rfl
    have hD9 := hD.sub (ws' := []) [] (by decide) rfl
    obtain rfl := Option.some.inj h
    exact vx_throw0 hx hb hX.2 (own := RX1) (cls := "java/util/NoSuchElementException") (names := ["java/lang/RuntimeException", "java/lang/Exception"]) (ik := 19) (ic := 21) hown (by decide) (by decide) (hts _ q967) (hts _ q99) (wx_4_21 hts hK) wg_4_21 hST.1 hST.2.1 hS (hl.1.trans hml.symm) dX1_checkFound_4 dX1_checkFound_7 dX1_checkFound_8 dX1_checkFound_11 (fun x hx9 => (hX.1 x hx9).elim) (Nat.le_of_ble_eq_true rfl) (Nat.le_of_ble_eq_true rfl) (Nat.le_of_ble_eq_true rfl) (Nat.le_of_ble_eq_true rfl) hlocks (fun _ t hal hz hk => ⟨4, rfl, ⟨rfl, ga_pk hP9 hk, hD9⟩, ga_vf hS hz hk⟩) hS.2.2 (by decide) (by decide)
abbrev rm_X1_checkPlayer : Room := { frames := 7, cells := 1, slots := 6, locals := 121 }
def F_X1_checkPlayer (N : Nat)  (x0 : Int32) : Option (Unit ⊕ Nat) :=
  ((F_X1_checkIndex N x0 2).bind fun r_1 => ga_sw r_1 (fun v_10 =>
  some (.inl ())) (fun u_6 =>
  some (.inr u_6)))
set_option maxHeartbeats 4000000 in
theorem met_X1_checkPlayer (l : Launch) (D : va_G) (cA : Nat → ClassId) (A : Nat → Prop) (zs : Nat → Nat)  (N : Nat) (x0 : Int32)  (hstk : l.stackTraces = false) (out : Unit ⊕ Nat) (h : F_X1_checkPlayer N x0 = some out) : vx_Met l yX1_checkPlayer (ws_ yX1_checkPlayer cX1_checkPlayer 1 none) rm_X1_checkPlayer (ga_X D cA zs A [] [.int x0]) (va_Qv (fun (u : Unit) => ∃ v, out = .inl v ∧ v = u) (fun (u : Unit) (t : State) => va_P D ga_cl [] t.heap ∧ ga_K D cA t ∧ va_D A []) A) (vx_X (fun (u : Nat) => out = .inr u) (fun (E : String) (q9 : Nat) (u : Nat) (t : State) => E = ga_en u ∧ va_P D ga_cl [] t.heap ∧ va_D A []) A) 1 6 A := by
  refine vx_ofW (cc := cX1_checkPlayer) (maxL := 1) (ret := none) (by decide) rfl ?_
  intro p e s m args below meth c s₁ B hml htab hv
  have hX : ga_cx2 c l := ⟨htab, hstk⟩
  obtain ⟨rfl, hP, hK, hD, hA, hST⟩ := hv
  have hS : va_S A s.heap s.heap [] := va_S.rf
  have C : ga_cx p m c meth s _ RX1 cX1_checkPlayer 1 none := ga_cx_of B hml
  have C0 := C
  obtain ⟨hx, hb, hr, hlocks, hml, hown, hts⟩ := C0
  have hl := lv_entry ([.int x0]) (n := 1) (Nat.le_of_ble_eq_true rfl)
  rw [lg_entry_eq]
  generalize (lg_sl ([.int x0]) ++ List.replicate (1 - (lg_sl ([.int x0])).length) Slot.unset).toArray = ls at hl ⊢
  have hl : lv_has ls 1 [(0, .int x0)] := hl
  rw [F_X1_checkPlayer] at h
  refine lv_iload_n hx hb dX1_checkPlayer_0 rfl (lv_at hl 0 rfl) ?_
  refine lv_iconst (v := 2) hx hb dX1_checkPlayer_1 (by decide) ?_
  obtain ⟨r_1, e_2, h⟩ := ga_gb h
  have hFc := va_free (wc := []) hD hS hA [] rfl
  refine vx_callv (vx_runS (As := [.int x0, .int 2]) (rest := []) ⟨hx, hb, hml, hown, hts⟩ (met_X1_checkIndex l D cA (va_A [] s.heap.size) zs N x0 2 hX.2 r_1 e_2) (va_cwS 2 hts (lw_S q625 q626 q67 q627) rfl rfl rfl (by decide +kernel) ⟨Nat.le_of_ble_eq_true rfl, Nat.le_of_ble_eq_true rfl⟩) (ga_XS hK ga_P0 (hD.sub (ws' := []) [] (by decide) rfl).self (fun _ hq => Or.inr hq) (hST.at hS hFc)) rfl rfl hl.1 rfl (lv_room (Nat.le_of_ble_eq_true rfl)) dX1_checkPlayer_2 ⟨Nat.le_of_ble_eq_true rfl, Nat.le_of_ble_eq_true rfl⟩) hS (fun q _ hq => hFc q hq) hFc (fun q _ hq => hFc q hq) (fun E_8 ce q_9 u_6 t H_7 locs ht _ w_4 hB _ hk hS hce hcv hcl => ?_) (fun u_6 t H_5 locs ht _ w_4 hB _ hk hS => ?_)
  · replace h := ga_swr w_4 h
    obtain ⟨eE, hP1, hD1⟩ := hB
    rw [ht] at hP1
    obtain ⟨hP, hD⟩ := va_join (wr := []) (w1 := []) hP hD [] [] rfl rfl (by decide) (by decide) hk hFc hP1 hD1
    have hP : va_P D ga_cl [] H_7 := hP
    have hD : va_D A [] := hD
    have hP9 := hP.sub (ws' := []) [] rfl
    have hD9 := hD.sub (ws' := []) [] (by decide) rfl
    obtain rfl := Option.some.inj h
    exact vx_out (fun x hx9 => (hX.1 x hx9).elim) hlocks hce hcv hcl (fun t ht _ => ⟨u_6, rfl, ⟨eE, by rw [ht]; exact hP9, hD9⟩, hS.F ht⟩) hS.2.2 (by decide) (by decide)
  · obtain ⟨v_10, ev_10, hv9⟩ := w_4
    replace h := ga_swl ev_10 h
    obtain rfl := hv9
    obtain ⟨hP1, -, hD1⟩ := hB
    rw [ht] at hP1
    obtain ⟨hP, hD⟩ := va_join (wr := []) (w1 := []) hP hD [] [] rfl rfl (by decide) (by decide) hk hFc hP1 hD1
    have hP : va_P D ga_cl [] H_5 := hP
    have hD : va_D A [] := hD
    refine W.cs (cells' := 1) (slots' := 6) rfl rfl ?_
    have hP9 := hP.sub (ws' := []) [] rfl
    have hD9 := hD.sub (ws' := []) [] (by decide) rfl
    obtain rfl := Option.some.inj h
    refine vx_ret ?_
    exact W.vret hx hb hr (fun t ht hW => ⟨⟨(), rfl, ⟨_, rfl, rfl⟩, ⟨by rw [ht]; exact hP9, hK.warm hW, hD9⟩⟩, hS.F ht⟩) hS.2.2 dX1_checkPlayer_5
abbrev rm_X1_checkCell : Room := { frames := 7, cells := 1, slots := 6, locals := 121 }
def F_X1_checkCell (N : Nat) (xl : Int32) (gr : Int32) (zw : Int32) (zh : Int32) (zA : Int64) (zL : Int64) (zR : Int64) (zE : Int64) (x1 : Int32) : Option (Unit ⊕ Nat) :=
  ((F_X1_checkIndex N x1 (zw * zh)).bind fun r_6 => ga_sw r_6 (fun v_15 =>
  some (.inl ())) (fun u_11 =>
  some (.inr u_11)))
set_option maxHeartbeats 4000000 in
theorem met_X1_checkCell (l : Launch) (D : va_G) (cA : Nat → ClassId) (A : Nat → Prop) (x : Nat) (g : Nat) (xs : Value) (xp : Value) (xi : Nat) (xr : Value) (xq : Value) (sh : Nat) (al : Nat) (g_b : Nat) (g_t : Nat) (zs : Nat → Nat) (xl : Int32) (gr : Int32) (zw : Int32) (zh : Int32) (zA : Int64) (zL : Int64) (zR : Int64) (zE : Int64) (N : Nat) (x1 : Int32)  (hstk : l.stackTraces = false) (out : Unit ⊕ Nat) (h : F_X1_checkCell N xl gr zw zh zA zL zR zE x1 = some out) : vx_Met l yX1_checkCell (ws_ yX1_checkCell cX1_checkCell 2 none) rm_X1_checkCell (ga_X D cA zs A [(x, .inr (1, [.ref g, xs, xp, .ref xi, .int xl, xr, xq])), (g, .inr (2, [.ref sh, .ref al, .int gr, .ref g_b, .ref g_t])), (sh, .inr (4, [.int zw, .int zh, .long zA, .long zL, .long zR, .long zE]))] [.ref x, .int x1]) (va_Qv (fun (u : Unit) => ∃ v, out = .inl v ∧ v = u) (fun (u : Unit) (t : State) => va_P D ga_cl [(x, .inr (1, [.ref g, xs, xp, .ref xi, .int xl, xr, xq])), (g, .inr (2, [.ref sh, .ref al, .int gr, .ref g_b, .ref g_t])), (sh, .inr (4, [.int zw, .int zh, .long zA, .long zL, .long zR, .long zE]))] t.heap ∧ ga_K D cA t ∧ va_D A [(x, .inr (1, [.ref g, xs, xp, .ref xi, .int xl, xr, xq])), (g, .inr (2, [.ref sh, .ref al, .int gr, .ref g_b, .ref g_t])), (sh, .inr (4, [.int zw, .int zh, .long zA, .long zL, .long zR, .long zE]))]) A) (vx_X (fun (u : Nat) => out = .inr u) (fun (E : String) (q9 : Nat) (u : Nat) (t : State) => E = ga_en u ∧ va_P D ga_cl [(x, .inr (1, [.ref g, xs, xp, .ref xi, .int xl, xr, xq])), (g, .inr (2, [.ref sh, .ref al, .int gr, .ref g_b, .ref g_t])), (sh, .inr (4, [.int zw, .int zh, .long zA, .long zL, .long zR, .long zE]))] t.heap ∧ va_D A [(x, .inr (1, [.ref g, xs, xp, .ref xi, .int xl, xr, xq])), (g, .inr (2, [.ref sh, .ref al, .int gr, .ref g_b, .ref g_t])), (sh, .inr (4, [.int zw, .int zh, .long zA, .long zL, .long zR, .long zE]))]) A) 1 6 A := by
  refine vx_ofW (cc := cX1_checkCell) (maxL := 2) (ret := none) (by decide) rfl ?_
  intro p e s m args below meth c s₁ B hml htab hv
  have hX : ga_cx2 c l := ⟨htab, hstk⟩
  obtain ⟨rfl, hP, hK, hD, hA, hST⟩ := hv
  have hS : va_S A s.heap s.heap [] := va_S.rf
  have C : ga_cx p m c meth s _ RX1 cX1_checkCell 2 none := ga_cx_of B hml
  have C0 := C
  obtain ⟨hx, hb, hr, hlocks, hml, hown, hts⟩ := C0
  have hl := lv_entry ([.ref x, .int x1]) (n := 2) (Nat.le_of_ble_eq_true rfl)
  rw [lg_entry_eq]
  generalize (lg_sl ([.ref x, .int x1]) ++ List.replicate (2 - (lg_sl ([.ref x, .int x1])).length) Slot.unset).toArray = ls at hl ⊢
  have hl : lv_has ls 2 [(0, .ref x), (1, .int x1)] := hl
  rw [F_X1_checkCell] at h
  refine lv_iload_n hx hb dX1_checkCell_0 rfl (lv_at hl 1 rfl) ?_
  refine lv_aload_n hx hb dX1_checkCell_1 rfl (lv_at hl 0 rfl) ?_
  refine va_get hx hb hts in_X1 hown hK.1 hP 0 (fs := [.ref g, xs, xp, .ref xi, .int xl, xr, xq]) rfl rfl 0 (by decide) (hts _ q350) (fun _ hh => hh) (v := .ref g) rfl dX1_checkCell_2 ?_
  refine va_getN hx hb hts in_X2 hown hK.1 hP 1 (fs := [.ref sh, .ref al, .int gr, .ref g_b, .ref g_t]) rfl rfl 0 (by decide) (ga_nu hK q329 rfl) (fun _ hh => hh) (v := .ref sh) rfl dX1_checkCell_5 ?_
  refine vp_callSi (va_Run.run (va_runV (As := []) (rest := [.int x1]) ⟨hx, hb, hml, hown, hts⟩ (met_X4_cells l D cA sh zw zh zA zL zR zE N (zw * zh) rfl) (cwV 0 hts (lw_V q661 q662 q663 q73 q664) rfl rfl rfl (by decide +kernel) ⟨Nat.le_of_ble_eq_true rfl, Nat.le_of_ble_eq_true rfl⟩) (ga_PV hK (hP.sub (ws' := [(sh, .inr (4, [.int zw, .int zh, .long zA, .long zL, .long zR, .long zE]))]) [2] rfl) (va_recv hK.1 hP (ci := 4) (q0 := 2) rfl rfl)) rfl rfl hl.1 rfl (lv_room (Nat.le_of_ble_eq_true rfl)) dX1_checkCell_8 ⟨Nat.le_of_ble_eq_true rfl, Nat.le_of_ble_eq_true rfl⟩)) (fun z_3 w_4 => ?_)
  obtain rfl := w_4
  obtain ⟨r_6, e_7, h⟩ := ga_gb h
  have hFc := va_free (wc := []) hD hS hA [] rfl
  refine vx_callv (vx_runS (As := [.int x1, .int (zw * zh)]) (rest := []) ⟨hx, hb, hml, hown, hts⟩ (met_X1_checkIndex l D cA (va_A [] s.heap.size) zs N x1 (zw * zh) hX.2 r_6 e_7) (va_cwS 2 hts (lw_S q625 q626 q67 q627) rfl rfl rfl (by decide +kernel) ⟨Nat.le_of_ble_eq_true rfl, Nat.le_of_ble_eq_true rfl⟩) (ga_XS hK ga_P0 (hD.sub (ws' := []) [] (by decide) rfl).self (fun _ hq => Or.inr hq) (hST.at hS hFc)) rfl rfl hl.1 rfl (lv_room (Nat.le_of_ble_eq_true rfl)) dX1_checkCell_11 ⟨Nat.le_of_ble_eq_true rfl, Nat.le_of_ble_eq_true rfl⟩) hS (fun q _ hq => hFc q hq) hFc (fun q _ hq => hFc q hq) (fun E_13 ce q_14 u_11 t H_12 locs ht _ w_9 hB _ hk hS hce hcv hcl => ?_) (fun u_11 t H_10 locs ht _ w_9 hB _ hk hS => ?_)
  · replace h := ga_swr w_9 h
    obtain ⟨eE, hP1, hD1⟩ := hB
    rw [ht] at hP1
    obtain ⟨hP, hD⟩ := va_join (wr := [(x, .inr (1, [.ref g, xs, xp, .ref xi, .int xl, xr, xq])), (g, .inr (2, [.ref sh, .ref al, .int gr, .ref g_b, .ref g_t])), (sh, .inr (4, [.int zw, .int zh, .long zA, .long zL, .long zR, .long zE]))]) (w1 := []) hP hD [] [0, 1, 2] rfl rfl (by decide) (by decide) hk hFc hP1 hD1
    have hP : va_P D ga_cl [(x, .inr (1, [.ref g, xs, xp, .ref xi, .int xl, xr, xq])), (g, .inr (2, [.ref sh, .ref al, .int gr, .ref g_b, .ref g_t])), (sh, .inr (4, [.int zw, .int zh, .long zA, .long zL, .long zR, .long zE]))] H_12 := hP
    have hD : va_D A [(x, .inr (1, [.ref g, xs, xp, .ref xi, .int xl, xr, xq])), (g, .inr (2, [.ref sh, .ref al, .int gr, .ref g_b, .ref g_t])), (sh, .inr (4, [.int zw, .int zh, .long zA, .long zL, .long zR, .long zE]))] := hD
    have hP9 := hP.sub (ws' := [(x, .inr (1, [.ref g, xs, xp, .ref xi, .int xl, xr, xq])), (g, .inr (2, [.ref sh, .ref al, .int gr, .ref g_b, .ref g_t])), (sh, .inr (4, [.int zw, .int zh, .long zA, .long zL, .long zR, .long zE]))]) [0, 1, 2] rfl
    have hD9 := hD.sub (ws' := [(x, .inr (1, [.ref g, xs, xp, .ref xi, .int xl, xr, xq])), (g, .inr (2, [.ref sh, .ref al, .int gr, .ref g_b, .ref g_t])), (sh, .inr (4, [.int zw, .int zh, .long zA, .long zL, .long zR, .long zE]))]) [0, 1, 2] (by decide) rfl
    obtain rfl := Option.some.inj h
    exact vx_out (fun x hx9 => (hX.1 x hx9).elim) hlocks hce hcv hcl (fun t ht _ => ⟨u_11, rfl, ⟨eE, by rw [ht]; exact hP9, hD9⟩, hS.F ht⟩) hS.2.2 (by decide) (by decide)
  · obtain ⟨v_15, ev_15, hv9⟩ := w_9
    replace h := ga_swl ev_15 h
    obtain rfl := hv9
    obtain ⟨hP1, -, hD1⟩ := hB
    rw [ht] at hP1
    obtain ⟨hP, hD⟩ := va_join (wr := [(x, .inr (1, [.ref g, xs, xp, .ref xi, .int xl, xr, xq])), (g, .inr (2, [.ref sh, .ref al, .int gr, .ref g_b, .ref g_t])), (sh, .inr (4, [.int zw, .int zh, .long zA, .long zL, .long zR, .long zE]))]) (w1 := []) hP hD [] [0, 1, 2] rfl rfl (by decide) (by decide) hk hFc hP1 hD1
    have hP : va_P D ga_cl [(x, .inr (1, [.ref g, xs, xp, .ref xi, .int xl, xr, xq])), (g, .inr (2, [.ref sh, .ref al, .int gr, .ref g_b, .ref g_t])), (sh, .inr (4, [.int zw, .int zh, .long zA, .long zL, .long zR, .long zE]))] H_10 := hP
    have hD : va_D A [(x, .inr (1, [.ref g, xs, xp, .ref xi, .int xl, xr, xq])), (g, .inr (2, [.ref sh, .ref al, .int gr, .ref g_b, .ref g_t])), (sh, .inr (4, [.int zw, .int zh, .long zA, .long zL, .long zR, .long zE]))] := hD
    refine W.cs (cells' := 1) (slots' := 6) rfl rfl ?_
    have hP9 := hP.sub (ws' := [(x, .inr (1, [.ref g, xs, xp, .ref xi, .int xl, xr, xq])), (g, .inr (2, [.ref sh, .ref al, .int gr, .ref g_b, .ref g_t])), (sh, .inr (4, [.int zw, .int zh, .long zA, .long zL, .long zR, .long zE]))]) [0, 1, 2] rfl
    have hD9 := hD.sub (ws' := [(x, .inr (1, [.ref g, xs, xp, .ref xi, .int xl, xr, xq])), (g, .inr (2, [.ref sh, .ref al, .int gr, .ref g_b, .ref g_t])), (sh, .inr (4, [.int zw, .int zh, .long zA, .long zL, .long zR, .long zE]))]) [0, 1, 2] (by decide) rfl
    obtain rfl := Option.some.inj h
    refine vx_ret ?_
    exact W.vret hx hb hr (fun t ht hW => ⟨⟨(), rfl, ⟨_, rfl, rfl⟩, ⟨by rw [ht]; exact hP9, hK.warm hW, hD9⟩⟩, hS.F ht⟩) hS.2.2 dX1_checkCell_14
abbrev rm_X1_checkChoice : Room := { frames := 8, cells := 1, slots := 6, locals := 142 }
def F_X1_checkChoice (N : Nat) (xl : Int32) (gr : Int32) (zw : Int32) (zh : Int32) (zA : Int64) (zL : Int64) (zR : Int64) (zE : Int64) (x1 : Int32) : Option (Unit ⊕ Nat) :=
  (if x1 = (-1) then
  some (.inl ())
  else
  ((F_X1_checkCell N xl gr zw zh zA zL zR zE x1).bind fun r_2 => ga_sw r_2 (fun v_11 =>
  some (.inl ())) (fun u_7 =>
  some (.inr u_7))))
set_option maxHeartbeats 4000000 in
theorem met_X1_checkChoice (l : Launch) (D : va_G) (cA : Nat → ClassId) (A : Nat → Prop) (x : Nat) (g : Nat) (xs : Value) (xp : Value) (xi : Nat) (xr : Value) (xq : Value) (sh : Nat) (al : Nat) (g_b : Nat) (g_t : Nat) (zs : Nat → Nat) (xl : Int32) (gr : Int32) (zw : Int32) (zh : Int32) (zA : Int64) (zL : Int64) (zR : Int64) (zE : Int64) (N : Nat) (x1 : Int32)  (hstk : l.stackTraces = false) (out : Unit ⊕ Nat) (h : F_X1_checkChoice N xl gr zw zh zA zL zR zE x1 = some out) : vx_Met l yX1_checkChoice (ws_ yX1_checkChoice cX1_checkChoice 2 none) rm_X1_checkChoice (ga_X D cA zs A [(x, .inr (1, [.ref g, xs, xp, .ref xi, .int xl, xr, xq])), (g, .inr (2, [.ref sh, .ref al, .int gr, .ref g_b, .ref g_t])), (sh, .inr (4, [.int zw, .int zh, .long zA, .long zL, .long zR, .long zE]))] [.ref x, .int x1]) (va_Qv (fun (u : Unit) => ∃ v, out = .inl v ∧ v = u) (fun (u : Unit) (t : State) => va_P D ga_cl [(x, .inr (1, [.ref g, xs, xp, .ref xi, .int xl, xr, xq])), (g, .inr (2, [.ref sh, .ref al, .int gr, .ref g_b, .ref g_t])), (sh, .inr (4, [.int zw, .int zh, .long zA, .long zL, .long zR, .long zE]))] t.heap ∧ ga_K D cA t ∧ va_D A [(x, .inr (1, [.ref g, xs, xp, .ref xi, .int xl, xr, xq])), (g, .inr (2, [.ref sh, .ref al, .int gr, .ref g_b, .ref g_t])), (sh, .inr (4, [.int zw, .int zh, .long zA, .long zL, .long zR, .long zE]))]) A) (vx_X (fun (u : Nat) => out = .inr u) (fun (E : String) (q9 : Nat) (u : Nat) (t : State) => E = ga_en u ∧ va_P D ga_cl [(x, .inr (1, [.ref g, xs, xp, .ref xi, .int xl, xr, xq])), (g, .inr (2, [.ref sh, .ref al, .int gr, .ref g_b, .ref g_t])), (sh, .inr (4, [.int zw, .int zh, .long zA, .long zL, .long zR, .long zE]))] t.heap ∧ va_D A [(x, .inr (1, [.ref g, xs, xp, .ref xi, .int xl, xr, xq])), (g, .inr (2, [.ref sh, .ref al, .int gr, .ref g_b, .ref g_t])), (sh, .inr (4, [.int zw, .int zh, .long zA, .long zL, .long zR, .long zE]))]) A) 1 6 A := by
  refine vx_ofW (cc := cX1_checkChoice) (maxL := 2) (ret := none) (by decide) rfl ?_
  intro p e s m args below meth c s₁ B hml htab hv
  have hX : ga_cx2 c l := ⟨htab, hstk⟩
  obtain ⟨rfl, hP, hK, hD, hA, hST⟩ := hv
  have hS : va_S A s.heap s.heap [] := va_S.rf
  have C : ga_cx p m c meth s _ RX1 cX1_checkChoice 2 none := ga_cx_of B hml
  have C0 := C
  obtain ⟨hx, hb, hr, hlocks, hml, hown, hts⟩ := C0
  have hl := lv_entry ([.ref x, .int x1]) (n := 2) (Nat.le_of_ble_eq_true rfl)
  rw [lg_entry_eq]
  generalize (lg_sl ([.ref x, .int x1]) ++ List.replicate (2 - (lg_sl ([.ref x, .int x1])).length) Slot.unset).toArray = ls at hl ⊢
  have hl : lv_has ls 2 [(0, .ref x), (1, .int x1)] := hl
  rw [F_X1_checkChoice] at h
  refine lv_iload_n hx hb dX1_checkChoice_0 rfl (lv_at hl 1 rfl) ?_
  refine lv_iconst (v := (-1)) hx hb dX1_checkChoice_1 (by decide) ?_
  refine lv_icmp_eq (tgt := 10) hx hb dX1_checkChoice_2 (by decide) (fun c_1 => ?_) (fun c_1 => ?_)
  · replace h := ga_ift c_1 h
    have hP9 := hP.sub (ws' := [(x, .inr (1, [.ref g, xs, xp, .ref xi, .int xl, xr, xq])), (g, .inr (2, [.ref sh, .ref al, .int gr, .ref g_b, .ref g_t])), (sh, .inr (4, [.int zw, .int zh, .long zA, .long zL, .long zR, .long zE]))]) [0, 1, 2] rfl
    have hD9 := hD.sub (ws' := [(x, .inr (1, [.ref g, xs, xp, .ref xi, .int xl, xr, xq])), (g, .inr (2, [.ref sh, .ref al, .int gr, .ref g_b, .ref g_t])), (sh, .inr (4, [.int zw, .int zh, .long zA, .long zL, .long zR, .long zE]))]) [0, 1, 2] (by decide) rfl
    obtain rfl := Option.some.inj h
    refine W.widen (k := 1) (n := 6) (by decide) (by decide) ?_
    refine vx_ret ?_
    exact W.vret hx hb hr (fun t ht hW => ⟨⟨(), rfl, ⟨_, rfl, rfl⟩, ⟨by rw [ht]; exact hP9, hK.warm hW, hD9⟩⟩, hS.F ht⟩) hS.2.2 dX1_checkChoice_10
  · replace h := ga_iff c_1 h
    refine lv_aload_n hx hb dX1_checkChoice_5 rfl (lv_at hl 0 rfl) ?_
    refine lv_iload_n hx hb dX1_checkChoice_6 rfl (lv_at hl 1 rfl) ?_
    obtain ⟨r_2, e_3, h⟩ := ga_gb h
    have hFc := va_free (wc := [(x, .inr (1, [.ref g, xs, xp, .ref xi, .int xl, xr, xq])), (g, .inr (2, [.ref sh, .ref al, .int gr, .ref g_b, .ref g_t])), (sh, .inr (4, [.int zw, .int zh, .long zA, .long zL, .long zR, .long zE]))]) hD hS hA [0, 1, 2] rfl
    refine vx_callv (vx_runV (As := [.int x1]) (rest := []) ⟨hx, hb, hml, hown, hts⟩ (met_X1_checkCell l D cA (va_A [(x, .inr (1, [.ref g, xs, xp, .ref xi, .int xl, xr, xq])), (g, .inr (2, [.ref sh, .ref al, .int gr, .ref g_b, .ref g_t])), (sh, .inr (4, [.int zw, .int zh, .long zA, .long zL, .long zR, .long zE]))] s.heap.size) x g xs xp xi xr xq sh al g_b g_t zs xl gr zw zh zA zL zR zE N x1 hX.2 r_2 e_3) (cwV 1 hts (lw_V q657 q659 qs6 q67 q660) rfl rfl rfl (by decide +kernel) ⟨Nat.le_of_ble_eq_true rfl, Nat.le_of_ble_eq_true rfl⟩) (ga_XV hK (hP.sub (ws' := [(x, .inr (1, [.ref g, xs, xp, .ref xi, .int xl, xr, xq])), (g, .inr (2, [.ref sh, .ref al, .int gr, .ref g_b, .ref g_t])), (sh, .inr (4, [.int zw, .int zh, .long zA, .long zL, .long zR, .long zE]))]) [0, 1, 2] rfl) (hD.sub (ws' := [(x, .inr (1, [.ref g, xs, xp, .ref xi, .int xl, xr, xq])), (g, .inr (2, [.ref sh, .ref al, .int gr, .ref g_b, .ref g_t])), (sh, .inr (4, [.int zw, .int zh, .long zA, .long zL, .long zR, .long zE]))]) [0, 1, 2] (by decide) rfl).self (fun _ hq => Or.inr hq) (hST.at hS hFc) (va_recv hK.1 hP (ci := 1) (q0 := 0) rfl rfl)) rfl rfl hl.1 rfl (lv_room (Nat.le_of_ble_eq_true rfl)) dX1_checkChoice_7 ⟨Nat.le_of_ble_eq_true rfl, Nat.le_of_ble_eq_true rfl⟩) hS (fun q _ hq => hFc q hq) hFc (fun q _ hq => hFc q hq) (fun E_9 ce q_10 u_7 t H_8 locs ht _ w_5 hB _ hk hS hce hcv hcl => ?_) (fun u_7 t H_6 locs ht _ w_5 hB _ hk hS => ?_)
    · replace h := ga_swr w_5 h
      obtain ⟨eE, hP1, hD1⟩ := hB
      rw [ht] at hP1
      obtain ⟨hP, hD⟩ := va_join (wr := []) (w1 := [(x, .inr (1, [.ref g, xs, xp, .ref xi, .int xl, xr, xq])), (g, .inr (2, [.ref sh, .ref al, .int gr, .ref g_b, .ref g_t])), (sh, .inr (4, [.int zw, .int zh, .long zA, .long zL, .long zR, .long zE]))]) hP hD [0, 1, 2] [] rfl rfl (by decide) (by decide) hk hFc hP1 hD1
      have hP : va_P D ga_cl [(x, .inr (1, [.ref g, xs, xp, .ref xi, .int xl, xr, xq])), (g, .inr (2, [.ref sh, .ref al, .int gr, .ref g_b, .ref g_t])), (sh, .inr (4, [.int zw, .int zh, .long zA, .long zL, .long zR, .long zE]))] H_8 := hP
      have hD : va_D A [(x, .inr (1, [.ref g, xs, xp, .ref xi, .int xl, xr, xq])), (g, .inr (2, [.ref sh, .ref al, .int gr, .ref g_b, .ref g_t])), (sh, .inr (4, [.int zw, .int zh, .long zA, .long zL, .long zR, .long zE]))] := hD
      have hP9 := hP.sub (ws' := [(x, .inr (1, [.ref g, xs, xp, .ref xi, .int xl, xr, xq])), (g, .inr (2, [.ref sh, .ref al, .int gr, .ref g_b, .ref g_t])), (sh, .inr (4, [.int zw, .int zh, .long zA, .long zL, .long zR, .long zE]))]) [0, 1, 2] rfl
      have hD9 := hD.sub (ws' := [(x, .inr (1, [.ref g, xs, xp, .ref xi, .int xl, xr, xq])), (g, .inr (2, [.ref sh, .ref al, .int gr, .ref g_b, .ref g_t])), (sh, .inr (4, [.int zw, .int zh, .long zA, .long zL, .long zR, .long zE]))]) [0, 1, 2] (by decide) rfl
      obtain rfl := Option.some.inj h
      exact vx_out (fun x hx9 => (hX.1 x hx9).elim) hlocks hce hcv hcl (fun t ht _ => ⟨u_7, rfl, ⟨eE, by rw [ht]; exact hP9, hD9⟩, hS.F ht⟩) hS.2.2 (by decide) (by decide)
    · obtain ⟨v_11, ev_11, hv9⟩ := w_5
      replace h := ga_swl ev_11 h
      obtain rfl := hv9
      obtain ⟨hP1, -, hD1⟩ := hB
      rw [ht] at hP1
      obtain ⟨hP, hD⟩ := va_join (wr := []) (w1 := [(x, .inr (1, [.ref g, xs, xp, .ref xi, .int xl, xr, xq])), (g, .inr (2, [.ref sh, .ref al, .int gr, .ref g_b, .ref g_t])), (sh, .inr (4, [.int zw, .int zh, .long zA, .long zL, .long zR, .long zE]))]) hP hD [0, 1, 2] [] rfl rfl (by decide) (by decide) hk hFc hP1 hD1
      have hP : va_P D ga_cl [(x, .inr (1, [.ref g, xs, xp, .ref xi, .int xl, xr, xq])), (g, .inr (2, [.ref sh, .ref al, .int gr, .ref g_b, .ref g_t])), (sh, .inr (4, [.int zw, .int zh, .long zA, .long zL, .long zR, .long zE]))] H_6 := hP
      have hD : va_D A [(x, .inr (1, [.ref g, xs, xp, .ref xi, .int xl, xr, xq])), (g, .inr (2, [.ref sh, .ref al, .int gr, .ref g_b, .ref g_t])), (sh, .inr (4, [.int zw, .int zh, .long zA, .long zL, .long zR, .long zE]))] := hD
      refine W.cs (cells' := 1) (slots' := 6) rfl rfl ?_
      have hP9 := hP.sub (ws' := [(x, .inr (1, [.ref g, xs, xp, .ref xi, .int xl, xr, xq])), (g, .inr (2, [.ref sh, .ref al, .int gr, .ref g_b, .ref g_t])), (sh, .inr (4, [.int zw, .int zh, .long zA, .long zL, .long zR, .long zE]))]) [0, 1, 2] rfl
      have hD9 := hD.sub (ws' := [(x, .inr (1, [.ref g, xs, xp, .ref xi, .int xl, xr, xq])), (g, .inr (2, [.ref sh, .ref al, .int gr, .ref g_b, .ref g_t])), (sh, .inr (4, [.int zw, .int zh, .long zA, .long zL, .long zR, .long zE]))]) [0, 1, 2] (by decide) rfl
      obtain rfl := Option.some.inj h
      refine vx_ret ?_
      exact W.vret hx hb hr (fun t ht hW => ⟨⟨(), rfl, ⟨_, rfl, rfl⟩, ⟨by rw [ht]; exact hP9, hK.warm hW, hD9⟩⟩, hS.F ht⟩) hS.2.2 dX1_checkChoice_10
abbrev rm_X1_setRule : Room := { frames := 7, cells := 1, slots := 6, locals := 120 }
def F_X1_setRule (N : Nat) (xl : Int32) (gr : Int32) (x1 : Int32) : Option ((Int32 × Int32) ⊕ Nat) :=
  ((F_X1_inRange N x1 0 2).bind fun r_1 =>
  ((F_X1_checkArgument N r_1).bind fun r_6 => ga_sw r_6 (fun v_15 =>
  some (.inl (gr, x1))) (fun u_11 =>
  some (.inr u_11))))
set_option maxHeartbeats 4000000 in
theorem met_X1_setRule (l : Launch) (D : va_G) (cA : Nat → ClassId) (A : Nat → Prop) (x : Nat) (g : Nat) (xs : Value) (xp : Value) (xi : Nat) (xr : Value) (xq : Value) (sh : Nat) (al : Nat) (g_b : Nat) (g_t : Nat) (zs : Nat → Nat) (xl : Int32) (gr : Int32) (N : Nat) (x1 : Int32)  (hstk : l.stackTraces = false) (out : (Int32 × Int32) ⊕ Nat) (h : F_X1_setRule N xl gr x1 = some out) : vx_Met l yX1_setRule (ws_ yX1_setRule cX1_setRule 3 (some .int)) rm_X1_setRule (ga_X D cA zs A [(x, .inr (1, [.ref g, xs, xp, .ref xi, .int xl, xr, xq])), (g, .inr (2, [.ref sh, .ref al, .int gr, .ref g_b, .ref g_t]))] [.ref x, .int x1]) (va_Qi (fun (r : Int32) (u : Int32) => ∃ v, out = .inl v ∧ (v.1 = r) ∧ v.2 = u) (fun (u : Int32) (t : State) => va_P D ga_cl [(x, .inr (1, [.ref g, xs, xp, .ref xi, .int xl, xr, xq])), (g, .inr (2, [.ref sh, .ref al, .int u, .ref g_b, .ref g_t]))] t.heap ∧ ga_K D cA t ∧ va_D A [(x, .inr (1, [.ref g, xs, xp, .ref xi, .int xl, xr, xq])), (g, .inr (2, [.ref sh, .ref al, .int u, .ref g_b, .ref g_t]))]) A) (vx_X (fun (u : Nat) => out = .inr u) (fun (E : String) (q9 : Nat) (u : Nat) (t : State) => E = ga_en u ∧ va_P D ga_cl [(x, .inr (1, [.ref g, xs, xp, .ref xi, .int xl, xr, xq])), (g, .inr (2, [.ref sh, .ref al, .int gr, .ref g_b, .ref g_t]))] t.heap ∧ va_D A [(x, .inr (1, [.ref g, xs, xp, .ref xi, .int xl, xr, xq])), (g, .inr (2, [.ref sh, .ref al, .int gr, .ref g_b, .ref g_t]))]) A) 1 6 A := by
  refine vx_ofW (cc := cX1_setRule) (maxL := 3) (ret := (some .int)) (by decide) rfl ?_
  intro p e s m args below meth c s₁ B hml htab hv
  have hX : ga_cx2 c l := ⟨htab, hstk⟩
  obtain ⟨rfl, hP, hK, hD, hA, hST⟩ := hv
  have hS : va_S A s.heap s.heap [] := va_S.rf
  have C : ga_cx p m c meth s _ RX1 cX1_setRule 3 (some .int) := ga_cx_of B hml
  have C0 := C
  obtain ⟨hx, hb, hr, hlocks, hml, hown, hts⟩ := C0
  have hl := lv_entry ([.ref x, .int x1]) (n := 3) (Nat.le_of_ble_eq_true rfl)
  rw [lg_entry_eq]
  generalize (lg_sl ([.ref x, .int x1]) ++ List.replicate (3 - (lg_sl ([.ref x, .int x1])).length) Slot.unset).toArray = ls at hl ⊢
  have hl : lv_has ls 3 [(0, .ref x), (1, .int x1)] := hl
  rw [F_X1_setRule] at h
  refine lv_iload_n hx hb dX1_setRule_0 rfl (lv_at hl 1 rfl) ?_
  refine lv_iconst (v := 0) hx hb dX1_setRule_1 (by decide) ?_
  refine lv_iconst (v := 2) hx hb dX1_setRule_2 (by decide) ?_
  obtain ⟨r_1, e_2, h⟩ := ga_gb h
  refine vp_callSi (va_Run.run (va_runS (As := [.int x1, .int 0, .int 2]) (rest := []) ⟨hx, hb, hml, hown, hts⟩ (met_X1_inRange l D cA N x1 0 2 r_1 e_2) (va_cwS 3 hts (lw_S q487 q488 q67 q489) rfl rfl rfl (by decide +kernel) ⟨Nat.le_of_ble_eq_true rfl, Nat.le_of_ble_eq_true rfl⟩) (ga_PS hK ga_P0) rfl rfl hl.1 rfl (lv_room (Nat.le_of_ble_eq_true rfl)) dX1_setRule_3 ⟨Nat.le_of_ble_eq_true rfl, Nat.le_of_ble_eq_true rfl⟩)) (fun z_3 w_4 => ?_)
  obtain ⟨rfl, b_5⟩ := w_4
  obtain ⟨r_6, e_7, h⟩ := ga_gb h
  have hFc := va_free (wc := []) hD hS hA [] rfl
  refine vx_callv (vx_runS (As := [.int r_1]) (rest := []) ⟨hx, hb, hml, hown, hts⟩ (met_X1_checkArgument l D cA (va_A [] s.heap.size) zs N r_1 hX.2 r_6 e_7) (va_cwS 1 hts (lw_S q490 q491 q67 q492) rfl rfl rfl (by decide +kernel) ⟨Nat.le_of_ble_eq_true rfl, Nat.le_of_ble_eq_true rfl⟩) (ga_XS hK ga_P0 (hD.sub (ws' := []) [] (by decide) rfl).self (fun _ hq => Or.inr hq) (hST.at hS hFc)) rfl rfl hl.1 rfl (lv_room (Nat.le_of_ble_eq_true rfl)) dX1_setRule_6 ⟨Nat.le_of_ble_eq_true rfl, Nat.le_of_ble_eq_true rfl⟩) hS (fun q _ hq => hFc q hq) hFc (fun q _ hq => hFc q hq) (fun E_13 ce q_14 u_11 t H_12 locs ht _ w_9 hB _ hk hS hce hcv hcl => ?_) (fun u_11 t H_10 locs ht _ w_9 hB _ hk hS => ?_)
  · replace h := ga_swr w_9 h
    obtain ⟨eE, hP1, hD1⟩ := hB
    rw [ht] at hP1
    obtain ⟨hP, hD⟩ := va_join (wr := [(x, .inr (1, [.ref g, xs, xp, .ref xi, .int xl, xr, xq])), (g, .inr (2, [.ref sh, .ref al, .int gr, .ref g_b, .ref g_t]))]) (w1 := []) hP hD [] [0, 1] rfl rfl (by decide) (by decide) hk hFc hP1 hD1
    have hP : va_P D ga_cl [(x, .inr (1, [.ref g, xs, xp, .ref xi, .int xl, xr, xq])), (g, .inr (2, [.ref sh, .ref al, .int gr, .ref g_b, .ref g_t]))] H_12 := hP
    have hD : va_D A [(x, .inr (1, [.ref g, xs, xp, .ref xi, .int xl, xr, xq])), (g, .inr (2, [.ref sh, .ref al, .int gr, .ref g_b, .ref g_t]))] := hD
    have hP9 := hP.sub (ws' := [(x, .inr (1, [.ref g, xs, xp, .ref xi, .int xl, xr, xq])), (g, .inr (2, [.ref sh, .ref al, .int gr, .ref g_b, .ref g_t]))]) [0, 1] rfl
    have hD9 := hD.sub (ws' := [(x, .inr (1, [.ref g, xs, xp, .ref xi, .int xl, xr, xq])), (g, .inr (2, [.ref sh, .ref al, .int gr, .ref g_b, .ref g_t]))]) [0, 1] (by decide) rfl
    obtain rfl := Option.some.inj h
    exact vx_out (fun x hx9 => (hX.1 x hx9).elim) hlocks hce hcv hcl (fun t ht _ => ⟨u_11, rfl, ⟨eE, by rw [ht]; exact hP9, hD9⟩, hS.F ht⟩) hS.2.2 (by decide) (by decide)
  · obtain ⟨v_15, ev_15, hv9⟩ := w_9
    replace h := ga_swl ev_15 h
    obtain rfl := hv9
    obtain ⟨hP1, -, hD1⟩ := hB
    rw [ht] at hP1
    obtain ⟨hP, hD⟩ := va_join (wr := [(x, .inr (1, [.ref g, xs, xp, .ref xi, .int xl, xr, xq])), (g, .inr (2, [.ref sh, .ref al, .int gr, .ref g_b, .ref g_t]))]) (w1 := []) hP hD [] [0, 1] rfl rfl (by decide) (by decide) hk hFc hP1 hD1
    have hP : va_P D ga_cl [(x, .inr (1, [.ref g, xs, xp, .ref xi, .int xl, xr, xq])), (g, .inr (2, [.ref sh, .ref al, .int gr, .ref g_b, .ref g_t]))] H_10 := hP
    have hD : va_D A [(x, .inr (1, [.ref g, xs, xp, .ref xi, .int xl, xr, xq])), (g, .inr (2, [.ref sh, .ref al, .int gr, .ref g_b, .ref g_t]))] := hD
    refine W.cs (cells' := 1) (slots' := 6) rfl rfl ?_
    refine lv_aload_n hx hb dX1_setRule_9 rfl (lv_at hl 0 rfl) ?_
    refine va_get hx hb hts in_X1 hown hK.1 hP 0 (fs := [.ref g, xs, xp, .ref xi, .int xl, xr, xq]) rfl rfl 0 (by decide) (hts _ q350) (fun _ hh => hh) (v := .ref g) rfl dX1_setRule_10 ?_
    refine va_getN hx hb hts in_X2 hown hK.1 hP 1 (fs := [.ref sh, .ref al, .int gr, .ref g_b, .ref g_t]) rfl rfl 2 (by decide) (ga_nu hK q333 rfl) (fun _ hh => hh) (v := .int gr) rfl dX1_setRule_13 ?_
    refine lv_istore_n (lv' := [(2, .int gr), (0, .ref x), (1, .int x1)]) hx hb dX1_setRule_16 rfl hl (by decide) rfl (fun ls hl => ?_)
    refine lv_aload_n hx hb dX1_setRule_17 rfl (lv_at hl 1 rfl) ?_
    refine va_get hx hb hts in_X1 hown hK.1 hP 0 (fs := [.ref g, xs, xp, .ref xi, .int xl, xr, xq]) rfl rfl 0 (by decide) (hts _ q350) (fun _ hh => hh) (v := .ref g) rfl dX1_setRule_18 ?_
    refine lv_iload_n hx hb dX1_setRule_21 rfl (lv_at hl 2 rfl) ?_
    refine va_putN hx hb hts in_X2 tyX2 tyX2_ok nmX2 hown hK.1 hP hD hS 1 (fs := [.ref sh, .ref al, .int gr, .ref g_b, .ref g_t]) rfl rfl 2 (by decide) (ga_nu hK q333 rfl) (fun _ hh => hh) rfl (v := .int x1) rfl rfl rfl (show 2 < 5 by decide) dX1_setRule_22 (fun H_17 locs hP hD hS => ?_)
    have hP : va_P D ga_cl [(x, .inr (1, [.ref g, xs, xp, .ref xi, .int xl, xr, xq])), (g, .inr (2, [.ref sh, .ref al, .int x1, .ref g_b, .ref g_t]))] H_17 := hP
    have hD : va_D A [(x, .inr (1, [.ref g, xs, xp, .ref xi, .int xl, xr, xq])), (g, .inr (2, [.ref sh, .ref al, .int x1, .ref g_b, .ref g_t]))] := hD
    refine lv_iload_n hx hb dX1_setRule_25 rfl (lv_at hl 0 rfl) ?_
    have hP9 := hP.sub (ws' := [(x, .inr (1, [.ref g, xs, xp, .ref xi, .int xl, xr, xq])), (g, .inr (2, [.ref sh, .ref al, .int x1, .ref g_b, .ref g_t]))]) [0, 1] rfl
    have hD9 := hD.sub (ws' := [(x, .inr (1, [.ref g, xs, xp, .ref xi, .int xl, xr, xq])), (g, .inr (2, [.ref sh, .ref al, .int x1, .ref g_b, .ref g_t]))]) [0, 1] (by decide) rfl
    obtain rfl := Option.some.inj h
    refine vx_ret ?_
    exact W.iret hx hb hr (fun t ht hW => ⟨⟨_, x1, rfl, ⟨_, rfl, rfl, rfl⟩, ⟨by rw [ht]; exact hP9, hK.warm hW, hD9⟩⟩, hS.F ht⟩) hS.2.2 dX1_setRule_26
abbrev rm_X1_setBonus : Room := { frames := 8, cells := 2, slots := 12, locals := 141 }
def F_X1_setBonus (N : Nat) (xl : Int32) (gr : Int32) (gB : Nat → Int32) (x1 : Int32) (x2 : Int32) : Option ((Int32 × ((Nat → Int32))) ⊕ Nat) :=
  ((F_X1_checkPlayer N x1).bind fun r_1 => ga_sw r_1 (fun v_10 =>
  ((F_X1_inRange N x2 0 20).bind fun r_12 =>
  ((F_X1_checkArgument N r_12).bind fun r_17 => ga_sw r_17 (fun v_26 =>
  (if inb x1 2 = true then
  (if inb x1 2 = true then
  some (.inl ((gB (ix x1)), (upd gB (ix x1) x2)))
  else none)
  else none)) (fun u_22 =>
  some (.inr u_22))))) (fun u_6 =>
  some (.inr u_6)))
set_option maxHeartbeats 4000000 in
theorem met_X1_setBonus (l : Launch) (D : va_G) (cA : Nat → ClassId) (A : Nat → Prop) (x : Nat) (g : Nat) (xs : Value) (xp : Value) (xi : Nat) (xr : Value) (xq : Value) (sh : Nat) (al : Nat) (g_b : Nat) (g_t : Nat) (zs : Nat → Nat) (xl : Int32) (gr : Int32) (gB : Nat → Int32) (N : Nat) (x1 : Int32) (x2 : Int32)  (hstk : l.stackTraces = false) (out : (Int32 × ((Nat → Int32))) ⊕ Nat) (h : F_X1_setBonus N xl gr gB x1 x2 = some out) : vx_Met l yX1_setBonus (ws_ yX1_setBonus cX1_setBonus 4 (some .int)) rm_X1_setBonus (ga_X D cA zs A [(x, .inr (1, [.ref g, xs, xp, .ref xi, .int xl, xr, xq])), (g, .inr (2, [.ref sh, .ref al, .int gr, .ref g_b, .ref g_t])), (g_b, .inl (cA 0, 2, .inl gB))] [.ref x, .int x1, .int x2]) (va_Qi (fun (r : Int32) (u : (Nat → Int32)) => ∃ v, out = .inl v ∧ (v.1 = r) ∧ v.2 = u) (fun (u : (Nat → Int32)) (t : State) => va_P D ga_cl [(x, .inr (1, [.ref g, xs, xp, .ref xi, .int xl, xr, xq])), (g, .inr (2, [.ref sh, .ref al, .int gr, .ref g_b, .ref g_t])), (g_b, .inl (cA 0, 2, .inl u))] t.heap ∧ ga_K D cA t ∧ va_D A [(x, .inr (1, [.ref g, xs, xp, .ref xi, .int xl, xr, xq])), (g, .inr (2, [.ref sh, .ref al, .int gr, .ref g_b, .ref g_t])), (g_b, .inl (cA 0, 2, .inl u))]) A) (vx_X (fun (u : Nat) => out = .inr u) (fun (E : String) (q9 : Nat) (u : Nat) (t : State) => E = ga_en u ∧ va_P D ga_cl [(x, .inr (1, [.ref g, xs, xp, .ref xi, .int xl, xr, xq])), (g, .inr (2, [.ref sh, .ref al, .int gr, .ref g_b, .ref g_t])), (g_b, .inl (cA 0, 2, .inl gB))] t.heap ∧ va_D A [(x, .inr (1, [.ref g, xs, xp, .ref xi, .int xl, xr, xq])), (g, .inr (2, [.ref sh, .ref al, .int gr, .ref g_b, .ref g_t])), (g_b, .inl (cA 0, 2, .inl gB))]) A) 2 12 A := by
  refine vx_ofW (cc := cX1_setBonus) (maxL := 4) (ret := (some .int)) (by decide) rfl ?_
  intro p e s m args below meth c s₁ B hml htab hv
  have hX : ga_cx2 c l := ⟨htab, hstk⟩
  obtain ⟨rfl, hP, hK, hD, hA, hST⟩ := hv
  have hS : va_S A s.heap s.heap [] := va_S.rf
  have C : ga_cx p m c meth s _ RX1 cX1_setBonus 4 (some .int) := ga_cx_of B hml
  have C0 := C
  obtain ⟨hx, hb, hr, hlocks, hml, hown, hts⟩ := C0
  have hl := lv_entry ([.ref x, .int x1, .int x2]) (n := 4) (Nat.le_of_ble_eq_true rfl)
  rw [lg_entry_eq]
  generalize (lg_sl ([.ref x, .int x1, .int x2]) ++ List.replicate (4 - (lg_sl ([.ref x, .int x1, .int x2])).length) Slot.unset).toArray = ls at hl ⊢
  have hl : lv_has ls 4 [(0, .ref x), (1, .int x1), (2, .int x2)] := hl
  rw [F_X1_setBonus] at h
  refine lv_iload_n hx hb dX1_setBonus_0 rfl (lv_at hl 1 rfl) ?_
  obtain ⟨r_1, e_2, h⟩ := ga_gb h
  have hFc := va_free (wc := []) hD hS hA [] rfl
  refine vx_callv (vx_runS (As := [.int x1]) (rest := []) ⟨hx, hb, hml, hown, hts⟩ (met_X1_checkPlayer l D cA (va_A [] s.heap.size) zs N x1 hX.2 r_1 e_2) (va_cwS 1 hts (lw_S q622 q623 q67 q624) rfl rfl rfl (by decide +kernel) ⟨Nat.le_of_ble_eq_true rfl, Nat.le_of_ble_eq_true rfl⟩) (ga_XS hK ga_P0 (hD.sub (ws' := []) [] (by decide) rfl).self (fun _ hq => Or.inr hq) (hST.at hS hFc)) rfl rfl hl.1 rfl (lv_room (Nat.le_of_ble_eq_true rfl)) dX1_setBonus_1 ⟨Nat.le_of_ble_eq_true rfl, Nat.le_of_ble_eq_true rfl⟩) hS (fun q _ hq => hFc q hq) hFc (fun q _ hq => hFc q hq) (fun E_8 ce q_9 u_6 t H_7 locs ht _ w_4 hB _ hk hS hce hcv hcl => ?_) (fun u_6 t H_5 locs ht _ w_4 hB _ hk hS => ?_)
  · replace h := ga_swr w_4 h
    obtain ⟨eE, hP1, hD1⟩ := hB
    rw [ht] at hP1
    obtain ⟨hP, hD⟩ := va_join (wr := [(x, .inr (1, [.ref g, xs, xp, .ref xi, .int xl, xr, xq])), (g, .inr (2, [.ref sh, .ref al, .int gr, .ref g_b, .ref g_t])), (g_b, .inl (cA 0, 2, .inl gB))]) (w1 := []) hP hD [] [0, 1, 2] rfl rfl (by decide) (by decide) hk hFc hP1 hD1
    have hP : va_P D ga_cl [(x, .inr (1, [.ref g, xs, xp, .ref xi, .int xl, xr, xq])), (g, .inr (2, [.ref sh, .ref al, .int gr, .ref g_b, .ref g_t])), (g_b, .inl (cA 0, 2, .inl gB))] H_7 := hP
    have hD : va_D A [(x, .inr (1, [.ref g, xs, xp, .ref xi, .int xl, xr, xq])), (g, .inr (2, [.ref sh, .ref al, .int gr, .ref g_b, .ref g_t])), (g_b, .inl (cA 0, 2, .inl gB))] := hD
    have hP9 := hP.sub (ws' := [(x, .inr (1, [.ref g, xs, xp, .ref xi, .int xl, xr, xq])), (g, .inr (2, [.ref sh, .ref al, .int gr, .ref g_b, .ref g_t])), (g_b, .inl (cA 0, 2, .inl gB))]) [0, 1, 2] rfl
    have hD9 := hD.sub (ws' := [(x, .inr (1, [.ref g, xs, xp, .ref xi, .int xl, xr, xq])), (g, .inr (2, [.ref sh, .ref al, .int gr, .ref g_b, .ref g_t])), (g_b, .inl (cA 0, 2, .inl gB))]) [0, 1, 2] (by decide) rfl
    obtain rfl := Option.some.inj h
    exact vx_out (fun x hx9 => (hX.1 x hx9).elim) hlocks hce hcv hcl (fun t ht _ => ⟨u_6, rfl, ⟨eE, by rw [ht]; exact hP9, hD9⟩, hS.F ht⟩) hS.2.2 (by decide) (by decide)
  · obtain ⟨v_10, ev_10, hv9⟩ := w_4
    replace h := ga_swl ev_10 h
    obtain rfl := hv9
    obtain ⟨hP1, -, hD1⟩ := hB
    rw [ht] at hP1
    obtain ⟨hP, hD⟩ := va_join (wr := [(x, .inr (1, [.ref g, xs, xp, .ref xi, .int xl, xr, xq])), (g, .inr (2, [.ref sh, .ref al, .int gr, .ref g_b, .ref g_t])), (g_b, .inl (cA 0, 2, .inl gB))]) (w1 := []) hP hD [] [0, 1, 2] rfl rfl (by decide) (by decide) hk hFc hP1 hD1
    have hP : va_P D ga_cl [(x, .inr (1, [.ref g, xs, xp, .ref xi, .int xl, xr, xq])), (g, .inr (2, [.ref sh, .ref al, .int gr, .ref g_b, .ref g_t])), (g_b, .inl (cA 0, 2, .inl gB))] H_5 := hP
    have hD : va_D A [(x, .inr (1, [.ref g, xs, xp, .ref xi, .int xl, xr, xq])), (g, .inr (2, [.ref sh, .ref al, .int gr, .ref g_b, .ref g_t])), (g_b, .inl (cA 0, 2, .inl gB))] := hD
    refine W.cs (cells' := 1) (slots' := 6) rfl rfl ?_
    refine lv_iload_n hx hb dX1_setBonus_4 rfl (lv_at hl 2 rfl) ?_
    refine lv_iconst (v := 0) hx hb dX1_setBonus_5 (by decide) ?_
    refine lv_bipush (v := 20) hx hb dX1_setBonus_6 (by decide) ?_
    obtain ⟨r_12, e_13, h⟩ := ga_gb h
    refine vp_callSi (va_Run.run (va_runS (As := [.int x2, .int 0, .int 20]) (rest := []) ⟨hx, hb, hml, hown, hts⟩ (met_X1_inRange l D cA N x2 0 20 r_12 e_13) (va_cwS 3 hts (lw_S q487 q488 q67 q489) rfl rfl rfl (by decide +kernel) ⟨Nat.le_of_ble_eq_true rfl, Nat.le_of_ble_eq_true rfl⟩) (ga_PS hK ga_P0) rfl rfl hl.1 rfl (lv_room (Nat.le_of_ble_eq_true rfl)) dX1_setBonus_8 ⟨Nat.le_of_ble_eq_true rfl, Nat.le_of_ble_eq_true rfl⟩)) (fun z_14 w_15 => ?_)
    obtain ⟨rfl, b_16⟩ := w_15
    obtain ⟨r_17, e_18, h⟩ := ga_gb h
    have hFc := va_free (wc := []) hD hS hA [] rfl
    refine vx_callv (vx_runS (As := [.int r_12]) (rest := []) ⟨hx, hb, hml, hown, hts⟩ (met_X1_checkArgument l D cA (va_A [] H_5.size) zs N r_12 hX.2 r_17 e_18) (va_cwS 1 hts (lw_S q490 q491 q67 q492) rfl rfl rfl (by decide +kernel) ⟨Nat.le_of_ble_eq_true rfl, Nat.le_of_ble_eq_true rfl⟩) (ga_XS hK ga_P0 (hD.sub (ws' := []) [] (by decide) rfl).self (fun _ hq => Or.inr hq) (hST.at hS hFc)) rfl rfl hl.1 rfl (lv_room (Nat.le_of_ble_eq_true rfl)) dX1_setBonus_11 ⟨Nat.le_of_ble_eq_true rfl, Nat.le_of_ble_eq_true rfl⟩) hS (fun q _ hq => hFc q hq) hFc (fun q _ hq => hFc q hq) (fun E_24 ce q_25 u_22 t H_23 locs ht _ w_20 hB _ hk hS hce hcv hcl => ?_) (fun u_22 t H_21 locs ht _ w_20 hB _ hk hS => ?_)
    · replace h := ga_swr w_20 h
      obtain ⟨eE, hP1, hD1⟩ := hB
      rw [ht] at hP1
      obtain ⟨hP, hD⟩ := va_join (wr := [(x, .inr (1, [.ref g, xs, xp, .ref xi, .int xl, xr, xq])), (g, .inr (2, [.ref sh, .ref al, .int gr, .ref g_b, .ref g_t])), (g_b, .inl (cA 0, 2, .inl gB))]) (w1 := []) hP hD [] [0, 1, 2] rfl rfl (by decide) (by decide) hk hFc hP1 hD1
      have hP : va_P D ga_cl [(x, .inr (1, [.ref g, xs, xp, .ref xi, .int xl, xr, xq])), (g, .inr (2, [.ref sh, .ref al, .int gr, .ref g_b, .ref g_t])), (g_b, .inl (cA 0, 2, .inl gB))] H_23 := hP
      have hD : va_D A [(x, .inr (1, [.ref g, xs, xp, .ref xi, .int xl, xr, xq])), (g, .inr (2, [.ref sh, .ref al, .int gr, .ref g_b, .ref g_t])), (g_b, .inl (cA 0, 2, .inl gB))] := hD
      have hP9 := hP.sub (ws' := [(x, .inr (1, [.ref g, xs, xp, .ref xi, .int xl, xr, xq])), (g, .inr (2, [.ref sh, .ref al, .int gr, .ref g_b, .ref g_t])), (g_b, .inl (cA 0, 2, .inl gB))]) [0, 1, 2] rfl
      have hD9 := hD.sub (ws' := [(x, .inr (1, [.ref g, xs, xp, .ref xi, .int xl, xr, xq])), (g, .inr (2, [.ref sh, .ref al, .int gr, .ref g_b, .ref g_t])), (g_b, .inl (cA 0, 2, .inl gB))]) [0, 1, 2] (by decide) rfl
      obtain rfl := Option.some.inj h
      exact vx_out (fun x hx9 => (hX.1 x hx9).elim) hlocks hce hcv hcl (fun t ht _ => ⟨u_22, rfl, ⟨eE, by rw [ht]; exact hP9, hD9⟩, hS.F ht⟩) hS.2.2 (by decide) (by decide)
    · obtain ⟨v_26, ev_26, hv9⟩ := w_20
      replace h := ga_swl ev_26 h
      obtain rfl := hv9
      obtain ⟨hP1, -, hD1⟩ := hB
      rw [ht] at hP1
      obtain ⟨hP, hD⟩ := va_join (wr := [(x, .inr (1, [.ref g, xs, xp, .ref xi, .int xl, xr, xq])), (g, .inr (2, [.ref sh, .ref al, .int gr, .ref g_b, .ref g_t])), (g_b, .inl (cA 0, 2, .inl gB))]) (w1 := []) hP hD [] [0, 1, 2] rfl rfl (by decide) (by decide) hk hFc hP1 hD1
      have hP : va_P D ga_cl [(x, .inr (1, [.ref g, xs, xp, .ref xi, .int xl, xr, xq])), (g, .inr (2, [.ref sh, .ref al, .int gr, .ref g_b, .ref g_t])), (g_b, .inl (cA 0, 2, .inl gB))] H_21 := hP
      have hD : va_D A [(x, .inr (1, [.ref g, xs, xp, .ref xi, .int xl, xr, xq])), (g, .inr (2, [.ref sh, .ref al, .int gr, .ref g_b, .ref g_t])), (g_b, .inl (cA 0, 2, .inl gB))] := hD
      refine W.cs (cells' := 2) (slots' := 12) rfl rfl ?_
      refine lv_aload_n hx hb dX1_setBonus_14 rfl (lv_at hl 0 rfl) ?_
      refine va_get hx hb hts in_X1 hown hK.1 hP 0 (fs := [.ref g, xs, xp, .ref xi, .int xl, xr, xq]) rfl rfl 0 (by decide) (hts _ q350) (fun _ hh => hh) (v := .ref g) rfl dX1_setBonus_15 ?_
      refine va_getN hx hb hts in_X2 hown hK.1 hP 1 (fs := [.ref sh, .ref al, .int gr, .ref g_b, .ref g_t]) rfl rfl 3 (by decide) (ga_nu hK q335 rfl) (fun _ hh => hh) (v := .ref g_b) rfl dX1_setBonus_18 ?_
      refine lv_iload_n hx hb dX1_setBonus_21 rfl (lv_at hl 1 rfl) ?_
      obtain ⟨i_28, h⟩ := ga_gif h
      refine va_iald hx hb hK.1 hP 2 0 (f := gB) rfl rfl (ga_in i_28) dX1_setBonus_22 ?_
      refine lv_istore_n (lv' := [(3, .int (gB (ix x1))), (0, .ref x), (1, .int x1), (2, .int x2)]) hx hb dX1_setBonus_23 rfl hl (by decide) rfl (fun ls hl => ?_)
      refine lv_aload_n hx hb dX1_setBonus_24 rfl (lv_at hl 1 rfl) ?_
      refine va_get hx hb hts in_X1 hown hK.1 hP 0 (fs := [.ref g, xs, xp, .ref xi, .int xl, xr, xq]) rfl rfl 0 (by decide) (hts _ q350) (fun _ hh => hh) (v := .ref g) rfl dX1_setBonus_25 ?_
      refine va_getN hx hb hts in_X2 hown hK.1 hP 1 (fs := [.ref sh, .ref al, .int gr, .ref g_b, .ref g_t]) rfl rfl 3 (by decide) (ga_nu hK q335 rfl) (fun _ hh => hh) (v := .ref g_b) rfl dX1_setBonus_28 ?_
      refine lv_iload_n hx hb dX1_setBonus_31 rfl (lv_at hl 2 rfl) ?_
      refine lv_iload_n hx hb dX1_setBonus_32 rfl (lv_at hl 3 rfl) ?_
      obtain ⟨i_29, h⟩ := ga_gif h
      refine va_iast hx hb hK.1 hP hD hS 2 0 (f := gB) rfl rfl (ga_in i_29) dX1_setBonus_33 (fun H_30 locs hP hD hS => ?_)
      have hP : va_P D ga_cl [(x, .inr (1, [.ref g, xs, xp, .ref xi, .int xl, xr, xq])), (g, .inr (2, [.ref sh, .ref al, .int gr, .ref g_b, .ref g_t])), (g_b, .inl (cA 0, 2, .inl (upd gB (ix x1) x2)))] H_30 := hP
      have hD : va_D A [(x, .inr (1, [.ref g, xs, xp, .ref xi, .int xl, xr, xq])), (g, .inr (2, [.ref sh, .ref al, .int gr, .ref g_b, .ref g_t])), (g_b, .inl (cA 0, 2, .inl (upd gB (ix x1) x2)))] := hD
      refine lv_iload_n hx hb dX1_setBonus_34 rfl (lv_at hl 0 rfl) ?_
      have hP9 := hP.sub (ws' := [(x, .inr (1, [.ref g, xs, xp, .ref xi, .int xl, xr, xq])), (g, .inr (2, [.ref sh, .ref al, .int gr, .ref g_b, .ref g_t])), (g_b, .inl (cA 0, 2, .inl (upd gB (ix x1) x2)))]) [0, 1, 2] rfl
      have hD9 := hD.sub (ws' := [(x, .inr (1, [.ref g, xs, xp, .ref xi, .int xl, xr, xq])), (g, .inr (2, [.ref sh, .ref al, .int gr, .ref g_b, .ref g_t])), (g_b, .inl (cA 0, 2, .inl (upd gB (ix x1) x2)))]) [0, 1, 2] (by decide) rfl
      obtain rfl := Option.some.inj h
      refine vx_ret ?_
      exact W.iret hx hb hr (fun t ht hW => ⟨⟨_, (upd gB (ix x1) x2), rfl, ⟨_, rfl, rfl, rfl⟩, ⟨by rw [ht]; exact hP9, hK.warm hW, hD9⟩⟩, hS.F ht⟩) hS.2.2 dX1_setBonus_35
abbrev rm_X1_isOver : Room := { frames := 7, cells := 0, slots := 0, locals := 136 }
def F_X1_isOver (N : Nat) (xl : Int32) (gr : Int32) (lm : Int32) (lz : Int32) (ln : Nat) (r1 : Int32) (r2 : Int32) (rN : Int32) (rbB : Int64) (rbS : Nat → Int64) (rbA : Nat → Int64) (zw : Int32) (zh : Int32) (zA : Int64) (zL : Int64) (zR : Int64) (zE : Int64)  : Option (Int32) :=
  ((F_X2_isOver N gr lm lz ln r1 r2 rN rbB rbS rbA zw zh zA zL zR zE).bind fun r_1 =>
  some r_1)
set_option maxHeartbeats 4000000 in
theorem met_X1_isOver (l : Launch) (D : va_G) (cA : Nat → ClassId) (x : Nat) (g : Nat) (xs : Value) (xp : Value) (xi : Nat) (xr : Value) (xq : Value) (sh : Nat) (al : Nat) (g_b : Nat) (g_t : Nat) (ed : Nat) (lf : Nat → Option Nat) (r : Nat) (r_b : Nat) (r_w : Nat) (r_s : Nat) (r_r : Nat) (r_v : Nat) (r_b_s : Nat) (r_b_a : Nat) (r_b_c : Nat) (r_b_g : Nat) (xl : Int32) (gr : Int32) (lm : Int32) (lz : Int32) (ln : Nat) (r1 : Int32) (r2 : Int32) (rN : Int32) (rbB : Int64) (rbS : Nat → Int64) (rbA : Nat → Int64) (zw : Int32) (zh : Int32) (zA : Int64) (zL : Int64) (zR : Int64) (zE : Int64) (N : Nat)  (hlast : lf (ix (lz - 1)) = some r) (out : Int32) (h : F_X1_isOver N xl gr lm lz ln r1 r2 rN rbB rbS rbA zw zh zA zL zR zE = some out) : Met l yX1_isOver (ws_ yX1_isOver cX1_isOver 1 (some .boolean)) rm_X1_isOver (ga_P D cA [(x, .inr (1, [.ref g, xs, xp, .ref xi, .int xl, xr, xq])), (g, .inr (2, [.ref sh, .ref al, .int gr, .ref g_b, .ref g_t])), (al, .inr (6, [.int lm, .ref ed, .int lz])), (ed, .inl (cA 5, ln, .inr (.inr (.inr (.inr lf))))), (r, .inr (5, [.int r1, .int r2, .ref r_b, .ref r_w, .int rN, .ref r_s, .ref r_r, .ref r_v])), (r_b, .inr (3, [.ref r_b_s, .ref r_b_a, .long rbB, .ref r_b_c, .ref r_b_g])), (r_b_s, .inl (cA 1, 2, .inr (.inl rbS))), (r_b_a, .inl (cA 1, 2, .inr (.inl rbA))), (sh, .inr (4, [.int zw, .int zh, .long zA, .long zL, .long zR, .long zE]))] [.ref x]) (vp_Si (fun r => out = r ∧ ga_B r)) 0 0 ga_F := by
  refine Met.ofW (cc := cX1_isOver) (maxL := 1) (ret := (some .boolean)) (by decide) rfl ?_
  intro p e s m args below meth c s₁ B hml hv
  obtain ⟨rfl, hP, hK⟩ := hv
  have C : ga_cx p m c meth s _ RX1 cX1_isOver 1 (some .boolean) := ga_cx_of B hml
  have C0 := C
  obtain ⟨hx, hb, hr, hlocks, hml, hown, hts⟩ := C0
  have hl := lv_entry ([.ref x]) (n := 1) (Nat.le_of_ble_eq_true rfl)
  rw [lg_entry_eq]
  generalize (lg_sl ([.ref x]) ++ List.replicate (1 - (lg_sl ([.ref x])).length) Slot.unset).toArray = ls at hl ⊢
  have hl : lv_has ls 1 [(0, .ref x)] := hl
  rw [F_X1_isOver] at h
  refine lv_aload_n hx hb dX1_isOver_0 rfl (lv_at hl 0 rfl) ?_
  refine va_get hx hb hts in_X1 hown hK.1 hP 0 (fs := [.ref g, xs, xp, .ref xi, .int xl, xr, xq]) rfl rfl 0 (by decide) (hts _ q350) (fun _ hh => hh) (v := .ref g) rfl dX1_isOver_1 ?_
  obtain ⟨r_1, e_2, h⟩ := ga_gb h
  refine vp_callSi (va_Run.run (va_runV (As := []) (rest := []) ⟨hx, hb, hml, hown, hts⟩ (met_X2_isOver l D cA g sh al g_b g_t ed lf r r_b r_w r_s r_r r_v r_b_s r_b_a r_b_c r_b_g gr lm lz ln r1 r2 rN rbB rbS rbA zw zh zA zL zR zE N hlast r_1 e_2) (cwV 0 hts (lw_V q380 q381 q382 q68 q383) rfl rfl rfl (by decide +kernel) ⟨Nat.le_of_ble_eq_true rfl, Nat.le_of_ble_eq_true rfl⟩) (ga_PV hK (hP.sub (ws' := [(g, .inr (2, [.ref sh, .ref al, .int gr, .ref g_b, .ref g_t])), (al, .inr (6, [.int lm, .ref ed, .int lz])), (ed, .inl (cA 5, ln, .inr (.inr (.inr (.inr lf))))), (r, .inr (5, [.int r1, .int r2, .ref r_b, .ref r_w, .int rN, .ref r_s, .ref r_r, .ref r_v])), (r_b, .inr (3, [.ref r_b_s, .ref r_b_a, .long rbB, .ref r_b_c, .ref r_b_g])), (r_b_s, .inl (cA 1, 2, .inr (.inl rbS))), (r_b_a, .inl (cA 1, 2, .inr (.inl rbA))), (sh, .inr (4, [.int zw, .int zh, .long zA, .long zL, .long zR, .long zE]))]) [1, 2, 3, 4, 5, 6, 7, 8] rfl) (va_recv hK.1 hP (ci := 2) (q0 := 1) rfl rfl)) rfl rfl hl.1 rfl (lv_room (Nat.le_of_ble_eq_true rfl)) dX1_isOver_4 ⟨Nat.le_of_ble_eq_true rfl, Nat.le_of_ble_eq_true rfl⟩)) (fun z_3 w_4 => ?_)
  obtain ⟨rfl, b_5⟩ := w_4
  obtain rfl := Option.some.inj h
  exact W.zret hx hb hr (ga_nb (b_5)) (fun t ht hW => ⟨_, rfl, ⟨rfl, b_5⟩, ht⟩) (fun _ hq => by cases hq) dX1_isOver_7
abbrev rm_X1_cell : Room := { frames := 7, cells := 2, slots := 12, locals := 121 }
def F_X1_cell (N : Nat) (xl : Int32) (gr : Int32) (lm : Int32) (lz : Int32) (ln : Nat) (zw : Int32) (zh : Int32) (zA : Int64) (zL : Int64) (zR : Int64) (zE : Int64) (np : Nat) (q1 : Nat → Int32) (q2 : Nat → Int32) (qN : Nat → Int32) (qW : Nat → Nat → Int32) (qP : Nat → Nat → Int32) (qR : Nat → Nat → Int32) (qV : Nat → Nat → Int32) (qB : Nat → Int64) (qS : Nat → Nat → Int64) (qA : Nat → Nat → Int64) (qG : Nat → Nat → Int64) (qC : Nat → Nat → Int32) (x1 : Int32) (x2 : Int32) : Option ((Int32 × Unit) ⊕ Nat) :=
  ((F_X1_checkIndex N x1 zw).bind fun r_1 => ga_sw r_1 (fun v_10 =>
  ((F_X1_checkIndex N x2 zh).bind fun r_12 => ga_sw r_12 (fun v_21 =>
  (if ix (lz - 1) < np then
  ((F_X2_board N gr lm lz ln (q1 (ix (lz - 1))) (q2 (ix (lz - 1))) (qN (ix (lz - 1)))).bind fun r_38 =>
  ((F_X3_state N (qB (ix (lz - 1))) (qS (ix (lz - 1))) (qA (ix (lz - 1))) zw zh zA zL zR zE ((zw * x2) + x1)).bind fun r_42 =>
  some (.inl (r_42, ()))))
  else none)) (fun u_17 =>
  some (.inr u_17)))) (fun u_6 =>
  some (.inr u_6)))
set_option maxHeartbeats 4000000 in
theorem met_X1_cell (l : Launch) (D : va_G) (cA : Nat → ClassId) (A : Nat → Prop) (x : Nat) (g : Nat) (xs : Value) (xp : Value) (xi : Nat) (xr : Value) (xq : Value) (sh : Nat) (al : Nat) (g_b : Nat) (g_t : Nat) (ed : Nat) (lf : Nat → Option Nat) (zs : Nat → Nat) (xl : Int32) (gr : Int32) (lm : Int32) (lz : Int32) (ln : Nat) (zw : Int32) (zh : Int32) (zA : Int64) (zL : Int64) (zR : Int64) (zE : Int64) (np : Nat) (q1 : Nat → Int32) (q2 : Nat → Int32) (qN : Nat → Int32) (qW : Nat → Nat → Int32) (qP : Nat → Nat → Int32) (qR : Nat → Nat → Int32) (qV : Nat → Nat → Int32) (qB : Nat → Int64) (qS : Nat → Nat → Int64) (qA : Nat → Nat → Int64) (qG : Nat → Nat → Int64) (qC : Nat → Nat → Int32) (N : Nat) (x1 : Int32) (x2 : Int32)  (hstk : l.stackTraces = false) (out : (Int32 × Unit) ⊕ Nat) (h : F_X1_cell N xl gr lm lz ln zw zh zA zL zR zE np q1 q2 qN qW qP qR qV qB qS qA qG qC x1 x2 = some out) : vx_Met l yX1_cell (ws_ yX1_cell cX1_cell 3 (some .int)) rm_X1_cell (ga_XR D cA zs A (ga_po D cA lf np q1 q2 qN qW qP qR qV qB qS qA qG qC) [(x, .inr (1, [.ref g, xs, xp, .ref xi, .int xl, xr, xq])), (g, .inr (2, [.ref sh, .ref al, .int gr, .ref g_b, .ref g_t])), (al, .inr (6, [.int lm, .ref ed, .int lz])), (ed, .inl (cA 5, ln, .inr (.inr (.inr (.inr lf))))), (sh, .inr (4, [.int zw, .int zh, .long zA, .long zL, .long zR, .long zE]))] [.ref x, .int x1, .int x2]) (va_Qi (fun (r : Int32) (u : Unit) => ∃ v, out = .inl v ∧ (v.1 = r) ∧ v.2 = u) (fun (u : Unit) (t : State) => va_P D ga_cl [(x, .inr (1, [.ref g, xs, xp, .ref xi, .int xl, xr, xq])), (g, .inr (2, [.ref sh, .ref al, .int gr, .ref g_b, .ref g_t])), (al, .inr (6, [.int lm, .ref ed, .int lz])), (ed, .inl (cA 5, ln, .inr (.inr (.inr (.inr lf))))), (sh, .inr (4, [.int zw, .int zh, .long zA, .long zL, .long zR, .long zE]))] t.heap ∧ ga_K D cA t ∧ va_D A [(x, .inr (1, [.ref g, xs, xp, .ref xi, .int xl, xr, xq])), (g, .inr (2, [.ref sh, .ref al, .int gr, .ref g_b, .ref g_t])), (al, .inr (6, [.int lm, .ref ed, .int lz])), (ed, .inl (cA 5, ln, .inr (.inr (.inr (.inr lf))))), (sh, .inr (4, [.int zw, .int zh, .long zA, .long zL, .long zR, .long zE]))]) A) (vx_X (fun (u : Nat) => out = .inr u) (fun (E : String) (q9 : Nat) (u : Nat) (t : State) => E = ga_en u ∧ va_P D ga_cl [(x, .inr (1, [.ref g, xs, xp, .ref xi, .int xl, xr, xq])), (g, .inr (2, [.ref sh, .ref al, .int gr, .ref g_b, .ref g_t])), (al, .inr (6, [.int lm, .ref ed, .int lz])), (ed, .inl (cA 5, ln, .inr (.inr (.inr (.inr lf))))), (sh, .inr (4, [.int zw, .int zh, .long zA, .long zL, .long zR, .long zE]))] t.heap ∧ va_D A [(x, .inr (1, [.ref g, xs, xp, .ref xi, .int xl, xr, xq])), (g, .inr (2, [.ref sh, .ref al, .int gr, .ref g_b, .ref g_t])), (al, .inr (6, [.int lm, .ref ed, .int lz])), (ed, .inl (cA 5, ln, .inr (.inr (.inr (.inr lf))))), (sh, .inr (4, [.int zw, .int zh, .long zA, .long zL, .long zR, .long zE]))]) A) 2 12 A := by
  refine vx_ofW (cc := cX1_cell) (maxL := 3) (ret := (some .int)) (by decide) rfl ?_
  intro p e s m args below meth c s₁ B hml htab hv
  have hX : ga_cx2 c l := ⟨htab, hstk⟩
  obtain ⟨rfl, hP, hK, hD, hA, hST, hR⟩ := hv
  have hS : va_S A s.heap s.heap [] := va_S.rf
  have C : ga_cx p m c meth s _ RX1 cX1_cell 3 (some .int) := ga_cx_of B hml
  have C0 := C
  obtain ⟨hx, hb, hr, hlocks, hml, hown, hts⟩ := C0
  have hl := lv_entry ([.ref x, .int x1, .int x2]) (n := 3) (Nat.le_of_ble_eq_true rfl)
  rw [lg_entry_eq]
  generalize (lg_sl ([.ref x, .int x1, .int x2]) ++ List.replicate (3 - (lg_sl ([.ref x, .int x1, .int x2])).length) Slot.unset).toArray = ls at hl ⊢
  have hl : lv_has ls 3 [(0, .ref x), (1, .int x1), (2, .int x2)] := hl
  rw [F_X1_cell] at h
  refine lv_iload_n hx hb dX1_cell_0 rfl (lv_at hl 1 rfl) ?_
  refine lv_aload_n hx hb dX1_cell_1 rfl (lv_at hl 0 rfl) ?_
  refine va_get hx hb hts in_X1 hown hK.1 hP 0 (fs := [.ref g, xs, xp, .ref xi, .int xl, xr, xq]) rfl rfl 0 (by decide) (hts _ q350) (fun _ hh => hh) (v := .ref g) rfl dX1_cell_2 ?_
  refine va_getN hx hb hts in_X2 hown hK.1 hP 1 (fs := [.ref sh, .ref al, .int gr, .ref g_b, .ref g_t]) rfl rfl 0 (by decide) (ga_nu hK q329 rfl) (fun _ hh => hh) (v := .ref sh) rfl dX1_cell_5 ?_
  refine va_getN hx hb hts in_X4 hown hK.1 hP 4 (fs := [.int zw, .int zh, .long zA, .long zL, .long zR, .long zE]) rfl rfl 0 (by decide) (ga_nu hK q189 rfl) (fun _ hh => hh) (v := .int zw) rfl dX1_cell_8 ?_
  obtain ⟨r_1, e_2, h⟩ := ga_gb h
  have hFc := va_free (wc := []) hD hS hA [] rfl
  refine vx_callv (vx_runS (As := [.int x1, .int zw]) (rest := []) ⟨hx, hb, hml, hown, hts⟩ (met_X1_checkIndex l D cA (va_A [] s.heap.size) zs N x1 zw hX.2 r_1 e_2) (va_cwS 2 hts (lw_S q625 q626 q67 q627) rfl rfl rfl (by decide +kernel) ⟨Nat.le_of_ble_eq_true rfl, Nat.le_of_ble_eq_true rfl⟩) (ga_XS hK ga_P0 (hD.sub (ws' := []) [] (by decide) rfl).self (fun _ hq => Or.inr hq) (hST.at hS hFc)) rfl rfl hl.1 rfl (lv_room (Nat.le_of_ble_eq_true rfl)) dX1_cell_11 ⟨Nat.le_of_ble_eq_true rfl, Nat.le_of_ble_eq_true rfl⟩) hS (fun q _ hq => hFc q hq) hFc (fun q _ hq => hFc q hq) (fun E_8 ce q_9 u_6 t H_7 locs ht _ w_4 hB _ hk hS hce hcv hcl => ?_) (fun u_6 t H_5 locs ht _ w_4 hB _ hk hS => ?_)
  · replace h := ga_swr w_4 h
    obtain ⟨eE, hP1, hD1⟩ := hB
    rw [ht] at hP1
    obtain ⟨hP, hD⟩ := va_join (wr := [(x, .inr (1, [.ref g, xs, xp, .ref xi, .int xl, xr, xq])), (g, .inr (2, [.ref sh, .ref al, .int gr, .ref g_b, .ref g_t])), (al, .inr (6, [.int lm, .ref ed, .int lz])), (ed, .inl (cA 5, ln, .inr (.inr (.inr (.inr lf))))), (sh, .inr (4, [.int zw, .int zh, .long zA, .long zL, .long zR, .long zE]))]) (w1 := []) hP hD [] [0, 1, 2, 3, 4] rfl rfl (by decide) (by decide) hk hFc hP1 hD1
    have hP : va_P D ga_cl [(x, .inr (1, [.ref g, xs, xp, .ref xi, .int xl, xr, xq])), (g, .inr (2, [.ref sh, .ref al, .int gr, .ref g_b, .ref g_t])), (al, .inr (6, [.int lm, .ref ed, .int lz])), (ed, .inl (cA 5, ln, .inr (.inr (.inr (.inr lf))))), (sh, .inr (4, [.int zw, .int zh, .long zA, .long zL, .long zR, .long zE]))] H_7 := hP
    have hD : va_D A [(x, .inr (1, [.ref g, xs, xp, .ref xi, .int xl, xr, xq])), (g, .inr (2, [.ref sh, .ref al, .int gr, .ref g_b, .ref g_t])), (al, .inr (6, [.int lm, .ref ed, .int lz])), (ed, .inl (cA 5, ln, .inr (.inr (.inr (.inr lf))))), (sh, .inr (4, [.int zw, .int zh, .long zA, .long zL, .long zR, .long zE]))] := hD
    have hP9 := hP.sub (ws' := [(x, .inr (1, [.ref g, xs, xp, .ref xi, .int xl, xr, xq])), (g, .inr (2, [.ref sh, .ref al, .int gr, .ref g_b, .ref g_t])), (al, .inr (6, [.int lm, .ref ed, .int lz])), (ed, .inl (cA 5, ln, .inr (.inr (.inr (.inr lf))))), (sh, .inr (4, [.int zw, .int zh, .long zA, .long zL, .long zR, .long zE]))]) [0, 1, 2, 3, 4] rfl
    have hD9 := hD.sub (ws' := [(x, .inr (1, [.ref g, xs, xp, .ref xi, .int xl, xr, xq])), (g, .inr (2, [.ref sh, .ref al, .int gr, .ref g_b, .ref g_t])), (al, .inr (6, [.int lm, .ref ed, .int lz])), (ed, .inl (cA 5, ln, .inr (.inr (.inr (.inr lf))))), (sh, .inr (4, [.int zw, .int zh, .long zA, .long zL, .long zR, .long zE]))]) [0, 1, 2, 3, 4] (by decide) rfl
    obtain rfl := Option.some.inj h
    exact vx_out (fun x hx9 => (hX.1 x hx9).elim) hlocks hce hcv hcl (fun t ht _ => ⟨u_6, rfl, ⟨eE, by rw [ht]; exact hP9, hD9⟩, hS.F ht⟩) hS.2.2 (by decide) (by decide)
  · obtain ⟨v_10, ev_10, hv9⟩ := w_4
    replace h := ga_swl ev_10 h
    obtain rfl := hv9
    obtain ⟨hP1, -, hD1⟩ := hB
    rw [ht] at hP1
    obtain ⟨hP, hD⟩ := va_join (wr := [(x, .inr (1, [.ref g, xs, xp, .ref xi, .int xl, xr, xq])), (g, .inr (2, [.ref sh, .ref al, .int gr, .ref g_b, .ref g_t])), (al, .inr (6, [.int lm, .ref ed, .int lz])), (ed, .inl (cA 5, ln, .inr (.inr (.inr (.inr lf))))), (sh, .inr (4, [.int zw, .int zh, .long zA, .long zL, .long zR, .long zE]))]) (w1 := []) hP hD [] [0, 1, 2, 3, 4] rfl rfl (by decide) (by decide) hk hFc hP1 hD1
    have hP : va_P D ga_cl [(x, .inr (1, [.ref g, xs, xp, .ref xi, .int xl, xr, xq])), (g, .inr (2, [.ref sh, .ref al, .int gr, .ref g_b, .ref g_t])), (al, .inr (6, [.int lm, .ref ed, .int lz])), (ed, .inl (cA 5, ln, .inr (.inr (.inr (.inr lf))))), (sh, .inr (4, [.int zw, .int zh, .long zA, .long zL, .long zR, .long zE]))] H_5 := hP
    have hD : va_D A [(x, .inr (1, [.ref g, xs, xp, .ref xi, .int xl, xr, xq])), (g, .inr (2, [.ref sh, .ref al, .int gr, .ref g_b, .ref g_t])), (al, .inr (6, [.int lm, .ref ed, .int lz])), (ed, .inl (cA 5, ln, .inr (.inr (.inr (.inr lf))))), (sh, .inr (4, [.int zw, .int zh, .long zA, .long zL, .long zR, .long zE]))] := hD
    refine W.cs (cells' := 1) (slots' := 6) rfl rfl ?_
    refine lv_iload_n hx hb dX1_cell_14 rfl (lv_at hl 2 rfl) ?_
    refine lv_aload_n hx hb dX1_cell_15 rfl (lv_at hl 0 rfl) ?_
    refine va_get hx hb hts in_X1 hown hK.1 hP 0 (fs := [.ref g, xs, xp, .ref xi, .int xl, xr, xq]) rfl rfl 0 (by decide) (hts _ q350) (fun _ hh => hh) (v := .ref g) rfl dX1_cell_16 ?_
    refine va_getN hx hb hts in_X2 hown hK.1 hP 1 (fs := [.ref sh, .ref al, .int gr, .ref g_b, .ref g_t]) rfl rfl 0 (by decide) (ga_nu hK q329 rfl) (fun _ hh => hh) (v := .ref sh) rfl dX1_cell_19 ?_
    refine va_getN hx hb hts in_X4 hown hK.1 hP 4 (fs := [.int zw, .int zh, .long zA, .long zL, .long zR, .long zE]) rfl rfl 1 (by decide) (ga_nu hK q192 rfl) (fun _ hh => hh) (v := .int zh) rfl dX1_cell_22 ?_
    obtain ⟨r_12, e_13, h⟩ := ga_gb h
    have hFc := va_free (wc := []) hD hS hA [] rfl
    refine vx_callv (vx_runS (As := [.int x2, .int zh]) (rest := []) ⟨hx, hb, hml, hown, hts⟩ (met_X1_checkIndex l D cA (va_A [] H_5.size) zs N x2 zh hX.2 r_12 e_13) (va_cwS 2 hts (lw_S q625 q626 q67 q627) rfl rfl rfl (by decide +kernel) ⟨Nat.le_of_ble_eq_true rfl, Nat.le_of_ble_eq_true rfl⟩) (ga_XS hK ga_P0 (hD.sub (ws' := []) [] (by decide) rfl).self (fun _ hq => Or.inr hq) (hST.at hS hFc)) rfl rfl hl.1 rfl (lv_room (Nat.le_of_ble_eq_true rfl)) dX1_cell_25 ⟨Nat.le_of_ble_eq_true rfl, Nat.le_of_ble_eq_true rfl⟩) hS (fun q _ hq => hFc q hq) hFc (fun q _ hq => hFc q hq) (fun E_19 ce q_20 u_17 t H_18 locs ht _ w_15 hB _ hk hS hce hcv hcl => ?_) (fun u_17 t H_16 locs ht _ w_15 hB _ hk hS => ?_)
    · replace h := ga_swr w_15 h
      obtain ⟨eE, hP1, hD1⟩ := hB
      rw [ht] at hP1
      obtain ⟨hP, hD⟩ := va_join (wr := [(x, .inr (1, [.ref g, xs, xp, .ref xi, .int xl, xr, xq])), (g, .inr (2, [.ref sh, .ref al, .int gr, .ref g_b, .ref g_t])), (al, .inr (6, [.int lm, .ref ed, .int lz])), (ed, .inl (cA 5, ln, .inr (.inr (.inr (.inr lf))))), (sh, .inr (4, [.int zw, .int zh, .long zA, .long zL, .long zR, .long zE]))]) (w1 := []) hP hD [] [0, 1, 2, 3, 4] rfl rfl (by decide) (by decide) hk hFc hP1 hD1
      have hP : va_P D ga_cl [(x, .inr (1, [.ref g, xs, xp, .ref xi, .int xl, xr, xq])), (g, .inr (2, [.ref sh, .ref al, .int gr, .ref g_b, .ref g_t])), (al, .inr (6, [.int lm, .ref ed, .int lz])), (ed, .inl (cA 5, ln, .inr (.inr (.inr (.inr lf))))), (sh, .inr (4, [.int zw, .int zh, .long zA, .long zL, .long zR, .long zE]))] H_18 := hP
      have hD : va_D A [(x, .inr (1, [.ref g, xs, xp, .ref xi, .int xl, xr, xq])), (g, .inr (2, [.ref sh, .ref al, .int gr, .ref g_b, .ref g_t])), (al, .inr (6, [.int lm, .ref ed, .int lz])), (ed, .inl (cA 5, ln, .inr (.inr (.inr (.inr lf))))), (sh, .inr (4, [.int zw, .int zh, .long zA, .long zL, .long zR, .long zE]))] := hD
      have hP9 := hP.sub (ws' := [(x, .inr (1, [.ref g, xs, xp, .ref xi, .int xl, xr, xq])), (g, .inr (2, [.ref sh, .ref al, .int gr, .ref g_b, .ref g_t])), (al, .inr (6, [.int lm, .ref ed, .int lz])), (ed, .inl (cA 5, ln, .inr (.inr (.inr (.inr lf))))), (sh, .inr (4, [.int zw, .int zh, .long zA, .long zL, .long zR, .long zE]))]) [0, 1, 2, 3, 4] rfl
      have hD9 := hD.sub (ws' := [(x, .inr (1, [.ref g, xs, xp, .ref xi, .int xl, xr, xq])), (g, .inr (2, [.ref sh, .ref al, .int gr, .ref g_b, .ref g_t])), (al, .inr (6, [.int lm, .ref ed, .int lz])), (ed, .inl (cA 5, ln, .inr (.inr (.inr (.inr lf))))), (sh, .inr (4, [.int zw, .int zh, .long zA, .long zL, .long zR, .long zE]))]) [0, 1, 2, 3, 4] (by decide) rfl
      obtain rfl := Option.some.inj h
      exact vx_out (fun x hx9 => (hX.1 x hx9).elim) hlocks hce hcv hcl (fun t ht _ => ⟨u_17, rfl, ⟨eE, by rw [ht]; exact hP9, hD9⟩, hS.F ht⟩) hS.2.2 (by decide) (by decide)
    · obtain ⟨v_21, ev_21, hv9⟩ := w_15
      replace h := ga_swl ev_21 h
      obtain rfl := hv9
      obtain ⟨hP1, -, hD1⟩ := hB
      rw [ht] at hP1
      obtain ⟨hP, hD⟩ := va_join (wr := [(x, .inr (1, [.ref g, xs, xp, .ref xi, .int xl, xr, xq])), (g, .inr (2, [.ref sh, .ref al, .int gr, .ref g_b, .ref g_t])), (al, .inr (6, [.int lm, .ref ed, .int lz])), (ed, .inl (cA 5, ln, .inr (.inr (.inr (.inr lf))))), (sh, .inr (4, [.int zw, .int zh, .long zA, .long zL, .long zR, .long zE]))]) (w1 := []) hP hD [] [0, 1, 2, 3, 4] rfl rfl (by decide) (by decide) hk hFc hP1 hD1
      have hP : va_P D ga_cl [(x, .inr (1, [.ref g, xs, xp, .ref xi, .int xl, xr, xq])), (g, .inr (2, [.ref sh, .ref al, .int gr, .ref g_b, .ref g_t])), (al, .inr (6, [.int lm, .ref ed, .int lz])), (ed, .inl (cA 5, ln, .inr (.inr (.inr (.inr lf))))), (sh, .inr (4, [.int zw, .int zh, .long zA, .long zL, .long zR, .long zE]))] H_16 := hP
      have hD : va_D A [(x, .inr (1, [.ref g, xs, xp, .ref xi, .int xl, xr, xq])), (g, .inr (2, [.ref sh, .ref al, .int gr, .ref g_b, .ref g_t])), (al, .inr (6, [.int lm, .ref ed, .int lz])), (ed, .inl (cA 5, ln, .inr (.inr (.inr (.inr lf))))), (sh, .inr (4, [.int zw, .int zh, .long zA, .long zL, .long zR, .long zE]))] := hD
      refine W.cs (cells' := 2) (slots' := 12) rfl rfl ?_
      refine lv_aload_n hx hb dX1_cell_28 rfl (lv_at hl 0 rfl) ?_
      refine va_get hx hb hts in_X1 hown hK.1 hP 0 (fs := [.ref g, xs, xp, .ref xi, .int xl, xr, xq]) rfl rfl 0 (by decide) (hts _ q350) (fun _ hh => hh) (v := .ref g) rfl dX1_cell_29 ?_
      obtain ⟨i_33, h⟩ := ga_gif h
      obtain ⟨r_23, b_24, w_25, t_26, e_27, v_28, bs_29, ba_30, bc_31, bg_32, f_34, q_35, hn_36⟩ := (ga_poK.at (B := A) hR hS (fun _ h => h)) (ix (lz - 1)) i_33
      have hP : va_P D ga_cl [(x, .inr (1, [.ref g, xs, xp, .ref xi, .int xl, xr, xq])), (g, .inr (2, [.ref sh, .ref al, .int gr, .ref g_b, .ref g_t])), (al, .inr (6, [.int lm, .ref ed, .int lz])), (ed, .inl (cA 5, ln, .inr (.inr (.inr (.inr lf))))), (sh, .inr (4, [.int zw, .int zh, .long zA, .long zL, .long zR, .long zE])), (r_23, .inr (5, [.int (q1 (ix (lz - 1))), .int (q2 (ix (lz - 1))), .ref b_24, .ref w_25, .int (qN (ix (lz - 1))), .ref t_26, .ref e_27, .ref v_28])), (w_25, .inl (cA 0, 8, .inl (qW (ix (lz - 1))))), (t_26, .inl (cA 0, 2, .inl (qP (ix (lz - 1))))), (e_27, .inl (cA 0, 49, .inl (qR (ix (lz - 1))))), (v_28, .inl (cA 0, 49, .inl (qV (ix (lz - 1))))), (b_24, .inr (3, [.ref bs_29, .ref ba_30, .long (qB (ix (lz - 1))), .ref bc_31, .ref bg_32])), (bs_29, .inl (cA 1, 2, .inr (.inl (qS (ix (lz - 1)))))), (ba_30, .inl (cA 1, 2, .inr (.inl (qA (ix (lz - 1)))))), (bc_31, .inl (cA 0, 2, .inl (qC (ix (lz - 1))))), (bg_32, .inl (cA 1, 2, .inr (.inl (qG (ix (lz - 1))))))] H_16 := hP.app q_35
      have hr_37 : ga_ro D [(r_23, .inr (5, [.int (q1 (ix (lz - 1))), .int (q2 (ix (lz - 1))), .ref b_24, .ref w_25, .int (qN (ix (lz - 1))), .ref t_26, .ref e_27, .ref v_28])), (w_25, .inl (cA 0, 8, .inl (qW (ix (lz - 1))))), (t_26, .inl (cA 0, 2, .inl (qP (ix (lz - 1))))), (e_27, .inl (cA 0, 49, .inl (qR (ix (lz - 1))))), (v_28, .inl (cA 0, 49, .inl (qV (ix (lz - 1))))), (b_24, .inr (3, [.ref bs_29, .ref ba_30, .long (qB (ix (lz - 1))), .ref bc_31, .ref bg_32])), (bs_29, .inl (cA 1, 2, .inr (.inl (qS (ix (lz - 1)))))), (ba_30, .inl (cA 1, 2, .inr (.inl (qA (ix (lz - 1)))))), (bc_31, .inl (cA 0, 2, .inl (qC (ix (lz - 1))))), (bg_32, .inl (cA 1, 2, .inr (.inl (qG (ix (lz - 1))))))] A s H_16 := ⟨q_35, hn_36⟩
      obtain ⟨r_38, e_39, h⟩ := ga_gb h
      refine va_csr (va_Run.run (va_runV (As := []) (rest := []) ⟨hx, hb, hml, hown, hts⟩ (met_X2_board l D cA g sh al g_b g_t ed lf r_23 b_24 w_25 t_26 e_27 v_28 gr lm lz ln (q1 (ix (lz - 1))) (q2 (ix (lz - 1))) (qN (ix (lz - 1))) N f_34 r_38 e_39) (cwV 0 hts (lw_V q565 q385 q386 q68 q387) rfl rfl rfl (by decide +kernel) ⟨Nat.le_of_ble_eq_true rfl, Nat.le_of_ble_eq_true rfl⟩) (ga_PV hK (hP.sub (ws' := [(g, .inr (2, [.ref sh, .ref al, .int gr, .ref g_b, .ref g_t])), (al, .inr (6, [.int lm, .ref ed, .int lz])), (ed, .inl (cA 5, ln, .inr (.inr (.inr (.inr lf))))), (r_23, .inr (5, [.int (q1 (ix (lz - 1))), .int (q2 (ix (lz - 1))), .ref b_24, .ref w_25, .int (qN (ix (lz - 1))), .ref t_26, .ref e_27, .ref v_28]))]) [1, 2, 3, 5] rfl) (va_recv hK.1 hP (ci := 2) (q0 := 1) rfl rfl)) rfl rfl hl.1 rfl (lv_room (Nat.le_of_ble_eq_true rfl)) dX1_cell_32 ⟨Nat.le_of_ble_eq_true rfl, Nat.le_of_ble_eq_true rfl⟩)) (fun _ _ => ?_)
      refine lv_aload_n hx hb dX1_cell_35 rfl (lv_at hl 0 rfl) ?_
      refine va_get hx hb hts in_X1 hown hK.1 hP 0 (fs := [.ref g, xs, xp, .ref xi, .int xl, xr, xq]) rfl rfl 0 (by decide) (hts _ q350) (fun _ hh => hh) (v := .ref g) rfl dX1_cell_36 ?_
      refine va_getN hx hb hts in_X2 hown hK.1 hP 1 (fs := [.ref sh, .ref al, .int gr, .ref g_b, .ref g_t]) rfl rfl 0 (by decide) (ga_nu hK q329 rfl) (fun _ hh => hh) (v := .ref sh) rfl dX1_cell_39 ?_
      refine lv_aload_n hx hb dX1_cell_42 rfl (lv_at hl 0 rfl) ?_
      refine va_get hx hb hts in_X1 hown hK.1 hP 0 (fs := [.ref g, xs, xp, .ref xi, .int xl, xr, xq]) rfl rfl 0 (by decide) (hts _ q350) (fun _ hh => hh) (v := .ref g) rfl dX1_cell_43 ?_
      refine va_getN hx hb hts in_X2 hown hK.1 hP 1 (fs := [.ref sh, .ref al, .int gr, .ref g_b, .ref g_t]) rfl rfl 0 (by decide) (ga_nu hK q329 rfl) (fun _ hh => hh) (v := .ref sh) rfl dX1_cell_46 ?_
      refine va_getN hx hb hts in_X4 hown hK.1 hP 4 (fs := [.int zw, .int zh, .long zA, .long zL, .long zR, .long zE]) rfl rfl 0 (by decide) (ga_nu hK q189 rfl) (fun _ hh => hh) (v := .int zw) rfl dX1_cell_49 ?_
      refine lv_iload_n hx hb dX1_cell_52 rfl (lv_at hl 2 rfl) ?_
      refine lv_imul hx hb dX1_cell_53 ?_
      refine lv_iload_n hx hb dX1_cell_54 rfl (lv_at hl 1 rfl) ?_
      refine lv_iadd hx hb dX1_cell_55 ?_
      obtain ⟨r_42, e_43, h⟩ := ga_gb h
      refine vp_callSi (va_Run.run (va_runV (As := [.ref sh, .int ((zw * x2) + x1)]) (rest := []) ⟨hx, hb, hml, hown, hts⟩ (met_X3_state l D cA b_24 bs_29 ba_30 bc_31 bg_32 sh (qB (ix (lz - 1))) (qS (ix (lz - 1))) (qA (ix (lz - 1))) zw zh zA zL zR zE N ((zw * x2) + x1) r_42 e_43) (cwV 2 hts (lw_V q898 q698 q699 q72 q700) rfl rfl rfl (by decide +kernel) ⟨Nat.le_of_ble_eq_true rfl, Nat.le_of_ble_eq_true rfl⟩) (ga_PV hK (hP.sub (ws' := [(b_24, .inr (3, [.ref bs_29, .ref ba_30, .long (qB (ix (lz - 1))), .ref bc_31, .ref bg_32])), (bs_29, .inl (cA 1, 2, .inr (.inl (qS (ix (lz - 1)))))), (ba_30, .inl (cA 1, 2, .inr (.inl (qA (ix (lz - 1)))))), (sh, .inr (4, [.int zw, .int zh, .long zA, .long zL, .long zR, .long zE]))]) [10, 11, 12, 4] rfl) (va_recv hK.1 hP (ci := 3) (q0 := 10) rfl rfl)) rfl rfl hl.1 rfl (lv_room (Nat.le_of_ble_eq_true rfl)) dX1_cell_56 ⟨Nat.le_of_ble_eq_true rfl, Nat.le_of_ble_eq_true rfl⟩)) (fun z_44 w_45 => ?_)
      obtain rfl := w_45
      have hP9 := hP.sub (ws' := [(x, .inr (1, [.ref g, xs, xp, .ref xi, .int xl, xr, xq])), (g, .inr (2, [.ref sh, .ref al, .int gr, .ref g_b, .ref g_t])), (al, .inr (6, [.int lm, .ref ed, .int lz])), (ed, .inl (cA 5, ln, .inr (.inr (.inr (.inr lf))))), (sh, .inr (4, [.int zw, .int zh, .long zA, .long zL, .long zR, .long zE]))]) [0, 1, 2, 3, 4] rfl
      have hD9 := hD.sub (ws' := [(x, .inr (1, [.ref g, xs, xp, .ref xi, .int xl, xr, xq])), (g, .inr (2, [.ref sh, .ref al, .int gr, .ref g_b, .ref g_t])), (al, .inr (6, [.int lm, .ref ed, .int lz])), (ed, .inl (cA 5, ln, .inr (.inr (.inr (.inr lf))))), (sh, .inr (4, [.int zw, .int zh, .long zA, .long zL, .long zR, .long zE]))]) [0, 1, 2, 3, 4] (by decide) rfl
      obtain rfl := Option.some.inj h
      refine vx_ret ?_
      exact W.iret hx hb hr (fun t ht hW => ⟨⟨_, (), rfl, ⟨_, rfl, rfl, rfl⟩, ⟨by rw [ht]; exact hP9, hK.warm hW, hD9⟩⟩, hS.F ht⟩) hS.2.2 dX1_cell_59
abbrev rm_X1_since : Room := { frames := 8, cells := 2, slots := 12, locals := 142 }
def F_X1_since (N : Nat) (xl : Int32) (gr : Int32) (lm : Int32) (lz : Int32) (ln : Nat) (zw : Int32) (zh : Int32) (zA : Int64) (zL : Int64) (zR : Int64) (zE : Int64) (np : Nat) (q1 : Nat → Int32) (q2 : Nat → Int32) (qN : Nat → Int32) (qW : Nat → Nat → Int32) (qP : Nat → Nat → Int32) (qR : Nat → Nat → Int32) (qV : Nat → Nat → Int32) (qB : Nat → Int64) (qS : Nat → Nat → Int64) (qA : Nat → Nat → Int64) (qG : Nat → Nat → Int64) (qC : Nat → Nat → Int32) (x1 : Int32) (x2 : Int32) : Option ((Int32 × Unit) ⊕ Nat) :=
  ((F_X1_checkCell N xl gr zw zh zA zL zR zE x1).bind fun r_1 => ga_sw r_1 (fun v_10 =>
  ((F_X1_inRange N x2 0 1).bind fun r_12 =>
  ((F_X1_checkArgument N r_12).bind fun r_17 => ga_sw r_17 (fun v_26 =>
  (if x2 = 0 then
  (if ix (lz - 1) < np then
  ((F_X2_last N gr lm lz ln (q1 (ix (lz - 1))) (q2 (ix (lz - 1))) (qN (ix (lz - 1)))).bind fun r_64 =>
  (if inb x1 49 = true then
  some (.inl (((qR (ix (lz - 1))) (ix x1)), ()))
  else none))
  else none)
  else
  (if ix (lz - 1) < np then
  ((F_X2_last N gr lm lz ln (q1 (ix (lz - 1))) (q2 (ix (lz - 1))) (qN (ix (lz - 1)))).bind fun r_44 =>
  (if inb x1 49 = true then
  some (.inl (((qV (ix (lz - 1))) (ix x1)), ()))
  else none))
  else none))) (fun u_22 =>
  some (.inr u_22))))) (fun u_6 =>
  some (.inr u_6)))
set_option maxHeartbeats 4000000 in
theorem met_X1_since (l : Launch) (D : va_G) (cA : Nat → ClassId) (A : Nat → Prop) (x : Nat) (g : Nat) (xs : Value) (xp : Value) (xi : Nat) (xr : Value) (xq : Value) (sh : Nat) (al : Nat) (g_b : Nat) (g_t : Nat) (ed : Nat) (lf : Nat → Option Nat) (zs : Nat → Nat) (xl : Int32) (gr : Int32) (lm : Int32) (lz : Int32) (ln : Nat) (zw : Int32) (zh : Int32) (zA : Int64) (zL : Int64) (zR : Int64) (zE : Int64) (np : Nat) (q1 : Nat → Int32) (q2 : Nat → Int32) (qN : Nat → Int32) (qW : Nat → Nat → Int32) (qP : Nat → Nat → Int32) (qR : Nat → Nat → Int32) (qV : Nat → Nat → Int32) (qB : Nat → Int64) (qS : Nat → Nat → Int64) (qA : Nat → Nat → Int64) (qG : Nat → Nat → Int64) (qC : Nat → Nat → Int32) (N : Nat) (x1 : Int32) (x2 : Int32)  (hstk : l.stackTraces = false) (out : (Int32 × Unit) ⊕ Nat) (h : F_X1_since N xl gr lm lz ln zw zh zA zL zR zE np q1 q2 qN qW qP qR qV qB qS qA qG qC x1 x2 = some out) : vx_Met l yX1_since (ws_ yX1_since cX1_since 3 (some .int)) rm_X1_since (ga_XR D cA zs A (ga_po D cA lf np q1 q2 qN qW qP qR qV qB qS qA qG qC) [(x, .inr (1, [.ref g, xs, xp, .ref xi, .int xl, xr, xq])), (g, .inr (2, [.ref sh, .ref al, .int gr, .ref g_b, .ref g_t])), (al, .inr (6, [.int lm, .ref ed, .int lz])), (ed, .inl (cA 5, ln, .inr (.inr (.inr (.inr lf))))), (sh, .inr (4, [.int zw, .int zh, .long zA, .long zL, .long zR, .long zE]))] [.ref x, .int x1, .int x2]) (va_Qi (fun (r : Int32) (u : Unit) => ∃ v, out = .inl v ∧ (v.1 = r) ∧ v.2 = u) (fun (u : Unit) (t : State) => va_P D ga_cl [(x, .inr (1, [.ref g, xs, xp, .ref xi, .int xl, xr, xq])), (g, .inr (2, [.ref sh, .ref al, .int gr, .ref g_b, .ref g_t])), (al, .inr (6, [.int lm, .ref ed, .int lz])), (ed, .inl (cA 5, ln, .inr (.inr (.inr (.inr lf))))), (sh, .inr (4, [.int zw, .int zh, .long zA, .long zL, .long zR, .long zE]))] t.heap ∧ ga_K D cA t ∧ va_D A [(x, .inr (1, [.ref g, xs, xp, .ref xi, .int xl, xr, xq])), (g, .inr (2, [.ref sh, .ref al, .int gr, .ref g_b, .ref g_t])), (al, .inr (6, [.int lm, .ref ed, .int lz])), (ed, .inl (cA 5, ln, .inr (.inr (.inr (.inr lf))))), (sh, .inr (4, [.int zw, .int zh, .long zA, .long zL, .long zR, .long zE]))]) A) (vx_X (fun (u : Nat) => out = .inr u) (fun (E : String) (q9 : Nat) (u : Nat) (t : State) => E = ga_en u ∧ va_P D ga_cl [(x, .inr (1, [.ref g, xs, xp, .ref xi, .int xl, xr, xq])), (g, .inr (2, [.ref sh, .ref al, .int gr, .ref g_b, .ref g_t])), (al, .inr (6, [.int lm, .ref ed, .int lz])), (ed, .inl (cA 5, ln, .inr (.inr (.inr (.inr lf))))), (sh, .inr (4, [.int zw, .int zh, .long zA, .long zL, .long zR, .long zE]))] t.heap ∧ va_D A [(x, .inr (1, [.ref g, xs, xp, .ref xi, .int xl, xr, xq])), (g, .inr (2, [.ref sh, .ref al, .int gr, .ref g_b, .ref g_t])), (al, .inr (6, [.int lm, .ref ed, .int lz])), (ed, .inl (cA 5, ln, .inr (.inr (.inr (.inr lf))))), (sh, .inr (4, [.int zw, .int zh, .long zA, .long zL, .long zR, .long zE]))]) A) 2 12 A := by
  refine vx_ofW (cc := cX1_since) (maxL := 3) (ret := (some .int)) (by decide) rfl ?_
  intro p e s m args below meth c s₁ B hml htab hv
  have hX : ga_cx2 c l := ⟨htab, hstk⟩
  obtain ⟨rfl, hP, hK, hD, hA, hST, hR⟩ := hv
  have hS : va_S A s.heap s.heap [] := va_S.rf
  have C : ga_cx p m c meth s _ RX1 cX1_since 3 (some .int) := ga_cx_of B hml
  have C0 := C
  obtain ⟨hx, hb, hr, hlocks, hml, hown, hts⟩ := C0
  have hl := lv_entry ([.ref x, .int x1, .int x2]) (n := 3) (Nat.le_of_ble_eq_true rfl)
  rw [lg_entry_eq]
  generalize (lg_sl ([.ref x, .int x1, .int x2]) ++ List.replicate (3 - (lg_sl ([.ref x, .int x1, .int x2])).length) Slot.unset).toArray = ls at hl ⊢
  have hl : lv_has ls 3 [(0, .ref x), (1, .int x1), (2, .int x2)] := hl
  rw [F_X1_since] at h
  refine lv_aload_n hx hb dX1_since_0 rfl (lv_at hl 0 rfl) ?_
  refine lv_iload_n hx hb dX1_since_1 rfl (lv_at hl 1 rfl) ?_
  obtain ⟨r_1, e_2, h⟩ := ga_gb h
  have hFc := va_free (wc := [(x, .inr (1, [.ref g, xs, xp, .ref xi, .int xl, xr, xq])), (g, .inr (2, [.ref sh, .ref al, .int gr, .ref g_b, .ref g_t])), (sh, .inr (4, [.int zw, .int zh, .long zA, .long zL, .long zR, .long zE]))]) hD hS hA [0, 1, 4] rfl
  refine vx_callv (vx_runV (As := [.int x1]) (rest := []) ⟨hx, hb, hml, hown, hts⟩ (met_X1_checkCell l D cA (va_A [(x, .inr (1, [.ref g, xs, xp, .ref xi, .int xl, xr, xq])), (g, .inr (2, [.ref sh, .ref al, .int gr, .ref g_b, .ref g_t])), (sh, .inr (4, [.int zw, .int zh, .long zA, .long zL, .long zR, .long zE]))] s.heap.size) x g xs xp xi xr xq sh al g_b g_t zs xl gr zw zh zA zL zR zE N x1 hX.2 r_1 e_2) (cwV 1 hts (lw_V q657 q659 qs6 q67 q660) rfl rfl rfl (by decide +kernel) ⟨Nat.le_of_ble_eq_true rfl, Nat.le_of_ble_eq_true rfl⟩) (ga_XV hK (hP.sub (ws' := [(x, .inr (1, [.ref g, xs, xp, .ref xi, .int xl, xr, xq])), (g, .inr (2, [.ref sh, .ref al, .int gr, .ref g_b, .ref g_t])), (sh, .inr (4, [.int zw, .int zh, .long zA, .long zL, .long zR, .long zE]))]) [0, 1, 4] rfl) (hD.sub (ws' := [(x, .inr (1, [.ref g, xs, xp, .ref xi, .int xl, xr, xq])), (g, .inr (2, [.ref sh, .ref al, .int gr, .ref g_b, .ref g_t])), (sh, .inr (4, [.int zw, .int zh, .long zA, .long zL, .long zR, .long zE]))]) [0, 1, 4] (by decide) rfl).self (fun _ hq => Or.inr hq) (hST.at hS hFc) (va_recv hK.1 hP (ci := 1) (q0 := 0) rfl rfl)) rfl rfl hl.1 rfl (lv_room (Nat.le_of_ble_eq_true rfl)) dX1_since_2 ⟨Nat.le_of_ble_eq_true rfl, Nat.le_of_ble_eq_true rfl⟩) hS (fun q _ hq => hFc q hq) hFc (fun q _ hq => hFc q hq) (fun E_8 ce q_9 u_6 t H_7 locs ht _ w_4 hB _ hk hS hce hcv hcl => ?_) (fun u_6 t H_5 locs ht _ w_4 hB _ hk hS => ?_)
  · replace h := ga_swr w_4 h
    obtain ⟨eE, hP1, hD1⟩ := hB
    rw [ht] at hP1
    obtain ⟨hP, hD⟩ := va_join (wr := [(al, .inr (6, [.int lm, .ref ed, .int lz])), (ed, .inl (cA 5, ln, .inr (.inr (.inr (.inr lf)))))]) (w1 := [(x, .inr (1, [.ref g, xs, xp, .ref xi, .int xl, xr, xq])), (g, .inr (2, [.ref sh, .ref al, .int gr, .ref g_b, .ref g_t])), (sh, .inr (4, [.int zw, .int zh, .long zA, .long zL, .long zR, .long zE]))]) hP hD [0, 1, 4] [2, 3] rfl rfl (by decide) (by decide) hk hFc hP1 hD1
    have hP : va_P D ga_cl [(al, .inr (6, [.int lm, .ref ed, .int lz])), (ed, .inl (cA 5, ln, .inr (.inr (.inr (.inr lf))))), (x, .inr (1, [.ref g, xs, xp, .ref xi, .int xl, xr, xq])), (g, .inr (2, [.ref sh, .ref al, .int gr, .ref g_b, .ref g_t])), (sh, .inr (4, [.int zw, .int zh, .long zA, .long zL, .long zR, .long zE]))] H_7 := hP
    have hD : va_D A [(al, .inr (6, [.int lm, .ref ed, .int lz])), (ed, .inl (cA 5, ln, .inr (.inr (.inr (.inr lf))))), (x, .inr (1, [.ref g, xs, xp, .ref xi, .int xl, xr, xq])), (g, .inr (2, [.ref sh, .ref al, .int gr, .ref g_b, .ref g_t])), (sh, .inr (4, [.int zw, .int zh, .long zA, .long zL, .long zR, .long zE]))] := hD
    have hP9 := hP.sub (ws' := [(x, .inr (1, [.ref g, xs, xp, .ref xi, .int xl, xr, xq])), (g, .inr (2, [.ref sh, .ref al, .int gr, .ref g_b, .ref g_t])), (al, .inr (6, [.int lm, .ref ed, .int lz])), (ed, .inl (cA 5, ln, .inr (.inr (.inr (.inr lf))))), (sh, .inr (4, [.int zw, .int zh, .long zA, .long zL, .long zR, .long zE]))]) [2, 3, 0, 1, 4] rfl
    have hD9 := hD.sub (ws' := [(x, .inr (1, [.ref g, xs, xp, .ref xi, .int xl, xr, xq])), (g, .inr (2, [.ref sh, .ref al, .int gr, .ref g_b, .ref g_t])), (al, .inr (6, [.int lm, .ref ed, .int lz])), (ed, .inl (cA 5, ln, .inr (.inr (.inr (.inr lf))))), (sh, .inr (4, [.int zw, .int zh, .long zA, .long zL, .long zR, .long zE]))]) [2, 3, 0, 1, 4] (by decide) rfl
    obtain rfl := Option.some.inj h
    exact vx_out (fun x hx9 => (hX.1 x hx9).elim) hlocks hce hcv hcl (fun t ht _ => ⟨u_6, rfl, ⟨eE, by rw [ht]; exact hP9, hD9⟩, hS.F ht⟩) hS.2.2 (by decide) (by decide)
  · obtain ⟨v_10, ev_10, hv9⟩ := w_4
    replace h := ga_swl ev_10 h
    obtain rfl := hv9
    obtain ⟨hP1, -, hD1⟩ := hB
    rw [ht] at hP1
    obtain ⟨hP, hD⟩ := va_join (wr := [(al, .inr (6, [.int lm, .ref ed, .int lz])), (ed, .inl (cA 5, ln, .inr (.inr (.inr (.inr lf)))))]) (w1 := [(x, .inr (1, [.ref g, xs, xp, .ref xi, .int xl, xr, xq])), (g, .inr (2, [.ref sh, .ref al, .int gr, .ref g_b, .ref g_t])), (sh, .inr (4, [.int zw, .int zh, .long zA, .long zL, .long zR, .long zE]))]) hP hD [0, 1, 4] [2, 3] rfl rfl (by decide) (by decide) hk hFc hP1 hD1
    have hP : va_P D ga_cl [(al, .inr (6, [.int lm, .ref ed, .int lz])), (ed, .inl (cA 5, ln, .inr (.inr (.inr (.inr lf))))), (x, .inr (1, [.ref g, xs, xp, .ref xi, .int xl, xr, xq])), (g, .inr (2, [.ref sh, .ref al, .int gr, .ref g_b, .ref g_t])), (sh, .inr (4, [.int zw, .int zh, .long zA, .long zL, .long zR, .long zE]))] H_5 := hP
    have hD : va_D A [(al, .inr (6, [.int lm, .ref ed, .int lz])), (ed, .inl (cA 5, ln, .inr (.inr (.inr (.inr lf))))), (x, .inr (1, [.ref g, xs, xp, .ref xi, .int xl, xr, xq])), (g, .inr (2, [.ref sh, .ref al, .int gr, .ref g_b, .ref g_t])), (sh, .inr (4, [.int zw, .int zh, .long zA, .long zL, .long zR, .long zE]))] := hD
    refine W.cs (cells' := 1) (slots' := 6) rfl rfl ?_
    refine lv_iload_n hx hb dX1_since_5 rfl (lv_at hl 2 rfl) ?_
    refine lv_iconst (v := 0) hx hb dX1_since_6 (by decide) ?_
    refine lv_iconst (v := 1) hx hb dX1_since_7 (by decide) ?_
    obtain ⟨r_12, e_13, h⟩ := ga_gb h
    refine vp_callSi (va_Run.run (va_runS (As := [.int x2, .int 0, .int 1]) (rest := []) ⟨hx, hb, hml, hown, hts⟩ (met_X1_inRange l D cA N x2 0 1 r_12 e_13) (va_cwS 3 hts (lw_S q487 q488 q67 q489) rfl rfl rfl (by decide +kernel) ⟨Nat.le_of_ble_eq_true rfl, Nat.le_of_ble_eq_true rfl⟩) (ga_PS hK ga_P0) rfl rfl hl.1 rfl (lv_room (Nat.le_of_ble_eq_true rfl)) dX1_since_8 ⟨Nat.le_of_ble_eq_true rfl, Nat.le_of_ble_eq_true rfl⟩)) (fun z_14 w_15 => ?_)
    obtain ⟨rfl, b_16⟩ := w_15
    obtain ⟨r_17, e_18, h⟩ := ga_gb h
    have hFc := va_free (wc := []) hD hS hA [] rfl
    refine vx_callv (vx_runS (As := [.int r_12]) (rest := []) ⟨hx, hb, hml, hown, hts⟩ (met_X1_checkArgument l D cA (va_A [] H_5.size) zs N r_12 hX.2 r_17 e_18) (va_cwS 1 hts (lw_S q490 q491 q67 q492) rfl rfl rfl (by decide +kernel) ⟨Nat.le_of_ble_eq_true rfl, Nat.le_of_ble_eq_true rfl⟩) (ga_XS hK ga_P0 (hD.sub (ws' := []) [] (by decide) rfl).self (fun _ hq => Or.inr hq) (hST.at hS hFc)) rfl rfl hl.1 rfl (lv_room (Nat.le_of_ble_eq_true rfl)) dX1_since_11 ⟨Nat.le_of_ble_eq_true rfl, Nat.le_of_ble_eq_true rfl⟩) hS (fun q _ hq => hFc q hq) hFc (fun q _ hq => hFc q hq) (fun E_24 ce q_25 u_22 t H_23 locs ht _ w_20 hB _ hk hS hce hcv hcl => ?_) (fun u_22 t H_21 locs ht _ w_20 hB _ hk hS => ?_)
    · replace h := ga_swr w_20 h
      obtain ⟨eE, hP1, hD1⟩ := hB
      rw [ht] at hP1
      obtain ⟨hP, hD⟩ := va_join (wr := [(al, .inr (6, [.int lm, .ref ed, .int lz])), (ed, .inl (cA 5, ln, .inr (.inr (.inr (.inr lf))))), (x, .inr (1, [.ref g, xs, xp, .ref xi, .int xl, xr, xq])), (g, .inr (2, [.ref sh, .ref al, .int gr, .ref g_b, .ref g_t])), (sh, .inr (4, [.int zw, .int zh, .long zA, .long zL, .long zR, .long zE]))]) (w1 := []) hP hD [] [0, 1, 2, 3, 4] rfl rfl (by decide) (by decide) hk hFc hP1 hD1
      have hP : va_P D ga_cl [(al, .inr (6, [.int lm, .ref ed, .int lz])), (ed, .inl (cA 5, ln, .inr (.inr (.inr (.inr lf))))), (x, .inr (1, [.ref g, xs, xp, .ref xi, .int xl, xr, xq])), (g, .inr (2, [.ref sh, .ref al, .int gr, .ref g_b, .ref g_t])), (sh, .inr (4, [.int zw, .int zh, .long zA, .long zL, .long zR, .long zE]))] H_23 := hP
      have hD : va_D A [(al, .inr (6, [.int lm, .ref ed, .int lz])), (ed, .inl (cA 5, ln, .inr (.inr (.inr (.inr lf))))), (x, .inr (1, [.ref g, xs, xp, .ref xi, .int xl, xr, xq])), (g, .inr (2, [.ref sh, .ref al, .int gr, .ref g_b, .ref g_t])), (sh, .inr (4, [.int zw, .int zh, .long zA, .long zL, .long zR, .long zE]))] := hD
      have hP9 := hP.sub (ws' := [(x, .inr (1, [.ref g, xs, xp, .ref xi, .int xl, xr, xq])), (g, .inr (2, [.ref sh, .ref al, .int gr, .ref g_b, .ref g_t])), (al, .inr (6, [.int lm, .ref ed, .int lz])), (ed, .inl (cA 5, ln, .inr (.inr (.inr (.inr lf))))), (sh, .inr (4, [.int zw, .int zh, .long zA, .long zL, .long zR, .long zE]))]) [2, 3, 0, 1, 4] rfl
      have hD9 := hD.sub (ws' := [(x, .inr (1, [.ref g, xs, xp, .ref xi, .int xl, xr, xq])), (g, .inr (2, [.ref sh, .ref al, .int gr, .ref g_b, .ref g_t])), (al, .inr (6, [.int lm, .ref ed, .int lz])), (ed, .inl (cA 5, ln, .inr (.inr (.inr (.inr lf))))), (sh, .inr (4, [.int zw, .int zh, .long zA, .long zL, .long zR, .long zE]))]) [2, 3, 0, 1, 4] (by decide) rfl
      obtain rfl := Option.some.inj h
      exact vx_out (fun x hx9 => (hX.1 x hx9).elim) hlocks hce hcv hcl (fun t ht _ => ⟨u_22, rfl, ⟨eE, by rw [ht]; exact hP9, hD9⟩, hS.F ht⟩) hS.2.2 (by decide) (by decide)
    · obtain ⟨v_26, ev_26, hv9⟩ := w_20
      replace h := ga_swl ev_26 h
      obtain rfl := hv9
      obtain ⟨hP1, -, hD1⟩ := hB
      rw [ht] at hP1
      obtain ⟨hP, hD⟩ := va_join (wr := [(al, .inr (6, [.int lm, .ref ed, .int lz])), (ed, .inl (cA 5, ln, .inr (.inr (.inr (.inr lf))))), (x, .inr (1, [.ref g, xs, xp, .ref xi, .int xl, xr, xq])), (g, .inr (2, [.ref sh, .ref al, .int gr, .ref g_b, .ref g_t])), (sh, .inr (4, [.int zw, .int zh, .long zA, .long zL, .long zR, .long zE]))]) (w1 := []) hP hD [] [0, 1, 2, 3, 4] rfl rfl (by decide) (by decide) hk hFc hP1 hD1
      have hP : va_P D ga_cl [(al, .inr (6, [.int lm, .ref ed, .int lz])), (ed, .inl (cA 5, ln, .inr (.inr (.inr (.inr lf))))), (x, .inr (1, [.ref g, xs, xp, .ref xi, .int xl, xr, xq])), (g, .inr (2, [.ref sh, .ref al, .int gr, .ref g_b, .ref g_t])), (sh, .inr (4, [.int zw, .int zh, .long zA, .long zL, .long zR, .long zE]))] H_21 := hP
      have hD : va_D A [(al, .inr (6, [.int lm, .ref ed, .int lz])), (ed, .inl (cA 5, ln, .inr (.inr (.inr (.inr lf))))), (x, .inr (1, [.ref g, xs, xp, .ref xi, .int xl, xr, xq])), (g, .inr (2, [.ref sh, .ref al, .int gr, .ref g_b, .ref g_t])), (sh, .inr (4, [.int zw, .int zh, .long zA, .long zL, .long zR, .long zE]))] := hD
      refine W.cs (cells' := 2) (slots' := 12) rfl rfl ?_
      refine lv_iload_n hx hb dX1_since_14 rfl (lv_at hl 2 rfl) ?_
      refine lv_if_ne (tgt := 33) hx hb dX1_since_15 (by decide) (fun c_28 => ?_) (fun c_28 => ?_)
      · replace h := ga_iff c_28 h
        refine lv_aload_n hx hb dX1_since_33 rfl (lv_at hl 0 rfl) ?_
        refine va_get hx hb hts in_X1 hown hK.1 hP 2 (fs := [.ref g, xs, xp, .ref xi, .int xl, xr, xq]) rfl rfl 0 (by decide) (hts _ q350) (fun _ hh => hh) (v := .ref g) rfl dX1_since_34 ?_
        obtain ⟨i_39, h⟩ := ga_gif h
        obtain ⟨r_29, b_30, w_31, t_32, e_33, v_34, bs_35, ba_36, bc_37, bg_38, f_40, q_41, hn_42⟩ := (ga_poK.at (B := A) hR hS (fun _ h => h)) (ix (lz - 1)) i_39
        have hP : va_P D ga_cl [(al, .inr (6, [.int lm, .ref ed, .int lz])), (ed, .inl (cA 5, ln, .inr (.inr (.inr (.inr lf))))), (x, .inr (1, [.ref g, xs, xp, .ref xi, .int xl, xr, xq])), (g, .inr (2, [.ref sh, .ref al, .int gr, .ref g_b, .ref g_t])), (sh, .inr (4, [.int zw, .int zh, .long zA, .long zL, .long zR, .long zE])), (r_29, .inr (5, [.int (q1 (ix (lz - 1))), .int (q2 (ix (lz - 1))), .ref b_30, .ref w_31, .int (qN (ix (lz - 1))), .ref t_32, .ref e_33, .ref v_34])), (w_31, .inl (cA 0, 8, .inl (qW (ix (lz - 1))))), (t_32, .inl (cA 0, 2, .inl (qP (ix (lz - 1))))), (e_33, .inl (cA 0, 49, .inl (qR (ix (lz - 1))))), (v_34, .inl (cA 0, 49, .inl (qV (ix (lz - 1))))), (b_30, .inr (3, [.ref bs_35, .ref ba_36, .long (qB (ix (lz - 1))), .ref bc_37, .ref bg_38])), (bs_35, .inl (cA 1, 2, .inr (.inl (qS (ix (lz - 1)))))), (ba_36, .inl (cA 1, 2, .inr (.inl (qA (ix (lz - 1)))))), (bc_37, .inl (cA 0, 2, .inl (qC (ix (lz - 1))))), (bg_38, .inl (cA 1, 2, .inr (.inl (qG (ix (lz - 1))))))] H_21 := hP.app q_41
        have hr_43 : ga_ro D [(r_29, .inr (5, [.int (q1 (ix (lz - 1))), .int (q2 (ix (lz - 1))), .ref b_30, .ref w_31, .int (qN (ix (lz - 1))), .ref t_32, .ref e_33, .ref v_34])), (w_31, .inl (cA 0, 8, .inl (qW (ix (lz - 1))))), (t_32, .inl (cA 0, 2, .inl (qP (ix (lz - 1))))), (e_33, .inl (cA 0, 49, .inl (qR (ix (lz - 1))))), (v_34, .inl (cA 0, 49, .inl (qV (ix (lz - 1))))), (b_30, .inr (3, [.ref bs_35, .ref ba_36, .long (qB (ix (lz - 1))), .ref bc_37, .ref bg_38])), (bs_35, .inl (cA 1, 2, .inr (.inl (qS (ix (lz - 1)))))), (ba_36, .inl (cA 1, 2, .inr (.inl (qA (ix (lz - 1)))))), (bc_37, .inl (cA 0, 2, .inl (qC (ix (lz - 1))))), (bg_38, .inl (cA 1, 2, .inr (.inl (qG (ix (lz - 1))))))] A s H_21 := ⟨q_41, hn_42⟩
        obtain ⟨r_44, e_45, h⟩ := ga_gb h
        refine va_csr (va_Run.run (va_runV (As := []) (rest := []) ⟨hx, hb, hml, hown, hts⟩ (met_X2_last l D cA g sh al g_b g_t ed lf r_29 b_30 w_31 t_32 e_33 v_34 gr lm lz ln (q1 (ix (lz - 1))) (q2 (ix (lz - 1))) (qN (ix (lz - 1))) N f_40 r_44 e_45) (cwV 0 hts (lw_V q906 q389 q390 q68 q391) rfl rfl rfl (by decide +kernel) ⟨Nat.le_of_ble_eq_true rfl, Nat.le_of_ble_eq_true rfl⟩) (ga_PV hK (hP.sub (ws' := [(g, .inr (2, [.ref sh, .ref al, .int gr, .ref g_b, .ref g_t])), (al, .inr (6, [.int lm, .ref ed, .int lz])), (ed, .inl (cA 5, ln, .inr (.inr (.inr (.inr lf))))), (r_29, .inr (5, [.int (q1 (ix (lz - 1))), .int (q2 (ix (lz - 1))), .ref b_30, .ref w_31, .int (qN (ix (lz - 1))), .ref t_32, .ref e_33, .ref v_34]))]) [3, 0, 1, 5] rfl) (va_recv hK.1 hP (ci := 2) (q0 := 3) rfl rfl)) rfl rfl hl.1 rfl (lv_room (Nat.le_of_ble_eq_true rfl)) dX1_since_37 ⟨Nat.le_of_ble_eq_true rfl, Nat.le_of_ble_eq_true rfl⟩)) (fun _ _ => ?_)
        refine va_getN hx hb hts in_X5 hown hK.1 hP 5 (fs := [.int (q1 (ix (lz - 1))), .int (q2 (ix (lz - 1))), .ref b_30, .ref w_31, .int (qN (ix (lz - 1))), .ref t_32, .ref e_33, .ref v_34]) rfl rfl 7 (by decide) (ga_nu hK q240 rfl) (fun _ hh => hh) (v := .ref v_34) rfl dX1_since_40 ?_
        refine lv_iload_n hx hb dX1_since_43 rfl (lv_at hl 1 rfl) ?_
        obtain ⟨i_48, h⟩ := ga_gif h
        refine va_iald hx hb hK.1 hP 9 0 (f := (qV (ix (lz - 1)))) rfl rfl (ga_in i_48) dX1_since_44 ?_
        have hP9 := hP.sub (ws' := [(x, .inr (1, [.ref g, xs, xp, .ref xi, .int xl, xr, xq])), (g, .inr (2, [.ref sh, .ref al, .int gr, .ref g_b, .ref g_t])), (al, .inr (6, [.int lm, .ref ed, .int lz])), (ed, .inl (cA 5, ln, .inr (.inr (.inr (.inr lf))))), (sh, .inr (4, [.int zw, .int zh, .long zA, .long zL, .long zR, .long zE]))]) [2, 3, 0, 1, 4] rfl
        have hD9 := hD.sub (ws' := [(x, .inr (1, [.ref g, xs, xp, .ref xi, .int xl, xr, xq])), (g, .inr (2, [.ref sh, .ref al, .int gr, .ref g_b, .ref g_t])), (al, .inr (6, [.int lm, .ref ed, .int lz])), (ed, .inl (cA 5, ln, .inr (.inr (.inr (.inr lf))))), (sh, .inr (4, [.int zw, .int zh, .long zA, .long zL, .long zR, .long zE]))]) [2, 3, 0, 1, 4] (by decide) rfl
        obtain rfl := Option.some.inj h
        refine vx_ret ?_
        exact W.iret hx hb hr (fun t ht hW => ⟨⟨_, (), rfl, ⟨_, rfl, rfl, rfl⟩, ⟨by rw [ht]; exact hP9, hK.warm hW, hD9⟩⟩, hS.F ht⟩) hS.2.2 dX1_since_45
      · replace h := ga_ift c_28 h
        refine lv_aload_n hx hb dX1_since_18 rfl (lv_at hl 0 rfl) ?_
        refine va_get hx hb hts in_X1 hown hK.1 hP 2 (fs := [.ref g, xs, xp, .ref xi, .int xl, xr, xq]) rfl rfl 0 (by decide) (hts _ q350) (fun _ hh => hh) (v := .ref g) rfl dX1_since_19 ?_
        obtain ⟨i_59, h⟩ := ga_gif h
        obtain ⟨r_49, b_50, w_51, t_52, e_53, v_54, bs_55, ba_56, bc_57, bg_58, f_60, q_61, hn_62⟩ := (ga_poK.at (B := A) hR hS (fun _ h => h)) (ix (lz - 1)) i_59
        have hP : va_P D ga_cl [(al, .inr (6, [.int lm, .ref ed, .int lz])), (ed, .inl (cA 5, ln, .inr (.inr (.inr (.inr lf))))), (x, .inr (1, [.ref g, xs, xp, .ref xi, .int xl, xr, xq])), (g, .inr (2, [.ref sh, .ref al, .int gr, .ref g_b, .ref g_t])), (sh, .inr (4, [.int zw, .int zh, .long zA, .long zL, .long zR, .long zE])), (r_49, .inr (5, [.int (q1 (ix (lz - 1))), .int (q2 (ix (lz - 1))), .ref b_50, .ref w_51, .int (qN (ix (lz - 1))), .ref t_52, .ref e_53, .ref v_54])), (w_51, .inl (cA 0, 8, .inl (qW (ix (lz - 1))))), (t_52, .inl (cA 0, 2, .inl (qP (ix (lz - 1))))), (e_53, .inl (cA 0, 49, .inl (qR (ix (lz - 1))))), (v_54, .inl (cA 0, 49, .inl (qV (ix (lz - 1))))), (b_50, .inr (3, [.ref bs_55, .ref ba_56, .long (qB (ix (lz - 1))), .ref bc_57, .ref bg_58])), (bs_55, .inl (cA 1, 2, .inr (.inl (qS (ix (lz - 1)))))), (ba_56, .inl (cA 1, 2, .inr (.inl (qA (ix (lz - 1)))))), (bc_57, .inl (cA 0, 2, .inl (qC (ix (lz - 1))))), (bg_58, .inl (cA 1, 2, .inr (.inl (qG (ix (lz - 1))))))] H_21 := hP.app q_61
        have hr_63 : ga_ro D [(r_49, .inr (5, [.int (q1 (ix (lz - 1))), .int (q2 (ix (lz - 1))), .ref b_50, .ref w_51, .int (qN (ix (lz - 1))), .ref t_52, .ref e_53, .ref v_54])), (w_51, .inl (cA 0, 8, .inl (qW (ix (lz - 1))))), (t_52, .inl (cA 0, 2, .inl (qP (ix (lz - 1))))), (e_53, .inl (cA 0, 49, .inl (qR (ix (lz - 1))))), (v_54, .inl (cA 0, 49, .inl (qV (ix (lz - 1))))), (b_50, .inr (3, [.ref bs_55, .ref ba_56, .long (qB (ix (lz - 1))), .ref bc_57, .ref bg_58])), (bs_55, .inl (cA 1, 2, .inr (.inl (qS (ix (lz - 1)))))), (ba_56, .inl (cA 1, 2, .inr (.inl (qA (ix (lz - 1)))))), (bc_57, .inl (cA 0, 2, .inl (qC (ix (lz - 1))))), (bg_58, .inl (cA 1, 2, .inr (.inl (qG (ix (lz - 1))))))] A s H_21 := ⟨q_61, hn_62⟩
        obtain ⟨r_64, e_65, h⟩ := ga_gb h
        refine va_csr (va_Run.run (va_runV (As := []) (rest := []) ⟨hx, hb, hml, hown, hts⟩ (met_X2_last l D cA g sh al g_b g_t ed lf r_49 b_50 w_51 t_52 e_53 v_54 gr lm lz ln (q1 (ix (lz - 1))) (q2 (ix (lz - 1))) (qN (ix (lz - 1))) N f_60 r_64 e_65) (cwV 0 hts (lw_V q906 q389 q390 q68 q391) rfl rfl rfl (by decide +kernel) ⟨Nat.le_of_ble_eq_true rfl, Nat.le_of_ble_eq_true rfl⟩) (ga_PV hK (hP.sub (ws' := [(g, .inr (2, [.ref sh, .ref al, .int gr, .ref g_b, .ref g_t])), (al, .inr (6, [.int lm, .ref ed, .int lz])), (ed, .inl (cA 5, ln, .inr (.inr (.inr (.inr lf))))), (r_49, .inr (5, [.int (q1 (ix (lz - 1))), .int (q2 (ix (lz - 1))), .ref b_50, .ref w_51, .int (qN (ix (lz - 1))), .ref t_52, .ref e_53, .ref v_54]))]) [3, 0, 1, 5] rfl) (va_recv hK.1 hP (ci := 2) (q0 := 3) rfl rfl)) rfl rfl hl.1 rfl (lv_room (Nat.le_of_ble_eq_true rfl)) dX1_since_22 ⟨Nat.le_of_ble_eq_true rfl, Nat.le_of_ble_eq_true rfl⟩)) (fun _ _ => ?_)
        refine va_getN hx hb hts in_X5 hown hK.1 hP 5 (fs := [.int (q1 (ix (lz - 1))), .int (q2 (ix (lz - 1))), .ref b_50, .ref w_51, .int (qN (ix (lz - 1))), .ref t_52, .ref e_53, .ref v_54]) rfl rfl 6 (by decide) (ga_nu hK q237 rfl) (fun _ hh => hh) (v := .ref e_53) rfl dX1_since_25 ?_
        refine lv_iload_n hx hb dX1_since_28 rfl (lv_at hl 1 rfl) ?_
        obtain ⟨i_68, h⟩ := ga_gif h
        refine va_iald hx hb hK.1 hP 8 0 (f := (qR (ix (lz - 1)))) rfl rfl (ga_in i_68) dX1_since_29 ?_
        refine lv_goto (tgt := 45) hx hb dX1_since_30 (by decide) ?_
        have hP9 := hP.sub (ws' := [(x, .inr (1, [.ref g, xs, xp, .ref xi, .int xl, xr, xq])), (g, .inr (2, [.ref sh, .ref al, .int gr, .ref g_b, .ref g_t])), (al, .inr (6, [.int lm, .ref ed, .int lz])), (ed, .inl (cA 5, ln, .inr (.inr (.inr (.inr lf))))), (sh, .inr (4, [.int zw, .int zh, .long zA, .long zL, .long zR, .long zE]))]) [2, 3, 0, 1, 4] rfl
        have hD9 := hD.sub (ws' := [(x, .inr (1, [.ref g, xs, xp, .ref xi, .int xl, xr, xq])), (g, .inr (2, [.ref sh, .ref al, .int gr, .ref g_b, .ref g_t])), (al, .inr (6, [.int lm, .ref ed, .int lz])), (ed, .inl (cA 5, ln, .inr (.inr (.inr (.inr lf))))), (sh, .inr (4, [.int zw, .int zh, .long zA, .long zL, .long zR, .long zE]))]) [2, 3, 0, 1, 4] (by decide) rfl
        obtain rfl := Option.some.inj h
        refine vx_ret ?_
        exact W.iret hx hb hr (fun t ht hW => ⟨⟨_, (), rfl, ⟨_, rfl, rfl, rfl⟩, ⟨by rw [ht]; exact hP9, hK.warm hW, hD9⟩⟩, hS.F ht⟩) hS.2.2 dX1_since_45
abbrev rm_X1_region : Room := { frames := 8, cells := 3, slots := 18, locals := 142 }
def F_X1_region (N : Nat) (xl : Int32) (gr : Int32) (lm : Int32) (lz : Int32) (ln : Nat) (zw : Int32) (zh : Int32) (zA : Int64) (zL : Int64) (zR : Int64) (zE : Int64) (np : Nat) (q1 : Nat → Int32) (q2 : Nat → Int32) (qN : Nat → Int32) (qW : Nat → Nat → Int32) (qP : Nat → Nat → Int32) (qR : Nat → Nat → Int32) (qV : Nat → Nat → Int32) (qB : Nat → Int64) (qS : Nat → Nat → Int64) (qA : Nat → Nat → Int64) (qG : Nat → Nat → Int64) (qC : Nat → Nat → Int32) (x1 : Int32) (x2 : Int32) : Option ((Int64 × Unit) ⊕ Nat) :=
  ((F_X1_checkPlayer N x1).bind fun r_1 => ga_sw r_1 (fun v_10 =>
  ((F_X1_checkCell N xl gr zw zh zA zL zR zE x2).bind fun r_12 => ga_sw r_12 (fun v_21 =>
  (if ix (lz - 1) < np then
  ((F_X2_board N gr lm lz ln (q1 (ix (lz - 1))) (q2 (ix (lz - 1))) (qN (ix (lz - 1)))).bind fun r_38 =>
  ((F_X3_open N (qB (ix (lz - 1))) (qS (ix (lz - 1))) (qA (ix (lz - 1))) zw zh zA zL zR zE x1).bind fun r_42 =>
  ((F_X1_has N r_42 x2).bind fun r_47 =>
  ((F_X1_checkFound N r_47).bind fun r_52 => ga_sw r_52 (fun v_61 =>
  ((F_X4_connected N zw zh zA zL zR zE x2 r_42).bind fun r_63 =>
  some (.inl (r_63, ())))) (fun u_57 =>
  some (.inr u_57))))))
  else none)) (fun u_17 =>
  some (.inr u_17)))) (fun u_6 =>
  some (.inr u_6)))
set_option maxHeartbeats 4000000 in
theorem met_X1_region (l : Launch) (D : va_G) (cA : Nat → ClassId) (A : Nat → Prop) (x : Nat) (g : Nat) (xs : Value) (xp : Value) (xi : Nat) (xr : Value) (xq : Value) (sh : Nat) (al : Nat) (g_b : Nat) (g_t : Nat) (ed : Nat) (lf : Nat → Option Nat) (zs : Nat → Nat) (xl : Int32) (gr : Int32) (lm : Int32) (lz : Int32) (ln : Nat) (zw : Int32) (zh : Int32) (zA : Int64) (zL : Int64) (zR : Int64) (zE : Int64) (np : Nat) (q1 : Nat → Int32) (q2 : Nat → Int32) (qN : Nat → Int32) (qW : Nat → Nat → Int32) (qP : Nat → Nat → Int32) (qR : Nat → Nat → Int32) (qV : Nat → Nat → Int32) (qB : Nat → Int64) (qS : Nat → Nat → Int64) (qA : Nat → Nat → Int64) (qG : Nat → Nat → Int64) (qC : Nat → Nat → Int32) (N : Nat) (x1 : Int32) (x2 : Int32)  (hstk : l.stackTraces = false) (out : (Int64 × Unit) ⊕ Nat) (h : F_X1_region N xl gr lm lz ln zw zh zA zL zR zE np q1 q2 qN qW qP qR qV qB qS qA qG qC x1 x2 = some out) : vx_Met l yX1_region (ws_ yX1_region cX1_region 5 (some .long)) rm_X1_region (ga_XR D cA zs A (ga_po D cA lf np q1 q2 qN qW qP qR qV qB qS qA qG qC) [(x, .inr (1, [.ref g, xs, xp, .ref xi, .int xl, xr, xq])), (g, .inr (2, [.ref sh, .ref al, .int gr, .ref g_b, .ref g_t])), (al, .inr (6, [.int lm, .ref ed, .int lz])), (ed, .inl (cA 5, ln, .inr (.inr (.inr (.inr lf))))), (sh, .inr (4, [.int zw, .int zh, .long zA, .long zL, .long zR, .long zE]))] [.ref x, .int x1, .int x2]) (va_Ql (fun (r : Int64) (u : Unit) => ∃ v, out = .inl v ∧ (v.1 = r) ∧ v.2 = u) (fun (u : Unit) (t : State) => va_P D ga_cl [(x, .inr (1, [.ref g, xs, xp, .ref xi, .int xl, xr, xq])), (g, .inr (2, [.ref sh, .ref al, .int gr, .ref g_b, .ref g_t])), (al, .inr (6, [.int lm, .ref ed, .int lz])), (ed, .inl (cA 5, ln, .inr (.inr (.inr (.inr lf))))), (sh, .inr (4, [.int zw, .int zh, .long zA, .long zL, .long zR, .long zE]))] t.heap ∧ ga_K D cA t ∧ va_D A [(x, .inr (1, [.ref g, xs, xp, .ref xi, .int xl, xr, xq])), (g, .inr (2, [.ref sh, .ref al, .int gr, .ref g_b, .ref g_t])), (al, .inr (6, [.int lm, .ref ed, .int lz])), (ed, .inl (cA 5, ln, .inr (.inr (.inr (.inr lf))))), (sh, .inr (4, [.int zw, .int zh, .long zA, .long zL, .long zR, .long zE]))]) A) (vx_X (fun (u : Nat) => out = .inr u) (fun (E : String) (q9 : Nat) (u : Nat) (t : State) => E = ga_en u ∧ va_P D ga_cl [(x, .inr (1, [.ref g, xs, xp, .ref xi, .int xl, xr, xq])), (g, .inr (2, [.ref sh, .ref al, .int gr, .ref g_b, .ref g_t])), (al, .inr (6, [.int lm, .ref ed, .int lz])), (ed, .inl (cA 5, ln, .inr (.inr (.inr (.inr lf))))), (sh, .inr (4, [.int zw, .int zh, .long zA, .long zL, .long zR, .long zE]))] t.heap ∧ va_D A [(x, .inr (1, [.ref g, xs, xp, .ref xi, .int xl, xr, xq])), (g, .inr (2, [.ref sh, .ref al, .int gr, .ref g_b, .ref g_t])), (al, .inr (6, [.int lm, .ref ed, .int lz])), (ed, .inl (cA 5, ln, .inr (.inr (.inr (.inr lf))))), (sh, .inr (4, [.int zw, .int zh, .long zA, .long zL, .long zR, .long zE]))]) A) 3 18 A := by
  refine vx_ofW (cc := cX1_region) (maxL := 5) (ret := (some .long)) (by decide) rfl ?_
  intro p e s m args below meth c s₁ B hml htab hv
  have hX : ga_cx2 c l := ⟨htab, hstk⟩
  obtain ⟨rfl, hP, hK, hD, hA, hST, hR⟩ := hv
  have hS : va_S A s.heap s.heap [] := va_S.rf
  have C : ga_cx p m c meth s _ RX1 cX1_region 5 (some .long) := ga_cx_of B hml
  have C0 := C
  obtain ⟨hx, hb, hr, hlocks, hml, hown, hts⟩ := C0
  have hl := lv_entry ([.ref x, .int x1, .int x2]) (n := 5) (Nat.le_of_ble_eq_true rfl)
  rw [lg_entry_eq]
  generalize (lg_sl ([.ref x, .int x1, .int x2]) ++ List.replicate (5 - (lg_sl ([.ref x, .int x1, .int x2])).length) Slot.unset).toArray = ls at hl ⊢
  have hl : lv_has ls 5 [(0, .ref x), (1, .int x1), (2, .int x2)] := hl
  rw [F_X1_region] at h
  refine lv_iload_n hx hb dX1_region_0 rfl (lv_at hl 1 rfl) ?_
  obtain ⟨r_1, e_2, h⟩ := ga_gb h
  have hFc := va_free (wc := []) hD hS hA [] rfl
  refine vx_callv (vx_runS (As := [.int x1]) (rest := []) ⟨hx, hb, hml, hown, hts⟩ (met_X1_checkPlayer l D cA (va_A [] s.heap.size) zs N x1 hX.2 r_1 e_2) (va_cwS 1 hts (lw_S q622 q623 q67 q624) rfl rfl rfl (by decide +kernel) ⟨Nat.le_of_ble_eq_true rfl, Nat.le_of_ble_eq_true rfl⟩) (ga_XS hK ga_P0 (hD.sub (ws' := []) [] (by decide) rfl).self (fun _ hq => Or.inr hq) (hST.at hS hFc)) rfl rfl hl.1 rfl (lv_room (Nat.le_of_ble_eq_true rfl)) dX1_region_1 ⟨Nat.le_of_ble_eq_true rfl, Nat.le_of_ble_eq_true rfl⟩) hS (fun q _ hq => hFc q hq) hFc (fun q _ hq => hFc q hq) (fun E_8 ce q_9 u_6 t H_7 locs ht _ w_4 hB _ hk hS hce hcv hcl => ?_) (fun u_6 t H_5 locs ht _ w_4 hB _ hk hS => ?_)
  · replace h := ga_swr w_4 h
    obtain ⟨eE, hP1, hD1⟩ := hB
    rw [ht] at hP1
    obtain ⟨hP, hD⟩ := va_join (wr := [(x, .inr (1, [.ref g, xs, xp, .ref xi, .int xl, xr, xq])), (g, .inr (2, [.ref sh, .ref al, .int gr, .ref g_b, .ref g_t])), (al, .inr (6, [.int lm, .ref ed, .int lz])), (ed, .inl (cA 5, ln, .inr (.inr (.inr (.inr lf))))), (sh, .inr (4, [.int zw, .int zh, .long zA, .long zL, .long zR, .long zE]))]) (w1 := []) hP hD [] [0, 1, 2, 3, 4] rfl rfl (by decide) (by decide) hk hFc hP1 hD1
    have hP : va_P D ga_cl [(x, .inr (1, [.ref g, xs, xp, .ref xi, .int xl, xr, xq])), (g, .inr (2, [.ref sh, .ref al, .int gr, .ref g_b, .ref g_t])), (al, .inr (6, [.int lm, .ref ed, .int lz])), (ed, .inl (cA 5, ln, .inr (.inr (.inr (.inr lf))))), (sh, .inr (4, [.int zw, .int zh, .long zA, .long zL, .long zR, .long zE]))] H_7 := hP
    have hD : va_D A [(x, .inr (1, [.ref g, xs, xp, .ref xi, .int xl, xr, xq])), (g, .inr (2, [.ref sh, .ref al, .int gr, .ref g_b, .ref g_t])), (al, .inr (6, [.int lm, .ref ed, .int lz])), (ed, .inl (cA 5, ln, .inr (.inr (.inr (.inr lf))))), (sh, .inr (4, [.int zw, .int zh, .long zA, .long zL, .long zR, .long zE]))] := hD
    have hP9 := hP.sub (ws' := [(x, .inr (1, [.ref g, xs, xp, .ref xi, .int xl, xr, xq])), (g, .inr (2, [.ref sh, .ref al, .int gr, .ref g_b, .ref g_t])), (al, .inr (6, [.int lm, .ref ed, .int lz])), (ed, .inl (cA 5, ln, .inr (.inr (.inr (.inr lf))))), (sh, .inr (4, [.int zw, .int zh, .long zA, .long zL, .long zR, .long zE]))]) [0, 1, 2, 3, 4] rfl
    have hD9 := hD.sub (ws' := [(x, .inr (1, [.ref g, xs, xp, .ref xi, .int xl, xr, xq])), (g, .inr (2, [.ref sh, .ref al, .int gr, .ref g_b, .ref g_t])), (al, .inr (6, [.int lm, .ref ed, .int lz])), (ed, .inl (cA 5, ln, .inr (.inr (.inr (.inr lf))))), (sh, .inr (4, [.int zw, .int zh, .long zA, .long zL, .long zR, .long zE]))]) [0, 1, 2, 3, 4] (by decide) rfl
    obtain rfl := Option.some.inj h
    exact vx_out (fun x hx9 => (hX.1 x hx9).elim) hlocks hce hcv hcl (fun t ht _ => ⟨u_6, rfl, ⟨eE, by rw [ht]; exact hP9, hD9⟩, hS.F ht⟩) hS.2.2 (by decide) (by decide)
  · obtain ⟨v_10, ev_10, hv9⟩ := w_4
    replace h := ga_swl ev_10 h
    obtain rfl := hv9
    obtain ⟨hP1, -, hD1⟩ := hB
    rw [ht] at hP1
    obtain ⟨hP, hD⟩ := va_join (wr := [(x, .inr (1, [.ref g, xs, xp, .ref xi, .int xl, xr, xq])), (g, .inr (2, [.ref sh, .ref al, .int gr, .ref g_b, .ref g_t])), (al, .inr (6, [.int lm, .ref ed, .int lz])), (ed, .inl (cA 5, ln, .inr (.inr (.inr (.inr lf))))), (sh, .inr (4, [.int zw, .int zh, .long zA, .long zL, .long zR, .long zE]))]) (w1 := []) hP hD [] [0, 1, 2, 3, 4] rfl rfl (by decide) (by decide) hk hFc hP1 hD1
    have hP : va_P D ga_cl [(x, .inr (1, [.ref g, xs, xp, .ref xi, .int xl, xr, xq])), (g, .inr (2, [.ref sh, .ref al, .int gr, .ref g_b, .ref g_t])), (al, .inr (6, [.int lm, .ref ed, .int lz])), (ed, .inl (cA 5, ln, .inr (.inr (.inr (.inr lf))))), (sh, .inr (4, [.int zw, .int zh, .long zA, .long zL, .long zR, .long zE]))] H_5 := hP
    have hD : va_D A [(x, .inr (1, [.ref g, xs, xp, .ref xi, .int xl, xr, xq])), (g, .inr (2, [.ref sh, .ref al, .int gr, .ref g_b, .ref g_t])), (al, .inr (6, [.int lm, .ref ed, .int lz])), (ed, .inl (cA 5, ln, .inr (.inr (.inr (.inr lf))))), (sh, .inr (4, [.int zw, .int zh, .long zA, .long zL, .long zR, .long zE]))] := hD
    refine W.cs (cells' := 1) (slots' := 6) rfl rfl ?_
    refine lv_aload_n hx hb dX1_region_4 rfl (lv_at hl 0 rfl) ?_
    refine lv_iload_n hx hb dX1_region_5 rfl (lv_at hl 2 rfl) ?_
    obtain ⟨r_12, e_13, h⟩ := ga_gb h
    have hFc := va_free (wc := [(x, .inr (1, [.ref g, xs, xp, .ref xi, .int xl, xr, xq])), (g, .inr (2, [.ref sh, .ref al, .int gr, .ref g_b, .ref g_t])), (sh, .inr (4, [.int zw, .int zh, .long zA, .long zL, .long zR, .long zE]))]) hD hS hA [0, 1, 4] rfl
    refine vx_callv (vx_runV (As := [.int x2]) (rest := []) ⟨hx, hb, hml, hown, hts⟩ (met_X1_checkCell l D cA (va_A [(x, .inr (1, [.ref g, xs, xp, .ref xi, .int xl, xr, xq])), (g, .inr (2, [.ref sh, .ref al, .int gr, .ref g_b, .ref g_t])), (sh, .inr (4, [.int zw, .int zh, .long zA, .long zL, .long zR, .long zE]))] H_5.size) x g xs xp xi xr xq sh al g_b g_t zs xl gr zw zh zA zL zR zE N x2 hX.2 r_12 e_13) (cwV 1 hts (lw_V q657 q659 qs6 q67 q660) rfl rfl rfl (by decide +kernel) ⟨Nat.le_of_ble_eq_true rfl, Nat.le_of_ble_eq_true rfl⟩) (ga_XV hK (hP.sub (ws' := [(x, .inr (1, [.ref g, xs, xp, .ref xi, .int xl, xr, xq])), (g, .inr (2, [.ref sh, .ref al, .int gr, .ref g_b, .ref g_t])), (sh, .inr (4, [.int zw, .int zh, .long zA, .long zL, .long zR, .long zE]))]) [0, 1, 4] rfl) (hD.sub (ws' := [(x, .inr (1, [.ref g, xs, xp, .ref xi, .int xl, xr, xq])), (g, .inr (2, [.ref sh, .ref al, .int gr, .ref g_b, .ref g_t])), (sh, .inr (4, [.int zw, .int zh, .long zA, .long zL, .long zR, .long zE]))]) [0, 1, 4] (by decide) rfl).self (fun _ hq => Or.inr hq) (hST.at hS hFc) (va_recv hK.1 hP (ci := 1) (q0 := 0) rfl rfl)) rfl rfl hl.1 rfl (lv_room (Nat.le_of_ble_eq_true rfl)) dX1_region_6 ⟨Nat.le_of_ble_eq_true rfl, Nat.le_of_ble_eq_true rfl⟩) hS (fun q _ hq => hFc q hq) hFc (fun q _ hq => hFc q hq) (fun E_19 ce q_20 u_17 t H_18 locs ht _ w_15 hB _ hk hS hce hcv hcl => ?_) (fun u_17 t H_16 locs ht _ w_15 hB _ hk hS => ?_)
    · replace h := ga_swr w_15 h
      obtain ⟨eE, hP1, hD1⟩ := hB
      rw [ht] at hP1
      obtain ⟨hP, hD⟩ := va_join (wr := [(al, .inr (6, [.int lm, .ref ed, .int lz])), (ed, .inl (cA 5, ln, .inr (.inr (.inr (.inr lf)))))]) (w1 := [(x, .inr (1, [.ref g, xs, xp, .ref xi, .int xl, xr, xq])), (g, .inr (2, [.ref sh, .ref al, .int gr, .ref g_b, .ref g_t])), (sh, .inr (4, [.int zw, .int zh, .long zA, .long zL, .long zR, .long zE]))]) hP hD [0, 1, 4] [2, 3] rfl rfl (by decide) (by decide) hk hFc hP1 hD1
      have hP : va_P D ga_cl [(al, .inr (6, [.int lm, .ref ed, .int lz])), (ed, .inl (cA 5, ln, .inr (.inr (.inr (.inr lf))))), (x, .inr (1, [.ref g, xs, xp, .ref xi, .int xl, xr, xq])), (g, .inr (2, [.ref sh, .ref al, .int gr, .ref g_b, .ref g_t])), (sh, .inr (4, [.int zw, .int zh, .long zA, .long zL, .long zR, .long zE]))] H_18 := hP
      have hD : va_D A [(al, .inr (6, [.int lm, .ref ed, .int lz])), (ed, .inl (cA 5, ln, .inr (.inr (.inr (.inr lf))))), (x, .inr (1, [.ref g, xs, xp, .ref xi, .int xl, xr, xq])), (g, .inr (2, [.ref sh, .ref al, .int gr, .ref g_b, .ref g_t])), (sh, .inr (4, [.int zw, .int zh, .long zA, .long zL, .long zR, .long zE]))] := hD
      have hP9 := hP.sub (ws' := [(x, .inr (1, [.ref g, xs, xp, .ref xi, .int xl, xr, xq])), (g, .inr (2, [.ref sh, .ref al, .int gr, .ref g_b, .ref g_t])), (al, .inr (6, [.int lm, .ref ed, .int lz])), (ed, .inl (cA 5, ln, .inr (.inr (.inr (.inr lf))))), (sh, .inr (4, [.int zw, .int zh, .long zA, .long zL, .long zR, .long zE]))]) [2, 3, 0, 1, 4] rfl
      have hD9 := hD.sub (ws' := [(x, .inr (1, [.ref g, xs, xp, .ref xi, .int xl, xr, xq])), (g, .inr (2, [.ref sh, .ref al, .int gr, .ref g_b, .ref g_t])), (al, .inr (6, [.int lm, .ref ed, .int lz])), (ed, .inl (cA 5, ln, .inr (.inr (.inr (.inr lf))))), (sh, .inr (4, [.int zw, .int zh, .long zA, .long zL, .long zR, .long zE]))]) [2, 3, 0, 1, 4] (by decide) rfl
      obtain rfl := Option.some.inj h
      exact vx_out (fun x hx9 => (hX.1 x hx9).elim) hlocks hce hcv hcl (fun t ht _ => ⟨u_17, rfl, ⟨eE, by rw [ht]; exact hP9, hD9⟩, hS.F ht⟩) hS.2.2 (by decide) (by decide)
    · obtain ⟨v_21, ev_21, hv9⟩ := w_15
      replace h := ga_swl ev_21 h
      obtain rfl := hv9
      obtain ⟨hP1, -, hD1⟩ := hB
      rw [ht] at hP1
      obtain ⟨hP, hD⟩ := va_join (wr := [(al, .inr (6, [.int lm, .ref ed, .int lz])), (ed, .inl (cA 5, ln, .inr (.inr (.inr (.inr lf)))))]) (w1 := [(x, .inr (1, [.ref g, xs, xp, .ref xi, .int xl, xr, xq])), (g, .inr (2, [.ref sh, .ref al, .int gr, .ref g_b, .ref g_t])), (sh, .inr (4, [.int zw, .int zh, .long zA, .long zL, .long zR, .long zE]))]) hP hD [0, 1, 4] [2, 3] rfl rfl (by decide) (by decide) hk hFc hP1 hD1
      have hP : va_P D ga_cl [(al, .inr (6, [.int lm, .ref ed, .int lz])), (ed, .inl (cA 5, ln, .inr (.inr (.inr (.inr lf))))), (x, .inr (1, [.ref g, xs, xp, .ref xi, .int xl, xr, xq])), (g, .inr (2, [.ref sh, .ref al, .int gr, .ref g_b, .ref g_t])), (sh, .inr (4, [.int zw, .int zh, .long zA, .long zL, .long zR, .long zE]))] H_16 := hP
      have hD : va_D A [(al, .inr (6, [.int lm, .ref ed, .int lz])), (ed, .inl (cA 5, ln, .inr (.inr (.inr (.inr lf))))), (x, .inr (1, [.ref g, xs, xp, .ref xi, .int xl, xr, xq])), (g, .inr (2, [.ref sh, .ref al, .int gr, .ref g_b, .ref g_t])), (sh, .inr (4, [.int zw, .int zh, .long zA, .long zL, .long zR, .long zE]))] := hD
      refine W.cs (cells' := 2) (slots' := 12) rfl rfl ?_
      refine lv_aload_n hx hb dX1_region_9 rfl (lv_at hl 0 rfl) ?_
      refine va_get hx hb hts in_X1 hown hK.1 hP 2 (fs := [.ref g, xs, xp, .ref xi, .int xl, xr, xq]) rfl rfl 0 (by decide) (hts _ q350) (fun _ hh => hh) (v := .ref g) rfl dX1_region_10 ?_
      obtain ⟨i_33, h⟩ := ga_gif h
      obtain ⟨r_23, b_24, w_25, t_26, e_27, v_28, bs_29, ba_30, bc_31, bg_32, f_34, q_35, hn_36⟩ := (ga_poK.at (B := A) hR hS (fun _ h => h)) (ix (lz - 1)) i_33
      have hP : va_P D ga_cl [(al, .inr (6, [.int lm, .ref ed, .int lz])), (ed, .inl (cA 5, ln, .inr (.inr (.inr (.inr lf))))), (x, .inr (1, [.ref g, xs, xp, .ref xi, .int xl, xr, xq])), (g, .inr (2, [.ref sh, .ref al, .int gr, .ref g_b, .ref g_t])), (sh, .inr (4, [.int zw, .int zh, .long zA, .long zL, .long zR, .long zE])), (r_23, .inr (5, [.int (q1 (ix (lz - 1))), .int (q2 (ix (lz - 1))), .ref b_24, .ref w_25, .int (qN (ix (lz - 1))), .ref t_26, .ref e_27, .ref v_28])), (w_25, .inl (cA 0, 8, .inl (qW (ix (lz - 1))))), (t_26, .inl (cA 0, 2, .inl (qP (ix (lz - 1))))), (e_27, .inl (cA 0, 49, .inl (qR (ix (lz - 1))))), (v_28, .inl (cA 0, 49, .inl (qV (ix (lz - 1))))), (b_24, .inr (3, [.ref bs_29, .ref ba_30, .long (qB (ix (lz - 1))), .ref bc_31, .ref bg_32])), (bs_29, .inl (cA 1, 2, .inr (.inl (qS (ix (lz - 1)))))), (ba_30, .inl (cA 1, 2, .inr (.inl (qA (ix (lz - 1)))))), (bc_31, .inl (cA 0, 2, .inl (qC (ix (lz - 1))))), (bg_32, .inl (cA 1, 2, .inr (.inl (qG (ix (lz - 1))))))] H_16 := hP.app q_35
      have hr_37 : ga_ro D [(r_23, .inr (5, [.int (q1 (ix (lz - 1))), .int (q2 (ix (lz - 1))), .ref b_24, .ref w_25, .int (qN (ix (lz - 1))), .ref t_26, .ref e_27, .ref v_28])), (w_25, .inl (cA 0, 8, .inl (qW (ix (lz - 1))))), (t_26, .inl (cA 0, 2, .inl (qP (ix (lz - 1))))), (e_27, .inl (cA 0, 49, .inl (qR (ix (lz - 1))))), (v_28, .inl (cA 0, 49, .inl (qV (ix (lz - 1))))), (b_24, .inr (3, [.ref bs_29, .ref ba_30, .long (qB (ix (lz - 1))), .ref bc_31, .ref bg_32])), (bs_29, .inl (cA 1, 2, .inr (.inl (qS (ix (lz - 1)))))), (ba_30, .inl (cA 1, 2, .inr (.inl (qA (ix (lz - 1)))))), (bc_31, .inl (cA 0, 2, .inl (qC (ix (lz - 1))))), (bg_32, .inl (cA 1, 2, .inr (.inl (qG (ix (lz - 1))))))] A s H_16 := ⟨q_35, hn_36⟩
      obtain ⟨r_38, e_39, h⟩ := ga_gb h
      refine va_csr (va_Run.run (va_runV (As := []) (rest := []) ⟨hx, hb, hml, hown, hts⟩ (met_X2_board l D cA g sh al g_b g_t ed lf r_23 b_24 w_25 t_26 e_27 v_28 gr lm lz ln (q1 (ix (lz - 1))) (q2 (ix (lz - 1))) (qN (ix (lz - 1))) N f_34 r_38 e_39) (cwV 0 hts (lw_V q565 q385 q386 q68 q387) rfl rfl rfl (by decide +kernel) ⟨Nat.le_of_ble_eq_true rfl, Nat.le_of_ble_eq_true rfl⟩) (ga_PV hK (hP.sub (ws' := [(g, .inr (2, [.ref sh, .ref al, .int gr, .ref g_b, .ref g_t])), (al, .inr (6, [.int lm, .ref ed, .int lz])), (ed, .inl (cA 5, ln, .inr (.inr (.inr (.inr lf))))), (r_23, .inr (5, [.int (q1 (ix (lz - 1))), .int (q2 (ix (lz - 1))), .ref b_24, .ref w_25, .int (qN (ix (lz - 1))), .ref t_26, .ref e_27, .ref v_28]))]) [3, 0, 1, 5] rfl) (va_recv hK.1 hP (ci := 2) (q0 := 3) rfl rfl)) rfl rfl hl.1 rfl (lv_room (Nat.le_of_ble_eq_true rfl)) dX1_region_13 ⟨Nat.le_of_ble_eq_true rfl, Nat.le_of_ble_eq_true rfl⟩)) (fun _ _ => ?_)
      refine lv_aload_n hx hb dX1_region_16 rfl (lv_at hl 0 rfl) ?_
      refine va_get hx hb hts in_X1 hown hK.1 hP 2 (fs := [.ref g, xs, xp, .ref xi, .int xl, xr, xq]) rfl rfl 0 (by decide) (hts _ q350) (fun _ hh => hh) (v := .ref g) rfl dX1_region_17 ?_
      refine va_getN hx hb hts in_X2 hown hK.1 hP 3 (fs := [.ref sh, .ref al, .int gr, .ref g_b, .ref g_t]) rfl rfl 0 (by decide) (ga_nu hK q329 rfl) (fun _ hh => hh) (v := .ref sh) rfl dX1_region_20 ?_
      refine lv_iload_n hx hb dX1_region_23 rfl (lv_at hl 1 rfl) ?_
      obtain ⟨r_42, e_43, h⟩ := ga_gb h
      refine vp_callSl (va_Run.run (va_runV (As := [.ref sh, .int x1]) (rest := []) ⟨hx, hb, hml, hown, hts⟩ (met_X3_open l D cA b_24 bs_29 ba_30 bc_31 bg_32 sh (qB (ix (lz - 1))) (qS (ix (lz - 1))) (qA (ix (lz - 1))) zw zh zA zL zR zE N x1 r_42 e_43) (cwV 2 hts (lw_V q944 q839 q840 q72 q841) rfl rfl rfl (by decide +kernel) ⟨Nat.le_of_ble_eq_true rfl, Nat.le_of_ble_eq_true rfl⟩) (ga_PV hK (hP.sub (ws' := [(b_24, .inr (3, [.ref bs_29, .ref ba_30, .long (qB (ix (lz - 1))), .ref bc_31, .ref bg_32])), (bs_29, .inl (cA 1, 2, .inr (.inl (qS (ix (lz - 1)))))), (ba_30, .inl (cA 1, 2, .inr (.inl (qA (ix (lz - 1)))))), (sh, .inr (4, [.int zw, .int zh, .long zA, .long zL, .long zR, .long zE]))]) [10, 11, 12, 4] rfl) (va_recv hK.1 hP (ci := 3) (q0 := 10) rfl rfl)) rfl rfl hl.1 rfl (lv_room (Nat.le_of_ble_eq_true rfl)) dX1_region_24 ⟨Nat.le_of_ble_eq_true rfl, Nat.le_of_ble_eq_true rfl⟩)) (fun z_44 w_45 => ?_)
      obtain rfl := w_45
      refine lv_lstore_n (lv' := [(3, .long r_42), (0, .ref x), (1, .int x1), (2, .int x2)]) hx hb dX1_region_27 rfl hl (by decide) rfl (fun ls hl => ?_)
      refine lv_lload_n hx hb dX1_region_28 rfl (lv_at hl 0 rfl) ?_
      refine lv_iload_n hx hb dX1_region_29 rfl (lv_at hl 3 rfl) ?_
      obtain ⟨r_47, e_48, h⟩ := ga_gb h
      refine vp_callSi (va_Run.run (va_runS (As := [.long r_42, .int x2]) (rest := []) ⟨hx, hb, hml, hown, hts⟩ (met_X1_has l D cA N r_42 x2 r_47 e_48) (va_cwS 2 hts (lw_S q963 q707 q67 q708) rfl rfl rfl (by decide +kernel) ⟨Nat.le_of_ble_eq_true rfl, Nat.le_of_ble_eq_true rfl⟩) (ga_PS hK ga_P0) rfl rfl hl.1 rfl (lv_room (Nat.le_of_ble_eq_true rfl)) dX1_region_30 ⟨Nat.le_of_ble_eq_true rfl, Nat.le_of_ble_eq_true rfl⟩)) (fun z_49 w_50 => ?_)
      obtain ⟨rfl, b_51⟩ := w_50
      replace hP := hP.sub (ws' := [(al, .inr (6, [.int lm, .ref ed, .int lz])), (ed, .inl (cA 5, ln, .inr (.inr (.inr (.inr lf))))), (x, .inr (1, [.ref g, xs, xp, .ref xi, .int xl, xr, xq])), (g, .inr (2, [.ref sh, .ref al, .int gr, .ref g_b, .ref g_t])), (sh, .inr (4, [.int zw, .int zh, .long zA, .long zL, .long zR, .long zE]))]) [0, 1, 2, 3, 4] rfl
      obtain ⟨r_52, e_53, h⟩ := ga_gb h
      have hFc := va_free (wc := []) hD hS hA [] rfl
      refine vx_callv (vx_runS (As := [.int r_47]) (rest := []) ⟨hx, hb, hml, hown, hts⟩ (met_X1_checkFound l D cA (va_A [] H_16.size) zs N r_47 hX.2 r_52 e_53) (va_cwS 1 hts (lw_S q964 q965 q67 q966) rfl rfl rfl (by decide +kernel) ⟨Nat.le_of_ble_eq_true rfl, Nat.le_of_ble_eq_true rfl⟩) (ga_XS hK ga_P0 (hD.sub (ws' := []) [] (by decide) rfl).self (fun _ hq => Or.inr hq) (hST.at hS hFc)) rfl rfl hl.1 rfl (lv_room (Nat.le_of_ble_eq_true rfl)) dX1_region_33 ⟨Nat.le_of_ble_eq_true rfl, Nat.le_of_ble_eq_true rfl⟩) hS (fun q _ hq => hFc q hq) hFc (fun q _ hq => hFc q hq) (fun E_59 ce q_60 u_57 t H_58 locs ht _ w_55 hB _ hk hS hce hcv hcl => ?_) (fun u_57 t H_56 locs ht _ w_55 hB _ hk hS => ?_)
      · replace h := ga_swr w_55 h
        obtain ⟨eE, hP1, hD1⟩ := hB
        rw [ht] at hP1
        obtain ⟨hP, hD⟩ := va_join (wr := [(al, .inr (6, [.int lm, .ref ed, .int lz])), (ed, .inl (cA 5, ln, .inr (.inr (.inr (.inr lf))))), (x, .inr (1, [.ref g, xs, xp, .ref xi, .int xl, xr, xq])), (g, .inr (2, [.ref sh, .ref al, .int gr, .ref g_b, .ref g_t])), (sh, .inr (4, [.int zw, .int zh, .long zA, .long zL, .long zR, .long zE]))]) (w1 := []) hP hD [] [0, 1, 2, 3, 4] rfl rfl (by decide) (by decide) hk hFc hP1 hD1
        have hP : va_P D ga_cl [(al, .inr (6, [.int lm, .ref ed, .int lz])), (ed, .inl (cA 5, ln, .inr (.inr (.inr (.inr lf))))), (x, .inr (1, [.ref g, xs, xp, .ref xi, .int xl, xr, xq])), (g, .inr (2, [.ref sh, .ref al, .int gr, .ref g_b, .ref g_t])), (sh, .inr (4, [.int zw, .int zh, .long zA, .long zL, .long zR, .long zE]))] H_58 := hP
        have hD : va_D A [(al, .inr (6, [.int lm, .ref ed, .int lz])), (ed, .inl (cA 5, ln, .inr (.inr (.inr (.inr lf))))), (x, .inr (1, [.ref g, xs, xp, .ref xi, .int xl, xr, xq])), (g, .inr (2, [.ref sh, .ref al, .int gr, .ref g_b, .ref g_t])), (sh, .inr (4, [.int zw, .int zh, .long zA, .long zL, .long zR, .long zE]))] := hD
        have hP9 := hP.sub (ws' := [(x, .inr (1, [.ref g, xs, xp, .ref xi, .int xl, xr, xq])), (g, .inr (2, [.ref sh, .ref al, .int gr, .ref g_b, .ref g_t])), (al, .inr (6, [.int lm, .ref ed, .int lz])), (ed, .inl (cA 5, ln, .inr (.inr (.inr (.inr lf))))), (sh, .inr (4, [.int zw, .int zh, .long zA, .long zL, .long zR, .long zE]))]) [2, 3, 0, 1, 4] rfl
        have hD9 := hD.sub (ws' := [(x, .inr (1, [.ref g, xs, xp, .ref xi, .int xl, xr, xq])), (g, .inr (2, [.ref sh, .ref al, .int gr, .ref g_b, .ref g_t])), (al, .inr (6, [.int lm, .ref ed, .int lz])), (ed, .inl (cA 5, ln, .inr (.inr (.inr (.inr lf))))), (sh, .inr (4, [.int zw, .int zh, .long zA, .long zL, .long zR, .long zE]))]) [2, 3, 0, 1, 4] (by decide) rfl
        obtain rfl := Option.some.inj h
        exact vx_out (fun x hx9 => (hX.1 x hx9).elim) hlocks hce hcv hcl (fun t ht _ => ⟨u_57, rfl, ⟨eE, by rw [ht]; exact hP9, hD9⟩, hS.F ht⟩) hS.2.2 (by decide) (by decide)
      · obtain ⟨v_61, ev_61, hv9⟩ := w_55
        replace h := ga_swl ev_61 h
        obtain rfl := hv9
        obtain ⟨hP1, -, hD1⟩ := hB
        rw [ht] at hP1
        obtain ⟨hP, hD⟩ := va_join (wr := [(al, .inr (6, [.int lm, .ref ed, .int lz])), (ed, .inl (cA 5, ln, .inr (.inr (.inr (.inr lf))))), (x, .inr (1, [.ref g, xs, xp, .ref xi, .int xl, xr, xq])), (g, .inr (2, [.ref sh, .ref al, .int gr, .ref g_b, .ref g_t])), (sh, .inr (4, [.int zw, .int zh, .long zA, .long zL, .long zR, .long zE]))]) (w1 := []) hP hD [] [0, 1, 2, 3, 4] rfl rfl (by decide) (by decide) hk hFc hP1 hD1
        have hP : va_P D ga_cl [(al, .inr (6, [.int lm, .ref ed, .int lz])), (ed, .inl (cA 5, ln, .inr (.inr (.inr (.inr lf))))), (x, .inr (1, [.ref g, xs, xp, .ref xi, .int xl, xr, xq])), (g, .inr (2, [.ref sh, .ref al, .int gr, .ref g_b, .ref g_t])), (sh, .inr (4, [.int zw, .int zh, .long zA, .long zL, .long zR, .long zE]))] H_56 := hP
        have hD : va_D A [(al, .inr (6, [.int lm, .ref ed, .int lz])), (ed, .inl (cA 5, ln, .inr (.inr (.inr (.inr lf))))), (x, .inr (1, [.ref g, xs, xp, .ref xi, .int xl, xr, xq])), (g, .inr (2, [.ref sh, .ref al, .int gr, .ref g_b, .ref g_t])), (sh, .inr (4, [.int zw, .int zh, .long zA, .long zL, .long zR, .long zE]))] := hD
        replace hr_37 := ga_roF hr_37 hFc hk
        refine W.cs (cells' := 3) (slots' := 18) rfl rfl ?_
        refine lv_aload_n hx hb dX1_region_36 rfl (lv_at hl 1 rfl) ?_
        refine va_get hx hb hts in_X1 hown hK.1 hP 2 (fs := [.ref g, xs, xp, .ref xi, .int xl, xr, xq]) rfl rfl 0 (by decide) (hts _ q350) (fun _ hh => hh) (v := .ref g) rfl dX1_region_37 ?_
        refine va_getN hx hb hts in_X2 hown hK.1 hP 3 (fs := [.ref sh, .ref al, .int gr, .ref g_b, .ref g_t]) rfl rfl 0 (by decide) (ga_nu hK q329 rfl) (fun _ hh => hh) (v := .ref sh) rfl dX1_region_40 ?_
        refine lv_iload_n hx hb dX1_region_43 rfl (lv_at hl 3 rfl) ?_
        refine lv_lload_n hx hb dX1_region_44 rfl (lv_at hl 0 rfl) ?_
        obtain ⟨r_63, e_64, h⟩ := ga_gb h
        refine vp_callSl (va_Run.run (va_runV (As := [.int x2, .long r_42]) (rest := []) ⟨hx, hb, hml, hown, hts⟩ (met_X4_connected l D cA sh zw zh zA zL zR zE N x2 r_42 r_63 e_64) (cwV 2 hts (lw_V q952 q843 q844 q73 q845) rfl rfl rfl (by decide +kernel) ⟨Nat.le_of_ble_eq_true rfl, Nat.le_of_ble_eq_true rfl⟩) (ga_PV hK (hP.sub (ws' := [(sh, .inr (4, [.int zw, .int zh, .long zA, .long zL, .long zR, .long zE]))]) [4] rfl) (va_recv hK.1 hP (ci := 4) (q0 := 4) rfl rfl)) rfl rfl hl.1 rfl (lv_room (Nat.le_of_ble_eq_true rfl)) dX1_region_45 ⟨Nat.le_of_ble_eq_true rfl, Nat.le_of_ble_eq_true rfl⟩)) (fun z_65 w_66 => ?_)
        obtain rfl := w_66
        have hP9 := hP.sub (ws' := [(x, .inr (1, [.ref g, xs, xp, .ref xi, .int xl, xr, xq])), (g, .inr (2, [.ref sh, .ref al, .int gr, .ref g_b, .ref g_t])), (al, .inr (6, [.int lm, .ref ed, .int lz])), (ed, .inl (cA 5, ln, .inr (.inr (.inr (.inr lf))))), (sh, .inr (4, [.int zw, .int zh, .long zA, .long zL, .long zR, .long zE]))]) [2, 3, 0, 1, 4] rfl
        have hD9 := hD.sub (ws' := [(x, .inr (1, [.ref g, xs, xp, .ref xi, .int xl, xr, xq])), (g, .inr (2, [.ref sh, .ref al, .int gr, .ref g_b, .ref g_t])), (al, .inr (6, [.int lm, .ref ed, .int lz])), (ed, .inl (cA 5, ln, .inr (.inr (.inr (.inr lf))))), (sh, .inr (4, [.int zw, .int zh, .long zA, .long zL, .long zR, .long zE]))]) [2, 3, 0, 1, 4] (by decide) rfl
        obtain rfl := Option.some.inj h
        refine vx_ret ?_
        exact W.lret hx hb hr (fun t ht hW => ⟨⟨_, (), rfl, ⟨_, rfl, rfl, rfl⟩, ⟨by rw [ht]; exact hP9, hK.warm hW, hD9⟩⟩, hS.F ht⟩) hS.2.2 dX1_region_48
abbrev rm_X1_cells : Room := { frames := 7, cells := 1, slots := 6, locals := 120 }
def F_X1_cells (N : Nat) (xl : Int32) (gr : Int32) (lm : Int32) (lz : Int32) (ln : Nat) (zw : Int32) (zh : Int32) (zA : Int64) (zL : Int64) (zR : Int64) (zE : Int64) (np : Nat) (q1 : Nat → Int32) (q2 : Nat → Int32) (qN : Nat → Int32) (qW : Nat → Nat → Int32) (qP : Nat → Nat → Int32) (qR : Nat → Nat → Int32) (qV : Nat → Nat → Int32) (qB : Nat → Int64) (qS : Nat → Nat → Int64) (qA : Nat → Nat → Int64) (qG : Nat → Nat → Int64) (qC : Nat → Nat → Int32) (x1 : Int32) : Option ((Int64 × Unit) ⊕ Nat) :=
  ((F_X1_inRange N x1 0 5).bind fun r_1 =>
  ((F_X1_checkArgument N r_1).bind fun r_6 => ga_sw r_6 (fun v_15 =>
  (if ix (lz - 1) < np then
  ((F_X2_board N gr lm lz ln (q1 (ix (lz - 1))) (q2 (ix (lz - 1))) (qN (ix (lz - 1)))).bind fun r_32 =>
  ((F_X3_cells N (qB (ix (lz - 1))) (qS (ix (lz - 1))) (qA (ix (lz - 1))) zw zh zA zL zR zE x1).bind fun r_36 =>
  some (.inl (r_36, ()))))
  else none)) (fun u_11 =>
  some (.inr u_11))))
set_option maxHeartbeats 4000000 in
theorem met_X1_cells (l : Launch) (D : va_G) (cA : Nat → ClassId) (A : Nat → Prop) (x : Nat) (g : Nat) (xs : Value) (xp : Value) (xi : Nat) (xr : Value) (xq : Value) (sh : Nat) (al : Nat) (g_b : Nat) (g_t : Nat) (ed : Nat) (lf : Nat → Option Nat) (zs : Nat → Nat) (xl : Int32) (gr : Int32) (lm : Int32) (lz : Int32) (ln : Nat) (zw : Int32) (zh : Int32) (zA : Int64) (zL : Int64) (zR : Int64) (zE : Int64) (np : Nat) (q1 : Nat → Int32) (q2 : Nat → Int32) (qN : Nat → Int32) (qW : Nat → Nat → Int32) (qP : Nat → Nat → Int32) (qR : Nat → Nat → Int32) (qV : Nat → Nat → Int32) (qB : Nat → Int64) (qS : Nat → Nat → Int64) (qA : Nat → Nat → Int64) (qG : Nat → Nat → Int64) (qC : Nat → Nat → Int32) (N : Nat) (x1 : Int32)  (hstk : l.stackTraces = false) (out : (Int64 × Unit) ⊕ Nat) (h : F_X1_cells N xl gr lm lz ln zw zh zA zL zR zE np q1 q2 qN qW qP qR qV qB qS qA qG qC x1 = some out) : vx_Met l yX1_cells (ws_ yX1_cells cX1_cells 2 (some .long)) rm_X1_cells (ga_XR D cA zs A (ga_po D cA lf np q1 q2 qN qW qP qR qV qB qS qA qG qC) [(x, .inr (1, [.ref g, xs, xp, .ref xi, .int xl, xr, xq])), (g, .inr (2, [.ref sh, .ref al, .int gr, .ref g_b, .ref g_t])), (al, .inr (6, [.int lm, .ref ed, .int lz])), (ed, .inl (cA 5, ln, .inr (.inr (.inr (.inr lf))))), (sh, .inr (4, [.int zw, .int zh, .long zA, .long zL, .long zR, .long zE]))] [.ref x, .int x1]) (va_Ql (fun (r : Int64) (u : Unit) => ∃ v, out = .inl v ∧ (v.1 = r) ∧ v.2 = u) (fun (u : Unit) (t : State) => va_P D ga_cl [(x, .inr (1, [.ref g, xs, xp, .ref xi, .int xl, xr, xq])), (g, .inr (2, [.ref sh, .ref al, .int gr, .ref g_b, .ref g_t])), (al, .inr (6, [.int lm, .ref ed, .int lz])), (ed, .inl (cA 5, ln, .inr (.inr (.inr (.inr lf))))), (sh, .inr (4, [.int zw, .int zh, .long zA, .long zL, .long zR, .long zE]))] t.heap ∧ ga_K D cA t ∧ va_D A [(x, .inr (1, [.ref g, xs, xp, .ref xi, .int xl, xr, xq])), (g, .inr (2, [.ref sh, .ref al, .int gr, .ref g_b, .ref g_t])), (al, .inr (6, [.int lm, .ref ed, .int lz])), (ed, .inl (cA 5, ln, .inr (.inr (.inr (.inr lf))))), (sh, .inr (4, [.int zw, .int zh, .long zA, .long zL, .long zR, .long zE]))]) A) (vx_X (fun (u : Nat) => out = .inr u) (fun (E : String) (q9 : Nat) (u : Nat) (t : State) => E = ga_en u ∧ va_P D ga_cl [(x, .inr (1, [.ref g, xs, xp, .ref xi, .int xl, xr, xq])), (g, .inr (2, [.ref sh, .ref al, .int gr, .ref g_b, .ref g_t])), (al, .inr (6, [.int lm, .ref ed, .int lz])), (ed, .inl (cA 5, ln, .inr (.inr (.inr (.inr lf))))), (sh, .inr (4, [.int zw, .int zh, .long zA, .long zL, .long zR, .long zE]))] t.heap ∧ va_D A [(x, .inr (1, [.ref g, xs, xp, .ref xi, .int xl, xr, xq])), (g, .inr (2, [.ref sh, .ref al, .int gr, .ref g_b, .ref g_t])), (al, .inr (6, [.int lm, .ref ed, .int lz])), (ed, .inl (cA 5, ln, .inr (.inr (.inr (.inr lf))))), (sh, .inr (4, [.int zw, .int zh, .long zA, .long zL, .long zR, .long zE]))]) A) 1 6 A := by
  refine vx_ofW (cc := cX1_cells) (maxL := 2) (ret := (some .long)) (by decide) rfl ?_
  intro p e s m args below meth c s₁ B hml htab hv
  have hX : ga_cx2 c l := ⟨htab, hstk⟩
  obtain ⟨rfl, hP, hK, hD, hA, hST, hR⟩ := hv
  have hS : va_S A s.heap s.heap [] := va_S.rf
  have C : ga_cx p m c meth s _ RX1 cX1_cells 2 (some .long) := ga_cx_of B hml
  have C0 := C
  obtain ⟨hx, hb, hr, hlocks, hml, hown, hts⟩ := C0
  have hl := lv_entry ([.ref x, .int x1]) (n := 2) (Nat.le_of_ble_eq_true rfl)
  rw [lg_entry_eq]
  generalize (lg_sl ([.ref x, .int x1]) ++ List.replicate (2 - (lg_sl ([.ref x, .int x1])).length) Slot.unset).toArray = ls at hl ⊢
  have hl : lv_has ls 2 [(0, .ref x), (1, .int x1)] := hl
  rw [F_X1_cells] at h
  refine lv_iload_n hx hb dX1_cells_0 rfl (lv_at hl 1 rfl) ?_
  refine lv_iconst (v := 0) hx hb dX1_cells_1 (by decide) ?_
  refine lv_iconst (v := 5) hx hb dX1_cells_2 (by decide) ?_
  obtain ⟨r_1, e_2, h⟩ := ga_gb h
  refine vp_callSi (va_Run.run (va_runS (As := [.int x1, .int 0, .int 5]) (rest := []) ⟨hx, hb, hml, hown, hts⟩ (met_X1_inRange l D cA N x1 0 5 r_1 e_2) (va_cwS 3 hts (lw_S q487 q488 q67 q489) rfl rfl rfl (by decide +kernel) ⟨Nat.le_of_ble_eq_true rfl, Nat.le_of_ble_eq_true rfl⟩) (ga_PS hK ga_P0) rfl rfl hl.1 rfl (lv_room (Nat.le_of_ble_eq_true rfl)) dX1_cells_3 ⟨Nat.le_of_ble_eq_true rfl, Nat.le_of_ble_eq_true rfl⟩)) (fun z_3 w_4 => ?_)
  obtain ⟨rfl, b_5⟩ := w_4
  obtain ⟨r_6, e_7, h⟩ := ga_gb h
  have hFc := va_free (wc := []) hD hS hA [] rfl
  refine vx_callv (vx_runS (As := [.int r_1]) (rest := []) ⟨hx, hb, hml, hown, hts⟩ (met_X1_checkArgument l D cA (va_A [] s.heap.size) zs N r_1 hX.2 r_6 e_7) (va_cwS 1 hts (lw_S q490 q491 q67 q492) rfl rfl rfl (by decide +kernel) ⟨Nat.le_of_ble_eq_true rfl, Nat.le_of_ble_eq_true rfl⟩) (ga_XS hK ga_P0 (hD.sub (ws' := []) [] (by decide) rfl).self (fun _ hq => Or.inr hq) (hST.at hS hFc)) rfl rfl hl.1 rfl (lv_room (Nat.le_of_ble_eq_true rfl)) dX1_cells_6 ⟨Nat.le_of_ble_eq_true rfl, Nat.le_of_ble_eq_true rfl⟩) hS (fun q _ hq => hFc q hq) hFc (fun q _ hq => hFc q hq) (fun E_13 ce q_14 u_11 t H_12 locs ht _ w_9 hB _ hk hS hce hcv hcl => ?_) (fun u_11 t H_10 locs ht _ w_9 hB _ hk hS => ?_)
  · replace h := ga_swr w_9 h
    obtain ⟨eE, hP1, hD1⟩ := hB
    rw [ht] at hP1
    obtain ⟨hP, hD⟩ := va_join (wr := [(x, .inr (1, [.ref g, xs, xp, .ref xi, .int xl, xr, xq])), (g, .inr (2, [.ref sh, .ref al, .int gr, .ref g_b, .ref g_t])), (al, .inr (6, [.int lm, .ref ed, .int lz])), (ed, .inl (cA 5, ln, .inr (.inr (.inr (.inr lf))))), (sh, .inr (4, [.int zw, .int zh, .long zA, .long zL, .long zR, .long zE]))]) (w1 := []) hP hD [] [0, 1, 2, 3, 4] rfl rfl (by decide) (by decide) hk hFc hP1 hD1
    have hP : va_P D ga_cl [(x, .inr (1, [.ref g, xs, xp, .ref xi, .int xl, xr, xq])), (g, .inr (2, [.ref sh, .ref al, .int gr, .ref g_b, .ref g_t])), (al, .inr (6, [.int lm, .ref ed, .int lz])), (ed, .inl (cA 5, ln, .inr (.inr (.inr (.inr lf))))), (sh, .inr (4, [.int zw, .int zh, .long zA, .long zL, .long zR, .long zE]))] H_12 := hP
    have hD : va_D A [(x, .inr (1, [.ref g, xs, xp, .ref xi, .int xl, xr, xq])), (g, .inr (2, [.ref sh, .ref al, .int gr, .ref g_b, .ref g_t])), (al, .inr (6, [.int lm, .ref ed, .int lz])), (ed, .inl (cA 5, ln, .inr (.inr (.inr (.inr lf))))), (sh, .inr (4, [.int zw, .int zh, .long zA, .long zL, .long zR, .long zE]))] := hD
    have hP9 := hP.sub (ws' := [(x, .inr (1, [.ref g, xs, xp, .ref xi, .int xl, xr, xq])), (g, .inr (2, [.ref sh, .ref al, .int gr, .ref g_b, .ref g_t])), (al, .inr (6, [.int lm, .ref ed, .int lz])), (ed, .inl (cA 5, ln, .inr (.inr (.inr (.inr lf))))), (sh, .inr (4, [.int zw, .int zh, .long zA, .long zL, .long zR, .long zE]))]) [0, 1, 2, 3, 4] rfl
    have hD9 := hD.sub (ws' := [(x, .inr (1, [.ref g, xs, xp, .ref xi, .int xl, xr, xq])), (g, .inr (2, [.ref sh, .ref al, .int gr, .ref g_b, .ref g_t])), (al, .inr (6, [.int lm, .ref ed, .int lz])), (ed, .inl (cA 5, ln, .inr (.inr (.inr (.inr lf))))), (sh, .inr (4, [.int zw, .int zh, .long zA, .long zL, .long zR, .long zE]))]) [0, 1, 2, 3, 4] (by decide) rfl
    obtain rfl := Option.some.inj h
    exact vx_out (fun x hx9 => (hX.1 x hx9).elim) hlocks hce hcv hcl (fun t ht _ => ⟨u_11, rfl, ⟨eE, by rw [ht]; exact hP9, hD9⟩, hS.F ht⟩) hS.2.2 (by decide) (by decide)
  · obtain ⟨v_15, ev_15, hv9⟩ := w_9
    replace h := ga_swl ev_15 h
    obtain rfl := hv9
    obtain ⟨hP1, -, hD1⟩ := hB
    rw [ht] at hP1
    obtain ⟨hP, hD⟩ := va_join (wr := [(x, .inr (1, [.ref g, xs, xp, .ref xi, .int xl, xr, xq])), (g, .inr (2, [.ref sh, .ref al, .int gr, .ref g_b, .ref g_t])), (al, .inr (6, [.int lm, .ref ed, .int lz])), (ed, .inl (cA 5, ln, .inr (.inr (.inr (.inr lf))))), (sh, .inr (4, [.int zw, .int zh, .long zA, .long zL, .long zR, .long zE]))]) (w1 := []) hP hD [] [0, 1, 2, 3, 4] rfl rfl (by decide) (by decide) hk hFc hP1 hD1
    have hP : va_P D ga_cl [(x, .inr (1, [.ref g, xs, xp, .ref xi, .int xl, xr, xq])), (g, .inr (2, [.ref sh, .ref al, .int gr, .ref g_b, .ref g_t])), (al, .inr (6, [.int lm, .ref ed, .int lz])), (ed, .inl (cA 5, ln, .inr (.inr (.inr (.inr lf))))), (sh, .inr (4, [.int zw, .int zh, .long zA, .long zL, .long zR, .long zE]))] H_10 := hP
    have hD : va_D A [(x, .inr (1, [.ref g, xs, xp, .ref xi, .int xl, xr, xq])), (g, .inr (2, [.ref sh, .ref al, .int gr, .ref g_b, .ref g_t])), (al, .inr (6, [.int lm, .ref ed, .int lz])), (ed, .inl (cA 5, ln, .inr (.inr (.inr (.inr lf))))), (sh, .inr (4, [.int zw, .int zh, .long zA, .long zL, .long zR, .long zE]))] := hD
    refine W.cs (cells' := 1) (slots' := 6) rfl rfl ?_
    refine lv_aload_n hx hb dX1_cells_9 rfl (lv_at hl 0 rfl) ?_
    refine va_get hx hb hts in_X1 hown hK.1 hP 0 (fs := [.ref g, xs, xp, .ref xi, .int xl, xr, xq]) rfl rfl 0 (by decide) (hts _ q350) (fun _ hh => hh) (v := .ref g) rfl dX1_cells_10 ?_
    obtain ⟨i_27, h⟩ := ga_gif h
    obtain ⟨r_17, b_18, w_19, t_20, e_21, v_22, bs_23, ba_24, bc_25, bg_26, f_28, q_29, hn_30⟩ := (ga_poK.at (B := A) hR hS (fun _ h => h)) (ix (lz - 1)) i_27
    have hP : va_P D ga_cl [(x, .inr (1, [.ref g, xs, xp, .ref xi, .int xl, xr, xq])), (g, .inr (2, [.ref sh, .ref al, .int gr, .ref g_b, .ref g_t])), (al, .inr (6, [.int lm, .ref ed, .int lz])), (ed, .inl (cA 5, ln, .inr (.inr (.inr (.inr lf))))), (sh, .inr (4, [.int zw, .int zh, .long zA, .long zL, .long zR, .long zE])), (r_17, .inr (5, [.int (q1 (ix (lz - 1))), .int (q2 (ix (lz - 1))), .ref b_18, .ref w_19, .int (qN (ix (lz - 1))), .ref t_20, .ref e_21, .ref v_22])), (w_19, .inl (cA 0, 8, .inl (qW (ix (lz - 1))))), (t_20, .inl (cA 0, 2, .inl (qP (ix (lz - 1))))), (e_21, .inl (cA 0, 49, .inl (qR (ix (lz - 1))))), (v_22, .inl (cA 0, 49, .inl (qV (ix (lz - 1))))), (b_18, .inr (3, [.ref bs_23, .ref ba_24, .long (qB (ix (lz - 1))), .ref bc_25, .ref bg_26])), (bs_23, .inl (cA 1, 2, .inr (.inl (qS (ix (lz - 1)))))), (ba_24, .inl (cA 1, 2, .inr (.inl (qA (ix (lz - 1)))))), (bc_25, .inl (cA 0, 2, .inl (qC (ix (lz - 1))))), (bg_26, .inl (cA 1, 2, .inr (.inl (qG (ix (lz - 1))))))] H_10 := hP.app q_29
    have hr_31 : ga_ro D [(r_17, .inr (5, [.int (q1 (ix (lz - 1))), .int (q2 (ix (lz - 1))), .ref b_18, .ref w_19, .int (qN (ix (lz - 1))), .ref t_20, .ref e_21, .ref v_22])), (w_19, .inl (cA 0, 8, .inl (qW (ix (lz - 1))))), (t_20, .inl (cA 0, 2, .inl (qP (ix (lz - 1))))), (e_21, .inl (cA 0, 49, .inl (qR (ix (lz - 1))))), (v_22, .inl (cA 0, 49, .inl (qV (ix (lz - 1))))), (b_18, .inr (3, [.ref bs_23, .ref ba_24, .long (qB (ix (lz - 1))), .ref bc_25, .ref bg_26])), (bs_23, .inl (cA 1, 2, .inr (.inl (qS (ix (lz - 1)))))), (ba_24, .inl (cA 1, 2, .inr (.inl (qA (ix (lz - 1)))))), (bc_25, .inl (cA 0, 2, .inl (qC (ix (lz - 1))))), (bg_26, .inl (cA 1, 2, .inr (.inl (qG (ix (lz - 1))))))] A s H_10 := ⟨q_29, hn_30⟩
    obtain ⟨r_32, e_33, h⟩ := ga_gb h
    refine va_csr (va_Run.run (va_runV (As := []) (rest := []) ⟨hx, hb, hml, hown, hts⟩ (met_X2_board l D cA g sh al g_b g_t ed lf r_17 b_18 w_19 t_20 e_21 v_22 gr lm lz ln (q1 (ix (lz - 1))) (q2 (ix (lz - 1))) (qN (ix (lz - 1))) N f_28 r_32 e_33) (cwV 0 hts (lw_V q565 q385 q386 q68 q387) rfl rfl rfl (by decide +kernel) ⟨Nat.le_of_ble_eq_true rfl, Nat.le_of_ble_eq_true rfl⟩) (ga_PV hK (hP.sub (ws' := [(g, .inr (2, [.ref sh, .ref al, .int gr, .ref g_b, .ref g_t])), (al, .inr (6, [.int lm, .ref ed, .int lz])), (ed, .inl (cA 5, ln, .inr (.inr (.inr (.inr lf))))), (r_17, .inr (5, [.int (q1 (ix (lz - 1))), .int (q2 (ix (lz - 1))), .ref b_18, .ref w_19, .int (qN (ix (lz - 1))), .ref t_20, .ref e_21, .ref v_22]))]) [1, 2, 3, 5] rfl) (va_recv hK.1 hP (ci := 2) (q0 := 1) rfl rfl)) rfl rfl hl.1 rfl (lv_room (Nat.le_of_ble_eq_true rfl)) dX1_cells_13 ⟨Nat.le_of_ble_eq_true rfl, Nat.le_of_ble_eq_true rfl⟩)) (fun _ _ => ?_)
    refine lv_aload_n hx hb dX1_cells_16 rfl (lv_at hl 0 rfl) ?_
    refine va_get hx hb hts in_X1 hown hK.1 hP 0 (fs := [.ref g, xs, xp, .ref xi, .int xl, xr, xq]) rfl rfl 0 (by decide) (hts _ q350) (fun _ hh => hh) (v := .ref g) rfl dX1_cells_17 ?_
    refine va_getN hx hb hts in_X2 hown hK.1 hP 1 (fs := [.ref sh, .ref al, .int gr, .ref g_b, .ref g_t]) rfl rfl 0 (by decide) (ga_nu hK q329 rfl) (fun _ hh => hh) (v := .ref sh) rfl dX1_cells_20 ?_
    refine lv_iload_n hx hb dX1_cells_23 rfl (lv_at hl 1 rfl) ?_
    obtain ⟨r_36, e_37, h⟩ := ga_gb h
    refine vp_callSl (va_Run.run (va_runV (As := [.ref sh, .int x1]) (rest := []) ⟨hx, hb, hml, hown, hts⟩ (met_X3_cells l D cA b_18 bs_23 ba_24 bc_25 bg_26 sh (qB (ix (lz - 1))) (qS (ix (lz - 1))) (qA (ix (lz - 1))) zw zh zA zL zR zE N x1 r_36 e_37) (cwV 2 hts (lw_V q989 q702 q703 q72 q704) rfl rfl rfl (by decide +kernel) ⟨Nat.le_of_ble_eq_true rfl, Nat.le_of_ble_eq_true rfl⟩) (ga_PV hK (hP.sub (ws' := [(b_18, .inr (3, [.ref bs_23, .ref ba_24, .long (qB (ix (lz - 1))), .ref bc_25, .ref bg_26])), (bs_23, .inl (cA 1, 2, .inr (.inl (qS (ix (lz - 1)))))), (ba_24, .inl (cA 1, 2, .inr (.inl (qA (ix (lz - 1)))))), (sh, .inr (4, [.int zw, .int zh, .long zA, .long zL, .long zR, .long zE]))]) [10, 11, 12, 4] rfl) (va_recv hK.1 hP (ci := 3) (q0 := 10) rfl rfl)) rfl rfl hl.1 rfl (lv_room (Nat.le_of_ble_eq_true rfl)) dX1_cells_24 ⟨Nat.le_of_ble_eq_true rfl, Nat.le_of_ble_eq_true rfl⟩)) (fun z_38 w_39 => ?_)
    obtain rfl := w_39
    have hP9 := hP.sub (ws' := [(x, .inr (1, [.ref g, xs, xp, .ref xi, .int xl, xr, xq])), (g, .inr (2, [.ref sh, .ref al, .int gr, .ref g_b, .ref g_t])), (al, .inr (6, [.int lm, .ref ed, .int lz])), (ed, .inl (cA 5, ln, .inr (.inr (.inr (.inr lf))))), (sh, .inr (4, [.int zw, .int zh, .long zA, .long zL, .long zR, .long zE]))]) [0, 1, 2, 3, 4] rfl
    have hD9 := hD.sub (ws' := [(x, .inr (1, [.ref g, xs, xp, .ref xi, .int xl, xr, xq])), (g, .inr (2, [.ref sh, .ref al, .int gr, .ref g_b, .ref g_t])), (al, .inr (6, [.int lm, .ref ed, .int lz])), (ed, .inl (cA 5, ln, .inr (.inr (.inr (.inr lf))))), (sh, .inr (4, [.int zw, .int zh, .long zA, .long zL, .long zR, .long zE]))]) [0, 1, 2, 3, 4] (by decide) rfl
    obtain rfl := Option.some.inj h
    refine vx_ret ?_
    exact W.lret hx hb hr (fun t ht hW => ⟨⟨_, (), rfl, ⟨_, rfl, rfl, rfl⟩, ⟨by rw [ht]; exact hP9, hK.warm hW, hD9⟩⟩, hS.F ht⟩) hS.2.2 dX1_cells_27
abbrev rm_X1_chain : Room := { frames := 8, cells := 2, slots := 12, locals := 142 }
def F_X1_chain (N : Nat) (xl : Int32) (gr : Int32) (lm : Int32) (lz : Int32) (ln : Nat) (zw : Int32) (zh : Int32) (zA : Int64) (zL : Int64) (zR : Int64) (zE : Int64) (np : Nat) (q1 : Nat → Int32) (q2 : Nat → Int32) (qN : Nat → Int32) (qW : Nat → Nat → Int32) (qP : Nat → Nat → Int32) (qR : Nat → Nat → Int32) (qV : Nat → Nat → Int32) (qB : Nat → Int64) (qS : Nat → Nat → Int64) (qA : Nat → Nat → Int64) (qG : Nat → Nat → Int64) (qC : Nat → Nat → Int32) (x1 : Int32) : Option ((Int64 × Unit) ⊕ Nat) :=
  ((F_X1_checkCell N xl gr zw zh zA zL zR zE x1).bind fun r_1 => ga_sw r_1 (fun v_10 =>
  (if ix (lz - 1) < np then
  ((F_X2_board N gr lm lz ln (q1 (ix (lz - 1))) (q2 (ix (lz - 1))) (qN (ix (lz - 1)))).bind fun r_27 =>
  ((F_X1_has N (((qS (ix (lz - 1))) (ix 0)) ||| ((qS (ix (lz - 1))) (ix 1))) x1).bind fun r_31 =>
  ((F_X1_checkFound N r_31).bind fun r_36 => ga_sw r_36 (fun v_45 =>
  ((F_X1_has N ((qS (ix (lz - 1))) (ix 0)) x1).bind fun r_47 =>
  (if r_47 = 0 then
  ((F_X4_connected N zw zh zA zL zR zE x1 ((qS (ix (lz - 1))) (ix 1))).bind fun r_53 =>
  some (.inl (r_53, ())))
  else
  ((F_X4_connected N zw zh zA zL zR zE x1 ((qS (ix (lz - 1))) (ix 0))).bind fun r_58 =>
  some (.inl (r_58, ())))))) (fun u_41 =>
  some (.inr u_41)))))
  else none)) (fun u_6 =>
  some (.inr u_6)))
set_option maxHeartbeats 4000000 in
theorem met_X1_chain (l : Launch) (D : va_G) (cA : Nat → ClassId) (A : Nat → Prop) (x : Nat) (g : Nat) (xs : Value) (xp : Value) (xi : Nat) (xr : Value) (xq : Value) (sh : Nat) (al : Nat) (g_b : Nat) (g_t : Nat) (ed : Nat) (lf : Nat → Option Nat) (zs : Nat → Nat) (xl : Int32) (gr : Int32) (lm : Int32) (lz : Int32) (ln : Nat) (zw : Int32) (zh : Int32) (zA : Int64) (zL : Int64) (zR : Int64) (zE : Int64) (np : Nat) (q1 : Nat → Int32) (q2 : Nat → Int32) (qN : Nat → Int32) (qW : Nat → Nat → Int32) (qP : Nat → Nat → Int32) (qR : Nat → Nat → Int32) (qV : Nat → Nat → Int32) (qB : Nat → Int64) (qS : Nat → Nat → Int64) (qA : Nat → Nat → Int64) (qG : Nat → Nat → Int64) (qC : Nat → Nat → Int32) (N : Nat) (x1 : Int32)  (hstk : l.stackTraces = false) (out : (Int64 × Unit) ⊕ Nat) (h : F_X1_chain N xl gr lm lz ln zw zh zA zL zR zE np q1 q2 qN qW qP qR qV qB qS qA qG qC x1 = some out) : vx_Met l yX1_chain (ws_ yX1_chain cX1_chain 3 (some .long)) rm_X1_chain (ga_XR D cA zs A (ga_po D cA lf np q1 q2 qN qW qP qR qV qB qS qA qG qC) [(x, .inr (1, [.ref g, xs, xp, .ref xi, .int xl, xr, xq])), (g, .inr (2, [.ref sh, .ref al, .int gr, .ref g_b, .ref g_t])), (al, .inr (6, [.int lm, .ref ed, .int lz])), (ed, .inl (cA 5, ln, .inr (.inr (.inr (.inr lf))))), (sh, .inr (4, [.int zw, .int zh, .long zA, .long zL, .long zR, .long zE]))] [.ref x, .int x1]) (va_Ql (fun (r : Int64) (u : Unit) => ∃ v, out = .inl v ∧ (v.1 = r) ∧ v.2 = u) (fun (u : Unit) (t : State) => va_P D ga_cl [(x, .inr (1, [.ref g, xs, xp, .ref xi, .int xl, xr, xq])), (g, .inr (2, [.ref sh, .ref al, .int gr, .ref g_b, .ref g_t])), (al, .inr (6, [.int lm, .ref ed, .int lz])), (ed, .inl (cA 5, ln, .inr (.inr (.inr (.inr lf))))), (sh, .inr (4, [.int zw, .int zh, .long zA, .long zL, .long zR, .long zE]))] t.heap ∧ ga_K D cA t ∧ va_D A [(x, .inr (1, [.ref g, xs, xp, .ref xi, .int xl, xr, xq])), (g, .inr (2, [.ref sh, .ref al, .int gr, .ref g_b, .ref g_t])), (al, .inr (6, [.int lm, .ref ed, .int lz])), (ed, .inl (cA 5, ln, .inr (.inr (.inr (.inr lf))))), (sh, .inr (4, [.int zw, .int zh, .long zA, .long zL, .long zR, .long zE]))]) A) (vx_X (fun (u : Nat) => out = .inr u) (fun (E : String) (q9 : Nat) (u : Nat) (t : State) => E = ga_en u ∧ va_P D ga_cl [(x, .inr (1, [.ref g, xs, xp, .ref xi, .int xl, xr, xq])), (g, .inr (2, [.ref sh, .ref al, .int gr, .ref g_b, .ref g_t])), (al, .inr (6, [.int lm, .ref ed, .int lz])), (ed, .inl (cA 5, ln, .inr (.inr (.inr (.inr lf))))), (sh, .inr (4, [.int zw, .int zh, .long zA, .long zL, .long zR, .long zE]))] t.heap ∧ va_D A [(x, .inr (1, [.ref g, xs, xp, .ref xi, .int xl, xr, xq])), (g, .inr (2, [.ref sh, .ref al, .int gr, .ref g_b, .ref g_t])), (al, .inr (6, [.int lm, .ref ed, .int lz])), (ed, .inl (cA 5, ln, .inr (.inr (.inr (.inr lf))))), (sh, .inr (4, [.int zw, .int zh, .long zA, .long zL, .long zR, .long zE]))]) A) 2 12 A := by
  refine vx_ofW (cc := cX1_chain) (maxL := 3) (ret := (some .long)) (by decide) rfl ?_
  intro p e s m args below meth c s₁ B hml htab hv
  have hX : ga_cx2 c l := ⟨htab, hstk⟩
  obtain ⟨rfl, hP, hK, hD, hA, hST, hR⟩ := hv
  have hS : va_S A s.heap s.heap [] := va_S.rf
  have C : ga_cx p m c meth s _ RX1 cX1_chain 3 (some .long) := ga_cx_of B hml
  have C0 := C
  obtain ⟨hx, hb, hr, hlocks, hml, hown, hts⟩ := C0
  have hl := lv_entry ([.ref x, .int x1]) (n := 3) (Nat.le_of_ble_eq_true rfl)
  rw [lg_entry_eq]
  generalize (lg_sl ([.ref x, .int x1]) ++ List.replicate (3 - (lg_sl ([.ref x, .int x1])).length) Slot.unset).toArray = ls at hl ⊢
  have hl : lv_has ls 3 [(0, .ref x), (1, .int x1)] := hl
  rw [F_X1_chain] at h
  refine lv_aload_n hx hb dX1_chain_0 rfl (lv_at hl 0 rfl) ?_
  refine lv_iload_n hx hb dX1_chain_1 rfl (lv_at hl 1 rfl) ?_
  obtain ⟨r_1, e_2, h⟩ := ga_gb h
  have hFc := va_free (wc := [(x, .inr (1, [.ref g, xs, xp, .ref xi, .int xl, xr, xq])), (g, .inr (2, [.ref sh, .ref al, .int gr, .ref g_b, .ref g_t])), (sh, .inr (4, [.int zw, .int zh, .long zA, .long zL, .long zR, .long zE]))]) hD hS hA [0, 1, 4] rfl
  refine vx_callv (vx_runV (As := [.int x1]) (rest := []) ⟨hx, hb, hml, hown, hts⟩ (met_X1_checkCell l D cA (va_A [(x, .inr (1, [.ref g, xs, xp, .ref xi, .int xl, xr, xq])), (g, .inr (2, [.ref sh, .ref al, .int gr, .ref g_b, .ref g_t])), (sh, .inr (4, [.int zw, .int zh, .long zA, .long zL, .long zR, .long zE]))] s.heap.size) x g xs xp xi xr xq sh al g_b g_t zs xl gr zw zh zA zL zR zE N x1 hX.2 r_1 e_2) (cwV 1 hts (lw_V q657 q659 qs6 q67 q660) rfl rfl rfl (by decide +kernel) ⟨Nat.le_of_ble_eq_true rfl, Nat.le_of_ble_eq_true rfl⟩) (ga_XV hK (hP.sub (ws' := [(x, .inr (1, [.ref g, xs, xp, .ref xi, .int xl, xr, xq])), (g, .inr (2, [.ref sh, .ref al, .int gr, .ref g_b, .ref g_t])), (sh, .inr (4, [.int zw, .int zh, .long zA, .long zL, .long zR, .long zE]))]) [0, 1, 4] rfl) (hD.sub (ws' := [(x, .inr (1, [.ref g, xs, xp, .ref xi, .int xl, xr, xq])), (g, .inr (2, [.ref sh, .ref al, .int gr, .ref g_b, .ref g_t])), (sh, .inr (4, [.int zw, .int zh, .long zA, .long zL, .long zR, .long zE]))]) [0, 1, 4] (by decide) rfl).self (fun _ hq => Or.inr hq) (hST.at hS hFc) (va_recv hK.1 hP (ci := 1) (q0 := 0) rfl rfl)) rfl rfl hl.1 rfl (lv_room (Nat.le_of_ble_eq_true rfl)) dX1_chain_2 ⟨Nat.le_of_ble_eq_true rfl, Nat.le_of_ble_eq_true rfl⟩) hS (fun q _ hq => hFc q hq) hFc (fun q _ hq => hFc q hq) (fun E_8 ce q_9 u_6 t H_7 locs ht _ w_4 hB _ hk hS hce hcv hcl => ?_) (fun u_6 t H_5 locs ht _ w_4 hB _ hk hS => ?_)
  · replace h := ga_swr w_4 h
    obtain ⟨eE, hP1, hD1⟩ := hB
    rw [ht] at hP1
    obtain ⟨hP, hD⟩ := va_join (wr := [(al, .inr (6, [.int lm, .ref ed, .int lz])), (ed, .inl (cA 5, ln, .inr (.inr (.inr (.inr lf)))))]) (w1 := [(x, .inr (1, [.ref g, xs, xp, .ref xi, .int xl, xr, xq])), (g, .inr (2, [.ref sh, .ref al, .int gr, .ref g_b, .ref g_t])), (sh, .inr (4, [.int zw, .int zh, .long zA, .long zL, .long zR, .long zE]))]) hP hD [0, 1, 4] [2, 3] rfl rfl (by decide) (by decide) hk hFc hP1 hD1
    have hP : va_P D ga_cl [(al, .inr (6, [.int lm, .ref ed, .int lz])), (ed, .inl (cA 5, ln, .inr (.inr (.inr (.inr lf))))), (x, .inr (1, [.ref g, xs, xp, .ref xi, .int xl, xr, xq])), (g, .inr (2, [.ref sh, .ref al, .int gr, .ref g_b, .ref g_t])), (sh, .inr (4, [.int zw, .int zh, .long zA, .long zL, .long zR, .long zE]))] H_7 := hP
    have hD : va_D A [(al, .inr (6, [.int lm, .ref ed, .int lz])), (ed, .inl (cA 5, ln, .inr (.inr (.inr (.inr lf))))), (x, .inr (1, [.ref g, xs, xp, .ref xi, .int xl, xr, xq])), (g, .inr (2, [.ref sh, .ref al, .int gr, .ref g_b, .ref g_t])), (sh, .inr (4, [.int zw, .int zh, .long zA, .long zL, .long zR, .long zE]))] := hD
    have hP9 := hP.sub (ws' := [(x, .inr (1, [.ref g, xs, xp, .ref xi, .int xl, xr, xq])), (g, .inr (2, [.ref sh, .ref al, .int gr, .ref g_b, .ref g_t])), (al, .inr (6, [.int lm, .ref ed, .int lz])), (ed, .inl (cA 5, ln, .inr (.inr (.inr (.inr lf))))), (sh, .inr (4, [.int zw, .int zh, .long zA, .long zL, .long zR, .long zE]))]) [2, 3, 0, 1, 4] rfl
    have hD9 := hD.sub (ws' := [(x, .inr (1, [.ref g, xs, xp, .ref xi, .int xl, xr, xq])), (g, .inr (2, [.ref sh, .ref al, .int gr, .ref g_b, .ref g_t])), (al, .inr (6, [.int lm, .ref ed, .int lz])), (ed, .inl (cA 5, ln, .inr (.inr (.inr (.inr lf))))), (sh, .inr (4, [.int zw, .int zh, .long zA, .long zL, .long zR, .long zE]))]) [2, 3, 0, 1, 4] (by decide) rfl
    obtain rfl := Option.some.inj h
    exact vx_out (fun x hx9 => (hX.1 x hx9).elim) hlocks hce hcv hcl (fun t ht _ => ⟨u_6, rfl, ⟨eE, by rw [ht]; exact hP9, hD9⟩, hS.F ht⟩) hS.2.2 (by decide) (by decide)
  · obtain ⟨v_10, ev_10, hv9⟩ := w_4
    replace h := ga_swl ev_10 h
    obtain rfl := hv9
    obtain ⟨hP1, -, hD1⟩ := hB
    rw [ht] at hP1
    obtain ⟨hP, hD⟩ := va_join (wr := [(al, .inr (6, [.int lm, .ref ed, .int lz])), (ed, .inl (cA 5, ln, .inr (.inr (.inr (.inr lf)))))]) (w1 := [(x, .inr (1, [.ref g, xs, xp, .ref xi, .int xl, xr, xq])), (g, .inr (2, [.ref sh, .ref al, .int gr, .ref g_b, .ref g_t])), (sh, .inr (4, [.int zw, .int zh, .long zA, .long zL, .long zR, .long zE]))]) hP hD [0, 1, 4] [2, 3] rfl rfl (by decide) (by decide) hk hFc hP1 hD1
    have hP : va_P D ga_cl [(al, .inr (6, [.int lm, .ref ed, .int lz])), (ed, .inl (cA 5, ln, .inr (.inr (.inr (.inr lf))))), (x, .inr (1, [.ref g, xs, xp, .ref xi, .int xl, xr, xq])), (g, .inr (2, [.ref sh, .ref al, .int gr, .ref g_b, .ref g_t])), (sh, .inr (4, [.int zw, .int zh, .long zA, .long zL, .long zR, .long zE]))] H_5 := hP
    have hD : va_D A [(al, .inr (6, [.int lm, .ref ed, .int lz])), (ed, .inl (cA 5, ln, .inr (.inr (.inr (.inr lf))))), (x, .inr (1, [.ref g, xs, xp, .ref xi, .int xl, xr, xq])), (g, .inr (2, [.ref sh, .ref al, .int gr, .ref g_b, .ref g_t])), (sh, .inr (4, [.int zw, .int zh, .long zA, .long zL, .long zR, .long zE]))] := hD
    refine W.cs (cells' := 1) (slots' := 6) rfl rfl ?_
    refine lv_aload_n hx hb dX1_chain_5 rfl (lv_at hl 0 rfl) ?_
    refine va_get hx hb hts in_X1 hown hK.1 hP 2 (fs := [.ref g, xs, xp, .ref xi, .int xl, xr, xq]) rfl rfl 0 (by decide) (hts _ q350) (fun _ hh => hh) (v := .ref g) rfl dX1_chain_6 ?_
    obtain ⟨i_22, h⟩ := ga_gif h
    obtain ⟨r_12, b_13, w_14, t_15, e_16, v_17, bs_18, ba_19, bc_20, bg_21, f_23, q_24, hn_25⟩ := (ga_poK.at (B := A) hR hS (fun _ h => h)) (ix (lz - 1)) i_22
    have hP : va_P D ga_cl [(al, .inr (6, [.int lm, .ref ed, .int lz])), (ed, .inl (cA 5, ln, .inr (.inr (.inr (.inr lf))))), (x, .inr (1, [.ref g, xs, xp, .ref xi, .int xl, xr, xq])), (g, .inr (2, [.ref sh, .ref al, .int gr, .ref g_b, .ref g_t])), (sh, .inr (4, [.int zw, .int zh, .long zA, .long zL, .long zR, .long zE])), (r_12, .inr (5, [.int (q1 (ix (lz - 1))), .int (q2 (ix (lz - 1))), .ref b_13, .ref w_14, .int (qN (ix (lz - 1))), .ref t_15, .ref e_16, .ref v_17])), (w_14, .inl (cA 0, 8, .inl (qW (ix (lz - 1))))), (t_15, .inl (cA 0, 2, .inl (qP (ix (lz - 1))))), (e_16, .inl (cA 0, 49, .inl (qR (ix (lz - 1))))), (v_17, .inl (cA 0, 49, .inl (qV (ix (lz - 1))))), (b_13, .inr (3, [.ref bs_18, .ref ba_19, .long (qB (ix (lz - 1))), .ref bc_20, .ref bg_21])), (bs_18, .inl (cA 1, 2, .inr (.inl (qS (ix (lz - 1)))))), (ba_19, .inl (cA 1, 2, .inr (.inl (qA (ix (lz - 1)))))), (bc_20, .inl (cA 0, 2, .inl (qC (ix (lz - 1))))), (bg_21, .inl (cA 1, 2, .inr (.inl (qG (ix (lz - 1))))))] H_5 := hP.app q_24
    have hr_26 : ga_ro D [(r_12, .inr (5, [.int (q1 (ix (lz - 1))), .int (q2 (ix (lz - 1))), .ref b_13, .ref w_14, .int (qN (ix (lz - 1))), .ref t_15, .ref e_16, .ref v_17])), (w_14, .inl (cA 0, 8, .inl (qW (ix (lz - 1))))), (t_15, .inl (cA 0, 2, .inl (qP (ix (lz - 1))))), (e_16, .inl (cA 0, 49, .inl (qR (ix (lz - 1))))), (v_17, .inl (cA 0, 49, .inl (qV (ix (lz - 1))))), (b_13, .inr (3, [.ref bs_18, .ref ba_19, .long (qB (ix (lz - 1))), .ref bc_20, .ref bg_21])), (bs_18, .inl (cA 1, 2, .inr (.inl (qS (ix (lz - 1)))))), (ba_19, .inl (cA 1, 2, .inr (.inl (qA (ix (lz - 1)))))), (bc_20, .inl (cA 0, 2, .inl (qC (ix (lz - 1))))), (bg_21, .inl (cA 1, 2, .inr (.inl (qG (ix (lz - 1))))))] A s H_5 := ⟨q_24, hn_25⟩
    obtain ⟨r_27, e_28, h⟩ := ga_gb h
    refine va_csr (va_Run.run (va_runV (As := []) (rest := []) ⟨hx, hb, hml, hown, hts⟩ (met_X2_board l D cA g sh al g_b g_t ed lf r_12 b_13 w_14 t_15 e_16 v_17 gr lm lz ln (q1 (ix (lz - 1))) (q2 (ix (lz - 1))) (qN (ix (lz - 1))) N f_23 r_27 e_28) (cwV 0 hts (lw_V q565 q385 q386 q68 q387) rfl rfl rfl (by decide +kernel) ⟨Nat.le_of_ble_eq_true rfl, Nat.le_of_ble_eq_true rfl⟩) (ga_PV hK (hP.sub (ws' := [(g, .inr (2, [.ref sh, .ref al, .int gr, .ref g_b, .ref g_t])), (al, .inr (6, [.int lm, .ref ed, .int lz])), (ed, .inl (cA 5, ln, .inr (.inr (.inr (.inr lf))))), (r_12, .inr (5, [.int (q1 (ix (lz - 1))), .int (q2 (ix (lz - 1))), .ref b_13, .ref w_14, .int (qN (ix (lz - 1))), .ref t_15, .ref e_16, .ref v_17]))]) [3, 0, 1, 5] rfl) (va_recv hK.1 hP (ci := 2) (q0 := 3) rfl rfl)) rfl rfl hl.1 rfl (lv_room (Nat.le_of_ble_eq_true rfl)) dX1_chain_9 ⟨Nat.le_of_ble_eq_true rfl, Nat.le_of_ble_eq_true rfl⟩)) (fun _ _ => ?_)
    refine va_getN hx hb hts in_X3 hown hK.1 hP 10 (fs := [.ref bs_18, .ref ba_19, .long (qB (ix (lz - 1))), .ref bc_20, .ref bg_21]) rfl rfl 0 (by decide) (ga_nu hK q156 rfl) (fun _ hh => hh) (v := .ref bs_18) rfl dX1_chain_12 ?_
    refine lv_astore_n (lv' := [(2, .ref bs_18), (0, .ref x), (1, .int x1)]) hx hb dX1_chain_15 rfl hl (by decide) rfl (fun ls hl => ?_)
    refine lv_aload_n hx hb dX1_chain_16 rfl (lv_at hl 0 rfl) ?_
    refine lv_iconst (v := 0) hx hb dX1_chain_17 (by decide) ?_
    refine va_lald hx hb hK.1 hP 11 1 (f := (qS (ix (lz - 1)))) rfl rfl (ga_in (by decide)) dX1_chain_18 ?_
    refine lv_aload_n hx hb dX1_chain_19 rfl (lv_at hl 0 rfl) ?_
    refine lv_iconst (v := 1) hx hb dX1_chain_20 (by decide) ?_
    refine va_lald hx hb hK.1 hP 11 1 (f := (qS (ix (lz - 1)))) rfl rfl (ga_in (by decide)) dX1_chain_21 ?_
    refine lv_lor hx hb dX1_chain_22 ?_
    refine lv_iload_n hx hb dX1_chain_23 rfl (lv_at hl 2 rfl) ?_
    obtain ⟨r_31, e_32, h⟩ := ga_gb h
    refine vp_callSi (va_Run.run (va_runS (As := [.long (((qS (ix (lz - 1))) (ix 0)) ||| ((qS (ix (lz - 1))) (ix 1))), .int x1]) (rest := []) ⟨hx, hb, hml, hown, hts⟩ (met_X1_has l D cA N (((qS (ix (lz - 1))) (ix 0)) ||| ((qS (ix (lz - 1))) (ix 1))) x1 r_31 e_32) (va_cwS 2 hts (lw_S q963 q707 q67 q708) rfl rfl rfl (by decide +kernel) ⟨Nat.le_of_ble_eq_true rfl, Nat.le_of_ble_eq_true rfl⟩) (ga_PS hK ga_P0) rfl rfl hl.1 rfl (lv_room (Nat.le_of_ble_eq_true rfl)) dX1_chain_24 ⟨Nat.le_of_ble_eq_true rfl, Nat.le_of_ble_eq_true rfl⟩)) (fun z_33 w_34 => ?_)
    obtain ⟨rfl, b_35⟩ := w_34
    replace hP := hP.sub (ws' := [(al, .inr (6, [.int lm, .ref ed, .int lz])), (ed, .inl (cA 5, ln, .inr (.inr (.inr (.inr lf))))), (x, .inr (1, [.ref g, xs, xp, .ref xi, .int xl, xr, xq])), (g, .inr (2, [.ref sh, .ref al, .int gr, .ref g_b, .ref g_t])), (sh, .inr (4, [.int zw, .int zh, .long zA, .long zL, .long zR, .long zE]))]) [0, 1, 2, 3, 4] rfl
    obtain ⟨r_36, e_37, h⟩ := ga_gb h
    have hFc := va_free (wc := []) hD hS hA [] rfl
    refine vx_callv (vx_runS (As := [.int r_31]) (rest := []) ⟨hx, hb, hml, hown, hts⟩ (met_X1_checkFound l D cA (va_A [] H_5.size) zs N r_31 hX.2 r_36 e_37) (va_cwS 1 hts (lw_S q964 q965 q67 q966) rfl rfl rfl (by decide +kernel) ⟨Nat.le_of_ble_eq_true rfl, Nat.le_of_ble_eq_true rfl⟩) (ga_XS hK ga_P0 (hD.sub (ws' := []) [] (by decide) rfl).self (fun _ hq => Or.inr hq) (hST.at hS hFc)) rfl rfl hl.1 rfl (lv_room (Nat.le_of_ble_eq_true rfl)) dX1_chain_27 ⟨Nat.le_of_ble_eq_true rfl, Nat.le_of_ble_eq_true rfl⟩) hS (fun q _ hq => hFc q hq) hFc (fun q _ hq => hFc q hq) (fun E_43 ce q_44 u_41 t H_42 locs ht _ w_39 hB _ hk hS hce hcv hcl => ?_) (fun u_41 t H_40 locs ht _ w_39 hB _ hk hS => ?_)
    · replace h := ga_swr w_39 h
      obtain ⟨eE, hP1, hD1⟩ := hB
      rw [ht] at hP1
      obtain ⟨hP, hD⟩ := va_join (wr := [(al, .inr (6, [.int lm, .ref ed, .int lz])), (ed, .inl (cA 5, ln, .inr (.inr (.inr (.inr lf))))), (x, .inr (1, [.ref g, xs, xp, .ref xi, .int xl, xr, xq])), (g, .inr (2, [.ref sh, .ref al, .int gr, .ref g_b, .ref g_t])), (sh, .inr (4, [.int zw, .int zh, .long zA, .long zL, .long zR, .long zE]))]) (w1 := []) hP hD [] [0, 1, 2, 3, 4] rfl rfl (by decide) (by decide) hk hFc hP1 hD1
      have hP : va_P D ga_cl [(al, .inr (6, [.int lm, .ref ed, .int lz])), (ed, .inl (cA 5, ln, .inr (.inr (.inr (.inr lf))))), (x, .inr (1, [.ref g, xs, xp, .ref xi, .int xl, xr, xq])), (g, .inr (2, [.ref sh, .ref al, .int gr, .ref g_b, .ref g_t])), (sh, .inr (4, [.int zw, .int zh, .long zA, .long zL, .long zR, .long zE]))] H_42 := hP
      have hD : va_D A [(al, .inr (6, [.int lm, .ref ed, .int lz])), (ed, .inl (cA 5, ln, .inr (.inr (.inr (.inr lf))))), (x, .inr (1, [.ref g, xs, xp, .ref xi, .int xl, xr, xq])), (g, .inr (2, [.ref sh, .ref al, .int gr, .ref g_b, .ref g_t])), (sh, .inr (4, [.int zw, .int zh, .long zA, .long zL, .long zR, .long zE]))] := hD
      have hP9 := hP.sub (ws' := [(x, .inr (1, [.ref g, xs, xp, .ref xi, .int xl, xr, xq])), (g, .inr (2, [.ref sh, .ref al, .int gr, .ref g_b, .ref g_t])), (al, .inr (6, [.int lm, .ref ed, .int lz])), (ed, .inl (cA 5, ln, .inr (.inr (.inr (.inr lf))))), (sh, .inr (4, [.int zw, .int zh, .long zA, .long zL, .long zR, .long zE]))]) [2, 3, 0, 1, 4] rfl
      have hD9 := hD.sub (ws' := [(x, .inr (1, [.ref g, xs, xp, .ref xi, .int xl, xr, xq])), (g, .inr (2, [.ref sh, .ref al, .int gr, .ref g_b, .ref g_t])), (al, .inr (6, [.int lm, .ref ed, .int lz])), (ed, .inl (cA 5, ln, .inr (.inr (.inr (.inr lf))))), (sh, .inr (4, [.int zw, .int zh, .long zA, .long zL, .long zR, .long zE]))]) [2, 3, 0, 1, 4] (by decide) rfl
      obtain rfl := Option.some.inj h
      exact vx_out (fun x hx9 => (hX.1 x hx9).elim) hlocks hce hcv hcl (fun t ht _ => ⟨u_41, rfl, ⟨eE, by rw [ht]; exact hP9, hD9⟩, hS.F ht⟩) hS.2.2 (by decide) (by decide)
    · obtain ⟨v_45, ev_45, hv9⟩ := w_39
      replace h := ga_swl ev_45 h
      obtain rfl := hv9
      obtain ⟨hP1, -, hD1⟩ := hB
      rw [ht] at hP1
      obtain ⟨hP, hD⟩ := va_join (wr := [(al, .inr (6, [.int lm, .ref ed, .int lz])), (ed, .inl (cA 5, ln, .inr (.inr (.inr (.inr lf))))), (x, .inr (1, [.ref g, xs, xp, .ref xi, .int xl, xr, xq])), (g, .inr (2, [.ref sh, .ref al, .int gr, .ref g_b, .ref g_t])), (sh, .inr (4, [.int zw, .int zh, .long zA, .long zL, .long zR, .long zE]))]) (w1 := []) hP hD [] [0, 1, 2, 3, 4] rfl rfl (by decide) (by decide) hk hFc hP1 hD1
      have hP : va_P D ga_cl [(al, .inr (6, [.int lm, .ref ed, .int lz])), (ed, .inl (cA 5, ln, .inr (.inr (.inr (.inr lf))))), (x, .inr (1, [.ref g, xs, xp, .ref xi, .int xl, xr, xq])), (g, .inr (2, [.ref sh, .ref al, .int gr, .ref g_b, .ref g_t])), (sh, .inr (4, [.int zw, .int zh, .long zA, .long zL, .long zR, .long zE]))] H_40 := hP
      have hD : va_D A [(al, .inr (6, [.int lm, .ref ed, .int lz])), (ed, .inl (cA 5, ln, .inr (.inr (.inr (.inr lf))))), (x, .inr (1, [.ref g, xs, xp, .ref xi, .int xl, xr, xq])), (g, .inr (2, [.ref sh, .ref al, .int gr, .ref g_b, .ref g_t])), (sh, .inr (4, [.int zw, .int zh, .long zA, .long zL, .long zR, .long zE]))] := hD
      replace hr_26 := ga_roF hr_26 hFc hk
      refine W.cs (cells' := 2) (slots' := 12) rfl rfl ?_
      refine lv_aload_n hx hb dX1_chain_30 rfl (lv_at hl 1 rfl) ?_
      refine va_get hx hb hts in_X1 hown hK.1 hP 2 (fs := [.ref g, xs, xp, .ref xi, .int xl, xr, xq]) rfl rfl 0 (by decide) (hts _ q350) (fun _ hh => hh) (v := .ref g) rfl dX1_chain_31 ?_
      refine va_getN hx hb hts in_X2 hown hK.1 hP 3 (fs := [.ref sh, .ref al, .int gr, .ref g_b, .ref g_t]) rfl rfl 0 (by decide) (ga_nu hK q329 rfl) (fun _ hh => hh) (v := .ref sh) rfl dX1_chain_34 ?_
      refine lv_iload_n hx hb dX1_chain_37 rfl (lv_at hl 2 rfl) ?_
      refine lv_aload_n hx hb dX1_chain_38 rfl (lv_at hl 0 rfl) ?_
      refine lv_iconst (v := 0) hx hb dX1_chain_39 (by decide) ?_
      have hP : va_P D ga_cl [(al, .inr (6, [.int lm, .ref ed, .int lz])), (ed, .inl (cA 5, ln, .inr (.inr (.inr (.inr lf))))), (x, .inr (1, [.ref g, xs, xp, .ref xi, .int xl, xr, xq])), (g, .inr (2, [.ref sh, .ref al, .int gr, .ref g_b, .ref g_t])), (sh, .inr (4, [.int zw, .int zh, .long zA, .long zL, .long zR, .long zE])), (r_12, .inr (5, [.int (q1 (ix (lz - 1))), .int (q2 (ix (lz - 1))), .ref b_13, .ref w_14, .int (qN (ix (lz - 1))), .ref t_15, .ref e_16, .ref v_17])), (w_14, .inl (cA 0, 8, .inl (qW (ix (lz - 1))))), (t_15, .inl (cA 0, 2, .inl (qP (ix (lz - 1))))), (e_16, .inl (cA 0, 49, .inl (qR (ix (lz - 1))))), (v_17, .inl (cA 0, 49, .inl (qV (ix (lz - 1))))), (b_13, .inr (3, [.ref bs_18, .ref ba_19, .long (qB (ix (lz - 1))), .ref bc_20, .ref bg_21])), (bs_18, .inl (cA 1, 2, .inr (.inl (qS (ix (lz - 1)))))), (ba_19, .inl (cA 1, 2, .inr (.inl (qA (ix (lz - 1)))))), (bc_20, .inl (cA 0, 2, .inl (qC (ix (lz - 1))))), (bg_21, .inl (cA 1, 2, .inr (.inl (qG (ix (lz - 1))))))] H_40 := hP.app hr_26.1
      refine va_lald hx hb hK.1 hP 11 1 (f := (qS (ix (lz - 1)))) rfl rfl (ga_in (by decide)) dX1_chain_40 ?_
      refine lv_iload_n hx hb dX1_chain_41 rfl (lv_at hl 2 rfl) ?_
      obtain ⟨r_47, e_48, h⟩ := ga_gb h
      refine vp_callSi (va_Run.run (va_runS (As := [.long ((qS (ix (lz - 1))) (ix 0)), .int x1]) (rest := [.int x1, .ref sh]) ⟨hx, hb, hml, hown, hts⟩ (met_X1_has l D cA N ((qS (ix (lz - 1))) (ix 0)) x1 r_47 e_48) (va_cwS 2 hts (lw_S q963 q707 q67 q708) rfl rfl rfl (by decide +kernel) ⟨Nat.le_of_ble_eq_true rfl, Nat.le_of_ble_eq_true rfl⟩) (ga_PS hK ga_P0) rfl rfl hl.1 rfl (lv_room (Nat.le_of_ble_eq_true rfl)) dX1_chain_42 ⟨Nat.le_of_ble_eq_true rfl, Nat.le_of_ble_eq_true rfl⟩)) (fun z_49 w_50 => ?_)
      obtain ⟨rfl, b_51⟩ := w_50
      refine lv_if_eq (tgt := 54) hx hb dX1_chain_45 (by decide) (fun c_52 => ?_) (fun c_52 => ?_)
      · replace h := ga_ift c_52 h
        refine lv_aload_n hx hb dX1_chain_54 rfl (lv_at hl 0 rfl) ?_
        refine lv_iconst (v := 1) hx hb dX1_chain_55 (by decide) ?_
        refine va_lald hx hb hK.1 hP 11 1 (f := (qS (ix (lz - 1)))) rfl rfl (ga_in (by decide)) dX1_chain_56 ?_
        obtain ⟨r_53, e_54, h⟩ := ga_gb h
        refine vp_callSl (va_Run.run (va_runV (As := [.int x1, .long ((qS (ix (lz - 1))) (ix 1))]) (rest := []) ⟨hx, hb, hml, hown, hts⟩ (met_X4_connected l D cA sh zw zh zA zL zR zE N x1 ((qS (ix (lz - 1))) (ix 1)) r_53 e_54) (cwV 2 hts (lw_V q952 q843 q844 q73 q845) rfl rfl rfl (by decide +kernel) ⟨Nat.le_of_ble_eq_true rfl, Nat.le_of_ble_eq_true rfl⟩) (ga_PV hK (hP.sub (ws' := [(sh, .inr (4, [.int zw, .int zh, .long zA, .long zL, .long zR, .long zE]))]) [4] rfl) (va_recv hK.1 hP (ci := 4) (q0 := 4) rfl rfl)) rfl rfl hl.1 rfl (lv_room (Nat.le_of_ble_eq_true rfl)) dX1_chain_57 ⟨Nat.le_of_ble_eq_true rfl, Nat.le_of_ble_eq_true rfl⟩)) (fun z_55 w_56 => ?_)
        obtain rfl := w_56
        have hP9 := hP.sub (ws' := [(x, .inr (1, [.ref g, xs, xp, .ref xi, .int xl, xr, xq])), (g, .inr (2, [.ref sh, .ref al, .int gr, .ref g_b, .ref g_t])), (al, .inr (6, [.int lm, .ref ed, .int lz])), (ed, .inl (cA 5, ln, .inr (.inr (.inr (.inr lf))))), (sh, .inr (4, [.int zw, .int zh, .long zA, .long zL, .long zR, .long zE]))]) [2, 3, 0, 1, 4] rfl
        have hD9 := hD.sub (ws' := [(x, .inr (1, [.ref g, xs, xp, .ref xi, .int xl, xr, xq])), (g, .inr (2, [.ref sh, .ref al, .int gr, .ref g_b, .ref g_t])), (al, .inr (6, [.int lm, .ref ed, .int lz])), (ed, .inl (cA 5, ln, .inr (.inr (.inr (.inr lf))))), (sh, .inr (4, [.int zw, .int zh, .long zA, .long zL, .long zR, .long zE]))]) [2, 3, 0, 1, 4] (by decide) rfl
        obtain rfl := Option.some.inj h
        refine vx_ret ?_
        exact W.lret hx hb hr (fun t ht hW => ⟨⟨_, (), rfl, ⟨_, rfl, rfl, rfl⟩, ⟨by rw [ht]; exact hP9, hK.warm hW, hD9⟩⟩, hS.F ht⟩) hS.2.2 dX1_chain_60
      · replace h := ga_iff c_52 h
        refine lv_aload_n hx hb dX1_chain_48 rfl (lv_at hl 0 rfl) ?_
        refine lv_iconst (v := 0) hx hb dX1_chain_49 (by decide) ?_
        refine va_lald hx hb hK.1 hP 11 1 (f := (qS (ix (lz - 1)))) rfl rfl (ga_in (by decide)) dX1_chain_50 ?_
        refine lv_goto (tgt := 57) hx hb dX1_chain_51 (by decide) ?_
        obtain ⟨r_58, e_59, h⟩ := ga_gb h
        refine vp_callSl (va_Run.run (va_runV (As := [.int x1, .long ((qS (ix (lz - 1))) (ix 0))]) (rest := []) ⟨hx, hb, hml, hown, hts⟩ (met_X4_connected l D cA sh zw zh zA zL zR zE N x1 ((qS (ix (lz - 1))) (ix 0)) r_58 e_59) (cwV 2 hts (lw_V q952 q843 q844 q73 q845) rfl rfl rfl (by decide +kernel) ⟨Nat.le_of_ble_eq_true rfl, Nat.le_of_ble_eq_true rfl⟩) (ga_PV hK (hP.sub (ws' := [(sh, .inr (4, [.int zw, .int zh, .long zA, .long zL, .long zR, .long zE]))]) [4] rfl) (va_recv hK.1 hP (ci := 4) (q0 := 4) rfl rfl)) rfl rfl hl.1 rfl (lv_room (Nat.le_of_ble_eq_true rfl)) dX1_chain_57 ⟨Nat.le_of_ble_eq_true rfl, Nat.le_of_ble_eq_true rfl⟩)) (fun z_60 w_61 => ?_)
        obtain rfl := w_61
        have hP9 := hP.sub (ws' := [(x, .inr (1, [.ref g, xs, xp, .ref xi, .int xl, xr, xq])), (g, .inr (2, [.ref sh, .ref al, .int gr, .ref g_b, .ref g_t])), (al, .inr (6, [.int lm, .ref ed, .int lz])), (ed, .inl (cA 5, ln, .inr (.inr (.inr (.inr lf))))), (sh, .inr (4, [.int zw, .int zh, .long zA, .long zL, .long zR, .long zE]))]) [2, 3, 0, 1, 4] rfl
        have hD9 := hD.sub (ws' := [(x, .inr (1, [.ref g, xs, xp, .ref xi, .int xl, xr, xq])), (g, .inr (2, [.ref sh, .ref al, .int gr, .ref g_b, .ref g_t])), (al, .inr (6, [.int lm, .ref ed, .int lz])), (ed, .inl (cA 5, ln, .inr (.inr (.inr (.inr lf))))), (sh, .inr (4, [.int zw, .int zh, .long zA, .long zL, .long zR, .long zE]))]) [2, 3, 0, 1, 4] (by decide) rfl
        obtain rfl := Option.some.inj h
        refine vx_ret ?_
        exact W.lret hx hb hr (fun t ht hW => ⟨⟨_, (), rfl, ⟨_, rfl, rfl, rfl⟩, ⟨by rw [ht]; exact hP9, hK.warm hW, hD9⟩⟩, hS.F ht⟩) hS.2.2 dX1_chain_60
abbrev rm_X1_stonesToEnclose : Room := { frames := 8, cells := 4, slots := 24, locals := 169 }
def F_X1_stonesToEnclose (N : Nat) (xl : Int32) (gr : Int32) (lm : Int32) (lz : Int32) (ln : Nat) (zw : Int32) (zh : Int32) (zA : Int64) (zL : Int64) (zR : Int64) (zE : Int64) (np : Nat) (q1 : Nat → Int32) (q2 : Nat → Int32) (qN : Nat → Int32) (qW : Nat → Nat → Int32) (qP : Nat → Nat → Int32) (qR : Nat → Nat → Int32) (qV : Nat → Nat → Int32) (qB : Nat → Int64) (qS : Nat → Nat → Int64) (qA : Nat → Nat → Int64) (qG : Nat → Nat → Int64) (qC : Nat → Nat → Int32) (x1 : Int32) (x2 : Int32) : Option ((Int32 × Unit) ⊕ Nat) :=
  ((F_X1_checkPlayer N x1).bind fun r_1 => ga_sw r_1 (fun v_10 =>
  ((F_X1_checkCell N xl gr zw zh zA zL zR zE x2).bind fun r_12 => ga_sw r_12 (fun v_21 =>
  (if ix (lz - 1) < np then
  ((F_X2_board N gr lm lz ln (q1 (ix (lz - 1))) (q2 (ix (lz - 1))) (qN (ix (lz - 1)))).bind fun r_38 =>
  ((F_X3_open N (qB (ix (lz - 1))) (qS (ix (lz - 1))) (qA (ix (lz - 1))) zw zh zA zL zR zE x1).bind fun r_42 =>
  ((F_X1_has N r_42 x2).bind fun r_47 =>
  ((F_X1_checkFound N r_47).bind fun r_52 => ga_sw r_52 (fun v_61 =>
  (if ix (lz - 1) < np then
  ((F_X2_stonesToEnclose N gr lm lz ln (q1 (ix (lz - 1))) (q2 (ix (lz - 1))) (qN (ix (lz - 1))) (qB (ix (lz - 1))) (qS (ix (lz - 1))) (qA (ix (lz - 1))) zw zh zA zL zR zE x1 x2).bind fun r_78 =>
  (if r_78 = (-1) then
  ((F_X1_checkFound N 0).bind fun r_84 => ga_sw r_84 (fun v_93 =>
  some (.inl (r_78, ()))) (fun u_89 =>
  some (.inr u_89)))
  else
  ((F_X1_checkFound N 1).bind fun r_95 => ga_sw r_95 (fun v_104 =>
  some (.inl (r_78, ()))) (fun u_100 =>
  some (.inr u_100)))))
  else none)) (fun u_57 =>
  some (.inr u_57))))))
  else none)) (fun u_17 =>
  some (.inr u_17)))) (fun u_6 =>
  some (.inr u_6)))
set_option maxHeartbeats 4000000 in
theorem met_X1_stonesToEnclose (l : Launch) (D : va_G) (cA : Nat → ClassId) (A : Nat → Prop) (x : Nat) (g : Nat) (xs : Value) (xp : Value) (xi : Nat) (xr : Value) (xq : Value) (sh : Nat) (al : Nat) (g_b : Nat) (g_t : Nat) (ed : Nat) (lf : Nat → Option Nat) (zs : Nat → Nat) (xl : Int32) (gr : Int32) (lm : Int32) (lz : Int32) (ln : Nat) (zw : Int32) (zh : Int32) (zA : Int64) (zL : Int64) (zR : Int64) (zE : Int64) (np : Nat) (q1 : Nat → Int32) (q2 : Nat → Int32) (qN : Nat → Int32) (qW : Nat → Nat → Int32) (qP : Nat → Nat → Int32) (qR : Nat → Nat → Int32) (qV : Nat → Nat → Int32) (qB : Nat → Int64) (qS : Nat → Nat → Int64) (qA : Nat → Nat → Int64) (qG : Nat → Nat → Int64) (qC : Nat → Nat → Int32) (N : Nat) (x1 : Int32) (x2 : Int32)  (hstk : l.stackTraces = false) (out : (Int32 × Unit) ⊕ Nat) (h : F_X1_stonesToEnclose N xl gr lm lz ln zw zh zA zL zR zE np q1 q2 qN qW qP qR qV qB qS qA qG qC x1 x2 = some out) : vx_Met l yX1_stonesToEnclose (ws_ yX1_stonesToEnclose cX1_stonesToEnclose 4 (some .int)) rm_X1_stonesToEnclose (ga_XR D cA zs A (ga_po D cA lf np q1 q2 qN qW qP qR qV qB qS qA qG qC) [(x, .inr (1, [.ref g, xs, xp, .ref xi, .int xl, xr, xq])), (g, .inr (2, [.ref sh, .ref al, .int gr, .ref g_b, .ref g_t])), (al, .inr (6, [.int lm, .ref ed, .int lz])), (ed, .inl (cA 5, ln, .inr (.inr (.inr (.inr lf))))), (sh, .inr (4, [.int zw, .int zh, .long zA, .long zL, .long zR, .long zE]))] [.ref x, .int x1, .int x2]) (va_Qi (fun (r : Int32) (u : Unit) => ∃ v, out = .inl v ∧ (v.1 = r) ∧ v.2 = u) (fun (u : Unit) (t : State) => va_P D ga_cl [(x, .inr (1, [.ref g, xs, xp, .ref xi, .int xl, xr, xq])), (g, .inr (2, [.ref sh, .ref al, .int gr, .ref g_b, .ref g_t])), (al, .inr (6, [.int lm, .ref ed, .int lz])), (ed, .inl (cA 5, ln, .inr (.inr (.inr (.inr lf))))), (sh, .inr (4, [.int zw, .int zh, .long zA, .long zL, .long zR, .long zE]))] t.heap ∧ ga_K D cA t ∧ va_D A [(x, .inr (1, [.ref g, xs, xp, .ref xi, .int xl, xr, xq])), (g, .inr (2, [.ref sh, .ref al, .int gr, .ref g_b, .ref g_t])), (al, .inr (6, [.int lm, .ref ed, .int lz])), (ed, .inl (cA 5, ln, .inr (.inr (.inr (.inr lf))))), (sh, .inr (4, [.int zw, .int zh, .long zA, .long zL, .long zR, .long zE]))]) A) (vx_X (fun (u : Nat) => out = .inr u) (fun (E : String) (q9 : Nat) (u : Nat) (t : State) => E = ga_en u ∧ va_P D ga_cl [(x, .inr (1, [.ref g, xs, xp, .ref xi, .int xl, xr, xq])), (g, .inr (2, [.ref sh, .ref al, .int gr, .ref g_b, .ref g_t])), (al, .inr (6, [.int lm, .ref ed, .int lz])), (ed, .inl (cA 5, ln, .inr (.inr (.inr (.inr lf))))), (sh, .inr (4, [.int zw, .int zh, .long zA, .long zL, .long zR, .long zE]))] t.heap ∧ va_D A [(x, .inr (1, [.ref g, xs, xp, .ref xi, .int xl, xr, xq])), (g, .inr (2, [.ref sh, .ref al, .int gr, .ref g_b, .ref g_t])), (al, .inr (6, [.int lm, .ref ed, .int lz])), (ed, .inl (cA 5, ln, .inr (.inr (.inr (.inr lf))))), (sh, .inr (4, [.int zw, .int zh, .long zA, .long zL, .long zR, .long zE]))]) A) 4 24 A := by
  refine vx_ofW (cc := cX1_stonesToEnclose) (maxL := 4) (ret := (some .int)) (by decide) rfl ?_
  intro p e s m args below meth c s₁ B hml htab hv
  have hX : ga_cx2 c l := ⟨htab, hstk⟩
  obtain ⟨rfl, hP, hK, hD, hA, hST, hR⟩ := hv
  have hS : va_S A s.heap s.heap [] := va_S.rf
  have C : ga_cx p m c meth s _ RX1 cX1_stonesToEnclose 4 (some .int) := ga_cx_of B hml
  have C0 := C
  obtain ⟨hx, hb, hr, hlocks, hml, hown, hts⟩ := C0
  have hl := lv_entry ([.ref x, .int x1, .int x2]) (n := 4) (Nat.le_of_ble_eq_true rfl)
  rw [lg_entry_eq]
  generalize (lg_sl ([.ref x, .int x1, .int x2]) ++ List.replicate (4 - (lg_sl ([.ref x, .int x1, .int x2])).length) Slot.unset).toArray = ls at hl ⊢
  have hl : lv_has ls 4 [(0, .ref x), (1, .int x1), (2, .int x2)] := hl
  rw [F_X1_stonesToEnclose] at h
  refine lv_iload_n hx hb dX1_stonesToEnclose_0 rfl (lv_at hl 1 rfl) ?_
  obtain ⟨r_1, e_2, h⟩ := ga_gb h
  have hFc := va_free (wc := []) hD hS hA [] rfl
  refine vx_callv (vx_runS (As := [.int x1]) (rest := []) ⟨hx, hb, hml, hown, hts⟩ (met_X1_checkPlayer l D cA (va_A [] s.heap.size) zs N x1 hX.2 r_1 e_2) (va_cwS 1 hts (lw_S q622 q623 q67 q624) rfl rfl rfl (by decide +kernel) ⟨Nat.le_of_ble_eq_true rfl, Nat.le_of_ble_eq_true rfl⟩) (ga_XS hK ga_P0 (hD.sub (ws' := []) [] (by decide) rfl).self (fun _ hq => Or.inr hq) (hST.at hS hFc)) rfl rfl hl.1 rfl (lv_room (Nat.le_of_ble_eq_true rfl)) dX1_stonesToEnclose_1 ⟨Nat.le_of_ble_eq_true rfl, Nat.le_of_ble_eq_true rfl⟩) hS (fun q _ hq => hFc q hq) hFc (fun q _ hq => hFc q hq) (fun E_8 ce q_9 u_6 t H_7 locs ht _ w_4 hB _ hk hS hce hcv hcl => ?_) (fun u_6 t H_5 locs ht _ w_4 hB _ hk hS => ?_)
  · replace h := ga_swr w_4 h
    obtain ⟨eE, hP1, hD1⟩ := hB
    rw [ht] at hP1
    obtain ⟨hP, hD⟩ := va_join (wr := [(x, .inr (1, [.ref g, xs, xp, .ref xi, .int xl, xr, xq])), (g, .inr (2, [.ref sh, .ref al, .int gr, .ref g_b, .ref g_t])), (al, .inr (6, [.int lm, .ref ed, .int lz])), (ed, .inl (cA 5, ln, .inr (.inr (.inr (.inr lf))))), (sh, .inr (4, [.int zw, .int zh, .long zA, .long zL, .long zR, .long zE]))]) (w1 := []) hP hD [] [0, 1, 2, 3, 4] rfl rfl (by decide) (by decide) hk hFc hP1 hD1
    have hP : va_P D ga_cl [(x, .inr (1, [.ref g, xs, xp, .ref xi, .int xl, xr, xq])), (g, .inr (2, [.ref sh, .ref al, .int gr, .ref g_b, .ref g_t])), (al, .inr (6, [.int lm, .ref ed, .int lz])), (ed, .inl (cA 5, ln, .inr (.inr (.inr (.inr lf))))), (sh, .inr (4, [.int zw, .int zh, .long zA, .long zL, .long zR, .long zE]))] H_7 := hP
    have hD : va_D A [(x, .inr (1, [.ref g, xs, xp, .ref xi, .int xl, xr, xq])), (g, .inr (2, [.ref sh, .ref al, .int gr, .ref g_b, .ref g_t])), (al, .inr (6, [.int lm, .ref ed, .int lz])), (ed, .inl (cA 5, ln, .inr (.inr (.inr (.inr lf))))), (sh, .inr (4, [.int zw, .int zh, .long zA, .long zL, .long zR, .long zE]))] := hD
    have hP9 := hP.sub (ws' := [(x, .inr (1, [.ref g, xs, xp, .ref xi, .int xl, xr, xq])), (g, .inr (2, [.ref sh, .ref al, .int gr, .ref g_b, .ref g_t])), (al, .inr (6, [.int lm, .ref ed, .int lz])), (ed, .inl (cA 5, ln, .inr (.inr (.inr (.inr lf))))), (sh, .inr (4, [.int zw, .int zh, .long zA, .long zL, .long zR, .long zE]))]) [0, 1, 2, 3, 4] rfl
    have hD9 := hD.sub (ws' := [(x, .inr (1, [.ref g, xs, xp, .ref xi, .int xl, xr, xq])), (g, .inr (2, [.ref sh, .ref al, .int gr, .ref g_b, .ref g_t])), (al, .inr (6, [.int lm, .ref ed, .int lz])), (ed, .inl (cA 5, ln, .inr (.inr (.inr (.inr lf))))), (sh, .inr (4, [.int zw, .int zh, .long zA, .long zL, .long zR, .long zE]))]) [0, 1, 2, 3, 4] (by decide) rfl
    obtain rfl := Option.some.inj h
    exact vx_out (fun x hx9 => (hX.1 x hx9).elim) hlocks hce hcv hcl (fun t ht _ => ⟨u_6, rfl, ⟨eE, by rw [ht]; exact hP9, hD9⟩, hS.F ht⟩) hS.2.2 (by decide) (by decide)
  · obtain ⟨v_10, ev_10, hv9⟩ := w_4
    replace h := ga_swl ev_10 h
    obtain rfl := hv9
    obtain ⟨hP1, -, hD1⟩ := hB
    rw [ht] at hP1
    obtain ⟨hP, hD⟩ := va_join (wr := [(x, .inr (1, [.ref g, xs, xp, .ref xi, .int xl, xr, xq])), (g, .inr (2, [.ref sh, .ref al, .int gr, .ref g_b, .ref g_t])), (al, .inr (6, [.int lm, .ref ed, .int lz])), (ed, .inl (cA 5, ln, .inr (.inr (.inr (.inr lf))))), (sh, .inr (4, [.int zw, .int zh, .long zA, .long zL, .long zR, .long zE]))]) (w1 := []) hP hD [] [0, 1, 2, 3, 4] rfl rfl (by decide) (by decide) hk hFc hP1 hD1
    have hP : va_P D ga_cl [(x, .inr (1, [.ref g, xs, xp, .ref xi, .int xl, xr, xq])), (g, .inr (2, [.ref sh, .ref al, .int gr, .ref g_b, .ref g_t])), (al, .inr (6, [.int lm, .ref ed, .int lz])), (ed, .inl (cA 5, ln, .inr (.inr (.inr (.inr lf))))), (sh, .inr (4, [.int zw, .int zh, .long zA, .long zL, .long zR, .long zE]))] H_5 := hP
    have hD : va_D A [(x, .inr (1, [.ref g, xs, xp, .ref xi, .int xl, xr, xq])), (g, .inr (2, [.ref sh, .ref al, .int gr, .ref g_b, .ref g_t])), (al, .inr (6, [.int lm, .ref ed, .int lz])), (ed, .inl (cA 5, ln, .inr (.inr (.inr (.inr lf))))), (sh, .inr (4, [.int zw, .int zh, .long zA, .long zL, .long zR, .long zE]))] := hD
    refine W.cs (cells' := 1) (slots' := 6) rfl rfl ?_
    refine lv_aload_n hx hb dX1_stonesToEnclose_4 rfl (lv_at hl 0 rfl) ?_
    refine lv_iload_n hx hb dX1_stonesToEnclose_5 rfl (lv_at hl 2 rfl) ?_
    obtain ⟨r_12, e_13, h⟩ := ga_gb h
    have hFc := va_free (wc := [(x, .inr (1, [.ref g, xs, xp, .ref xi, .int xl, xr, xq])), (g, .inr (2, [.ref sh, .ref al, .int gr, .ref g_b, .ref g_t])), (sh, .inr (4, [.int zw, .int zh, .long zA, .long zL, .long zR, .long zE]))]) hD hS hA [0, 1, 4] rfl
    refine vx_callv (vx_runV (As := [.int x2]) (rest := []) ⟨hx, hb, hml, hown, hts⟩ (met_X1_checkCell l D cA (va_A [(x, .inr (1, [.ref g, xs, xp, .ref xi, .int xl, xr, xq])), (g, .inr (2, [.ref sh, .ref al, .int gr, .ref g_b, .ref g_t])), (sh, .inr (4, [.int zw, .int zh, .long zA, .long zL, .long zR, .long zE]))] H_5.size) x g xs xp xi xr xq sh al g_b g_t zs xl gr zw zh zA zL zR zE N x2 hX.2 r_12 e_13) (cwV 1 hts (lw_V q657 q659 qs6 q67 q660) rfl rfl rfl (by decide +kernel) ⟨Nat.le_of_ble_eq_true rfl, Nat.le_of_ble_eq_true rfl⟩) (ga_XV hK (hP.sub (ws' := [(x, .inr (1, [.ref g, xs, xp, .ref xi, .int xl, xr, xq])), (g, .inr (2, [.ref sh, .ref al, .int gr, .ref g_b, .ref g_t])), (sh, .inr (4, [.int zw, .int zh, .long zA, .long zL, .long zR, .long zE]))]) [0, 1, 4] rfl) (hD.sub (ws' := [(x, .inr (1, [.ref g, xs, xp, .ref xi, .int xl, xr, xq])), (g, .inr (2, [.ref sh, .ref al, .int gr, .ref g_b, .ref g_t])), (sh, .inr (4, [.int zw, .int zh, .long zA, .long zL, .long zR, .long zE]))]) [0, 1, 4] (by decide) rfl).self (fun _ hq => Or.inr hq) (hST.at hS hFc) (va_recv hK.1 hP (ci := 1) (q0 := 0) rfl rfl)) rfl rfl hl.1 rfl (lv_room (Nat.le_of_ble_eq_true rfl)) dX1_stonesToEnclose_6 ⟨Nat.le_of_ble_eq_true rfl, Nat.le_of_ble_eq_true rfl⟩) hS (fun q _ hq => hFc q hq) hFc (fun q _ hq => hFc q hq) (fun E_19 ce q_20 u_17 t H_18 locs ht _ w_15 hB _ hk hS hce hcv hcl => ?_) (fun u_17 t H_16 locs ht _ w_15 hB _ hk hS => ?_)
    · replace h := ga_swr w_15 h
      obtain ⟨eE, hP1, hD1⟩ := hB
      rw [ht] at hP1
      obtain ⟨hP, hD⟩ := va_join (wr := [(al, .inr (6, [.int lm, .ref ed, .int lz])), (ed, .inl (cA 5, ln, .inr (.inr (.inr (.inr lf)))))]) (w1 := [(x, .inr (1, [.ref g, xs, xp, .ref xi, .int xl, xr, xq])), (g, .inr (2, [.ref sh, .ref al, .int gr, .ref g_b, .ref g_t])), (sh, .inr (4, [.int zw, .int zh, .long zA, .long zL, .long zR, .long zE]))]) hP hD [0, 1, 4] [2, 3] rfl rfl (by decide) (by decide) hk hFc hP1 hD1
      have hP : va_P D ga_cl [(al, .inr (6, [.int lm, .ref ed, .int lz])), (ed, .inl (cA 5, ln, .inr (.inr (.inr (.inr lf))))), (x, .inr (1, [.ref g, xs, xp, .ref xi, .int xl, xr, xq])), (g, .inr (2, [.ref sh, .ref al, .int gr, .ref g_b, .ref g_t])), (sh, .inr (4, [.int zw, .int zh, .long zA, .long zL, .long zR, .long zE]))] H_18 := hP
      have hD : va_D A [(al, .inr (6, [.int lm, .ref ed, .int lz])), (ed, .inl (cA 5, ln, .inr (.inr (.inr (.inr lf))))), (x, .inr (1, [.ref g, xs, xp, .ref xi, .int xl, xr, xq])), (g, .inr (2, [.ref sh, .ref al, .int gr, .ref g_b, .ref g_t])), (sh, .inr (4, [.int zw, .int zh, .long zA, .long zL, .long zR, .long zE]))] := hD
      have hP9 := hP.sub (ws' := [(x, .inr (1, [.ref g, xs, xp, .ref xi, .int xl, xr, xq])), (g, .inr (2, [.ref sh, .ref al, .int gr, .ref g_b, .ref g_t])), (al, .inr (6, [.int lm, .ref ed, .int lz])), (ed, .inl (cA 5, ln, .inr (.inr (.inr (.inr lf))))), (sh, .inr (4, [.int zw, .int zh, .long zA, .long zL, .long zR, .long zE]))]) [2, 3, 0, 1, 4] rfl
      have hD9 := hD.sub (ws' := [(x, .inr (1, [.ref g, xs, xp, .ref xi, .int xl, xr, xq])), (g, .inr (2, [.ref sh, .ref al, .int gr, .ref g_b, .ref g_t])), (al, .inr (6, [.int lm, .ref ed, .int lz])), (ed, .inl (cA 5, ln, .inr (.inr (.inr (.inr lf))))), (sh, .inr (4, [.int zw, .int zh, .long zA, .long zL, .long zR, .long zE]))]) [2, 3, 0, 1, 4] (by decide) rfl
      obtain rfl := Option.some.inj h
      exact vx_out (fun x hx9 => (hX.1 x hx9).elim) hlocks hce hcv hcl (fun t ht _ => ⟨u_17, rfl, ⟨eE, by rw [ht]; exact hP9, hD9⟩, hS.F ht⟩) hS.2.2 (by decide) (by decide)
    · obtain ⟨v_21, ev_21, hv9⟩ := w_15
      replace h := ga_swl ev_21 h
      obtain rfl := hv9
      obtain ⟨hP1, -, hD1⟩ := hB
      rw [ht] at hP1
      obtain ⟨hP, hD⟩ := va_join (wr := [(al, .inr (6, [.int lm, .ref ed, .int lz])), (ed, .inl (cA 5, ln, .inr (.inr (.inr (.inr lf)))))]) (w1 := [(x, .inr (1, [.ref g, xs, xp, .ref xi, .int xl, xr, xq])), (g, .inr (2, [.ref sh, .ref al, .int gr, .ref g_b, .ref g_t])), (sh, .inr (4, [.int zw, .int zh, .long zA, .long zL, .long zR, .long zE]))]) hP hD [0, 1, 4] [2, 3] rfl rfl (by decide) (by decide) hk hFc hP1 hD1
      have hP : va_P D ga_cl [(al, .inr (6, [.int lm, .ref ed, .int lz])), (ed, .inl (cA 5, ln, .inr (.inr (.inr (.inr lf))))), (x, .inr (1, [.ref g, xs, xp, .ref xi, .int xl, xr, xq])), (g, .inr (2, [.ref sh, .ref al, .int gr, .ref g_b, .ref g_t])), (sh, .inr (4, [.int zw, .int zh, .long zA, .long zL, .long zR, .long zE]))] H_16 := hP
      have hD : va_D A [(al, .inr (6, [.int lm, .ref ed, .int lz])), (ed, .inl (cA 5, ln, .inr (.inr (.inr (.inr lf))))), (x, .inr (1, [.ref g, xs, xp, .ref xi, .int xl, xr, xq])), (g, .inr (2, [.ref sh, .ref al, .int gr, .ref g_b, .ref g_t])), (sh, .inr (4, [.int zw, .int zh, .long zA, .long zL, .long zR, .long zE]))] := hD
      refine W.cs (cells' := 2) (slots' := 12) rfl rfl ?_
      refine lv_aload_n hx hb dX1_stonesToEnclose_9 rfl (lv_at hl 0 rfl) ?_
      refine va_get hx hb hts in_X1 hown hK.1 hP 2 (fs := [.ref g, xs, xp, .ref xi, .int xl, xr, xq]) rfl rfl 0 (by decide) (hts _ q350) (fun _ hh => hh) (v := .ref g) rfl dX1_stonesToEnclose_10 ?_
      obtain ⟨i_33, h⟩ := ga_gif h
      obtain ⟨r_23, b_24, w_25, t_26, e_27, v_28, bs_29, ba_30, bc_31, bg_32, f_34, q_35, hn_36⟩ := (ga_poK.at (B := A) hR hS (fun _ h => h)) (ix (lz - 1)) i_33
      have hP : va_P D ga_cl [(al, .inr (6, [.int lm, .ref ed, .int lz])), (ed, .inl (cA 5, ln, .inr (.inr (.inr (.inr lf))))), (x, .inr (1, [.ref g, xs, xp, .ref xi, .int xl, xr, xq])), (g, .inr (2, [.ref sh, .ref al, .int gr, .ref g_b, .ref g_t])), (sh, .inr (4, [.int zw, .int zh, .long zA, .long zL, .long zR, .long zE])), (r_23, .inr (5, [.int (q1 (ix (lz - 1))), .int (q2 (ix (lz - 1))), .ref b_24, .ref w_25, .int (qN (ix (lz - 1))), .ref t_26, .ref e_27, .ref v_28])), (w_25, .inl (cA 0, 8, .inl (qW (ix (lz - 1))))), (t_26, .inl (cA 0, 2, .inl (qP (ix (lz - 1))))), (e_27, .inl (cA 0, 49, .inl (qR (ix (lz - 1))))), (v_28, .inl (cA 0, 49, .inl (qV (ix (lz - 1))))), (b_24, .inr (3, [.ref bs_29, .ref ba_30, .long (qB (ix (lz - 1))), .ref bc_31, .ref bg_32])), (bs_29, .inl (cA 1, 2, .inr (.inl (qS (ix (lz - 1)))))), (ba_30, .inl (cA 1, 2, .inr (.inl (qA (ix (lz - 1)))))), (bc_31, .inl (cA 0, 2, .inl (qC (ix (lz - 1))))), (bg_32, .inl (cA 1, 2, .inr (.inl (qG (ix (lz - 1))))))] H_16 := hP.app q_35
      have hr_37 : ga_ro D [(r_23, .inr (5, [.int (q1 (ix (lz - 1))), .int (q2 (ix (lz - 1))), .ref b_24, .ref w_25, .int (qN (ix (lz - 1))), .ref t_26, .ref e_27, .ref v_28])), (w_25, .inl (cA 0, 8, .inl (qW (ix (lz - 1))))), (t_26, .inl (cA 0, 2, .inl (qP (ix (lz - 1))))), (e_27, .inl (cA 0, 49, .inl (qR (ix (lz - 1))))), (v_28, .inl (cA 0, 49, .inl (qV (ix (lz - 1))))), (b_24, .inr (3, [.ref bs_29, .ref ba_30, .long (qB (ix (lz - 1))), .ref bc_31, .ref bg_32])), (bs_29, .inl (cA 1, 2, .inr (.inl (qS (ix (lz - 1)))))), (ba_30, .inl (cA 1, 2, .inr (.inl (qA (ix (lz - 1)))))), (bc_31, .inl (cA 0, 2, .inl (qC (ix (lz - 1))))), (bg_32, .inl (cA 1, 2, .inr (.inl (qG (ix (lz - 1))))))] A s H_16 := ⟨q_35, hn_36⟩
      obtain ⟨r_38, e_39, h⟩ := ga_gb h
      refine va_csr (va_Run.run (va_runV (As := []) (rest := []) ⟨hx, hb, hml, hown, hts⟩ (met_X2_board l D cA g sh al g_b g_t ed lf r_23 b_24 w_25 t_26 e_27 v_28 gr lm lz ln (q1 (ix (lz - 1))) (q2 (ix (lz - 1))) (qN (ix (lz - 1))) N f_34 r_38 e_39) (cwV 0 hts (lw_V q565 q385 q386 q68 q387) rfl rfl rfl (by decide +kernel) ⟨Nat.le_of_ble_eq_true rfl, Nat.le_of_ble_eq_true rfl⟩) (ga_PV hK (hP.sub (ws' := [(g, .inr (2, [.ref sh, .ref al, .int gr, .ref g_b, .ref g_t])), (al, .inr (6, [.int lm, .ref ed, .int lz])), (ed, .inl (cA 5, ln, .inr (.inr (.inr (.inr lf))))), (r_23, .inr (5, [.int (q1 (ix (lz - 1))), .int (q2 (ix (lz - 1))), .ref b_24, .ref w_25, .int (qN (ix (lz - 1))), .ref t_26, .ref e_27, .ref v_28]))]) [3, 0, 1, 5] rfl) (va_recv hK.1 hP (ci := 2) (q0 := 3) rfl rfl)) rfl rfl hl.1 rfl (lv_room (Nat.le_of_ble_eq_true rfl)) dX1_stonesToEnclose_13 ⟨Nat.le_of_ble_eq_true rfl, Nat.le_of_ble_eq_true rfl⟩)) (fun _ _ => ?_)
      refine lv_aload_n hx hb dX1_stonesToEnclose_16 rfl (lv_at hl 0 rfl) ?_
      refine va_get hx hb hts in_X1 hown hK.1 hP 2 (fs := [.ref g, xs, xp, .ref xi, .int xl, xr, xq]) rfl rfl 0 (by decide) (hts _ q350) (fun _ hh => hh) (v := .ref g) rfl dX1_stonesToEnclose_17 ?_
      refine va_getN hx hb hts in_X2 hown hK.1 hP 3 (fs := [.ref sh, .ref al, .int gr, .ref g_b, .ref g_t]) rfl rfl 0 (by decide) (ga_nu hK q329 rfl) (fun _ hh => hh) (v := .ref sh) rfl dX1_stonesToEnclose_20 ?_
      refine lv_iload_n hx hb dX1_stonesToEnclose_23 rfl (lv_at hl 1 rfl) ?_
      obtain ⟨r_42, e_43, h⟩ := ga_gb h
      refine vp_callSl (va_Run.run (va_runV (As := [.ref sh, .int x1]) (rest := []) ⟨hx, hb, hml, hown, hts⟩ (met_X3_open l D cA b_24 bs_29 ba_30 bc_31 bg_32 sh (qB (ix (lz - 1))) (qS (ix (lz - 1))) (qA (ix (lz - 1))) zw zh zA zL zR zE N x1 r_42 e_43) (cwV 2 hts (lw_V q944 q839 q840 q72 q841) rfl rfl rfl (by decide +kernel) ⟨Nat.le_of_ble_eq_true rfl, Nat.le_of_ble_eq_true rfl⟩) (ga_PV hK (hP.sub (ws' := [(b_24, .inr (3, [.ref bs_29, .ref ba_30, .long (qB (ix (lz - 1))), .ref bc_31, .ref bg_32])), (bs_29, .inl (cA 1, 2, .inr (.inl (qS (ix (lz - 1)))))), (ba_30, .inl (cA 1, 2, .inr (.inl (qA (ix (lz - 1)))))), (sh, .inr (4, [.int zw, .int zh, .long zA, .long zL, .long zR, .long zE]))]) [10, 11, 12, 4] rfl) (va_recv hK.1 hP (ci := 3) (q0 := 10) rfl rfl)) rfl rfl hl.1 rfl (lv_room (Nat.le_of_ble_eq_true rfl)) dX1_stonesToEnclose_24 ⟨Nat.le_of_ble_eq_true rfl, Nat.le_of_ble_eq_true rfl⟩)) (fun z_44 w_45 => ?_)
      obtain rfl := w_45
      refine lv_iload_n hx hb dX1_stonesToEnclose_27 rfl (lv_at hl 2 rfl) ?_
      obtain ⟨r_47, e_48, h⟩ := ga_gb h
      refine vp_callSi (va_Run.run (va_runS (As := [.long r_42, .int x2]) (rest := []) ⟨hx, hb, hml, hown, hts⟩ (met_X1_has l D cA N r_42 x2 r_47 e_48) (va_cwS 2 hts (lw_S q963 q707 q67 q708) rfl rfl rfl (by decide +kernel) ⟨Nat.le_of_ble_eq_true rfl, Nat.le_of_ble_eq_true rfl⟩) (ga_PS hK ga_P0) rfl rfl hl.1 rfl (lv_room (Nat.le_of_ble_eq_true rfl)) dX1_stonesToEnclose_28 ⟨Nat.le_of_ble_eq_true rfl, Nat.le_of_ble_eq_true rfl⟩)) (fun z_49 w_50 => ?_)
      obtain ⟨rfl, b_51⟩ := w_50
      replace hP := hP.sub (ws' := [(al, .inr (6, [.int lm, .ref ed, .int lz])), (ed, .inl (cA 5, ln, .inr (.inr (.inr (.inr lf))))), (x, .inr (1, [.ref g, xs, xp, .ref xi, .int xl, xr, xq])), (g, .inr (2, [.ref sh, .ref al, .int gr, .ref g_b, .ref g_t])), (sh, .inr (4, [.int zw, .int zh, .long zA, .long zL, .long zR, .long zE]))]) [0, 1, 2, 3, 4] rfl
      obtain ⟨r_52, e_53, h⟩ := ga_gb h
      have hFc := va_free (wc := []) hD hS hA [] rfl
      refine vx_callv (vx_runS (As := [.int r_47]) (rest := []) ⟨hx, hb, hml, hown, hts⟩ (met_X1_checkFound l D cA (va_A [] H_16.size) zs N r_47 hX.2 r_52 e_53) (va_cwS 1 hts (lw_S q964 q965 q67 q966) rfl rfl rfl (by decide +kernel) ⟨Nat.le_of_ble_eq_true rfl, Nat.le_of_ble_eq_true rfl⟩) (ga_XS hK ga_P0 (hD.sub (ws' := []) [] (by decide) rfl).self (fun _ hq => Or.inr hq) (hST.at hS hFc)) rfl rfl hl.1 rfl (lv_room (Nat.le_of_ble_eq_true rfl)) dX1_stonesToEnclose_31 ⟨Nat.le_of_ble_eq_true rfl, Nat.le_of_ble_eq_true rfl⟩) hS (fun q _ hq => hFc q hq) hFc (fun q _ hq => hFc q hq) (fun E_59 ce q_60 u_57 t H_58 locs ht _ w_55 hB _ hk hS hce hcv hcl => ?_) (fun u_57 t H_56 locs ht _ w_55 hB _ hk hS => ?_)
      · replace h := ga_swr w_55 h
        obtain ⟨eE, hP1, hD1⟩ := hB
        rw [ht] at hP1
        obtain ⟨hP, hD⟩ := va_join (wr := [(al, .inr (6, [.int lm, .ref ed, .int lz])), (ed, .inl (cA 5, ln, .inr (.inr (.inr (.inr lf))))), (x, .inr (1, [.ref g, xs, xp, .ref xi, .int xl, xr, xq])), (g, .inr (2, [.ref sh, .ref al, .int gr, .ref g_b, .ref g_t])), (sh, .inr (4, [.int zw, .int zh, .long zA, .long zL, .long zR, .long zE]))]) (w1 := []) hP hD [] [0, 1, 2, 3, 4] rfl rfl (by decide) (by decide) hk hFc hP1 hD1
        have hP : va_P D ga_cl [(al, .inr (6, [.int lm, .ref ed, .int lz])), (ed, .inl (cA 5, ln, .inr (.inr (.inr (.inr lf))))), (x, .inr (1, [.ref g, xs, xp, .ref xi, .int xl, xr, xq])), (g, .inr (2, [.ref sh, .ref al, .int gr, .ref g_b, .ref g_t])), (sh, .inr (4, [.int zw, .int zh, .long zA, .long zL, .long zR, .long zE]))] H_58 := hP
        have hD : va_D A [(al, .inr (6, [.int lm, .ref ed, .int lz])), (ed, .inl (cA 5, ln, .inr (.inr (.inr (.inr lf))))), (x, .inr (1, [.ref g, xs, xp, .ref xi, .int xl, xr, xq])), (g, .inr (2, [.ref sh, .ref al, .int gr, .ref g_b, .ref g_t])), (sh, .inr (4, [.int zw, .int zh, .long zA, .long zL, .long zR, .long zE]))] := hD
        have hP9 := hP.sub (ws' := [(x, .inr (1, [.ref g, xs, xp, .ref xi, .int xl, xr, xq])), (g, .inr (2, [.ref sh, .ref al, .int gr, .ref g_b, .ref g_t])), (al, .inr (6, [.int lm, .ref ed, .int lz])), (ed, .inl (cA 5, ln, .inr (.inr (.inr (.inr lf))))), (sh, .inr (4, [.int zw, .int zh, .long zA, .long zL, .long zR, .long zE]))]) [2, 3, 0, 1, 4] rfl
        have hD9 := hD.sub (ws' := [(x, .inr (1, [.ref g, xs, xp, .ref xi, .int xl, xr, xq])), (g, .inr (2, [.ref sh, .ref al, .int gr, .ref g_b, .ref g_t])), (al, .inr (6, [.int lm, .ref ed, .int lz])), (ed, .inl (cA 5, ln, .inr (.inr (.inr (.inr lf))))), (sh, .inr (4, [.int zw, .int zh, .long zA, .long zL, .long zR, .long zE]))]) [2, 3, 0, 1, 4] (by decide) rfl
        obtain rfl := Option.some.inj h
        exact vx_out (fun x hx9 => (hX.1 x hx9).elim) hlocks hce hcv hcl (fun t ht _ => ⟨u_57, rfl, ⟨eE, by rw [ht]; exact hP9, hD9⟩, hS.F ht⟩) hS.2.2 (by decide) (by decide)
      · obtain ⟨v_61, ev_61, hv9⟩ := w_55
        replace h := ga_swl ev_61 h
        obtain rfl := hv9
        obtain ⟨hP1, -, hD1⟩ := hB
        rw [ht] at hP1
        obtain ⟨hP, hD⟩ := va_join (wr := [(al, .inr (6, [.int lm, .ref ed, .int lz])), (ed, .inl (cA 5, ln, .inr (.inr (.inr (.inr lf))))), (x, .inr (1, [.ref g, xs, xp, .ref xi, .int xl, xr, xq])), (g, .inr (2, [.ref sh, .ref al, .int gr, .ref g_b, .ref g_t])), (sh, .inr (4, [.int zw, .int zh, .long zA, .long zL, .long zR, .long zE]))]) (w1 := []) hP hD [] [0, 1, 2, 3, 4] rfl rfl (by decide) (by decide) hk hFc hP1 hD1
        have hP : va_P D ga_cl [(al, .inr (6, [.int lm, .ref ed, .int lz])), (ed, .inl (cA 5, ln, .inr (.inr (.inr (.inr lf))))), (x, .inr (1, [.ref g, xs, xp, .ref xi, .int xl, xr, xq])), (g, .inr (2, [.ref sh, .ref al, .int gr, .ref g_b, .ref g_t])), (sh, .inr (4, [.int zw, .int zh, .long zA, .long zL, .long zR, .long zE]))] H_56 := hP
        have hD : va_D A [(al, .inr (6, [.int lm, .ref ed, .int lz])), (ed, .inl (cA 5, ln, .inr (.inr (.inr (.inr lf))))), (x, .inr (1, [.ref g, xs, xp, .ref xi, .int xl, xr, xq])), (g, .inr (2, [.ref sh, .ref al, .int gr, .ref g_b, .ref g_t])), (sh, .inr (4, [.int zw, .int zh, .long zA, .long zL, .long zR, .long zE]))] := hD
        replace hr_37 := ga_roF hr_37 hFc hk
        refine W.cs (cells' := 3) (slots' := 18) rfl rfl ?_
        refine lv_aload_n hx hb dX1_stonesToEnclose_34 rfl (lv_at hl 0 rfl) ?_
        refine va_get hx hb hts in_X1 hown hK.1 hP 2 (fs := [.ref g, xs, xp, .ref xi, .int xl, xr, xq]) rfl rfl 0 (by decide) (hts _ q350) (fun _ hh => hh) (v := .ref g) rfl dX1_stonesToEnclose_35 ?_
        refine lv_iload_n hx hb dX1_stonesToEnclose_38 rfl (lv_at hl 1 rfl) ?_
        refine lv_iload_n hx hb dX1_stonesToEnclose_39 rfl (lv_at hl 2 rfl) ?_
        obtain ⟨i_73, h⟩ := ga_gif h
        obtain ⟨r_63, b_64, w_65, t_66, e_67, v_68, bs_69, ba_70, bc_71, bg_72, f_74, q_75, hn_76⟩ := (ga_poK.at (B := A) hR hS (fun _ h => h)) (ix (lz - 1)) i_73
        have hP : va_P D ga_cl [(al, .inr (6, [.int lm, .ref ed, .int lz])), (ed, .inl (cA 5, ln, .inr (.inr (.inr (.inr lf))))), (x, .inr (1, [.ref g, xs, xp, .ref xi, .int xl, xr, xq])), (g, .inr (2, [.ref sh, .ref al, .int gr, .ref g_b, .ref g_t])), (sh, .inr (4, [.int zw, .int zh, .long zA, .long zL, .long zR, .long zE])), (r_63, .inr (5, [.int (q1 (ix (lz - 1))), .int (q2 (ix (lz - 1))), .ref b_64, .ref w_65, .int (qN (ix (lz - 1))), .ref t_66, .ref e_67, .ref v_68])), (w_65, .inl (cA 0, 8, .inl (qW (ix (lz - 1))))), (t_66, .inl (cA 0, 2, .inl (qP (ix (lz - 1))))), (e_67, .inl (cA 0, 49, .inl (qR (ix (lz - 1))))), (v_68, .inl (cA 0, 49, .inl (qV (ix (lz - 1))))), (b_64, .inr (3, [.ref bs_69, .ref ba_70, .long (qB (ix (lz - 1))), .ref bc_71, .ref bg_72])), (bs_69, .inl (cA 1, 2, .inr (.inl (qS (ix (lz - 1)))))), (ba_70, .inl (cA 1, 2, .inr (.inl (qA (ix (lz - 1)))))), (bc_71, .inl (cA 0, 2, .inl (qC (ix (lz - 1))))), (bg_72, .inl (cA 1, 2, .inr (.inl (qG (ix (lz - 1))))))] H_56 := hP.app q_75
        have hr_77 : ga_ro D [(r_63, .inr (5, [.int (q1 (ix (lz - 1))), .int (q2 (ix (lz - 1))), .ref b_64, .ref w_65, .int (qN (ix (lz - 1))), .ref t_66, .ref e_67, .ref v_68])), (w_65, .inl (cA 0, 8, .inl (qW (ix (lz - 1))))), (t_66, .inl (cA 0, 2, .inl (qP (ix (lz - 1))))), (e_67, .inl (cA 0, 49, .inl (qR (ix (lz - 1))))), (v_68, .inl (cA 0, 49, .inl (qV (ix (lz - 1))))), (b_64, .inr (3, [.ref bs_69, .ref ba_70, .long (qB (ix (lz - 1))), .ref bc_71, .ref bg_72])), (bs_69, .inl (cA 1, 2, .inr (.inl (qS (ix (lz - 1)))))), (ba_70, .inl (cA 1, 2, .inr (.inl (qA (ix (lz - 1)))))), (bc_71, .inl (cA 0, 2, .inl (qC (ix (lz - 1))))), (bg_72, .inl (cA 1, 2, .inr (.inl (qG (ix (lz - 1))))))] A s H_56 := ⟨q_75, hn_76⟩
        obtain ⟨r_78, e_79, h⟩ := ga_gb h
        refine vp_callSi (va_Run.run (va_runV (As := [.int x1, .int x2]) (rest := []) ⟨hx, hb, hml, hown, hts⟩ (met_X2_stonesToEnclose l D cA g sh al g_b g_t ed lf r_63 b_64 w_65 t_66 e_67 v_68 bs_69 ba_70 bc_71 bg_72 gr lm lz ln (q1 (ix (lz - 1))) (q2 (ix (lz - 1))) (qN (ix (lz - 1))) (qB (ix (lz - 1))) (qS (ix (lz - 1))) (qA (ix (lz - 1))) zw zh zA zL zR zE N x1 x2 f_74 r_78 e_79) (cwV 2 hts (lw_V q1004 q1005 q1006 q68 q1007) rfl rfl rfl (by decide +kernel) ⟨Nat.le_of_ble_eq_true rfl, Nat.le_of_ble_eq_true rfl⟩) (ga_PV hK (hP.sub (ws' := [(g, .inr (2, [.ref sh, .ref al, .int gr, .ref g_b, .ref g_t])), (al, .inr (6, [.int lm, .ref ed, .int lz])), (ed, .inl (cA 5, ln, .inr (.inr (.inr (.inr lf))))), (r_63, .inr (5, [.int (q1 (ix (lz - 1))), .int (q2 (ix (lz - 1))), .ref b_64, .ref w_65, .int (qN (ix (lz - 1))), .ref t_66, .ref e_67, .ref v_68])), (b_64, .inr (3, [.ref bs_69, .ref ba_70, .long (qB (ix (lz - 1))), .ref bc_71, .ref bg_72])), (bs_69, .inl (cA 1, 2, .inr (.inl (qS (ix (lz - 1)))))), (ba_70, .inl (cA 1, 2, .inr (.inl (qA (ix (lz - 1)))))), (sh, .inr (4, [.int zw, .int zh, .long zA, .long zL, .long zR, .long zE]))]) [3, 0, 1, 5, 10, 11, 12, 4] rfl) (va_recv hK.1 hP (ci := 2) (q0 := 3) rfl rfl)) rfl rfl hl.1 rfl (lv_room (Nat.le_of_ble_eq_true rfl)) dX1_stonesToEnclose_40 ⟨Nat.le_of_ble_eq_true rfl, Nat.le_of_ble_eq_true rfl⟩)) (fun z_80 w_81 => ?_)
        obtain rfl := w_81
        refine lv_istore_n (lv' := [(3, .int r_78), (0, .ref x), (1, .int x1), (2, .int x2)]) hx hb dX1_stonesToEnclose_43 rfl hl (by decide) rfl (fun ls hl => ?_)
        refine lv_iload_n hx hb dX1_stonesToEnclose_44 rfl (lv_at hl 0 rfl) ?_
        refine lv_iconst (v := (-1)) hx hb dX1_stonesToEnclose_45 (by decide) ?_
        refine lv_icmp_eq (tgt := 53) hx hb dX1_stonesToEnclose_46 (by decide) (fun c_83 => ?_) (fun c_83 => ?_)
        · replace h := ga_ift c_83 h
          refine lv_iconst (v := 0) hx hb dX1_stonesToEnclose_53 (by decide) ?_
          replace hP := hP.sub (ws' := [(al, .inr (6, [.int lm, .ref ed, .int lz])), (ed, .inl (cA 5, ln, .inr (.inr (.inr (.inr lf))))), (x, .inr (1, [.ref g, xs, xp, .ref xi, .int xl, xr, xq])), (g, .inr (2, [.ref sh, .ref al, .int gr, .ref g_b, .ref g_t])), (sh, .inr (4, [.int zw, .int zh, .long zA, .long zL, .long zR, .long zE]))]) [0, 1, 2, 3, 4] rfl
          obtain ⟨r_84, e_85, h⟩ := ga_gb h
          have hFc := va_free (wc := []) hD hS hA [] rfl
          refine vx_callv (vx_runS (As := [.int 0]) (rest := []) ⟨hx, hb, hml, hown, hts⟩ (met_X1_checkFound l D cA (va_A [] H_56.size) zs N 0 hX.2 r_84 e_85) (va_cwS 1 hts (lw_S q964 q965 q67 q966) rfl rfl rfl (by decide +kernel) ⟨Nat.le_of_ble_eq_true rfl, Nat.le_of_ble_eq_true rfl⟩) (ga_XS hK ga_P0 (hD.sub (ws' := []) [] (by decide) rfl).self (fun _ hq => Or.inr hq) (hST.at hS hFc)) rfl rfl hl.1 rfl (lv_room (Nat.le_of_ble_eq_true rfl)) dX1_stonesToEnclose_54 ⟨Nat.le_of_ble_eq_true rfl, Nat.le_of_ble_eq_true rfl⟩) hS (fun q _ hq => hFc q hq) hFc (fun q _ hq => hFc q hq) (fun E_91 ce q_92 u_89 t H_90 locs ht _ w_87 hB _ hk hS hce hcv hcl => ?_) (fun u_89 t H_88 locs ht _ w_87 hB _ hk hS => ?_)
          · replace h := ga_swr w_87 h
            obtain ⟨eE, hP1, hD1⟩ := hB
            rw [ht] at hP1
            obtain ⟨hP, hD⟩ := va_join (wr := [(al, .inr (6, [.int lm, .ref ed, .int lz])), (ed, .inl (cA 5, ln, .inr (.inr (.inr (.inr lf))))), (x, .inr (1, [.ref g, xs, xp, .ref xi, .int xl, xr, xq])), (g, .inr (2, [.ref sh, .ref al, .int gr, .ref g_b, .ref g_t])), (sh, .inr (4, [.int zw, .int zh, .long zA, .long zL, .long zR, .long zE]))]) (w1 := []) hP hD [] [0, 1, 2, 3, 4] rfl rfl (by decide) (by decide) hk hFc hP1 hD1
            have hP : va_P D ga_cl [(al, .inr (6, [.int lm, .ref ed, .int lz])), (ed, .inl (cA 5, ln, .inr (.inr (.inr (.inr lf))))), (x, .inr (1, [.ref g, xs, xp, .ref xi, .int xl, xr, xq])), (g, .inr (2, [.ref sh, .ref al, .int gr, .ref g_b, .ref g_t])), (sh, .inr (4, [.int zw, .int zh, .long zA, .long zL, .long zR, .long zE]))] H_90 := hP
            have hD : va_D A [(al, .inr (6, [.int lm, .ref ed, .int lz])), (ed, .inl (cA 5, ln, .inr (.inr (.inr (.inr lf))))), (x, .inr (1, [.ref g, xs, xp, .ref xi, .int xl, xr, xq])), (g, .inr (2, [.ref sh, .ref al, .int gr, .ref g_b, .ref g_t])), (sh, .inr (4, [.int zw, .int zh, .long zA, .long zL, .long zR, .long zE]))] := hD
            have hP9 := hP.sub (ws' := [(x, .inr (1, [.ref g, xs, xp, .ref xi, .int xl, xr, xq])), (g, .inr (2, [.ref sh, .ref al, .int gr, .ref g_b, .ref g_t])), (al, .inr (6, [.int lm, .ref ed, .int lz])), (ed, .inl (cA 5, ln, .inr (.inr (.inr (.inr lf))))), (sh, .inr (4, [.int zw, .int zh, .long zA, .long zL, .long zR, .long zE]))]) [2, 3, 0, 1, 4] rfl
            have hD9 := hD.sub (ws' := [(x, .inr (1, [.ref g, xs, xp, .ref xi, .int xl, xr, xq])), (g, .inr (2, [.ref sh, .ref al, .int gr, .ref g_b, .ref g_t])), (al, .inr (6, [.int lm, .ref ed, .int lz])), (ed, .inl (cA 5, ln, .inr (.inr (.inr (.inr lf))))), (sh, .inr (4, [.int zw, .int zh, .long zA, .long zL, .long zR, .long zE]))]) [2, 3, 0, 1, 4] (by decide) rfl
            obtain rfl := Option.some.inj h
            exact vx_out (fun x hx9 => (hX.1 x hx9).elim) hlocks hce hcv hcl (fun t ht _ => ⟨u_89, rfl, ⟨eE, by rw [ht]; exact hP9, hD9⟩, hS.F ht⟩) hS.2.2 (by decide) (by decide)
          · obtain ⟨v_93, ev_93, hv9⟩ := w_87
            replace h := ga_swl ev_93 h
            obtain rfl := hv9
            obtain ⟨hP1, -, hD1⟩ := hB
            rw [ht] at hP1
            obtain ⟨hP, hD⟩ := va_join (wr := [(al, .inr (6, [.int lm, .ref ed, .int lz])), (ed, .inl (cA 5, ln, .inr (.inr (.inr (.inr lf))))), (x, .inr (1, [.ref g, xs, xp, .ref xi, .int xl, xr, xq])), (g, .inr (2, [.ref sh, .ref al, .int gr, .ref g_b, .ref g_t])), (sh, .inr (4, [.int zw, .int zh, .long zA, .long zL, .long zR, .long zE]))]) (w1 := []) hP hD [] [0, 1, 2, 3, 4] rfl rfl (by decide) (by decide) hk hFc hP1 hD1
            have hP : va_P D ga_cl [(al, .inr (6, [.int lm, .ref ed, .int lz])), (ed, .inl (cA 5, ln, .inr (.inr (.inr (.inr lf))))), (x, .inr (1, [.ref g, xs, xp, .ref xi, .int xl, xr, xq])), (g, .inr (2, [.ref sh, .ref al, .int gr, .ref g_b, .ref g_t])), (sh, .inr (4, [.int zw, .int zh, .long zA, .long zL, .long zR, .long zE]))] H_88 := hP
            have hD : va_D A [(al, .inr (6, [.int lm, .ref ed, .int lz])), (ed, .inl (cA 5, ln, .inr (.inr (.inr (.inr lf))))), (x, .inr (1, [.ref g, xs, xp, .ref xi, .int xl, xr, xq])), (g, .inr (2, [.ref sh, .ref al, .int gr, .ref g_b, .ref g_t])), (sh, .inr (4, [.int zw, .int zh, .long zA, .long zL, .long zR, .long zE]))] := hD
            replace hr_37 := ga_roF hr_37 hFc hk
            replace hr_77 := ga_roF hr_77 hFc hk
            refine W.cs (cells' := 4) (slots' := 24) rfl rfl ?_
            refine lv_iload_n hx hb dX1_stonesToEnclose_57 rfl (lv_at hl 0 rfl) ?_
            have hP9 := hP.sub (ws' := [(x, .inr (1, [.ref g, xs, xp, .ref xi, .int xl, xr, xq])), (g, .inr (2, [.ref sh, .ref al, .int gr, .ref g_b, .ref g_t])), (al, .inr (6, [.int lm, .ref ed, .int lz])), (ed, .inl (cA 5, ln, .inr (.inr (.inr (.inr lf))))), (sh, .inr (4, [.int zw, .int zh, .long zA, .long zL, .long zR, .long zE]))]) [2, 3, 0, 1, 4] rfl
            have hD9 := hD.sub (ws' := [(x, .inr (1, [.ref g, xs, xp, .ref xi, .int xl, xr, xq])), (g, .inr (2, [.ref sh, .ref al, .int gr, .ref g_b, .ref g_t])), (al, .inr (6, [.int lm, .ref ed, .int lz])), (ed, .inl (cA 5, ln, .inr (.inr (.inr (.inr lf))))), (sh, .inr (4, [.int zw, .int zh, .long zA, .long zL, .long zR, .long zE]))]) [2, 3, 0, 1, 4] (by decide) rfl
            obtain rfl := Option.some.inj h
            refine vx_ret ?_
            exact W.iret hx hb hr (fun t ht hW => ⟨⟨_, (), rfl, ⟨_, rfl, rfl, rfl⟩, ⟨by rw [ht]; exact hP9, hK.warm hW, hD9⟩⟩, hS.F ht⟩) hS.2.2 dX1_stonesToEnclose_58
        · replace h := ga_iff c_83 h
          refine lv_iconst (v := 1) hx hb dX1_stonesToEnclose_49 (by decide) ?_
          refine lv_goto (tgt := 54) hx hb dX1_stonesToEnclose_50 (by decide) ?_
          replace hP := hP.sub (ws' := [(al, .inr (6, [.int lm, .ref ed, .int lz])), (ed, .inl (cA 5, ln, .inr (.inr (.inr (.inr lf))))), (x, .inr (1, [.ref g, xs, xp, .ref xi, .int xl, xr, xq])), (g, .inr (2, [.ref sh, .ref al, .int gr, .ref g_b, .ref g_t])), (sh, .inr (4, [.int zw, .int zh, .long zA, .long zL, .long zR, .long zE]))]) [0, 1, 2, 3, 4] rfl
          obtain ⟨r_95, e_96, h⟩ := ga_gb h
          have hFc := va_free (wc := []) hD hS hA [] rfl
          refine vx_callv (vx_runS (As := [.int 1]) (rest := []) ⟨hx, hb, hml, hown, hts⟩ (met_X1_checkFound l D cA (va_A [] H_56.size) zs N 1 hX.2 r_95 e_96) (va_cwS 1 hts (lw_S q964 q965 q67 q966) rfl rfl rfl (by decide +kernel) ⟨Nat.le_of_ble_eq_true rfl, Nat.le_of_ble_eq_true rfl⟩) (ga_XS hK ga_P0 (hD.sub (ws' := []) [] (by decide) rfl).self (fun _ hq => Or.inr hq) (hST.at hS hFc)) rfl rfl hl.1 rfl (lv_room (Nat.le_of_ble_eq_true rfl)) dX1_stonesToEnclose_54 ⟨Nat.le_of_ble_eq_true rfl, Nat.le_of_ble_eq_true rfl⟩) hS (fun q _ hq => hFc q hq) hFc (fun q _ hq => hFc q hq) (fun E_102 ce q_103 u_100 t H_101 locs ht _ w_98 hB _ hk hS hce hcv hcl => ?_) (fun u_100 t H_99 locs ht _ w_98 hB _ hk hS => ?_)
          · replace h := ga_swr w_98 h
            obtain ⟨eE, hP1, hD1⟩ := hB
            rw [ht] at hP1
            obtain ⟨hP, hD⟩ := va_join (wr := [(al, .inr (6, [.int lm, .ref ed, .int lz])), (ed, .inl (cA 5, ln, .inr (.inr (.inr (.inr lf))))), (x, .inr (1, [.ref g, xs, xp, .ref xi, .int xl, xr, xq])), (g, .inr (2, [.ref sh, .ref al, .int gr, .ref g_b, .ref g_t])), (sh, .inr (4, [.int zw, .int zh, .long zA, .long zL, .long zR, .long zE]))]) (w1 := []) hP hD [] [0, 1, 2, 3, 4] rfl rfl (by decide) (by decide) hk hFc hP1 hD1
            have hP : va_P D ga_cl [(al, .inr (6, [.int lm, .ref ed, .int lz])), (ed, .inl (cA 5, ln, .inr (.inr (.inr (.inr lf))))), (x, .inr (1, [.ref g, xs, xp, .ref xi, .int xl, xr, xq])), (g, .inr (2, [.ref sh, .ref al, .int gr, .ref g_b, .ref g_t])), (sh, .inr (4, [.int zw, .int zh, .long zA, .long zL, .long zR, .long zE]))] H_101 := hP
            have hD : va_D A [(al, .inr (6, [.int lm, .ref ed, .int lz])), (ed, .inl (cA 5, ln, .inr (.inr (.inr (.inr lf))))), (x, .inr (1, [.ref g, xs, xp, .ref xi, .int xl, xr, xq])), (g, .inr (2, [.ref sh, .ref al, .int gr, .ref g_b, .ref g_t])), (sh, .inr (4, [.int zw, .int zh, .long zA, .long zL, .long zR, .long zE]))] := hD
            have hP9 := hP.sub (ws' := [(x, .inr (1, [.ref g, xs, xp, .ref xi, .int xl, xr, xq])), (g, .inr (2, [.ref sh, .ref al, .int gr, .ref g_b, .ref g_t])), (al, .inr (6, [.int lm, .ref ed, .int lz])), (ed, .inl (cA 5, ln, .inr (.inr (.inr (.inr lf))))), (sh, .inr (4, [.int zw, .int zh, .long zA, .long zL, .long zR, .long zE]))]) [2, 3, 0, 1, 4] rfl
            have hD9 := hD.sub (ws' := [(x, .inr (1, [.ref g, xs, xp, .ref xi, .int xl, xr, xq])), (g, .inr (2, [.ref sh, .ref al, .int gr, .ref g_b, .ref g_t])), (al, .inr (6, [.int lm, .ref ed, .int lz])), (ed, .inl (cA 5, ln, .inr (.inr (.inr (.inr lf))))), (sh, .inr (4, [.int zw, .int zh, .long zA, .long zL, .long zR, .long zE]))]) [2, 3, 0, 1, 4] (by decide) rfl
            obtain rfl := Option.some.inj h
            exact vx_out (fun x hx9 => (hX.1 x hx9).elim) hlocks hce hcv hcl (fun t ht _ => ⟨u_100, rfl, ⟨eE, by rw [ht]; exact hP9, hD9⟩, hS.F ht⟩) hS.2.2 (by decide) (by decide)
          · obtain ⟨v_104, ev_104, hv9⟩ := w_98
            replace h := ga_swl ev_104 h
            obtain rfl := hv9
            obtain ⟨hP1, -, hD1⟩ := hB
            rw [ht] at hP1
            obtain ⟨hP, hD⟩ := va_join (wr := [(al, .inr (6, [.int lm, .ref ed, .int lz])), (ed, .inl (cA 5, ln, .inr (.inr (.inr (.inr lf))))), (x, .inr (1, [.ref g, xs, xp, .ref xi, .int xl, xr, xq])), (g, .inr (2, [.ref sh, .ref al, .int gr, .ref g_b, .ref g_t])), (sh, .inr (4, [.int zw, .int zh, .long zA, .long zL, .long zR, .long zE]))]) (w1 := []) hP hD [] [0, 1, 2, 3, 4] rfl rfl (by decide) (by decide) hk hFc hP1 hD1
            have hP : va_P D ga_cl [(al, .inr (6, [.int lm, .ref ed, .int lz])), (ed, .inl (cA 5, ln, .inr (.inr (.inr (.inr lf))))), (x, .inr (1, [.ref g, xs, xp, .ref xi, .int xl, xr, xq])), (g, .inr (2, [.ref sh, .ref al, .int gr, .ref g_b, .ref g_t])), (sh, .inr (4, [.int zw, .int zh, .long zA, .long zL, .long zR, .long zE]))] H_99 := hP
            have hD : va_D A [(al, .inr (6, [.int lm, .ref ed, .int lz])), (ed, .inl (cA 5, ln, .inr (.inr (.inr (.inr lf))))), (x, .inr (1, [.ref g, xs, xp, .ref xi, .int xl, xr, xq])), (g, .inr (2, [.ref sh, .ref al, .int gr, .ref g_b, .ref g_t])), (sh, .inr (4, [.int zw, .int zh, .long zA, .long zL, .long zR, .long zE]))] := hD
            replace hr_37 := ga_roF hr_37 hFc hk
            replace hr_77 := ga_roF hr_77 hFc hk
            refine W.cs (cells' := 4) (slots' := 24) rfl rfl ?_
            refine lv_iload_n hx hb dX1_stonesToEnclose_57 rfl (lv_at hl 0 rfl) ?_
            have hP9 := hP.sub (ws' := [(x, .inr (1, [.ref g, xs, xp, .ref xi, .int xl, xr, xq])), (g, .inr (2, [.ref sh, .ref al, .int gr, .ref g_b, .ref g_t])), (al, .inr (6, [.int lm, .ref ed, .int lz])), (ed, .inl (cA 5, ln, .inr (.inr (.inr (.inr lf))))), (sh, .inr (4, [.int zw, .int zh, .long zA, .long zL, .long zR, .long zE]))]) [2, 3, 0, 1, 4] rfl
            have hD9 := hD.sub (ws' := [(x, .inr (1, [.ref g, xs, xp, .ref xi, .int xl, xr, xq])), (g, .inr (2, [.ref sh, .ref al, .int gr, .ref g_b, .ref g_t])), (al, .inr (6, [.int lm, .ref ed, .int lz])), (ed, .inl (cA 5, ln, .inr (.inr (.inr (.inr lf))))), (sh, .inr (4, [.int zw, .int zh, .long zA, .long zL, .long zR, .long zE]))]) [2, 3, 0, 1, 4] (by decide) rfl
            obtain rfl := Option.some.inj h
            refine vx_ret ?_
            exact W.iret hx hb hr (fun t ht hW => ⟨⟨_, (), rfl, ⟨_, rfl, rfl, rfl⟩, ⟨by rw [ht]; exact hP9, hK.warm hW, hD9⟩⟩, hS.F ht⟩) hS.2.2 dX1_stonesToEnclose_58
abbrev rm_X1_share : Room := { frames := 8, cells := 1, slots := 6, locals := 141 }
def F_X1_share (N : Nat) (xl : Int32) (gr : Int32) (lm : Int32) (lz : Int32) (ln : Nat) (zw : Int32) (zh : Int32) (zA : Int64) (zL : Int64) (zR : Int64) (zE : Int64) (np : Nat) (q1 : Nat → Int32) (q2 : Nat → Int32) (qN : Nat → Int32) (qW : Nat → Nat → Int32) (qP : Nat → Nat → Int32) (qR : Nat → Nat → Int32) (qV : Nat → Nat → Int32) (qB : Nat → Int64) (qS : Nat → Nat → Int64) (qA : Nat → Nat → Int64) (qG : Nat → Nat → Int64) (qC : Nat → Nat → Int32) (x1 : Int32) : Option ((UInt64 × Unit) ⊕ Nat) :=
  ((F_X1_checkPlayer N x1).bind fun r_1 => ga_sw r_1 (fun v_10 =>
  (if ix (lz - 1) < np then
  ((F_X2_board N gr lm lz ln (q1 (ix (lz - 1))) (q2 (ix (lz - 1))) (qN (ix (lz - 1)))).bind fun r_27 =>
  ((F_X3_own N (qB (ix (lz - 1))) (qS (ix (lz - 1))) (qA (ix (lz - 1))) x1).bind fun r_31 =>
  (if ga_n64b (FP.ddiv (FP.i2d (V_J13_bitCount r_31)) (FP.i2d (zw * zh))) = true then
  some (.inl ((FP.ddiv (FP.i2d (V_J13_bitCount r_31)) (FP.i2d (zw * zh))), ()))
  else none)))
  else none)) (fun u_6 =>
  some (.inr u_6)))
set_option maxHeartbeats 4000000 in
theorem met_X1_share (l : Launch) (D : va_G) (cA : Nat → ClassId) (A : Nat → Prop) (x : Nat) (g : Nat) (xs : Value) (xp : Value) (xi : Nat) (xr : Value) (xq : Value) (sh : Nat) (al : Nat) (g_b : Nat) (g_t : Nat) (ed : Nat) (lf : Nat → Option Nat) (zs : Nat → Nat) (xl : Int32) (gr : Int32) (lm : Int32) (lz : Int32) (ln : Nat) (zw : Int32) (zh : Int32) (zA : Int64) (zL : Int64) (zR : Int64) (zE : Int64) (np : Nat) (q1 : Nat → Int32) (q2 : Nat → Int32) (qN : Nat → Int32) (qW : Nat → Nat → Int32) (qP : Nat → Nat → Int32) (qR : Nat → Nat → Int32) (qV : Nat → Nat → Int32) (qB : Nat → Int64) (qS : Nat → Nat → Int64) (qA : Nat → Nat → Int64) (qG : Nat → Nat → Int64) (qC : Nat → Nat → Int32) (N : Nat) (x1 : Int32)  (hstk : l.stackTraces = false) (out : (UInt64 × Unit) ⊕ Nat) (h : F_X1_share N xl gr lm lz ln zw zh zA zL zR zE np q1 q2 qN qW qP qR qV qB qS qA qG qC x1 = some out) : vx_Met l yX1_share (ws_ yX1_share cX1_share 2 (some .double)) rm_X1_share (ga_XR D cA zs A (ga_po D cA lf np q1 q2 qN qW qP qR qV qB qS qA qG qC) [(x, .inr (1, [.ref g, xs, xp, .ref xi, .int xl, xr, xq])), (g, .inr (2, [.ref sh, .ref al, .int gr, .ref g_b, .ref g_t])), (al, .inr (6, [.int lm, .ref ed, .int lz])), (ed, .inl (cA 5, ln, .inr (.inr (.inr (.inr lf))))), (sh, .inr (4, [.int zw, .int zh, .long zA, .long zL, .long zR, .long zE]))] [.ref x, .int x1]) (va_Qd (fun (r : UInt64) (u : Unit) => ∃ v, out = .inl v ∧ (v.1 = r) ∧ v.2 = u) (fun (u : Unit) (t : State) => va_P D ga_cl [(x, .inr (1, [.ref g, xs, xp, .ref xi, .int xl, xr, xq])), (g, .inr (2, [.ref sh, .ref al, .int gr, .ref g_b, .ref g_t])), (al, .inr (6, [.int lm, .ref ed, .int lz])), (ed, .inl (cA 5, ln, .inr (.inr (.inr (.inr lf))))), (sh, .inr (4, [.int zw, .int zh, .long zA, .long zL, .long zR, .long zE]))] t.heap ∧ ga_K D cA t ∧ va_D A [(x, .inr (1, [.ref g, xs, xp, .ref xi, .int xl, xr, xq])), (g, .inr (2, [.ref sh, .ref al, .int gr, .ref g_b, .ref g_t])), (al, .inr (6, [.int lm, .ref ed, .int lz])), (ed, .inl (cA 5, ln, .inr (.inr (.inr (.inr lf))))), (sh, .inr (4, [.int zw, .int zh, .long zA, .long zL, .long zR, .long zE]))]) A) (vx_X (fun (u : Nat) => out = .inr u) (fun (E : String) (q9 : Nat) (u : Nat) (t : State) => E = ga_en u ∧ va_P D ga_cl [(x, .inr (1, [.ref g, xs, xp, .ref xi, .int xl, xr, xq])), (g, .inr (2, [.ref sh, .ref al, .int gr, .ref g_b, .ref g_t])), (al, .inr (6, [.int lm, .ref ed, .int lz])), (ed, .inl (cA 5, ln, .inr (.inr (.inr (.inr lf))))), (sh, .inr (4, [.int zw, .int zh, .long zA, .long zL, .long zR, .long zE]))] t.heap ∧ va_D A [(x, .inr (1, [.ref g, xs, xp, .ref xi, .int xl, xr, xq])), (g, .inr (2, [.ref sh, .ref al, .int gr, .ref g_b, .ref g_t])), (al, .inr (6, [.int lm, .ref ed, .int lz])), (ed, .inl (cA 5, ln, .inr (.inr (.inr (.inr lf))))), (sh, .inr (4, [.int zw, .int zh, .long zA, .long zL, .long zR, .long zE]))]) A) 1 6 A := by
  refine vx_ofW (cc := cX1_share) (maxL := 2) (ret := (some .double)) (by decide) rfl ?_
  intro p e s m args below meth c s₁ B hml htab hv
  have hX : ga_cx2 c l := ⟨htab, hstk⟩
  obtain ⟨rfl, hP, hK, hD, hA, hST, hR⟩ := hv
  have hS : va_S A s.heap s.heap [] := va_S.rf
  have C : ga_cx p m c meth s _ RX1 cX1_share 2 (some .double) := ga_cx_of B hml
  have C0 := C
  obtain ⟨hx, hb, hr, hlocks, hml, hown, hts⟩ := C0
  have hl := lv_entry ([.ref x, .int x1]) (n := 2) (Nat.le_of_ble_eq_true rfl)
  rw [lg_entry_eq]
  generalize (lg_sl ([.ref x, .int x1]) ++ List.replicate (2 - (lg_sl ([.ref x, .int x1])).length) Slot.unset).toArray = ls at hl ⊢
  have hl : lv_has ls 2 [(0, .ref x), (1, .int x1)] := hl
  rw [F_X1_share] at h
  refine lv_iload_n hx hb dX1_share_0 rfl (lv_at hl 1 rfl) ?_
  obtain ⟨r_1, e_2, h⟩ := ga_gb h
  have hFc := va_free (wc := []) hD hS hA [] rfl
  refine vx_callv (vx_runS (As := [.int x1]) (rest := []) ⟨hx, hb, hml, hown, hts⟩ (met_X1_checkPlayer l D cA (va_A [] s.heap.size) zs N x1 hX.2 r_1 e_2) (va_cwS 1 hts (lw_S q622 q623 q67 q624) rfl rfl rfl (by decide +kernel) ⟨Nat.le_of_ble_eq_true rfl, Nat.le_of_ble_eq_true rfl⟩) (ga_XS hK ga_P0 (hD.sub (ws' := []) [] (by decide) rfl).self (fun _ hq => Or.inr hq) (hST.at hS hFc)) rfl rfl hl.1 rfl (lv_room (Nat.le_of_ble_eq_true rfl)) dX1_share_1 ⟨Nat.le_of_ble_eq_true rfl, Nat.le_of_ble_eq_true rfl⟩) hS (fun q _ hq => hFc q hq) hFc (fun q _ hq => hFc q hq) (fun E_8 ce q_9 u_6 t H_7 locs ht _ w_4 hB _ hk hS hce hcv hcl => ?_) (fun u_6 t H_5 locs ht _ w_4 hB _ hk hS => ?_)
  · replace h := ga_swr w_4 h
    obtain ⟨eE, hP1, hD1⟩ := hB
    rw [ht] at hP1
    obtain ⟨hP, hD⟩ := va_join (wr := [(x, .inr (1, [.ref g, xs, xp, .ref xi, .int xl, xr, xq])), (g, .inr (2, [.ref sh, .ref al, .int gr, .ref g_b, .ref g_t])), (al, .inr (6, [.int lm, .ref ed, .int lz])), (ed, .inl (cA 5, ln, .inr (.inr (.inr (.inr lf))))), (sh, .inr (4, [.int zw, .int zh, .long zA, .long zL, .long zR, .long zE]))]) (w1 := []) hP hD [] [0, 1, 2, 3, 4] rfl rfl (by decide) (by decide) hk hFc hP1 hD1
    have hP : va_P D ga_cl [(x, .inr (1, [.ref g, xs, xp, .ref xi, .int xl, xr, xq])), (g, .inr (2, [.ref sh, .ref al, .int gr, .ref g_b, .ref g_t])), (al, .inr (6, [.int lm, .ref ed, .int lz])), (ed, .inl (cA 5, ln, .inr (.inr (.inr (.inr lf))))), (sh, .inr (4, [.int zw, .int zh, .long zA, .long zL, .long zR, .long zE]))] H_7 := hP
    have hD : va_D A [(x, .inr (1, [.ref g, xs, xp, .ref xi, .int xl, xr, xq])), (g, .inr (2, [.ref sh, .ref al, .int gr, .ref g_b, .ref g_t])), (al, .inr (6, [.int lm, .ref ed, .int lz])), (ed, .inl (cA 5, ln, .inr (.inr (.inr (.inr lf))))), (sh, .inr (4, [.int zw, .int zh, .long zA, .long zL, .long zR, .long zE]))] := hD
    have hP9 := hP.sub (ws' := [(x, .inr (1, [.ref g, xs, xp, .ref xi, .int xl, xr, xq])), (g, .inr (2, [.ref sh, .ref al, .int gr, .ref g_b, .ref g_t])), (al, .inr (6, [.int lm, .ref ed, .int lz])), (ed, .inl (cA 5, ln, .inr (.inr (.inr (.inr lf))))), (sh, .inr (4, [.int zw, .int zh, .long zA, .long zL, .long zR, .long zE]))]) [0, 1, 2, 3, 4] rfl
    have hD9 := hD.sub (ws' := [(x, .inr (1, [.ref g, xs, xp, .ref xi, .int xl, xr, xq])), (g, .inr (2, [.ref sh, .ref al, .int gr, .ref g_b, .ref g_t])), (al, .inr (6, [.int lm, .ref ed, .int lz])), (ed, .inl (cA 5, ln, .inr (.inr (.inr (.inr lf))))), (sh, .inr (4, [.int zw, .int zh, .long zA, .long zL, .long zR, .long zE]))]) [0, 1, 2, 3, 4] (by decide) rfl
    obtain rfl := Option.some.inj h
    exact vx_out (fun x hx9 => (hX.1 x hx9).elim) hlocks hce hcv hcl (fun t ht _ => ⟨u_6, rfl, ⟨eE, by rw [ht]; exact hP9, hD9⟩, hS.F ht⟩) hS.2.2 (by decide) (by decide)
  · obtain ⟨v_10, ev_10, hv9⟩ := w_4
    replace h := ga_swl ev_10 h
    obtain rfl := hv9
    obtain ⟨hP1, -, hD1⟩ := hB
    rw [ht] at hP1
    obtain ⟨hP, hD⟩ := va_join (wr := [(x, .inr (1, [.ref g, xs, xp, .ref xi, .int xl, xr, xq])), (g, .inr (2, [.ref sh, .ref al, .int gr, .ref g_b, .ref g_t])), (al, .inr (6, [.int lm, .ref ed, .int lz])), (ed, .inl (cA 5, ln, .inr (.inr (.inr (.inr lf))))), (sh, .inr (4, [.int zw, .int zh, .long zA, .long zL, .long zR, .long zE]))]) (w1 := []) hP hD [] [0, 1, 2, 3, 4] rfl rfl (by decide) (by decide) hk hFc hP1 hD1
    have hP : va_P D ga_cl [(x, .inr (1, [.ref g, xs, xp, .ref xi, .int xl, xr, xq])), (g, .inr (2, [.ref sh, .ref al, .int gr, .ref g_b, .ref g_t])), (al, .inr (6, [.int lm, .ref ed, .int lz])), (ed, .inl (cA 5, ln, .inr (.inr (.inr (.inr lf))))), (sh, .inr (4, [.int zw, .int zh, .long zA, .long zL, .long zR, .long zE]))] H_5 := hP
    have hD : va_D A [(x, .inr (1, [.ref g, xs, xp, .ref xi, .int xl, xr, xq])), (g, .inr (2, [.ref sh, .ref al, .int gr, .ref g_b, .ref g_t])), (al, .inr (6, [.int lm, .ref ed, .int lz])), (ed, .inl (cA 5, ln, .inr (.inr (.inr (.inr lf))))), (sh, .inr (4, [.int zw, .int zh, .long zA, .long zL, .long zR, .long zE]))] := hD
    refine W.cs (cells' := 1) (slots' := 6) rfl rfl ?_
    refine lv_aload_n hx hb dX1_share_4 rfl (lv_at hl 0 rfl) ?_
    refine va_get hx hb hts in_X1 hown hK.1 hP 0 (fs := [.ref g, xs, xp, .ref xi, .int xl, xr, xq]) rfl rfl 0 (by decide) (hts _ q350) (fun _ hh => hh) (v := .ref g) rfl dX1_share_5 ?_
    obtain ⟨i_22, h⟩ := ga_gif h
    obtain ⟨r_12, b_13, w_14, t_15, e_16, v_17, bs_18, ba_19, bc_20, bg_21, f_23, q_24, hn_25⟩ := (ga_poK.at (B := A) hR hS (fun _ h => h)) (ix (lz - 1)) i_22
    have hP : va_P D ga_cl [(x, .inr (1, [.ref g, xs, xp, .ref xi, .int xl, xr, xq])), (g, .inr (2, [.ref sh, .ref al, .int gr, .ref g_b, .ref g_t])), (al, .inr (6, [.int lm, .ref ed, .int lz])), (ed, .inl (cA 5, ln, .inr (.inr (.inr (.inr lf))))), (sh, .inr (4, [.int zw, .int zh, .long zA, .long zL, .long zR, .long zE])), (r_12, .inr (5, [.int (q1 (ix (lz - 1))), .int (q2 (ix (lz - 1))), .ref b_13, .ref w_14, .int (qN (ix (lz - 1))), .ref t_15, .ref e_16, .ref v_17])), (w_14, .inl (cA 0, 8, .inl (qW (ix (lz - 1))))), (t_15, .inl (cA 0, 2, .inl (qP (ix (lz - 1))))), (e_16, .inl (cA 0, 49, .inl (qR (ix (lz - 1))))), (v_17, .inl (cA 0, 49, .inl (qV (ix (lz - 1))))), (b_13, .inr (3, [.ref bs_18, .ref ba_19, .long (qB (ix (lz - 1))), .ref bc_20, .ref bg_21])), (bs_18, .inl (cA 1, 2, .inr (.inl (qS (ix (lz - 1)))))), (ba_19, .inl (cA 1, 2, .inr (.inl (qA (ix (lz - 1)))))), (bc_20, .inl (cA 0, 2, .inl (qC (ix (lz - 1))))), (bg_21, .inl (cA 1, 2, .inr (.inl (qG (ix (lz - 1))))))] H_5 := hP.app q_24
    have hr_26 : ga_ro D [(r_12, .inr (5, [.int (q1 (ix (lz - 1))), .int (q2 (ix (lz - 1))), .ref b_13, .ref w_14, .int (qN (ix (lz - 1))), .ref t_15, .ref e_16, .ref v_17])), (w_14, .inl (cA 0, 8, .inl (qW (ix (lz - 1))))), (t_15, .inl (cA 0, 2, .inl (qP (ix (lz - 1))))), (e_16, .inl (cA 0, 49, .inl (qR (ix (lz - 1))))), (v_17, .inl (cA 0, 49, .inl (qV (ix (lz - 1))))), (b_13, .inr (3, [.ref bs_18, .ref ba_19, .long (qB (ix (lz - 1))), .ref bc_20, .ref bg_21])), (bs_18, .inl (cA 1, 2, .inr (.inl (qS (ix (lz - 1)))))), (ba_19, .inl (cA 1, 2, .inr (.inl (qA (ix (lz - 1)))))), (bc_20, .inl (cA 0, 2, .inl (qC (ix (lz - 1))))), (bg_21, .inl (cA 1, 2, .inr (.inl (qG (ix (lz - 1))))))] A s H_5 := ⟨q_24, hn_25⟩
    obtain ⟨r_27, e_28, h⟩ := ga_gb h
    refine va_csr (va_Run.run (va_runV (As := []) (rest := []) ⟨hx, hb, hml, hown, hts⟩ (met_X2_board l D cA g sh al g_b g_t ed lf r_12 b_13 w_14 t_15 e_16 v_17 gr lm lz ln (q1 (ix (lz - 1))) (q2 (ix (lz - 1))) (qN (ix (lz - 1))) N f_23 r_27 e_28) (cwV 0 hts (lw_V q565 q385 q386 q68 q387) rfl rfl rfl (by decide +kernel) ⟨Nat.le_of_ble_eq_true rfl, Nat.le_of_ble_eq_true rfl⟩) (ga_PV hK (hP.sub (ws' := [(g, .inr (2, [.ref sh, .ref al, .int gr, .ref g_b, .ref g_t])), (al, .inr (6, [.int lm, .ref ed, .int lz])), (ed, .inl (cA 5, ln, .inr (.inr (.inr (.inr lf))))), (r_12, .inr (5, [.int (q1 (ix (lz - 1))), .int (q2 (ix (lz - 1))), .ref b_13, .ref w_14, .int (qN (ix (lz - 1))), .ref t_15, .ref e_16, .ref v_17]))]) [1, 2, 3, 5] rfl) (va_recv hK.1 hP (ci := 2) (q0 := 1) rfl rfl)) rfl rfl hl.1 rfl (lv_room (Nat.le_of_ble_eq_true rfl)) dX1_share_8 ⟨Nat.le_of_ble_eq_true rfl, Nat.le_of_ble_eq_true rfl⟩)) (fun _ _ => ?_)
    refine lv_iload_n hx hb dX1_share_11 rfl (lv_at hl 1 rfl) ?_
    obtain ⟨r_31, e_32, h⟩ := ga_gb h
    refine vp_callSl (va_Run.run (va_runV (As := [.int x1]) (rest := []) ⟨hx, hb, hml, hown, hts⟩ (met_X3_own l D cA b_13 bs_18 ba_19 bc_20 bg_21 (qB (ix (lz - 1))) (qS (ix (lz - 1))) (qA (ix (lz - 1))) N x1 r_31 e_32) (cwV 1 hts (lw_V q1026 q427 q428 q72 q429) rfl rfl rfl (by decide +kernel) ⟨Nat.le_of_ble_eq_true rfl, Nat.le_of_ble_eq_true rfl⟩) (ga_PV hK (hP.sub (ws' := [(b_13, .inr (3, [.ref bs_18, .ref ba_19, .long (qB (ix (lz - 1))), .ref bc_20, .ref bg_21])), (bs_18, .inl (cA 1, 2, .inr (.inl (qS (ix (lz - 1)))))), (ba_19, .inl (cA 1, 2, .inr (.inl (qA (ix (lz - 1))))))]) [10, 11, 12] rfl) (va_recv hK.1 hP (ci := 3) (q0 := 10) rfl rfl)) rfl rfl hl.1 rfl (lv_room (Nat.le_of_ble_eq_true rfl)) dX1_share_12 ⟨Nat.le_of_ble_eq_true rfl, Nat.le_of_ble_eq_true rfl⟩)) (fun z_33 w_34 => ?_)
    obtain rfl := w_34
    refine vp_callSi (va_Run.run (va_runS (As := [.long r_31]) (rest := []) ⟨hx, hb, hml, hown, hts⟩ (met_X1_size l D cA N r_31 (V_J13_bitCount r_31) rfl) (va_cwS 1 hts (lw_S q567 q568 q67 q569) rfl rfl rfl (by decide +kernel) ⟨Nat.le_of_ble_eq_true rfl, Nat.le_of_ble_eq_true rfl⟩) (ga_PS hK ga_P0) rfl rfl hl.1 rfl (lv_room (Nat.le_of_ble_eq_true rfl)) dX1_share_15 ⟨Nat.le_of_ble_eq_true rfl, Nat.le_of_ble_eq_true rfl⟩)) (fun z_38 w_39 => ?_)
    obtain rfl := w_39
    refine lv_i2d hx hb dX1_share_18 ?_
    refine lv_aload_n hx hb dX1_share_19 rfl (lv_at hl 0 rfl) ?_
    refine va_get hx hb hts in_X1 hown hK.1 hP 0 (fs := [.ref g, xs, xp, .ref xi, .int xl, xr, xq]) rfl rfl 0 (by decide) (hts _ q350) (fun _ hh => hh) (v := .ref g) rfl dX1_share_20 ?_
    refine va_getN hx hb hts in_X2 hown hK.1 hP 1 (fs := [.ref sh, .ref al, .int gr, .ref g_b, .ref g_t]) rfl rfl 0 (by decide) (ga_nu hK q329 rfl) (fun _ hh => hh) (v := .ref sh) rfl dX1_share_23 ?_
    refine vp_callSi (va_Run.run (va_runV (As := []) (rest := [.double (FP.i2d (V_J13_bitCount r_31))]) ⟨hx, hb, hml, hown, hts⟩ (met_X4_cells l D cA sh zw zh zA zL zR zE N (zw * zh) rfl) (cwV 0 hts (lw_V q661 q662 q663 q73 q664) rfl rfl rfl (by decide +kernel) ⟨Nat.le_of_ble_eq_true rfl, Nat.le_of_ble_eq_true rfl⟩) (ga_PV hK (hP.sub (ws' := [(sh, .inr (4, [.int zw, .int zh, .long zA, .long zL, .long zR, .long zE]))]) [4] rfl) (va_recv hK.1 hP (ci := 4) (q0 := 4) rfl rfl)) rfl rfl hl.1 rfl (lv_room (Nat.le_of_ble_eq_true rfl)) dX1_share_26 ⟨Nat.le_of_ble_eq_true rfl, Nat.le_of_ble_eq_true rfl⟩)) (fun z_43 w_44 => ?_)
    obtain rfl := w_44
    refine lv_i2d hx hb dX1_share_29 ?_
    obtain ⟨z_46, h⟩ := ga_gif h
    refine lv_ddiv hx hb dX1_share_30 (ga_n64 z_46) ?_
    have hP9 := hP.sub (ws' := [(x, .inr (1, [.ref g, xs, xp, .ref xi, .int xl, xr, xq])), (g, .inr (2, [.ref sh, .ref al, .int gr, .ref g_b, .ref g_t])), (al, .inr (6, [.int lm, .ref ed, .int lz])), (ed, .inl (cA 5, ln, .inr (.inr (.inr (.inr lf))))), (sh, .inr (4, [.int zw, .int zh, .long zA, .long zL, .long zR, .long zE]))]) [0, 1, 2, 3, 4] rfl
    have hD9 := hD.sub (ws' := [(x, .inr (1, [.ref g, xs, xp, .ref xi, .int xl, xr, xq])), (g, .inr (2, [.ref sh, .ref al, .int gr, .ref g_b, .ref g_t])), (al, .inr (6, [.int lm, .ref ed, .int lz])), (ed, .inl (cA 5, ln, .inr (.inr (.inr (.inr lf))))), (sh, .inr (4, [.int zw, .int zh, .long zA, .long zL, .long zR, .long zE]))]) [0, 1, 2, 3, 4] (by decide) rfl
    obtain rfl := Option.some.inj h
    refine vx_ret ?_
    exact W.dret hx hb hr (fun t ht hW => ⟨⟨_, (), rfl, ⟨_, rfl, rfl, rfl⟩, ⟨by rw [ht]; exact hP9, hK.warm hW, hD9⟩⟩, hS.F ht⟩) hS.2.2 dX1_share_31
abbrev rm_X1_checkDepth : Room := { frames := 7, cells := 2, slots := 12, locals := 136 }
def F_X1_checkDepth (N : Nat) (xl : Int32) (gr : Int32) (lm : Int32) (lz : Int32) (ln : Nat) (zw : Int32) (zh : Int32) (zA : Int64) (zL : Int64) (zR : Int64) (zE : Int64) (np : Nat) (q1 : Nat → Int32) (q2 : Nat → Int32) (qN : Nat → Int32) (qW : Nat → Nat → Int32) (qP : Nat → Nat → Int32) (qR : Nat → Nat → Int32) (qV : Nat → Nat → Int32) (qB : Nat → Int64) (qS : Nat → Nat → Int64) (qA : Nat → Nat → Int64) (qG : Nat → Nat → Int64) (qC : Nat → Nat → Int32) (x1 : Int32) : Option (Unit ⊕ Nat) :=
  (if ix (lz - 1) < np then
  ((F_X2_isOver N gr lm lz ln (q1 (ix (lz - 1))) (q2 (ix (lz - 1))) (qN (ix (lz - 1))) (qB (ix (lz - 1))) (qS (ix (lz - 1))) (qA (ix (lz - 1))) zw zh zA zL zR zE).bind fun r_16 =>
  (if r_16 = 0 then
  ((F_X1_checkState N 1).bind fun r_97 => ga_sw r_97 (fun v_106 =>
  (if x1 < 2 then
  ((F_X1_checkState N 1).bind fun r_109 => ga_sw r_109 (fun v_118 =>
  some (.inl ())) (fun u_114 =>
  some (.inr u_114)))
  else
  (if ix (lz - 1) < np then
  ((F_X2_board N gr lm lz ln (q1 (ix (lz - 1))) (q2 (ix (lz - 1))) (qN (ix (lz - 1)))).bind fun r_135 =>
  ((F_X3_empty N (qB (ix (lz - 1))) (qS (ix (lz - 1))) (qA (ix (lz - 1))) zw zh zA zL zR zE).bind fun r_139 =>
  (if 6 < (V_J13_bitCount r_139) then
  ((F_X1_checkState N 0).bind fun r_150 => ga_sw r_150 (fun v_159 =>
  some (.inl ())) (fun u_155 =>
  some (.inr u_155)))
  else
  ((F_X1_checkState N 1).bind fun r_161 => ga_sw r_161 (fun v_170 =>
  some (.inl ())) (fun u_166 =>
  some (.inr u_166))))))
  else none))) (fun u_102 =>
  some (.inr u_102)))
  else
  ((F_X1_checkState N 0).bind fun r_22 => ga_sw r_22 (fun v_31 =>
  (if x1 < 2 then
  ((F_X1_checkState N 1).bind fun r_34 => ga_sw r_34 (fun v_43 =>
  some (.inl ())) (fun u_39 =>
  some (.inr u_39)))
  else
  (if ix (lz - 1) < np then
  ((F_X2_board N gr lm lz ln (q1 (ix (lz - 1))) (q2 (ix (lz - 1))) (qN (ix (lz - 1)))).bind fun r_60 =>
  ((F_X3_empty N (qB (ix (lz - 1))) (qS (ix (lz - 1))) (qA (ix (lz - 1))) zw zh zA zL zR zE).bind fun r_64 =>
  (if 6 < (V_J13_bitCount r_64) then
  ((F_X1_checkState N 0).bind fun r_75 => ga_sw r_75 (fun v_84 =>
  some (.inl ())) (fun u_80 =>
  some (.inr u_80)))
  else
  ((F_X1_checkState N 1).bind fun r_86 => ga_sw r_86 (fun v_95 =>
  some (.inl ())) (fun u_91 =>
  some (.inr u_91))))))
  else none))) (fun u_27 =>
  some (.inr u_27)))))
  else none)
set_option maxHeartbeats 4000000 in
theorem met_X1_checkDepth (l : Launch) (D : va_G) (cA : Nat → ClassId) (A : Nat → Prop) (x : Nat) (g : Nat) (xs : Value) (xp : Value) (xi : Nat) (xr : Value) (xq : Value) (sh : Nat) (al : Nat) (g_b : Nat) (g_t : Nat) (ed : Nat) (lf : Nat → Option Nat) (zs : Nat → Nat) (xl : Int32) (gr : Int32) (lm : Int32) (lz : Int32) (ln : Nat) (zw : Int32) (zh : Int32) (zA : Int64) (zL : Int64) (zR : Int64) (zE : Int64) (np : Nat) (q1 : Nat → Int32) (q2 : Nat → Int32) (qN : Nat → Int32) (qW : Nat → Nat → Int32) (qP : Nat → Nat → Int32) (qR : Nat → Nat → Int32) (qV : Nat → Nat → Int32) (qB : Nat → Int64) (qS : Nat → Nat → Int64) (qA : Nat → Nat → Int64) (qG : Nat → Nat → Int64) (qC : Nat → Nat → Int32) (N : Nat) (x1 : Int32)  (hstk : l.stackTraces = false) (out : Unit ⊕ Nat) (h : F_X1_checkDepth N xl gr lm lz ln zw zh zA zL zR zE np q1 q2 qN qW qP qR qV qB qS qA qG qC x1 = some out) : vx_Met l yX1_checkDepth (ws_ yX1_checkDepth cX1_checkDepth 2 none) rm_X1_checkDepth (ga_XR D cA zs A (ga_po D cA lf np q1 q2 qN qW qP qR qV qB qS qA qG qC) [(x, .inr (1, [.ref g, xs, xp, .ref xi, .int xl, xr, xq])), (g, .inr (2, [.ref sh, .ref al, .int gr, .ref g_b, .ref g_t])), (al, .inr (6, [.int lm, .ref ed, .int lz])), (ed, .inl (cA 5, ln, .inr (.inr (.inr (.inr lf))))), (sh, .inr (4, [.int zw, .int zh, .long zA, .long zL, .long zR, .long zE]))] [.ref x, .int x1]) (va_Qv (fun (u : Unit) => ∃ v, out = .inl v ∧ v = u) (fun (u : Unit) (t : State) => va_P D ga_cl [(x, .inr (1, [.ref g, xs, xp, .ref xi, .int xl, xr, xq])), (g, .inr (2, [.ref sh, .ref al, .int gr, .ref g_b, .ref g_t])), (al, .inr (6, [.int lm, .ref ed, .int lz])), (ed, .inl (cA 5, ln, .inr (.inr (.inr (.inr lf))))), (sh, .inr (4, [.int zw, .int zh, .long zA, .long zL, .long zR, .long zE]))] t.heap ∧ ga_K D cA t ∧ va_D A [(x, .inr (1, [.ref g, xs, xp, .ref xi, .int xl, xr, xq])), (g, .inr (2, [.ref sh, .ref al, .int gr, .ref g_b, .ref g_t])), (al, .inr (6, [.int lm, .ref ed, .int lz])), (ed, .inl (cA 5, ln, .inr (.inr (.inr (.inr lf))))), (sh, .inr (4, [.int zw, .int zh, .long zA, .long zL, .long zR, .long zE]))]) A) (vx_X (fun (u : Nat) => out = .inr u) (fun (E : String) (q9 : Nat) (u : Nat) (t : State) => E = ga_en u ∧ va_P D ga_cl [(x, .inr (1, [.ref g, xs, xp, .ref xi, .int xl, xr, xq])), (g, .inr (2, [.ref sh, .ref al, .int gr, .ref g_b, .ref g_t])), (al, .inr (6, [.int lm, .ref ed, .int lz])), (ed, .inl (cA 5, ln, .inr (.inr (.inr (.inr lf))))), (sh, .inr (4, [.int zw, .int zh, .long zA, .long zL, .long zR, .long zE]))] t.heap ∧ va_D A [(x, .inr (1, [.ref g, xs, xp, .ref xi, .int xl, xr, xq])), (g, .inr (2, [.ref sh, .ref al, .int gr, .ref g_b, .ref g_t])), (al, .inr (6, [.int lm, .ref ed, .int lz])), (ed, .inl (cA 5, ln, .inr (.inr (.inr (.inr lf))))), (sh, .inr (4, [.int zw, .int zh, .long zA, .long zL, .long zR, .long zE]))]) A) 2 12 A := by
  refine vx_ofW (cc := cX1_checkDepth) (maxL := 2) (ret := none) (by decide) rfl ?_
  intro p e s m args below meth c s₁ B hml htab hv
  have hX : ga_cx2 c l := ⟨htab, hstk⟩
  obtain ⟨rfl, hP, hK, hD, hA, hST, hR⟩ := hv
  have hS : va_S A s.heap s.heap [] := va_S.rf
  have C : ga_cx p m c meth s _ RX1 cX1_checkDepth 2 none := ga_cx_of B hml
  have C0 := C
  obtain ⟨hx, hb, hr, hlocks, hml, hown, hts⟩ := C0
  have hl := lv_entry ([.ref x, .int x1]) (n := 2) (Nat.le_of_ble_eq_true rfl)
  rw [lg_entry_eq]
  generalize (lg_sl ([.ref x, .int x1]) ++ List.replicate (2 - (lg_sl ([.ref x, .int x1])).length) Slot.unset).toArray = ls at hl ⊢
  have hl : lv_has ls 2 [(0, .ref x), (1, .int x1)] := hl
  rw [F_X1_checkDepth] at h
  refine lv_aload_n hx hb dX1_checkDepth_0 rfl (lv_at hl 0 rfl) ?_
  refine va_get hx hb hts in_X1 hown hK.1 hP 0 (fs := [.ref g, xs, xp, .ref xi, .int xl, xr, xq]) rfl rfl 0 (by decide) (hts _ q350) (fun _ hh => hh) (v := .ref g) rfl dX1_checkDepth_1 ?_
  obtain ⟨i_11, h⟩ := ga_gif h
  obtain ⟨r_1, b_2, w_3, t_4, e_5, v_6, bs_7, ba_8, bc_9, bg_10, f_12, q_13, hn_14⟩ := (ga_poK.at (B := A) hR hS (fun _ h => h)) (ix (lz - 1)) i_11
  have hP : va_P D ga_cl [(x, .inr (1, [.ref g, xs, xp, .ref xi, .int xl, xr, xq])), (g, .inr (2, [.ref sh, .ref al, .int gr, .ref g_b, .ref g_t])), (al, .inr (6, [.int lm, .ref ed, .int lz])), (ed, .inl (cA 5, ln, .inr (.inr (.inr (.inr lf))))), (sh, .inr (4, [.int zw, .int zh, .long zA, .long zL, .long zR, .long zE])), (r_1, .inr (5, [.int (q1 (ix (lz - 1))), .int (q2 (ix (lz - 1))), .ref b_2, .ref w_3, .int (qN (ix (lz - 1))), .ref t_4, .ref e_5, .ref v_6])), (w_3, .inl (cA 0, 8, .inl (qW (ix (lz - 1))))), (t_4, .inl (cA 0, 2, .inl (qP (ix (lz - 1))))), (e_5, .inl (cA 0, 49, .inl (qR (ix (lz - 1))))), (v_6, .inl (cA 0, 49, .inl (qV (ix (lz - 1))))), (b_2, .inr (3, [.ref bs_7, .ref ba_8, .long (qB (ix (lz - 1))), .ref bc_9, .ref bg_10])), (bs_7, .inl (cA 1, 2, .inr (.inl (qS (ix (lz - 1)))))), (ba_8, .inl (cA 1, 2, .inr (.inl (qA (ix (lz - 1)))))), (bc_9, .inl (cA 0, 2, .inl (qC (ix (lz - 1))))), (bg_10, .inl (cA 1, 2, .inr (.inl (qG (ix (lz - 1))))))] s.heap := hP.app q_13
  have hr_15 : ga_ro D [(r_1, .inr (5, [.int (q1 (ix (lz - 1))), .int (q2 (ix (lz - 1))), .ref b_2, .ref w_3, .int (qN (ix (lz - 1))), .ref t_4, .ref e_5, .ref v_6])), (w_3, .inl (cA 0, 8, .inl (qW (ix (lz - 1))))), (t_4, .inl (cA 0, 2, .inl (qP (ix (lz - 1))))), (e_5, .inl (cA 0, 49, .inl (qR (ix (lz - 1))))), (v_6, .inl (cA 0, 49, .inl (qV (ix (lz - 1))))), (b_2, .inr (3, [.ref bs_7, .ref ba_8, .long (qB (ix (lz - 1))), .ref bc_9, .ref bg_10])), (bs_7, .inl (cA 1, 2, .inr (.inl (qS (ix (lz - 1)))))), (ba_8, .inl (cA 1, 2, .inr (.inl (qA (ix (lz - 1)))))), (bc_9, .inl (cA 0, 2, .inl (qC (ix (lz - 1))))), (bg_10, .inl (cA 1, 2, .inr (.inl (qG (ix (lz - 1))))))] A s s.heap := ⟨q_13, hn_14⟩
  obtain ⟨r_16, e_17, h⟩ := ga_gb h
  refine vp_callSi (va_Run.run (va_runV (As := []) (rest := []) ⟨hx, hb, hml, hown, hts⟩ (met_X2_isOver l D cA g sh al g_b g_t ed lf r_1 b_2 w_3 t_4 e_5 v_6 bs_7 ba_8 bc_9 bg_10 gr lm lz ln (q1 (ix (lz - 1))) (q2 (ix (lz - 1))) (qN (ix (lz - 1))) (qB (ix (lz - 1))) (qS (ix (lz - 1))) (qA (ix (lz - 1))) zw zh zA zL zR zE N f_12 r_16 e_17) (cwV 0 hts (lw_V q380 q381 q382 q68 q383) rfl rfl rfl (by decide +kernel) ⟨Nat.le_of_ble_eq_true rfl, Nat.le_of_ble_eq_true rfl⟩) (ga_PV hK (hP.sub (ws' := [(g, .inr (2, [.ref sh, .ref al, .int gr, .ref g_b, .ref g_t])), (al, .inr (6, [.int lm, .ref ed, .int lz])), (ed, .inl (cA 5, ln, .inr (.inr (.inr (.inr lf))))), (r_1, .inr (5, [.int (q1 (ix (lz - 1))), .int (q2 (ix (lz - 1))), .ref b_2, .ref w_3, .int (qN (ix (lz - 1))), .ref t_4, .ref e_5, .ref v_6])), (b_2, .inr (3, [.ref bs_7, .ref ba_8, .long (qB (ix (lz - 1))), .ref bc_9, .ref bg_10])), (bs_7, .inl (cA 1, 2, .inr (.inl (qS (ix (lz - 1)))))), (ba_8, .inl (cA 1, 2, .inr (.inl (qA (ix (lz - 1)))))), (sh, .inr (4, [.int zw, .int zh, .long zA, .long zL, .long zR, .long zE]))]) [1, 2, 3, 5, 10, 11, 12, 4] rfl) (va_recv hK.1 hP (ci := 2) (q0 := 1) rfl rfl)) rfl rfl hl.1 rfl (lv_room (Nat.le_of_ble_eq_true rfl)) dX1_checkDepth_4 ⟨Nat.le_of_ble_eq_true rfl, Nat.le_of_ble_eq_true rfl⟩)) (fun z_18 w_19 => ?_)
  obtain ⟨rfl, b_20⟩ := w_19
  refine lv_if_ne (tgt := 14) hx hb dX1_checkDepth_7 (by decide) (fun c_21 => ?_) (fun c_21 => ?_)
  · replace h := ga_iff c_21 h
    refine lv_iconst (v := 0) hx hb dX1_checkDepth_14 (by decide) ?_
    replace hP := hP.sub (ws' := [(x, .inr (1, [.ref g, xs, xp, .ref xi, .int xl, xr, xq])), (g, .inr (2, [.ref sh, .ref al, .int gr, .ref g_b, .ref g_t])), (al, .inr (6, [.int lm, .ref ed, .int lz])), (ed, .inl (cA 5, ln, .inr (.inr (.inr (.inr lf))))), (sh, .inr (4, [.int zw, .int zh, .long zA, .long zL, .long zR, .long zE]))]) [0, 1, 2, 3, 4] rfl
    obtain ⟨r_22, e_23, h⟩ := ga_gb h
    have hFc := va_free (wc := []) hD hS hA [] rfl
    refine vx_callv (vx_runS (As := [.int 0]) (rest := []) ⟨hx, hb, hml, hown, hts⟩ (met_X1_checkState l D cA (va_A [] s.heap.size) zs N 0 hX.2 r_22 e_23) (va_cwS 1 hts (lw_S q665 q666 q67 q667) rfl rfl rfl (by decide +kernel) ⟨Nat.le_of_ble_eq_true rfl, Nat.le_of_ble_eq_true rfl⟩) (ga_XS hK ga_P0 (hD.sub (ws' := []) [] (by decide) rfl).self (fun _ hq => Or.inr hq) (hST.at hS hFc)) rfl rfl hl.1 rfl (lv_room (Nat.le_of_ble_eq_true rfl)) dX1_checkDepth_15 ⟨Nat.le_of_ble_eq_true rfl, Nat.le_of_ble_eq_true rfl⟩) hS (fun q _ hq => hFc q hq) hFc (fun q _ hq => hFc q hq) (fun E_29 ce q_30 u_27 t H_28 locs ht _ w_25 hB _ hk hS hce hcv hcl => ?_) (fun u_27 t H_26 locs ht _ w_25 hB _ hk hS => ?_)
    · replace h := ga_swr w_25 h
      obtain ⟨eE, hP1, hD1⟩ := hB
      rw [ht] at hP1
      obtain ⟨hP, hD⟩ := va_join (wr := [(x, .inr (1, [.ref g, xs, xp, .ref xi, .int xl, xr, xq])), (g, .inr (2, [.ref sh, .ref al, .int gr, .ref g_b, .ref g_t])), (al, .inr (6, [.int lm, .ref ed, .int lz])), (ed, .inl (cA 5, ln, .inr (.inr (.inr (.inr lf))))), (sh, .inr (4, [.int zw, .int zh, .long zA, .long zL, .long zR, .long zE]))]) (w1 := []) hP hD [] [0, 1, 2, 3, 4] rfl rfl (by decide) (by decide) hk hFc hP1 hD1
      have hP : va_P D ga_cl [(x, .inr (1, [.ref g, xs, xp, .ref xi, .int xl, xr, xq])), (g, .inr (2, [.ref sh, .ref al, .int gr, .ref g_b, .ref g_t])), (al, .inr (6, [.int lm, .ref ed, .int lz])), (ed, .inl (cA 5, ln, .inr (.inr (.inr (.inr lf))))), (sh, .inr (4, [.int zw, .int zh, .long zA, .long zL, .long zR, .long zE]))] H_28 := hP
      have hD : va_D A [(x, .inr (1, [.ref g, xs, xp, .ref xi, .int xl, xr, xq])), (g, .inr (2, [.ref sh, .ref al, .int gr, .ref g_b, .ref g_t])), (al, .inr (6, [.int lm, .ref ed, .int lz])), (ed, .inl (cA 5, ln, .inr (.inr (.inr (.inr lf))))), (sh, .inr (4, [.int zw, .int zh, .long zA, .long zL, .long zR, .long zE]))] := hD
      have hP9 := hP.sub (ws' := [(x, .inr (1, [.ref g, xs, xp, .ref xi, .int xl, xr, xq])), (g, .inr (2, [.ref sh, .ref al, .int gr, .ref g_b, .ref g_t])), (al, .inr (6, [.int lm, .ref ed, .int lz])), (ed, .inl (cA 5, ln, .inr (.inr (.inr (.inr lf))))), (sh, .inr (4, [.int zw, .int zh, .long zA, .long zL, .long zR, .long zE]))]) [0, 1, 2, 3, 4] rfl
      have hD9 := hD.sub (ws' := [(x, .inr (1, [.ref g, xs, xp, .ref xi, .int xl, xr, xq])), (g, .inr (2, [.ref sh, .ref al, .int gr, .ref g_b, .ref g_t])), (al, .inr (6, [.int lm, .ref ed, .int lz])), (ed, .inl (cA 5, ln, .inr (.inr (.inr (.inr lf))))), (sh, .inr (4, [.int zw, .int zh, .long zA, .long zL, .long zR, .long zE]))]) [0, 1, 2, 3, 4] (by decide) rfl
      obtain rfl := Option.some.inj h
      exact vx_out (fun x hx9 => (hX.1 x hx9).elim) hlocks hce hcv hcl (fun t ht _ => ⟨u_27, rfl, ⟨eE, by rw [ht]; exact hP9, hD9⟩, hS.F ht⟩) hS.2.2 (by decide) (by decide)
    · obtain ⟨v_31, ev_31, hv9⟩ := w_25
      replace h := ga_swl ev_31 h
      obtain rfl := hv9
      obtain ⟨hP1, -, hD1⟩ := hB
      rw [ht] at hP1
      obtain ⟨hP, hD⟩ := va_join (wr := [(x, .inr (1, [.ref g, xs, xp, .ref xi, .int xl, xr, xq])), (g, .inr (2, [.ref sh, .ref al, .int gr, .ref g_b, .ref g_t])), (al, .inr (6, [.int lm, .ref ed, .int lz])), (ed, .inl (cA 5, ln, .inr (.inr (.inr (.inr lf))))), (sh, .inr (4, [.int zw, .int zh, .long zA, .long zL, .long zR, .long zE]))]) (w1 := []) hP hD [] [0, 1, 2, 3, 4] rfl rfl (by decide) (by decide) hk hFc hP1 hD1
      have hP : va_P D ga_cl [(x, .inr (1, [.ref g, xs, xp, .ref xi, .int xl, xr, xq])), (g, .inr (2, [.ref sh, .ref al, .int gr, .ref g_b, .ref g_t])), (al, .inr (6, [.int lm, .ref ed, .int lz])), (ed, .inl (cA 5, ln, .inr (.inr (.inr (.inr lf))))), (sh, .inr (4, [.int zw, .int zh, .long zA, .long zL, .long zR, .long zE]))] H_26 := hP
      have hD : va_D A [(x, .inr (1, [.ref g, xs, xp, .ref xi, .int xl, xr, xq])), (g, .inr (2, [.ref sh, .ref al, .int gr, .ref g_b, .ref g_t])), (al, .inr (6, [.int lm, .ref ed, .int lz])), (ed, .inl (cA 5, ln, .inr (.inr (.inr (.inr lf))))), (sh, .inr (4, [.int zw, .int zh, .long zA, .long zL, .long zR, .long zE]))] := hD
      replace hr_15 := ga_roF hr_15 hFc hk
      refine W.cs (cells' := 1) (slots' := 6) rfl rfl ?_
      refine lv_iload_n hx hb dX1_checkDepth_18 rfl (lv_at hl 1 rfl) ?_
      refine lv_iconst (v := 2) hx hb dX1_checkDepth_19 (by decide) ?_
      refine lv_icmp_lt (tgt := 48) hx hb dX1_checkDepth_20 (by decide) (fun c_33 => ?_) (fun c_33 => ?_)
      · replace h := ga_ift c_33 h
        refine lv_iconst (v := 1) hx hb dX1_checkDepth_48 (by decide) ?_
        refine lv_goto (tgt := 53) hx hb dX1_checkDepth_49 (by decide) ?_
        obtain ⟨r_34, e_35, h⟩ := ga_gb h
        have hFc := va_free (wc := []) hD hS hA [] rfl
        refine vx_callv (vx_runS (As := [.int 1]) (rest := []) ⟨hx, hb, hml, hown, hts⟩ (met_X1_checkState l D cA (va_A [] H_26.size) zs N 1 hX.2 r_34 e_35) (va_cwS 1 hts (lw_S q665 q666 q67 q667) rfl rfl rfl (by decide +kernel) ⟨Nat.le_of_ble_eq_true rfl, Nat.le_of_ble_eq_true rfl⟩) (ga_XS hK ga_P0 (hD.sub (ws' := []) [] (by decide) rfl).self (fun _ hq => Or.inr hq) (hST.at hS hFc)) rfl rfl hl.1 rfl (lv_room (Nat.le_of_ble_eq_true rfl)) dX1_checkDepth_53 ⟨Nat.le_of_ble_eq_true rfl, Nat.le_of_ble_eq_true rfl⟩) hS (fun q _ hq => hFc q hq) hFc (fun q _ hq => hFc q hq) (fun E_41 ce q_42 u_39 t H_40 locs ht _ w_37 hB _ hk hS hce hcv hcl => ?_) (fun u_39 t H_38 locs ht _ w_37 hB _ hk hS => ?_)
        · replace h := ga_swr w_37 h
          obtain ⟨eE, hP1, hD1⟩ := hB
          rw [ht] at hP1
          obtain ⟨hP, hD⟩ := va_join (wr := [(x, .inr (1, [.ref g, xs, xp, .ref xi, .int xl, xr, xq])), (g, .inr (2, [.ref sh, .ref al, .int gr, .ref g_b, .ref g_t])), (al, .inr (6, [.int lm, .ref ed, .int lz])), (ed, .inl (cA 5, ln, .inr (.inr (.inr (.inr lf))))), (sh, .inr (4, [.int zw, .int zh, .long zA, .long zL, .long zR, .long zE]))]) (w1 := []) hP hD [] [0, 1, 2, 3, 4] rfl rfl (by decide) (by decide) hk hFc hP1 hD1
          have hP : va_P D ga_cl [(x, .inr (1, [.ref g, xs, xp, .ref xi, .int xl, xr, xq])), (g, .inr (2, [.ref sh, .ref al, .int gr, .ref g_b, .ref g_t])), (al, .inr (6, [.int lm, .ref ed, .int lz])), (ed, .inl (cA 5, ln, .inr (.inr (.inr (.inr lf))))), (sh, .inr (4, [.int zw, .int zh, .long zA, .long zL, .long zR, .long zE]))] H_40 := hP
          have hD : va_D A [(x, .inr (1, [.ref g, xs, xp, .ref xi, .int xl, xr, xq])), (g, .inr (2, [.ref sh, .ref al, .int gr, .ref g_b, .ref g_t])), (al, .inr (6, [.int lm, .ref ed, .int lz])), (ed, .inl (cA 5, ln, .inr (.inr (.inr (.inr lf))))), (sh, .inr (4, [.int zw, .int zh, .long zA, .long zL, .long zR, .long zE]))] := hD
          have hP9 := hP.sub (ws' := [(x, .inr (1, [.ref g, xs, xp, .ref xi, .int xl, xr, xq])), (g, .inr (2, [.ref sh, .ref al, .int gr, .ref g_b, .ref g_t])), (al, .inr (6, [.int lm, .ref ed, .int lz])), (ed, .inl (cA 5, ln, .inr (.inr (.inr (.inr lf))))), (sh, .inr (4, [.int zw, .int zh, .long zA, .long zL, .long zR, .long zE]))]) [0, 1, 2, 3, 4] rfl
          have hD9 := hD.sub (ws' := [(x, .inr (1, [.ref g, xs, xp, .ref xi, .int xl, xr, xq])), (g, .inr (2, [.ref sh, .ref al, .int gr, .ref g_b, .ref g_t])), (al, .inr (6, [.int lm, .ref ed, .int lz])), (ed, .inl (cA 5, ln, .inr (.inr (.inr (.inr lf))))), (sh, .inr (4, [.int zw, .int zh, .long zA, .long zL, .long zR, .long zE]))]) [0, 1, 2, 3, 4] (by decide) rfl
          obtain rfl := Option.some.inj h
          exact vx_out (fun x hx9 => (hX.1 x hx9).elim) hlocks hce hcv hcl (fun t ht _ => ⟨u_39, rfl, ⟨eE, by rw [ht]; exact hP9, hD9⟩, hS.F ht⟩) hS.2.2 (by decide) (by decide)
        · obtain ⟨v_43, ev_43, hv9⟩ := w_37
          replace h := ga_swl ev_43 h
          obtain rfl := hv9
          obtain ⟨hP1, -, hD1⟩ := hB
          rw [ht] at hP1
          obtain ⟨hP, hD⟩ := va_join (wr := [(x, .inr (1, [.ref g, xs, xp, .ref xi, .int xl, xr, xq])), (g, .inr (2, [.ref sh, .ref al, .int gr, .ref g_b, .ref g_t])), (al, .inr (6, [.int lm, .ref ed, .int lz])), (ed, .inl (cA 5, ln, .inr (.inr (.inr (.inr lf))))), (sh, .inr (4, [.int zw, .int zh, .long zA, .long zL, .long zR, .long zE]))]) (w1 := []) hP hD [] [0, 1, 2, 3, 4] rfl rfl (by decide) (by decide) hk hFc hP1 hD1
          have hP : va_P D ga_cl [(x, .inr (1, [.ref g, xs, xp, .ref xi, .int xl, xr, xq])), (g, .inr (2, [.ref sh, .ref al, .int gr, .ref g_b, .ref g_t])), (al, .inr (6, [.int lm, .ref ed, .int lz])), (ed, .inl (cA 5, ln, .inr (.inr (.inr (.inr lf))))), (sh, .inr (4, [.int zw, .int zh, .long zA, .long zL, .long zR, .long zE]))] H_38 := hP
          have hD : va_D A [(x, .inr (1, [.ref g, xs, xp, .ref xi, .int xl, xr, xq])), (g, .inr (2, [.ref sh, .ref al, .int gr, .ref g_b, .ref g_t])), (al, .inr (6, [.int lm, .ref ed, .int lz])), (ed, .inl (cA 5, ln, .inr (.inr (.inr (.inr lf))))), (sh, .inr (4, [.int zw, .int zh, .long zA, .long zL, .long zR, .long zE]))] := hD
          replace hr_15 := ga_roF hr_15 hFc hk
          refine W.cs (cells' := 2) (slots' := 12) rfl rfl ?_
          have hP9 := hP.sub (ws' := [(x, .inr (1, [.ref g, xs, xp, .ref xi, .int xl, xr, xq])), (g, .inr (2, [.ref sh, .ref al, .int gr, .ref g_b, .ref g_t])), (al, .inr (6, [.int lm, .ref ed, .int lz])), (ed, .inl (cA 5, ln, .inr (.inr (.inr (.inr lf))))), (sh, .inr (4, [.int zw, .int zh, .long zA, .long zL, .long zR, .long zE]))]) [0, 1, 2, 3, 4] rfl
          have hD9 := hD.sub (ws' := [(x, .inr (1, [.ref g, xs, xp, .ref xi, .int xl, xr, xq])), (g, .inr (2, [.ref sh, .ref al, .int gr, .ref g_b, .ref g_t])), (al, .inr (6, [.int lm, .ref ed, .int lz])), (ed, .inl (cA 5, ln, .inr (.inr (.inr (.inr lf))))), (sh, .inr (4, [.int zw, .int zh, .long zA, .long zL, .long zR, .long zE]))]) [0, 1, 2, 3, 4] (by decide) rfl
          obtain rfl := Option.some.inj h
          refine vx_ret ?_
          exact W.vret hx hb hr (fun t ht hW => ⟨⟨(), rfl, ⟨_, rfl, rfl⟩, ⟨by rw [ht]; exact hP9, hK.warm hW, hD9⟩⟩, hS.F ht⟩) hS.2.2 dX1_checkDepth_56
      · replace h := ga_iff c_33 h
        refine lv_aload_n hx hb dX1_checkDepth_23 rfl (lv_at hl 0 rfl) ?_
        refine va_get hx hb hts in_X1 hown hK.1 hP 0 (fs := [.ref g, xs, xp, .ref xi, .int xl, xr, xq]) rfl rfl 0 (by decide) (hts _ q350) (fun _ hh => hh) (v := .ref g) rfl dX1_checkDepth_24 ?_
        obtain ⟨i_55, h⟩ := ga_gif h
        obtain ⟨r_45, b_46, w_47, t_48, e_49, v_50, bs_51, ba_52, bc_53, bg_54, f_56, q_57, hn_58⟩ := (ga_poK.at (B := A) hR hS (fun _ h => h)) (ix (lz - 1)) i_55
        have hP : va_P D ga_cl [(x, .inr (1, [.ref g, xs, xp, .ref xi, .int xl, xr, xq])), (g, .inr (2, [.ref sh, .ref al, .int gr, .ref g_b, .ref g_t])), (al, .inr (6, [.int lm, .ref ed, .int lz])), (ed, .inl (cA 5, ln, .inr (.inr (.inr (.inr lf))))), (sh, .inr (4, [.int zw, .int zh, .long zA, .long zL, .long zR, .long zE])), (r_45, .inr (5, [.int (q1 (ix (lz - 1))), .int (q2 (ix (lz - 1))), .ref b_46, .ref w_47, .int (qN (ix (lz - 1))), .ref t_48, .ref e_49, .ref v_50])), (w_47, .inl (cA 0, 8, .inl (qW (ix (lz - 1))))), (t_48, .inl (cA 0, 2, .inl (qP (ix (lz - 1))))), (e_49, .inl (cA 0, 49, .inl (qR (ix (lz - 1))))), (v_50, .inl (cA 0, 49, .inl (qV (ix (lz - 1))))), (b_46, .inr (3, [.ref bs_51, .ref ba_52, .long (qB (ix (lz - 1))), .ref bc_53, .ref bg_54])), (bs_51, .inl (cA 1, 2, .inr (.inl (qS (ix (lz - 1)))))), (ba_52, .inl (cA 1, 2, .inr (.inl (qA (ix (lz - 1)))))), (bc_53, .inl (cA 0, 2, .inl (qC (ix (lz - 1))))), (bg_54, .inl (cA 1, 2, .inr (.inl (qG (ix (lz - 1))))))] H_26 := hP.app q_57
        have hr_59 : ga_ro D [(r_45, .inr (5, [.int (q1 (ix (lz - 1))), .int (q2 (ix (lz - 1))), .ref b_46, .ref w_47, .int (qN (ix (lz - 1))), .ref t_48, .ref e_49, .ref v_50])), (w_47, .inl (cA 0, 8, .inl (qW (ix (lz - 1))))), (t_48, .inl (cA 0, 2, .inl (qP (ix (lz - 1))))), (e_49, .inl (cA 0, 49, .inl (qR (ix (lz - 1))))), (v_50, .inl (cA 0, 49, .inl (qV (ix (lz - 1))))), (b_46, .inr (3, [.ref bs_51, .ref ba_52, .long (qB (ix (lz - 1))), .ref bc_53, .ref bg_54])), (bs_51, .inl (cA 1, 2, .inr (.inl (qS (ix (lz - 1)))))), (ba_52, .inl (cA 1, 2, .inr (.inl (qA (ix (lz - 1)))))), (bc_53, .inl (cA 0, 2, .inl (qC (ix (lz - 1))))), (bg_54, .inl (cA 1, 2, .inr (.inl (qG (ix (lz - 1))))))] A s H_26 := ⟨q_57, hn_58⟩
        obtain ⟨r_60, e_61, h⟩ := ga_gb h
        refine va_csr (va_Run.run (va_runV (As := []) (rest := []) ⟨hx, hb, hml, hown, hts⟩ (met_X2_board l D cA g sh al g_b g_t ed lf r_45 b_46 w_47 t_48 e_49 v_50 gr lm lz ln (q1 (ix (lz - 1))) (q2 (ix (lz - 1))) (qN (ix (lz - 1))) N f_56 r_60 e_61) (cwV 0 hts (lw_V q565 q385 q386 q68 q387) rfl rfl rfl (by decide +kernel) ⟨Nat.le_of_ble_eq_true rfl, Nat.le_of_ble_eq_true rfl⟩) (ga_PV hK (hP.sub (ws' := [(g, .inr (2, [.ref sh, .ref al, .int gr, .ref g_b, .ref g_t])), (al, .inr (6, [.int lm, .ref ed, .int lz])), (ed, .inl (cA 5, ln, .inr (.inr (.inr (.inr lf))))), (r_45, .inr (5, [.int (q1 (ix (lz - 1))), .int (q2 (ix (lz - 1))), .ref b_46, .ref w_47, .int (qN (ix (lz - 1))), .ref t_48, .ref e_49, .ref v_50]))]) [1, 2, 3, 5] rfl) (va_recv hK.1 hP (ci := 2) (q0 := 1) rfl rfl)) rfl rfl hl.1 rfl (lv_room (Nat.le_of_ble_eq_true rfl)) dX1_checkDepth_27 ⟨Nat.le_of_ble_eq_true rfl, Nat.le_of_ble_eq_true rfl⟩)) (fun _ _ => ?_)
        refine lv_aload_n hx hb dX1_checkDepth_30 rfl (lv_at hl 0 rfl) ?_
        refine va_get hx hb hts in_X1 hown hK.1 hP 0 (fs := [.ref g, xs, xp, .ref xi, .int xl, xr, xq]) rfl rfl 0 (by decide) (hts _ q350) (fun _ hh => hh) (v := .ref g) rfl dX1_checkDepth_31 ?_
        refine va_getN hx hb hts in_X2 hown hK.1 hP 1 (fs := [.ref sh, .ref al, .int gr, .ref g_b, .ref g_t]) rfl rfl 0 (by decide) (ga_nu hK q329 rfl) (fun _ hh => hh) (v := .ref sh) rfl dX1_checkDepth_34 ?_
        obtain ⟨r_64, e_65, h⟩ := ga_gb h
        refine vp_callSl (va_Run.run (va_runV (As := [.ref sh]) (rest := []) ⟨hx, hb, hml, hown, hts⟩ (met_X3_empty l D cA b_46 bs_51 ba_52 bc_53 bg_54 sh (qB (ix (lz - 1))) (qS (ix (lz - 1))) (qA (ix (lz - 1))) zw zh zA zL zR zE N r_64 e_65) (cwV 1 hts (lw_V q566 q423 q424 q72 q425) rfl rfl rfl (by decide +kernel) ⟨Nat.le_of_ble_eq_true rfl, Nat.le_of_ble_eq_true rfl⟩) (ga_PV hK (hP.sub (ws' := [(b_46, .inr (3, [.ref bs_51, .ref ba_52, .long (qB (ix (lz - 1))), .ref bc_53, .ref bg_54])), (bs_51, .inl (cA 1, 2, .inr (.inl (qS (ix (lz - 1)))))), (ba_52, .inl (cA 1, 2, .inr (.inl (qA (ix (lz - 1)))))), (sh, .inr (4, [.int zw, .int zh, .long zA, .long zL, .long zR, .long zE]))]) [10, 11, 12, 4] rfl) (va_recv hK.1 hP (ci := 3) (q0 := 10) rfl rfl)) rfl rfl hl.1 rfl (lv_room (Nat.le_of_ble_eq_true rfl)) dX1_checkDepth_37 ⟨Nat.le_of_ble_eq_true rfl, Nat.le_of_ble_eq_true rfl⟩)) (fun z_66 w_67 => ?_)
        obtain rfl := w_67
        refine vp_callSi (va_Run.run (va_runS (As := [.long r_64]) (rest := []) ⟨hx, hb, hml, hown, hts⟩ (met_X1_size l D cA N r_64 (V_J13_bitCount r_64) rfl) (va_cwS 1 hts (lw_S q567 q568 q67 q569) rfl rfl rfl (by decide +kernel) ⟨Nat.le_of_ble_eq_true rfl, Nat.le_of_ble_eq_true rfl⟩) (ga_PS hK ga_P0) rfl rfl hl.1 rfl (lv_room (Nat.le_of_ble_eq_true rfl)) dX1_checkDepth_40 ⟨Nat.le_of_ble_eq_true rfl, Nat.le_of_ble_eq_true rfl⟩)) (fun z_71 w_72 => ?_)
        obtain rfl := w_72
        refine lv_bipush (v := 6) hx hb dX1_checkDepth_43 (by decide) ?_
        refine lv_icmp_gt (tgt := 52) hx hb dX1_checkDepth_45 (by decide) (fun c_74 => ?_) (fun c_74 => ?_)
        · replace h := ga_ift c_74 h
          refine lv_iconst (v := 0) hx hb dX1_checkDepth_52 (by decide) ?_
          replace hP := hP.sub (ws' := [(x, .inr (1, [.ref g, xs, xp, .ref xi, .int xl, xr, xq])), (g, .inr (2, [.ref sh, .ref al, .int gr, .ref g_b, .ref g_t])), (al, .inr (6, [.int lm, .ref ed, .int lz])), (ed, .inl (cA 5, ln, .inr (.inr (.inr (.inr lf))))), (sh, .inr (4, [.int zw, .int zh, .long zA, .long zL, .long zR, .long zE]))]) [0, 1, 2, 3, 4] rfl
          obtain ⟨r_75, e_76, h⟩ := ga_gb h
          have hFc := va_free (wc := []) hD hS hA [] rfl
          refine vx_callv (vx_runS (As := [.int 0]) (rest := []) ⟨hx, hb, hml, hown, hts⟩ (met_X1_checkState l D cA (va_A [] H_26.size) zs N 0 hX.2 r_75 e_76) (va_cwS 1 hts (lw_S q665 q666 q67 q667) rfl rfl rfl (by decide +kernel) ⟨Nat.le_of_ble_eq_true rfl, Nat.le_of_ble_eq_true rfl⟩) (ga_XS hK ga_P0 (hD.sub (ws' := []) [] (by decide) rfl).self (fun _ hq => Or.inr hq) (hST.at hS hFc)) rfl rfl hl.1 rfl (lv_room (Nat.le_of_ble_eq_true rfl)) dX1_checkDepth_53 ⟨Nat.le_of_ble_eq_true rfl, Nat.le_of_ble_eq_true rfl⟩) hS (fun q _ hq => hFc q hq) hFc (fun q _ hq => hFc q hq) (fun E_82 ce q_83 u_80 t H_81 locs ht _ w_78 hB _ hk hS hce hcv hcl => ?_) (fun u_80 t H_79 locs ht _ w_78 hB _ hk hS => ?_)
          · replace h := ga_swr w_78 h
            obtain ⟨eE, hP1, hD1⟩ := hB
            rw [ht] at hP1
            obtain ⟨hP, hD⟩ := va_join (wr := [(x, .inr (1, [.ref g, xs, xp, .ref xi, .int xl, xr, xq])), (g, .inr (2, [.ref sh, .ref al, .int gr, .ref g_b, .ref g_t])), (al, .inr (6, [.int lm, .ref ed, .int lz])), (ed, .inl (cA 5, ln, .inr (.inr (.inr (.inr lf))))), (sh, .inr (4, [.int zw, .int zh, .long zA, .long zL, .long zR, .long zE]))]) (w1 := []) hP hD [] [0, 1, 2, 3, 4] rfl rfl (by decide) (by decide) hk hFc hP1 hD1
            have hP : va_P D ga_cl [(x, .inr (1, [.ref g, xs, xp, .ref xi, .int xl, xr, xq])), (g, .inr (2, [.ref sh, .ref al, .int gr, .ref g_b, .ref g_t])), (al, .inr (6, [.int lm, .ref ed, .int lz])), (ed, .inl (cA 5, ln, .inr (.inr (.inr (.inr lf))))), (sh, .inr (4, [.int zw, .int zh, .long zA, .long zL, .long zR, .long zE]))] H_81 := hP
            have hD : va_D A [(x, .inr (1, [.ref g, xs, xp, .ref xi, .int xl, xr, xq])), (g, .inr (2, [.ref sh, .ref al, .int gr, .ref g_b, .ref g_t])), (al, .inr (6, [.int lm, .ref ed, .int lz])), (ed, .inl (cA 5, ln, .inr (.inr (.inr (.inr lf))))), (sh, .inr (4, [.int zw, .int zh, .long zA, .long zL, .long zR, .long zE]))] := hD
            have hP9 := hP.sub (ws' := [(x, .inr (1, [.ref g, xs, xp, .ref xi, .int xl, xr, xq])), (g, .inr (2, [.ref sh, .ref al, .int gr, .ref g_b, .ref g_t])), (al, .inr (6, [.int lm, .ref ed, .int lz])), (ed, .inl (cA 5, ln, .inr (.inr (.inr (.inr lf))))), (sh, .inr (4, [.int zw, .int zh, .long zA, .long zL, .long zR, .long zE]))]) [0, 1, 2, 3, 4] rfl
            have hD9 := hD.sub (ws' := [(x, .inr (1, [.ref g, xs, xp, .ref xi, .int xl, xr, xq])), (g, .inr (2, [.ref sh, .ref al, .int gr, .ref g_b, .ref g_t])), (al, .inr (6, [.int lm, .ref ed, .int lz])), (ed, .inl (cA 5, ln, .inr (.inr (.inr (.inr lf))))), (sh, .inr (4, [.int zw, .int zh, .long zA, .long zL, .long zR, .long zE]))]) [0, 1, 2, 3, 4] (by decide) rfl
            obtain rfl := Option.some.inj h
            exact vx_out (fun x hx9 => (hX.1 x hx9).elim) hlocks hce hcv hcl (fun t ht _ => ⟨u_80, rfl, ⟨eE, by rw [ht]; exact hP9, hD9⟩, hS.F ht⟩) hS.2.2 (by decide) (by decide)
          · obtain ⟨v_84, ev_84, hv9⟩ := w_78
            replace h := ga_swl ev_84 h
            obtain rfl := hv9
            obtain ⟨hP1, -, hD1⟩ := hB
            rw [ht] at hP1
            obtain ⟨hP, hD⟩ := va_join (wr := [(x, .inr (1, [.ref g, xs, xp, .ref xi, .int xl, xr, xq])), (g, .inr (2, [.ref sh, .ref al, .int gr, .ref g_b, .ref g_t])), (al, .inr (6, [.int lm, .ref ed, .int lz])), (ed, .inl (cA 5, ln, .inr (.inr (.inr (.inr lf))))), (sh, .inr (4, [.int zw, .int zh, .long zA, .long zL, .long zR, .long zE]))]) (w1 := []) hP hD [] [0, 1, 2, 3, 4] rfl rfl (by decide) (by decide) hk hFc hP1 hD1
            have hP : va_P D ga_cl [(x, .inr (1, [.ref g, xs, xp, .ref xi, .int xl, xr, xq])), (g, .inr (2, [.ref sh, .ref al, .int gr, .ref g_b, .ref g_t])), (al, .inr (6, [.int lm, .ref ed, .int lz])), (ed, .inl (cA 5, ln, .inr (.inr (.inr (.inr lf))))), (sh, .inr (4, [.int zw, .int zh, .long zA, .long zL, .long zR, .long zE]))] H_79 := hP
            have hD : va_D A [(x, .inr (1, [.ref g, xs, xp, .ref xi, .int xl, xr, xq])), (g, .inr (2, [.ref sh, .ref al, .int gr, .ref g_b, .ref g_t])), (al, .inr (6, [.int lm, .ref ed, .int lz])), (ed, .inl (cA 5, ln, .inr (.inr (.inr (.inr lf))))), (sh, .inr (4, [.int zw, .int zh, .long zA, .long zL, .long zR, .long zE]))] := hD
            replace hr_15 := ga_roF hr_15 hFc hk
            replace hr_59 := ga_roF hr_59 hFc hk
            refine W.cs (cells' := 2) (slots' := 12) rfl rfl ?_
            have hP9 := hP.sub (ws' := [(x, .inr (1, [.ref g, xs, xp, .ref xi, .int xl, xr, xq])), (g, .inr (2, [.ref sh, .ref al, .int gr, .ref g_b, .ref g_t])), (al, .inr (6, [.int lm, .ref ed, .int lz])), (ed, .inl (cA 5, ln, .inr (.inr (.inr (.inr lf))))), (sh, .inr (4, [.int zw, .int zh, .long zA, .long zL, .long zR, .long zE]))]) [0, 1, 2, 3, 4] rfl
            have hD9 := hD.sub (ws' := [(x, .inr (1, [.ref g, xs, xp, .ref xi, .int xl, xr, xq])), (g, .inr (2, [.ref sh, .ref al, .int gr, .ref g_b, .ref g_t])), (al, .inr (6, [.int lm, .ref ed, .int lz])), (ed, .inl (cA 5, ln, .inr (.inr (.inr (.inr lf))))), (sh, .inr (4, [.int zw, .int zh, .long zA, .long zL, .long zR, .long zE]))]) [0, 1, 2, 3, 4] (by decide) rfl
            obtain rfl := Option.some.inj h
            refine vx_ret ?_
            exact W.vret hx hb hr (fun t ht hW => ⟨⟨(), rfl, ⟨_, rfl, rfl⟩, ⟨by rw [ht]; exact hP9, hK.warm hW, hD9⟩⟩, hS.F ht⟩) hS.2.2 dX1_checkDepth_56
        · replace h := ga_iff c_74 h
          refine lv_iconst (v := 1) hx hb dX1_checkDepth_48 (by decide) ?_
          refine lv_goto (tgt := 53) hx hb dX1_checkDepth_49 (by decide) ?_
          replace hP := hP.sub (ws' := [(x, .inr (1, [.ref g, xs, xp, .ref xi, .int xl, xr, xq])), (g, .inr (2, [.ref sh, .ref al, .int gr, .ref g_b, .ref g_t])), (al, .inr (6, [.int lm, .ref ed, .int lz])), (ed, .inl (cA 5, ln, .inr (.inr (.inr (.inr lf))))), (sh, .inr (4, [.int zw, .int zh, .long zA, .long zL, .long zR, .long zE]))]) [0, 1, 2, 3, 4] rfl
          obtain ⟨r_86, e_87, h⟩ := ga_gb h
          have hFc := va_free (wc := []) hD hS hA [] rfl
          refine vx_callv (vx_runS (As := [.int 1]) (rest := []) ⟨hx, hb, hml, hown, hts⟩ (met_X1_checkState l D cA (va_A [] H_26.size) zs N 1 hX.2 r_86 e_87) (va_cwS 1 hts (lw_S q665 q666 q67 q667) rfl rfl rfl (by decide +kernel) ⟨Nat.le_of_ble_eq_true rfl, Nat.le_of_ble_eq_true rfl⟩) (ga_XS hK ga_P0 (hD.sub (ws' := []) [] (by decide) rfl).self (fun _ hq => Or.inr hq) (hST.at hS hFc)) rfl rfl hl.1 rfl (lv_room (Nat.le_of_ble_eq_true rfl)) dX1_checkDepth_53 ⟨Nat.le_of_ble_eq_true rfl, Nat.le_of_ble_eq_true rfl⟩) hS (fun q _ hq => hFc q hq) hFc (fun q _ hq => hFc q hq) (fun E_93 ce q_94 u_91 t H_92 locs ht _ w_89 hB _ hk hS hce hcv hcl => ?_) (fun u_91 t H_90 locs ht _ w_89 hB _ hk hS => ?_)
          · replace h := ga_swr w_89 h
            obtain ⟨eE, hP1, hD1⟩ := hB
            rw [ht] at hP1
            obtain ⟨hP, hD⟩ := va_join (wr := [(x, .inr (1, [.ref g, xs, xp, .ref xi, .int xl, xr, xq])), (g, .inr (2, [.ref sh, .ref al, .int gr, .ref g_b, .ref g_t])), (al, .inr (6, [.int lm, .ref ed, .int lz])), (ed, .inl (cA 5, ln, .inr (.inr (.inr (.inr lf))))), (sh, .inr (4, [.int zw, .int zh, .long zA, .long zL, .long zR, .long zE]))]) (w1 := []) hP hD [] [0, 1, 2, 3, 4] rfl rfl (by decide) (by decide) hk hFc hP1 hD1
            have hP : va_P D ga_cl [(x, .inr (1, [.ref g, xs, xp, .ref xi, .int xl, xr, xq])), (g, .inr (2, [.ref sh, .ref al, .int gr, .ref g_b, .ref g_t])), (al, .inr (6, [.int lm, .ref ed, .int lz])), (ed, .inl (cA 5, ln, .inr (.inr (.inr (.inr lf))))), (sh, .inr (4, [.int zw, .int zh, .long zA, .long zL, .long zR, .long zE]))] H_92 := hP
            have hD : va_D A [(x, .inr (1, [.ref g, xs, xp, .ref xi, .int xl, xr, xq])), (g, .inr (2, [.ref sh, .ref al, .int gr, .ref g_b, .ref g_t])), (al, .inr (6, [.int lm, .ref ed, .int lz])), (ed, .inl (cA 5, ln, .inr (.inr (.inr (.inr lf))))), (sh, .inr (4, [.int zw, .int zh, .long zA, .long zL, .long zR, .long zE]))] := hD
            have hP9 := hP.sub (ws' := [(x, .inr (1, [.ref g, xs, xp, .ref xi, .int xl, xr, xq])), (g, .inr (2, [.ref sh, .ref al, .int gr, .ref g_b, .ref g_t])), (al, .inr (6, [.int lm, .ref ed, .int lz])), (ed, .inl (cA 5, ln, .inr (.inr (.inr (.inr lf))))), (sh, .inr (4, [.int zw, .int zh, .long zA, .long zL, .long zR, .long zE]))]) [0, 1, 2, 3, 4] rfl
            have hD9 := hD.sub (ws' := [(x, .inr (1, [.ref g, xs, xp, .ref xi, .int xl, xr, xq])), (g, .inr (2, [.ref sh, .ref al, .int gr, .ref g_b, .ref g_t])), (al, .inr (6, [.int lm, .ref ed, .int lz])), (ed, .inl (cA 5, ln, .inr (.inr (.inr (.inr lf))))), (sh, .inr (4, [.int zw, .int zh, .long zA, .long zL, .long zR, .long zE]))]) [0, 1, 2, 3, 4] (by decide) rfl
            obtain rfl := Option.some.inj h
            exact vx_out (fun x hx9 => (hX.1 x hx9).elim) hlocks hce hcv hcl (fun t ht _ => ⟨u_91, rfl, ⟨eE, by rw [ht]; exact hP9, hD9⟩, hS.F ht⟩) hS.2.2 (by decide) (by decide)
          · obtain ⟨v_95, ev_95, hv9⟩ := w_89
            replace h := ga_swl ev_95 h
            obtain rfl := hv9
            obtain ⟨hP1, -, hD1⟩ := hB
            rw [ht] at hP1
            obtain ⟨hP, hD⟩ := va_join (wr := [(x, .inr (1, [.ref g, xs, xp, .ref xi, .int xl, xr, xq])), (g, .inr (2, [.ref sh, .ref al, .int gr, .ref g_b, .ref g_t])), (al, .inr (6, [.int lm, .ref ed, .int lz])), (ed, .inl (cA 5, ln, .inr (.inr (.inr (.inr lf))))), (sh, .inr (4, [.int zw, .int zh, .long zA, .long zL, .long zR, .long zE]))]) (w1 := []) hP hD [] [0, 1, 2, 3, 4] rfl rfl (by decide) (by decide) hk hFc hP1 hD1
            have hP : va_P D ga_cl [(x, .inr (1, [.ref g, xs, xp, .ref xi, .int xl, xr, xq])), (g, .inr (2, [.ref sh, .ref al, .int gr, .ref g_b, .ref g_t])), (al, .inr (6, [.int lm, .ref ed, .int lz])), (ed, .inl (cA 5, ln, .inr (.inr (.inr (.inr lf))))), (sh, .inr (4, [.int zw, .int zh, .long zA, .long zL, .long zR, .long zE]))] H_90 := hP
            have hD : va_D A [(x, .inr (1, [.ref g, xs, xp, .ref xi, .int xl, xr, xq])), (g, .inr (2, [.ref sh, .ref al, .int gr, .ref g_b, .ref g_t])), (al, .inr (6, [.int lm, .ref ed, .int lz])), (ed, .inl (cA 5, ln, .inr (.inr (.inr (.inr lf))))), (sh, .inr (4, [.int zw, .int zh, .long zA, .long zL, .long zR, .long zE]))] := hD
            replace hr_15 := ga_roF hr_15 hFc hk
            replace hr_59 := ga_roF hr_59 hFc hk
            refine W.cs (cells' := 2) (slots' := 12) rfl rfl ?_
            have hP9 := hP.sub (ws' := [(x, .inr (1, [.ref g, xs, xp, .ref xi, .int xl, xr, xq])), (g, .inr (2, [.ref sh, .ref al, .int gr, .ref g_b, .ref g_t])), (al, .inr (6, [.int lm, .ref ed, .int lz])), (ed, .inl (cA 5, ln, .inr (.inr (.inr (.inr lf))))), (sh, .inr (4, [.int zw, .int zh, .long zA, .long zL, .long zR, .long zE]))]) [0, 1, 2, 3, 4] rfl
            have hD9 := hD.sub (ws' := [(x, .inr (1, [.ref g, xs, xp, .ref xi, .int xl, xr, xq])), (g, .inr (2, [.ref sh, .ref al, .int gr, .ref g_b, .ref g_t])), (al, .inr (6, [.int lm, .ref ed, .int lz])), (ed, .inl (cA 5, ln, .inr (.inr (.inr (.inr lf))))), (sh, .inr (4, [.int zw, .int zh, .long zA, .long zL, .long zR, .long zE]))]) [0, 1, 2, 3, 4] (by decide) rfl
            obtain rfl := Option.some.inj h
            refine vx_ret ?_
            exact W.vret hx hb hr (fun t ht hW => ⟨⟨(), rfl, ⟨_, rfl, rfl⟩, ⟨by rw [ht]; exact hP9, hK.warm hW, hD9⟩⟩, hS.F ht⟩) hS.2.2 dX1_checkDepth_56
  · replace h := ga_ift c_21 h
    refine lv_iconst (v := 1) hx hb dX1_checkDepth_10 (by decide) ?_
    refine lv_goto (tgt := 15) hx hb dX1_checkDepth_11 (by decide) ?_
    replace hP := hP.sub (ws' := [(x, .inr (1, [.ref g, xs, xp, .ref xi, .int xl, xr, xq])), (g, .inr (2, [.ref sh, .ref al, .int gr, .ref g_b, .ref g_t])), (al, .inr (6, [.int lm, .ref ed, .int lz])), (ed, .inl (cA 5, ln, .inr (.inr (.inr (.inr lf))))), (sh, .inr (4, [.int zw, .int zh, .long zA, .long zL, .long zR, .long zE]))]) [0, 1, 2, 3, 4] rfl
    obtain ⟨r_97, e_98, h⟩ := ga_gb h
    have hFc := va_free (wc := []) hD hS hA [] rfl
    refine vx_callv (vx_runS (As := [.int 1]) (rest := []) ⟨hx, hb, hml, hown, hts⟩ (met_X1_checkState l D cA (va_A [] s.heap.size) zs N 1 hX.2 r_97 e_98) (va_cwS 1 hts (lw_S q665 q666 q67 q667) rfl rfl rfl (by decide +kernel) ⟨Nat.le_of_ble_eq_true rfl, Nat.le_of_ble_eq_true rfl⟩) (ga_XS hK ga_P0 (hD.sub (ws' := []) [] (by decide) rfl).self (fun _ hq => Or.inr hq) (hST.at hS hFc)) rfl rfl hl.1 rfl (lv_room (Nat.le_of_ble_eq_true rfl)) dX1_checkDepth_15 ⟨Nat.le_of_ble_eq_true rfl, Nat.le_of_ble_eq_true rfl⟩) hS (fun q _ hq => hFc q hq) hFc (fun q _ hq => hFc q hq) (fun E_104 ce q_105 u_102 t H_103 locs ht _ w_100 hB _ hk hS hce hcv hcl => ?_) (fun u_102 t H_101 locs ht _ w_100 hB _ hk hS => ?_)
    · replace h := ga_swr w_100 h
      obtain ⟨eE, hP1, hD1⟩ := hB
      rw [ht] at hP1
      obtain ⟨hP, hD⟩ := va_join (wr := [(x, .inr (1, [.ref g, xs, xp, .ref xi, .int xl, xr, xq])), (g, .inr (2, [.ref sh, .ref al, .int gr, .ref g_b, .ref g_t])), (al, .inr (6, [.int lm, .ref ed, .int lz])), (ed, .inl (cA 5, ln, .inr (.inr (.inr (.inr lf))))), (sh, .inr (4, [.int zw, .int zh, .long zA, .long zL, .long zR, .long zE]))]) (w1 := []) hP hD [] [0, 1, 2, 3, 4] rfl rfl (by decide) (by decide) hk hFc hP1 hD1
      have hP : va_P D ga_cl [(x, .inr (1, [.ref g, xs, xp, .ref xi, .int xl, xr, xq])), (g, .inr (2, [.ref sh, .ref al, .int gr, .ref g_b, .ref g_t])), (al, .inr (6, [.int lm, .ref ed, .int lz])), (ed, .inl (cA 5, ln, .inr (.inr (.inr (.inr lf))))), (sh, .inr (4, [.int zw, .int zh, .long zA, .long zL, .long zR, .long zE]))] H_103 := hP
      have hD : va_D A [(x, .inr (1, [.ref g, xs, xp, .ref xi, .int xl, xr, xq])), (g, .inr (2, [.ref sh, .ref al, .int gr, .ref g_b, .ref g_t])), (al, .inr (6, [.int lm, .ref ed, .int lz])), (ed, .inl (cA 5, ln, .inr (.inr (.inr (.inr lf))))), (sh, .inr (4, [.int zw, .int zh, .long zA, .long zL, .long zR, .long zE]))] := hD
      have hP9 := hP.sub (ws' := [(x, .inr (1, [.ref g, xs, xp, .ref xi, .int xl, xr, xq])), (g, .inr (2, [.ref sh, .ref al, .int gr, .ref g_b, .ref g_t])), (al, .inr (6, [.int lm, .ref ed, .int lz])), (ed, .inl (cA 5, ln, .inr (.inr (.inr (.inr lf))))), (sh, .inr (4, [.int zw, .int zh, .long zA, .long zL, .long zR, .long zE]))]) [0, 1, 2, 3, 4] rfl
      have hD9 := hD.sub (ws' := [(x, .inr (1, [.ref g, xs, xp, .ref xi, .int xl, xr, xq])), (g, .inr (2, [.ref sh, .ref al, .int gr, .ref g_b, .ref g_t])), (al, .inr (6, [.int lm, .ref ed, .int lz])), (ed, .inl (cA 5, ln, .inr (.inr (.inr (.inr lf))))), (sh, .inr (4, [.int zw, .int zh, .long zA, .long zL, .long zR, .long zE]))]) [0, 1, 2, 3, 4] (by decide) rfl
      obtain rfl := Option.some.inj h
      exact vx_out (fun x hx9 => (hX.1 x hx9).elim) hlocks hce hcv hcl (fun t ht _ => ⟨u_102, rfl, ⟨eE, by rw [ht]; exact hP9, hD9⟩, hS.F ht⟩) hS.2.2 (by decide) (by decide)
    · obtain ⟨v_106, ev_106, hv9⟩ := w_100
      replace h := ga_swl ev_106 h
      obtain rfl := hv9
      obtain ⟨hP1, -, hD1⟩ := hB
      rw [ht] at hP1
      obtain ⟨hP, hD⟩ := va_join (wr := [(x, .inr (1, [.ref g, xs, xp, .ref xi, .int xl, xr, xq])), (g, .inr (2, [.ref sh, .ref al, .int gr, .ref g_b, .ref g_t])), (al, .inr (6, [.int lm, .ref ed, .int lz])), (ed, .inl (cA 5, ln, .inr (.inr (.inr (.inr lf))))), (sh, .inr (4, [.int zw, .int zh, .long zA, .long zL, .long zR, .long zE]))]) (w1 := []) hP hD [] [0, 1, 2, 3, 4] rfl rfl (by decide) (by decide) hk hFc hP1 hD1
      have hP : va_P D ga_cl [(x, .inr (1, [.ref g, xs, xp, .ref xi, .int xl, xr, xq])), (g, .inr (2, [.ref sh, .ref al, .int gr, .ref g_b, .ref g_t])), (al, .inr (6, [.int lm, .ref ed, .int lz])), (ed, .inl (cA 5, ln, .inr (.inr (.inr (.inr lf))))), (sh, .inr (4, [.int zw, .int zh, .long zA, .long zL, .long zR, .long zE]))] H_101 := hP
      have hD : va_D A [(x, .inr (1, [.ref g, xs, xp, .ref xi, .int xl, xr, xq])), (g, .inr (2, [.ref sh, .ref al, .int gr, .ref g_b, .ref g_t])), (al, .inr (6, [.int lm, .ref ed, .int lz])), (ed, .inl (cA 5, ln, .inr (.inr (.inr (.inr lf))))), (sh, .inr (4, [.int zw, .int zh, .long zA, .long zL, .long zR, .long zE]))] := hD
      replace hr_15 := ga_roF hr_15 hFc hk
      refine W.cs (cells' := 1) (slots' := 6) rfl rfl ?_
      refine lv_iload_n hx hb dX1_checkDepth_18 rfl (lv_at hl 1 rfl) ?_
      refine lv_iconst (v := 2) hx hb dX1_checkDepth_19 (by decide) ?_
      refine lv_icmp_lt (tgt := 48) hx hb dX1_checkDepth_20 (by decide) (fun c_108 => ?_) (fun c_108 => ?_)
      · replace h := ga_ift c_108 h
        refine lv_iconst (v := 1) hx hb dX1_checkDepth_48 (by decide) ?_
        refine lv_goto (tgt := 53) hx hb dX1_checkDepth_49 (by decide) ?_
        obtain ⟨r_109, e_110, h⟩ := ga_gb h
        have hFc := va_free (wc := []) hD hS hA [] rfl
        refine vx_callv (vx_runS (As := [.int 1]) (rest := []) ⟨hx, hb, hml, hown, hts⟩ (met_X1_checkState l D cA (va_A [] H_101.size) zs N 1 hX.2 r_109 e_110) (va_cwS 1 hts (lw_S q665 q666 q67 q667) rfl rfl rfl (by decide +kernel) ⟨Nat.le_of_ble_eq_true rfl, Nat.le_of_ble_eq_true rfl⟩) (ga_XS hK ga_P0 (hD.sub (ws' := []) [] (by decide) rfl).self (fun _ hq => Or.inr hq) (hST.at hS hFc)) rfl rfl hl.1 rfl (lv_room (Nat.le_of_ble_eq_true rfl)) dX1_checkDepth_53 ⟨Nat.le_of_ble_eq_true rfl, Nat.le_of_ble_eq_true rfl⟩) hS (fun q _ hq => hFc q hq) hFc (fun q _ hq => hFc q hq) (fun E_116 ce q_117 u_114 t H_115 locs ht _ w_112 hB _ hk hS hce hcv hcl => ?_) (fun u_114 t H_113 locs ht _ w_112 hB _ hk hS => ?_)
        · replace h := ga_swr w_112 h
          obtain ⟨eE, hP1, hD1⟩ := hB
          rw [ht] at hP1
          obtain ⟨hP, hD⟩ := va_join (wr := [(x, .inr (1, [.ref g, xs, xp, .ref xi, .int xl, xr, xq])), (g, .inr (2, [.ref sh, .ref al, .int gr, .ref g_b, .ref g_t])), (al, .inr (6, [.int lm, .ref ed, .int lz])), (ed, .inl (cA 5, ln, .inr (.inr (.inr (.inr lf))))), (sh, .inr (4, [.int zw, .int zh, .long zA, .long zL, .long zR, .long zE]))]) (w1 := []) hP hD [] [0, 1, 2, 3, 4] rfl rfl (by decide) (by decide) hk hFc hP1 hD1
          have hP : va_P D ga_cl [(x, .inr (1, [.ref g, xs, xp, .ref xi, .int xl, xr, xq])), (g, .inr (2, [.ref sh, .ref al, .int gr, .ref g_b, .ref g_t])), (al, .inr (6, [.int lm, .ref ed, .int lz])), (ed, .inl (cA 5, ln, .inr (.inr (.inr (.inr lf))))), (sh, .inr (4, [.int zw, .int zh, .long zA, .long zL, .long zR, .long zE]))] H_115 := hP
          have hD : va_D A [(x, .inr (1, [.ref g, xs, xp, .ref xi, .int xl, xr, xq])), (g, .inr (2, [.ref sh, .ref al, .int gr, .ref g_b, .ref g_t])), (al, .inr (6, [.int lm, .ref ed, .int lz])), (ed, .inl (cA 5, ln, .inr (.inr (.inr (.inr lf))))), (sh, .inr (4, [.int zw, .int zh, .long zA, .long zL, .long zR, .long zE]))] := hD
          have hP9 := hP.sub (ws' := [(x, .inr (1, [.ref g, xs, xp, .ref xi, .int xl, xr, xq])), (g, .inr (2, [.ref sh, .ref al, .int gr, .ref g_b, .ref g_t])), (al, .inr (6, [.int lm, .ref ed, .int lz])), (ed, .inl (cA 5, ln, .inr (.inr (.inr (.inr lf))))), (sh, .inr (4, [.int zw, .int zh, .long zA, .long zL, .long zR, .long zE]))]) [0, 1, 2, 3, 4] rfl
          have hD9 := hD.sub (ws' := [(x, .inr (1, [.ref g, xs, xp, .ref xi, .int xl, xr, xq])), (g, .inr (2, [.ref sh, .ref al, .int gr, .ref g_b, .ref g_t])), (al, .inr (6, [.int lm, .ref ed, .int lz])), (ed, .inl (cA 5, ln, .inr (.inr (.inr (.inr lf))))), (sh, .inr (4, [.int zw, .int zh, .long zA, .long zL, .long zR, .long zE]))]) [0, 1, 2, 3, 4] (by decide) rfl
          obtain rfl := Option.some.inj h
          exact vx_out (fun x hx9 => (hX.1 x hx9).elim) hlocks hce hcv hcl (fun t ht _ => ⟨u_114, rfl, ⟨eE, by rw [ht]; exact hP9, hD9⟩, hS.F ht⟩) hS.2.2 (by decide) (by decide)
        · obtain ⟨v_118, ev_118, hv9⟩ := w_112
          replace h := ga_swl ev_118 h
          obtain rfl := hv9
          obtain ⟨hP1, -, hD1⟩ := hB
          rw [ht] at hP1
          obtain ⟨hP, hD⟩ := va_join (wr := [(x, .inr (1, [.ref g, xs, xp, .ref xi, .int xl, xr, xq])), (g, .inr (2, [.ref sh, .ref al, .int gr, .ref g_b, .ref g_t])), (al, .inr (6, [.int lm, .ref ed, .int lz])), (ed, .inl (cA 5, ln, .inr (.inr (.inr (.inr lf))))), (sh, .inr (4, [.int zw, .int zh, .long zA, .long zL, .long zR, .long zE]))]) (w1 := []) hP hD [] [0, 1, 2, 3, 4] rfl rfl (by decide) (by decide) hk hFc hP1 hD1
          have hP : va_P D ga_cl [(x, .inr (1, [.ref g, xs, xp, .ref xi, .int xl, xr, xq])), (g, .inr (2, [.ref sh, .ref al, .int gr, .ref g_b, .ref g_t])), (al, .inr (6, [.int lm, .ref ed, .int lz])), (ed, .inl (cA 5, ln, .inr (.inr (.inr (.inr lf))))), (sh, .inr (4, [.int zw, .int zh, .long zA, .long zL, .long zR, .long zE]))] H_113 := hP
          have hD : va_D A [(x, .inr (1, [.ref g, xs, xp, .ref xi, .int xl, xr, xq])), (g, .inr (2, [.ref sh, .ref al, .int gr, .ref g_b, .ref g_t])), (al, .inr (6, [.int lm, .ref ed, .int lz])), (ed, .inl (cA 5, ln, .inr (.inr (.inr (.inr lf))))), (sh, .inr (4, [.int zw, .int zh, .long zA, .long zL, .long zR, .long zE]))] := hD
          replace hr_15 := ga_roF hr_15 hFc hk
          refine W.cs (cells' := 2) (slots' := 12) rfl rfl ?_
          have hP9 := hP.sub (ws' := [(x, .inr (1, [.ref g, xs, xp, .ref xi, .int xl, xr, xq])), (g, .inr (2, [.ref sh, .ref al, .int gr, .ref g_b, .ref g_t])), (al, .inr (6, [.int lm, .ref ed, .int lz])), (ed, .inl (cA 5, ln, .inr (.inr (.inr (.inr lf))))), (sh, .inr (4, [.int zw, .int zh, .long zA, .long zL, .long zR, .long zE]))]) [0, 1, 2, 3, 4] rfl
          have hD9 := hD.sub (ws' := [(x, .inr (1, [.ref g, xs, xp, .ref xi, .int xl, xr, xq])), (g, .inr (2, [.ref sh, .ref al, .int gr, .ref g_b, .ref g_t])), (al, .inr (6, [.int lm, .ref ed, .int lz])), (ed, .inl (cA 5, ln, .inr (.inr (.inr (.inr lf))))), (sh, .inr (4, [.int zw, .int zh, .long zA, .long zL, .long zR, .long zE]))]) [0, 1, 2, 3, 4] (by decide) rfl
          obtain rfl := Option.some.inj h
          refine vx_ret ?_
          exact W.vret hx hb hr (fun t ht hW => ⟨⟨(), rfl, ⟨_, rfl, rfl⟩, ⟨by rw [ht]; exact hP9, hK.warm hW, hD9⟩⟩, hS.F ht⟩) hS.2.2 dX1_checkDepth_56
      · replace h := ga_iff c_108 h
        refine lv_aload_n hx hb dX1_checkDepth_23 rfl (lv_at hl 0 rfl) ?_
        refine va_get hx hb hts in_X1 hown hK.1 hP 0 (fs := [.ref g, xs, xp, .ref xi, .int xl, xr, xq]) rfl rfl 0 (by decide) (hts _ q350) (fun _ hh => hh) (v := .ref g) rfl dX1_checkDepth_24 ?_
        obtain ⟨i_130, h⟩ := ga_gif h
        obtain ⟨r_120, b_121, w_122, t_123, e_124, v_125, bs_126, ba_127, bc_128, bg_129, f_131, q_132, hn_133⟩ := (ga_poK.at (B := A) hR hS (fun _ h => h)) (ix (lz - 1)) i_130
        have hP : va_P D ga_cl [(x, .inr (1, [.ref g, xs, xp, .ref xi, .int xl, xr, xq])), (g, .inr (2, [.ref sh, .ref al, .int gr, .ref g_b, .ref g_t])), (al, .inr (6, [.int lm, .ref ed, .int lz])), (ed, .inl (cA 5, ln, .inr (.inr (.inr (.inr lf))))), (sh, .inr (4, [.int zw, .int zh, .long zA, .long zL, .long zR, .long zE])), (r_120, .inr (5, [.int (q1 (ix (lz - 1))), .int (q2 (ix (lz - 1))), .ref b_121, .ref w_122, .int (qN (ix (lz - 1))), .ref t_123, .ref e_124, .ref v_125])), (w_122, .inl (cA 0, 8, .inl (qW (ix (lz - 1))))), (t_123, .inl (cA 0, 2, .inl (qP (ix (lz - 1))))), (e_124, .inl (cA 0, 49, .inl (qR (ix (lz - 1))))), (v_125, .inl (cA 0, 49, .inl (qV (ix (lz - 1))))), (b_121, .inr (3, [.ref bs_126, .ref ba_127, .long (qB (ix (lz - 1))), .ref bc_128, .ref bg_129])), (bs_126, .inl (cA 1, 2, .inr (.inl (qS (ix (lz - 1)))))), (ba_127, .inl (cA 1, 2, .inr (.inl (qA (ix (lz - 1)))))), (bc_128, .inl (cA 0, 2, .inl (qC (ix (lz - 1))))), (bg_129, .inl (cA 1, 2, .inr (.inl (qG (ix (lz - 1))))))] H_101 := hP.app q_132
        have hr_134 : ga_ro D [(r_120, .inr (5, [.int (q1 (ix (lz - 1))), .int (q2 (ix (lz - 1))), .ref b_121, .ref w_122, .int (qN (ix (lz - 1))), .ref t_123, .ref e_124, .ref v_125])), (w_122, .inl (cA 0, 8, .inl (qW (ix (lz - 1))))), (t_123, .inl (cA 0, 2, .inl (qP (ix (lz - 1))))), (e_124, .inl (cA 0, 49, .inl (qR (ix (lz - 1))))), (v_125, .inl (cA 0, 49, .inl (qV (ix (lz - 1))))), (b_121, .inr (3, [.ref bs_126, .ref ba_127, .long (qB (ix (lz - 1))), .ref bc_128, .ref bg_129])), (bs_126, .inl (cA 1, 2, .inr (.inl (qS (ix (lz - 1)))))), (ba_127, .inl (cA 1, 2, .inr (.inl (qA (ix (lz - 1)))))), (bc_128, .inl (cA 0, 2, .inl (qC (ix (lz - 1))))), (bg_129, .inl (cA 1, 2, .inr (.inl (qG (ix (lz - 1))))))] A s H_101 := ⟨q_132, hn_133⟩
        obtain ⟨r_135, e_136, h⟩ := ga_gb h
        refine va_csr (va_Run.run (va_runV (As := []) (rest := []) ⟨hx, hb, hml, hown, hts⟩ (met_X2_board l D cA g sh al g_b g_t ed lf r_120 b_121 w_122 t_123 e_124 v_125 gr lm lz ln (q1 (ix (lz - 1))) (q2 (ix (lz - 1))) (qN (ix (lz - 1))) N f_131 r_135 e_136) (cwV 0 hts (lw_V q565 q385 q386 q68 q387) rfl rfl rfl (by decide +kernel) ⟨Nat.le_of_ble_eq_true rfl, Nat.le_of_ble_eq_true rfl⟩) (ga_PV hK (hP.sub (ws' := [(g, .inr (2, [.ref sh, .ref al, .int gr, .ref g_b, .ref g_t])), (al, .inr (6, [.int lm, .ref ed, .int lz])), (ed, .inl (cA 5, ln, .inr (.inr (.inr (.inr lf))))), (r_120, .inr (5, [.int (q1 (ix (lz - 1))), .int (q2 (ix (lz - 1))), .ref b_121, .ref w_122, .int (qN (ix (lz - 1))), .ref t_123, .ref e_124, .ref v_125]))]) [1, 2, 3, 5] rfl) (va_recv hK.1 hP (ci := 2) (q0 := 1) rfl rfl)) rfl rfl hl.1 rfl (lv_room (Nat.le_of_ble_eq_true rfl)) dX1_checkDepth_27 ⟨Nat.le_of_ble_eq_true rfl, Nat.le_of_ble_eq_true rfl⟩)) (fun _ _ => ?_)
        refine lv_aload_n hx hb dX1_checkDepth_30 rfl (lv_at hl 0 rfl) ?_
        refine va_get hx hb hts in_X1 hown hK.1 hP 0 (fs := [.ref g, xs, xp, .ref xi, .int xl, xr, xq]) rfl rfl 0 (by decide) (hts _ q350) (fun _ hh => hh) (v := .ref g) rfl dX1_checkDepth_31 ?_
        refine va_getN hx hb hts in_X2 hown hK.1 hP 1 (fs := [.ref sh, .ref al, .int gr, .ref g_b, .ref g_t]) rfl rfl 0 (by decide) (ga_nu hK q329 rfl) (fun _ hh => hh) (v := .ref sh) rfl dX1_checkDepth_34 ?_
        obtain ⟨r_139, e_140, h⟩ := ga_gb h
        refine vp_callSl (va_Run.run (va_runV (As := [.ref sh]) (rest := []) ⟨hx, hb, hml, hown, hts⟩ (met_X3_empty l D cA b_121 bs_126 ba_127 bc_128 bg_129 sh (qB (ix (lz - 1))) (qS (ix (lz - 1))) (qA (ix (lz - 1))) zw zh zA zL zR zE N r_139 e_140) (cwV 1 hts (lw_V q566 q423 q424 q72 q425) rfl rfl rfl (by decide +kernel) ⟨Nat.le_of_ble_eq_true rfl, Nat.le_of_ble_eq_true rfl⟩) (ga_PV hK (hP.sub (ws' := [(b_121, .inr (3, [.ref bs_126, .ref ba_127, .long (qB (ix (lz - 1))), .ref bc_128, .ref bg_129])), (bs_126, .inl (cA 1, 2, .inr (.inl (qS (ix (lz - 1)))))), (ba_127, .inl (cA 1, 2, .inr (.inl (qA (ix (lz - 1)))))), (sh, .inr (4, [.int zw, .int zh, .long zA, .long zL, .long zR, .long zE]))]) [10, 11, 12, 4] rfl) (va_recv hK.1 hP (ci := 3) (q0 := 10) rfl rfl)) rfl rfl hl.1 rfl (lv_room (Nat.le_of_ble_eq_true rfl)) dX1_checkDepth_37 ⟨Nat.le_of_ble_eq_true rfl, Nat.le_of_ble_eq_true rfl⟩)) (fun z_141 w_142 => ?_)
        obtain rfl := w_142
        refine vp_callSi (va_Run.run (va_runS (As := [.long r_139]) (rest := []) ⟨hx, hb, hml, hown, hts⟩ (met_X1_size l D cA N r_139 (V_J13_bitCount r_139) rfl) (va_cwS 1 hts (lw_S q567 q568 q67 q569) rfl rfl rfl (by decide +kernel) ⟨Nat.le_of_ble_eq_true rfl, Nat.le_of_ble_eq_true rfl⟩) (ga_PS hK ga_P0) rfl rfl hl.1 rfl (lv_room (Nat.le_of_ble_eq_true rfl)) dX1_checkDepth_40 ⟨Nat.le_of_ble_eq_true rfl, Nat.le_of_ble_eq_true rfl⟩)) (fun z_146 w_147 => ?_)
        obtain rfl := w_147
        refine lv_bipush (v := 6) hx hb dX1_checkDepth_43 (by decide) ?_
        refine lv_icmp_gt (tgt := 52) hx hb dX1_checkDepth_45 (by decide) (fun c_149 => ?_) (fun c_149 => ?_)
        · replace h := ga_ift c_149 h
          refine lv_iconst (v := 0) hx hb dX1_checkDepth_52 (by decide) ?_
          replace hP := hP.sub (ws' := [(x, .inr (1, [.ref g, xs, xp, .ref xi, .int xl, xr, xq])), (g, .inr (2, [.ref sh, .ref al, .int gr, .ref g_b, .ref g_t])), (al, .inr (6, [.int lm, .ref ed, .int lz])), (ed, .inl (cA 5, ln, .inr (.inr (.inr (.inr lf))))), (sh, .inr (4, [.int zw, .int zh, .long zA, .long zL, .long zR, .long zE]))]) [0, 1, 2, 3, 4] rfl
          obtain ⟨r_150, e_151, h⟩ := ga_gb h
          have hFc := va_free (wc := []) hD hS hA [] rfl
          refine vx_callv (vx_runS (As := [.int 0]) (rest := []) ⟨hx, hb, hml, hown, hts⟩ (met_X1_checkState l D cA (va_A [] H_101.size) zs N 0 hX.2 r_150 e_151) (va_cwS 1 hts (lw_S q665 q666 q67 q667) rfl rfl rfl (by decide +kernel) ⟨Nat.le_of_ble_eq_true rfl, Nat.le_of_ble_eq_true rfl⟩) (ga_XS hK ga_P0 (hD.sub (ws' := []) [] (by decide) rfl).self (fun _ hq => Or.inr hq) (hST.at hS hFc)) rfl rfl hl.1 rfl (lv_room (Nat.le_of_ble_eq_true rfl)) dX1_checkDepth_53 ⟨Nat.le_of_ble_eq_true rfl, Nat.le_of_ble_eq_true rfl⟩) hS (fun q _ hq => hFc q hq) hFc (fun q _ hq => hFc q hq) (fun E_157 ce q_158 u_155 t H_156 locs ht _ w_153 hB _ hk hS hce hcv hcl => ?_) (fun u_155 t H_154 locs ht _ w_153 hB _ hk hS => ?_)
          · replace h := ga_swr w_153 h
            obtain ⟨eE, hP1, hD1⟩ := hB
            rw [ht] at hP1
            obtain ⟨hP, hD⟩ := va_join (wr := [(x, .inr (1, [.ref g, xs, xp, .ref xi, .int xl, xr, xq])), (g, .inr (2, [.ref sh, .ref al, .int gr, .ref g_b, .ref g_t])), (al, .inr (6, [.int lm, .ref ed, .int lz])), (ed, .inl (cA 5, ln, .inr (.inr (.inr (.inr lf))))), (sh, .inr (4, [.int zw, .int zh, .long zA, .long zL, .long zR, .long zE]))]) (w1 := []) hP hD [] [0, 1, 2, 3, 4] rfl rfl (by decide) (by decide) hk hFc hP1 hD1
            have hP : va_P D ga_cl [(x, .inr (1, [.ref g, xs, xp, .ref xi, .int xl, xr, xq])), (g, .inr (2, [.ref sh, .ref al, .int gr, .ref g_b, .ref g_t])), (al, .inr (6, [.int lm, .ref ed, .int lz])), (ed, .inl (cA 5, ln, .inr (.inr (.inr (.inr lf))))), (sh, .inr (4, [.int zw, .int zh, .long zA, .long zL, .long zR, .long zE]))] H_156 := hP
            have hD : va_D A [(x, .inr (1, [.ref g, xs, xp, .ref xi, .int xl, xr, xq])), (g, .inr (2, [.ref sh, .ref al, .int gr, .ref g_b, .ref g_t])), (al, .inr (6, [.int lm, .ref ed, .int lz])), (ed, .inl (cA 5, ln, .inr (.inr (.inr (.inr lf))))), (sh, .inr (4, [.int zw, .int zh, .long zA, .long zL, .long zR, .long zE]))] := hD
            have hP9 := hP.sub (ws' := [(x, .inr (1, [.ref g, xs, xp, .ref xi, .int xl, xr, xq])), (g, .inr (2, [.ref sh, .ref al, .int gr, .ref g_b, .ref g_t])), (al, .inr (6, [.int lm, .ref ed, .int lz])), (ed, .inl (cA 5, ln, .inr (.inr (.inr (.inr lf))))), (sh, .inr (4, [.int zw, .int zh, .long zA, .long zL, .long zR, .long zE]))]) [0, 1, 2, 3, 4] rfl
            have hD9 := hD.sub (ws' := [(x, .inr (1, [.ref g, xs, xp, .ref xi, .int xl, xr, xq])), (g, .inr (2, [.ref sh, .ref al, .int gr, .ref g_b, .ref g_t])), (al, .inr (6, [.int lm, .ref ed, .int lz])), (ed, .inl (cA 5, ln, .inr (.inr (.inr (.inr lf))))), (sh, .inr (4, [.int zw, .int zh, .long zA, .long zL, .long zR, .long zE]))]) [0, 1, 2, 3, 4] (by decide) rfl
            obtain rfl := Option.some.inj h
            exact vx_out (fun x hx9 => (hX.1 x hx9).elim) hlocks hce hcv hcl (fun t ht _ => ⟨u_155, rfl, ⟨eE, by rw [ht]; exact hP9, hD9⟩, hS.F ht⟩) hS.2.2 (by decide) (by decide)
          · obtain ⟨v_159, ev_159, hv9⟩ := w_153
            replace h := ga_swl ev_159 h
            obtain rfl := hv9
            obtain ⟨hP1, -, hD1⟩ := hB
            rw [ht] at hP1
            obtain ⟨hP, hD⟩ := va_join (wr := [(x, .inr (1, [.ref g, xs, xp, .ref xi, .int xl, xr, xq])), (g, .inr (2, [.ref sh, .ref al, .int gr, .ref g_b, .ref g_t])), (al, .inr (6, [.int lm, .ref ed, .int lz])), (ed, .inl (cA 5, ln, .inr (.inr (.inr (.inr lf))))), (sh, .inr (4, [.int zw, .int zh, .long zA, .long zL, .long zR, .long zE]))]) (w1 := []) hP hD [] [0, 1, 2, 3, 4] rfl rfl (by decide) (by decide) hk hFc hP1 hD1
            have hP : va_P D ga_cl [(x, .inr (1, [.ref g, xs, xp, .ref xi, .int xl, xr, xq])), (g, .inr (2, [.ref sh, .ref al, .int gr, .ref g_b, .ref g_t])), (al, .inr (6, [.int lm, .ref ed, .int lz])), (ed, .inl (cA 5, ln, .inr (.inr (.inr (.inr lf))))), (sh, .inr (4, [.int zw, .int zh, .long zA, .long zL, .long zR, .long zE]))] H_154 := hP
            have hD : va_D A [(x, .inr (1, [.ref g, xs, xp, .ref xi, .int xl, xr, xq])), (g, .inr (2, [.ref sh, .ref al, .int gr, .ref g_b, .ref g_t])), (al, .inr (6, [.int lm, .ref ed, .int lz])), (ed, .inl (cA 5, ln, .inr (.inr (.inr (.inr lf))))), (sh, .inr (4, [.int zw, .int zh, .long zA, .long zL, .long zR, .long zE]))] := hD
            replace hr_15 := ga_roF hr_15 hFc hk
            replace hr_134 := ga_roF hr_134 hFc hk
            refine W.cs (cells' := 2) (slots' := 12) rfl rfl ?_
            have hP9 := hP.sub (ws' := [(x, .inr (1, [.ref g, xs, xp, .ref xi, .int xl, xr, xq])), (g, .inr (2, [.ref sh, .ref al, .int gr, .ref g_b, .ref g_t])), (al, .inr (6, [.int lm, .ref ed, .int lz])), (ed, .inl (cA 5, ln, .inr (.inr (.inr (.inr lf))))), (sh, .inr (4, [.int zw, .int zh, .long zA, .long zL, .long zR, .long zE]))]) [0, 1, 2, 3, 4] rfl
            have hD9 := hD.sub (ws' := [(x, .inr (1, [.ref g, xs, xp, .ref xi, .int xl, xr, xq])), (g, .inr (2, [.ref sh, .ref al, .int gr, .ref g_b, .ref g_t])), (al, .inr (6, [.int lm, .ref ed, .int lz])), (ed, .inl (cA 5, ln, .inr (.inr (.inr (.inr lf))))), (sh, .inr (4, [.int zw, .int zh, .long zA, .long zL, .long zR, .long zE]))]) [0, 1, 2, 3, 4] (by decide) rfl
            obtain rfl := Option.some.inj h
            refine vx_ret ?_
            exact W.vret hx hb hr (fun t ht hW => ⟨⟨(), rfl, ⟨_, rfl, rfl⟩, ⟨by rw [ht]; exact hP9, hK.warm hW, hD9⟩⟩, hS.F ht⟩) hS.2.2 dX1_checkDepth_56
        · replace h := ga_iff c_149 h
          refine lv_iconst (v := 1) hx hb dX1_checkDepth_48 (by decide) ?_
          refine lv_goto (tgt := 53) hx hb dX1_checkDepth_49 (by decide) ?_
          replace hP := hP.sub (ws' := [(x, .inr (1, [.ref g, xs, xp, .ref xi, .int xl, xr, xq])), (g, .inr (2, [.ref sh, .ref al, .int gr, .ref g_b, .ref g_t])), (al, .inr (6, [.int lm, .ref ed, .int lz])), (ed, .inl (cA 5, ln, .inr (.inr (.inr (.inr lf))))), (sh, .inr (4, [.int zw, .int zh, .long zA, .long zL, .long zR, .long zE]))]) [0, 1, 2, 3, 4] rfl
          obtain ⟨r_161, e_162, h⟩ := ga_gb h
          have hFc := va_free (wc := []) hD hS hA [] rfl
          refine vx_callv (vx_runS (As := [.int 1]) (rest := []) ⟨hx, hb, hml, hown, hts⟩ (met_X1_checkState l D cA (va_A [] H_101.size) zs N 1 hX.2 r_161 e_162) (va_cwS 1 hts (lw_S q665 q666 q67 q667) rfl rfl rfl (by decide +kernel) ⟨Nat.le_of_ble_eq_true rfl, Nat.le_of_ble_eq_true rfl⟩) (ga_XS hK ga_P0 (hD.sub (ws' := []) [] (by decide) rfl).self (fun _ hq => Or.inr hq) (hST.at hS hFc)) rfl rfl hl.1 rfl (lv_room (Nat.le_of_ble_eq_true rfl)) dX1_checkDepth_53 ⟨Nat.le_of_ble_eq_true rfl, Nat.le_of_ble_eq_true rfl⟩) hS (fun q _ hq => hFc q hq) hFc (fun q _ hq => hFc q hq) (fun E_168 ce q_169 u_166 t H_167 locs ht _ w_164 hB _ hk hS hce hcv hcl => ?_) (fun u_166 t H_165 locs ht _ w_164 hB _ hk hS => ?_)
          · replace h := ga_swr w_164 h
            obtain ⟨eE, hP1, hD1⟩ := hB
            rw [ht] at hP1
            obtain ⟨hP, hD⟩ := va_join (wr := [(x, .inr (1, [.ref g, xs, xp, .ref xi, .int xl, xr, xq])), (g, .inr (2, [.ref sh, .ref al, .int gr, .ref g_b, .ref g_t])), (al, .inr (6, [.int lm, .ref ed, .int lz])), (ed, .inl (cA 5, ln, .inr (.inr (.inr (.inr lf))))), (sh, .inr (4, [.int zw, .int zh, .long zA, .long zL, .long zR, .long zE]))]) (w1 := []) hP hD [] [0, 1, 2, 3, 4] rfl rfl (by decide) (by decide) hk hFc hP1 hD1
            have hP : va_P D ga_cl [(x, .inr (1, [.ref g, xs, xp, .ref xi, .int xl, xr, xq])), (g, .inr (2, [.ref sh, .ref al, .int gr, .ref g_b, .ref g_t])), (al, .inr (6, [.int lm, .ref ed, .int lz])), (ed, .inl (cA 5, ln, .inr (.inr (.inr (.inr lf))))), (sh, .inr (4, [.int zw, .int zh, .long zA, .long zL, .long zR, .long zE]))] H_167 := hP
            have hD : va_D A [(x, .inr (1, [.ref g, xs, xp, .ref xi, .int xl, xr, xq])), (g, .inr (2, [.ref sh, .ref al, .int gr, .ref g_b, .ref g_t])), (al, .inr (6, [.int lm, .ref ed, .int lz])), (ed, .inl (cA 5, ln, .inr (.inr (.inr (.inr lf))))), (sh, .inr (4, [.int zw, .int zh, .long zA, .long zL, .long zR, .long zE]))] := hD
            have hP9 := hP.sub (ws' := [(x, .inr (1, [.ref g, xs, xp, .ref xi, .int xl, xr, xq])), (g, .inr (2, [.ref sh, .ref al, .int gr, .ref g_b, .ref g_t])), (al, .inr (6, [.int lm, .ref ed, .int lz])), (ed, .inl (cA 5, ln, .inr (.inr (.inr (.inr lf))))), (sh, .inr (4, [.int zw, .int zh, .long zA, .long zL, .long zR, .long zE]))]) [0, 1, 2, 3, 4] rfl
            have hD9 := hD.sub (ws' := [(x, .inr (1, [.ref g, xs, xp, .ref xi, .int xl, xr, xq])), (g, .inr (2, [.ref sh, .ref al, .int gr, .ref g_b, .ref g_t])), (al, .inr (6, [.int lm, .ref ed, .int lz])), (ed, .inl (cA 5, ln, .inr (.inr (.inr (.inr lf))))), (sh, .inr (4, [.int zw, .int zh, .long zA, .long zL, .long zR, .long zE]))]) [0, 1, 2, 3, 4] (by decide) rfl
            obtain rfl := Option.some.inj h
            exact vx_out (fun x hx9 => (hX.1 x hx9).elim) hlocks hce hcv hcl (fun t ht _ => ⟨u_166, rfl, ⟨eE, by rw [ht]; exact hP9, hD9⟩, hS.F ht⟩) hS.2.2 (by decide) (by decide)
          · obtain ⟨v_170, ev_170, hv9⟩ := w_164
            replace h := ga_swl ev_170 h
            obtain rfl := hv9
            obtain ⟨hP1, -, hD1⟩ := hB
            rw [ht] at hP1
            obtain ⟨hP, hD⟩ := va_join (wr := [(x, .inr (1, [.ref g, xs, xp, .ref xi, .int xl, xr, xq])), (g, .inr (2, [.ref sh, .ref al, .int gr, .ref g_b, .ref g_t])), (al, .inr (6, [.int lm, .ref ed, .int lz])), (ed, .inl (cA 5, ln, .inr (.inr (.inr (.inr lf))))), (sh, .inr (4, [.int zw, .int zh, .long zA, .long zL, .long zR, .long zE]))]) (w1 := []) hP hD [] [0, 1, 2, 3, 4] rfl rfl (by decide) (by decide) hk hFc hP1 hD1
            have hP : va_P D ga_cl [(x, .inr (1, [.ref g, xs, xp, .ref xi, .int xl, xr, xq])), (g, .inr (2, [.ref sh, .ref al, .int gr, .ref g_b, .ref g_t])), (al, .inr (6, [.int lm, .ref ed, .int lz])), (ed, .inl (cA 5, ln, .inr (.inr (.inr (.inr lf))))), (sh, .inr (4, [.int zw, .int zh, .long zA, .long zL, .long zR, .long zE]))] H_165 := hP
            have hD : va_D A [(x, .inr (1, [.ref g, xs, xp, .ref xi, .int xl, xr, xq])), (g, .inr (2, [.ref sh, .ref al, .int gr, .ref g_b, .ref g_t])), (al, .inr (6, [.int lm, .ref ed, .int lz])), (ed, .inl (cA 5, ln, .inr (.inr (.inr (.inr lf))))), (sh, .inr (4, [.int zw, .int zh, .long zA, .long zL, .long zR, .long zE]))] := hD
            replace hr_15 := ga_roF hr_15 hFc hk
            replace hr_134 := ga_roF hr_134 hFc hk
            refine W.cs (cells' := 2) (slots' := 12) rfl rfl ?_
            have hP9 := hP.sub (ws' := [(x, .inr (1, [.ref g, xs, xp, .ref xi, .int xl, xr, xq])), (g, .inr (2, [.ref sh, .ref al, .int gr, .ref g_b, .ref g_t])), (al, .inr (6, [.int lm, .ref ed, .int lz])), (ed, .inl (cA 5, ln, .inr (.inr (.inr (.inr lf))))), (sh, .inr (4, [.int zw, .int zh, .long zA, .long zL, .long zR, .long zE]))]) [0, 1, 2, 3, 4] rfl
            have hD9 := hD.sub (ws' := [(x, .inr (1, [.ref g, xs, xp, .ref xi, .int xl, xr, xq])), (g, .inr (2, [.ref sh, .ref al, .int gr, .ref g_b, .ref g_t])), (al, .inr (6, [.int lm, .ref ed, .int lz])), (ed, .inl (cA 5, ln, .inr (.inr (.inr (.inr lf))))), (sh, .inr (4, [.int zw, .int zh, .long zA, .long zL, .long zR, .long zE]))]) [0, 1, 2, 3, 4] (by decide) rfl
            obtain rfl := Option.some.inj h
            refine vx_ret ?_
            exact W.vret hx hb hr (fun t ht hW => ⟨⟨(), rfl, ⟨_, rfl, rfl⟩, ⟨by rw [ht]; exact hP9, hK.warm hW, hD9⟩⟩, hS.F ht⟩) hS.2.2 dX1_checkDepth_56
abbrev rm_X1_feed : Room := { frames := 7, cells := 1, slots := 6, locals := 120 }
def F_X1_feed (N : Nat) (xl : Int32) (xI : Nat → Int32) (x1 : Int32) : Option ((Int32 × (Int32 × (Nat → Int32))) ⊕ Nat) :=
  (if 80 ≤ xl then
  ((F_X1_checkState N 0).bind fun r_2 => ga_sw r_2 (fun v_11 =>
  (if inb xl 80 = true then
  some (.inl ((xl + 1), ((xl + 1), (upd xI (ix xl) (vp_nar .char x1)))))
  else none)) (fun u_7 =>
  some (.inr u_7)))
  else
  ((F_X1_checkState N 1).bind fun r_17 => ga_sw r_17 (fun v_26 =>
  (if inb xl 80 = true then
  some (.inl ((xl + 1), ((xl + 1), (upd xI (ix xl) (vp_nar .char x1)))))
  else none)) (fun u_22 =>
  some (.inr u_22))))
set_option maxHeartbeats 4000000 in
theorem met_X1_feed (l : Launch) (D : va_G) (cA : Nat → ClassId) (A : Nat → Prop) (x : Nat) (g : Nat) (xs : Value) (xp : Value) (xi : Nat) (xr : Value) (xq : Value) (zs : Nat → Nat) (xl : Int32) (xI : Nat → Int32) (N : Nat) (x1 : Int32)  (hstk : l.stackTraces = false) (out : (Int32 × (Int32 × (Nat → Int32))) ⊕ Nat) (h : F_X1_feed N xl xI x1 = some out) : vx_Met l yX1_feed (ws_ yX1_feed cX1_feed 2 (some .int)) rm_X1_feed (ga_X D cA zs A [(x, .inr (1, [.ref g, xs, xp, .ref xi, .int xl, xr, xq])), (xi, .inl (cA 2, 80, .inl xI))] [.ref x, .int x1]) (va_Qi (fun (r : Int32) (u : Int32 × (Nat → Int32)) => ∃ v, out = .inl v ∧ (v.1 = r) ∧ v.2 = u) (fun (u : Int32 × (Nat → Int32)) (t : State) => va_P D ga_cl [(x, .inr (1, [.ref g, xs, xp, .ref xi, .int u.1, xr, xq])), (xi, .inl (cA 2, 80, .inl u.2))] t.heap ∧ ga_K D cA t ∧ va_D A [(x, .inr (1, [.ref g, xs, xp, .ref xi, .int u.1, xr, xq])), (xi, .inl (cA 2, 80, .inl u.2))]) A) (vx_X (fun (u : Nat) => out = .inr u) (fun (E : String) (q9 : Nat) (u : Nat) (t : State) => E = ga_en u ∧ va_P D ga_cl [(x, .inr (1, [.ref g, xs, xp, .ref xi, .int xl, xr, xq])), (xi, .inl (cA 2, 80, .inl xI))] t.heap ∧ va_D A [(x, .inr (1, [.ref g, xs, xp, .ref xi, .int xl, xr, xq])), (xi, .inl (cA 2, 80, .inl xI))]) A) 1 6 A := by
  refine vx_ofW (cc := cX1_feed) (maxL := 2) (ret := (some .int)) (by decide) rfl ?_
  intro p e s m args below meth c s₁ B hml htab hv
  have hX : ga_cx2 c l := ⟨htab, hstk⟩
  obtain ⟨rfl, hP, hK, hD, hA, hST⟩ := hv
  have hS : va_S A s.heap s.heap [] := va_S.rf
  have C : ga_cx p m c meth s _ RX1 cX1_feed 2 (some .int) := ga_cx_of B hml
  have C0 := C
  obtain ⟨hx, hb, hr, hlocks, hml, hown, hts⟩ := C0
  have hl := lv_entry ([.ref x, .int x1]) (n := 2) (Nat.le_of_ble_eq_true rfl)
  rw [lg_entry_eq]
  generalize (lg_sl ([.ref x, .int x1]) ++ List.replicate (2 - (lg_sl ([.ref x, .int x1])).length) Slot.unset).toArray = ls at hl ⊢
  have hl : lv_has ls 2 [(0, .ref x), (1, .int x1)] := hl
  rw [F_X1_feed] at h
  refine lv_aload_n hx hb dX1_feed_0 rfl (lv_at hl 0 rfl) ?_
  refine va_get hx hb hts in_X1 hown hK.1 hP 0 (fs := [.ref g, xs, xp, .ref xi, .int xl, xr, xq]) rfl rfl 4 (by decide) (hts _ q356) (fun _ hh => hh) (v := .int xl) rfl dX1_feed_1 ?_
  refine lv_bipush (v := 80) hx hb dX1_feed_4 (by decide) ?_
  refine lv_icmp_ge (tgt := 13) hx hb dX1_feed_6 (by decide) (fun c_1 => ?_) (fun c_1 => ?_)
  · replace h := ga_ift c_1 h
    refine lv_iconst (v := 0) hx hb dX1_feed_13 (by decide) ?_
    obtain ⟨r_2, e_3, h⟩ := ga_gb h
    have hFc := va_free (wc := []) hD hS hA [] rfl
    refine vx_callv (vx_runS (As := [.int 0]) (rest := []) ⟨hx, hb, hml, hown, hts⟩ (met_X1_checkState l D cA (va_A [] s.heap.size) zs N 0 hX.2 r_2 e_3) (va_cwS 1 hts (lw_S q665 q666 q67 q667) rfl rfl rfl (by decide +kernel) ⟨Nat.le_of_ble_eq_true rfl, Nat.le_of_ble_eq_true rfl⟩) (ga_XS hK ga_P0 (hD.sub (ws' := []) [] (by decide) rfl).self (fun _ hq => Or.inr hq) (hST.at hS hFc)) rfl rfl hl.1 rfl (lv_room (Nat.le_of_ble_eq_true rfl)) dX1_feed_14 ⟨Nat.le_of_ble_eq_true rfl, Nat.le_of_ble_eq_true rfl⟩) hS (fun q _ hq => hFc q hq) hFc (fun q _ hq => hFc q hq) (fun E_9 ce q_10 u_7 t H_8 locs ht _ w_5 hB _ hk hS hce hcv hcl => ?_) (fun u_7 t H_6 locs ht _ w_5 hB _ hk hS => ?_)
    · replace h := ga_swr w_5 h
      obtain ⟨eE, hP1, hD1⟩ := hB
      rw [ht] at hP1
      obtain ⟨hP, hD⟩ := va_join (wr := [(x, .inr (1, [.ref g, xs, xp, .ref xi, .int xl, xr, xq])), (xi, .inl (cA 2, 80, .inl xI))]) (w1 := []) hP hD [] [0, 1] rfl rfl (by decide) (by decide) hk hFc hP1 hD1
      have hP : va_P D ga_cl [(x, .inr (1, [.ref g, xs, xp, .ref xi, .int xl, xr, xq])), (xi, .inl (cA 2, 80, .inl xI))] H_8 := hP
      have hD : va_D A [(x, .inr (1, [.ref g, xs, xp, .ref xi, .int xl, xr, xq])), (xi, .inl (cA 2, 80, .inl xI))] := hD
      have hP9 := hP.sub (ws' := [(x, .inr (1, [.ref g, xs, xp, .ref xi, .int xl, xr, xq])), (xi, .inl (cA 2, 80, .inl xI))]) [0, 1] rfl
      have hD9 := hD.sub (ws' := [(x, .inr (1, [.ref g, xs, xp, .ref xi, .int xl, xr, xq])), (xi, .inl (cA 2, 80, .inl xI))]) [0, 1] (by decide) rfl
      obtain rfl := Option.some.inj h
      exact vx_out (fun x hx9 => (hX.1 x hx9).elim) hlocks hce hcv hcl (fun t ht _ => ⟨u_7, rfl, ⟨eE, by rw [ht]; exact hP9, hD9⟩, hS.F ht⟩) hS.2.2 (by decide) (by decide)
    · obtain ⟨v_11, ev_11, hv9⟩ := w_5
      replace h := ga_swl ev_11 h
      obtain rfl := hv9
      obtain ⟨hP1, -, hD1⟩ := hB
      rw [ht] at hP1
      obtain ⟨hP, hD⟩ := va_join (wr := [(x, .inr (1, [.ref g, xs, xp, .ref xi, .int xl, xr, xq])), (xi, .inl (cA 2, 80, .inl xI))]) (w1 := []) hP hD [] [0, 1] rfl rfl (by decide) (by decide) hk hFc hP1 hD1
      have hP : va_P D ga_cl [(x, .inr (1, [.ref g, xs, xp, .ref xi, .int xl, xr, xq])), (xi, .inl (cA 2, 80, .inl xI))] H_6 := hP
      have hD : va_D A [(x, .inr (1, [.ref g, xs, xp, .ref xi, .int xl, xr, xq])), (xi, .inl (cA 2, 80, .inl xI))] := hD
      refine W.cs (cells' := 1) (slots' := 6) rfl rfl ?_
      refine lv_aload_n hx hb dX1_feed_17 rfl (lv_at hl 0 rfl) ?_
      refine va_get hx hb hts in_X1 hown hK.1 hP 0 (fs := [.ref g, xs, xp, .ref xi, .int xl, xr, xq]) rfl rfl 3 (by decide) (hts _ q354) (fun _ hh => hh) (v := .ref xi) rfl dX1_feed_18 ?_
      refine lv_aload_n hx hb dX1_feed_21 rfl (lv_at hl 0 rfl) ?_
      refine va_get hx hb hts in_X1 hown hK.1 hP 0 (fs := [.ref g, xs, xp, .ref xi, .int xl, xr, xq]) rfl rfl 4 (by decide) (hts _ q356) (fun _ hh => hh) (v := .int xl) rfl dX1_feed_22 ?_
      refine lv_iload_n hx hb dX1_feed_25 rfl (lv_at hl 1 rfl) ?_
      obtain ⟨i_13, h⟩ := ga_gif h
      refine va_cast hx hb hK.1 hP hD hS 1 2 (f := xI) rfl rfl (ga_in i_13) dX1_feed_26 (fun H_14 locs hP hD hS => ?_)
      have hP : va_P D ga_cl [(x, .inr (1, [.ref g, xs, xp, .ref xi, .int xl, xr, xq])), (xi, .inl (cA 2, 80, .inl (upd xI (ix xl) (vp_nar .char x1))))] H_14 := hP
      have hD : va_D A [(x, .inr (1, [.ref g, xs, xp, .ref xi, .int xl, xr, xq])), (xi, .inl (cA 2, 80, .inl (upd xI (ix xl) (vp_nar .char x1))))] := hD
      refine lv_aload_n hx hb dX1_feed_27 rfl (lv_at hl 0 rfl) ?_
      refine lv_dup hx hb dX1_feed_28 rfl ?_
      refine va_get hx hb hts in_X1 hown hK.1 hP 0 (fs := [.ref g, xs, xp, .ref xi, .int xl, xr, xq]) rfl rfl 4 (by decide) (hts _ q356) (fun _ hh => hh) (v := .int xl) rfl dX1_feed_29 ?_
      refine lv_iconst (v := 1) hx hb dX1_feed_32 (by decide) ?_
      refine lv_iadd hx hb dX1_feed_33 ?_
      refine va_put hx hb hts in_X1 tyX1 tyX1_ok nmX1 hown hK.1 hP hD hS 0 (fs := [.ref g, xs, xp, .ref xi, .int xl, xr, xq]) rfl rfl 4 (by decide) (hts _ q356) (fun _ hh => hh) rfl (v := .int (xl + 1)) rfl rfl rfl (show 4 < 7 by decide) dX1_feed_34 (fun H_15 locs hP hD hS => ?_)
      have hP : va_P D ga_cl [(x, .inr (1, [.ref g, xs, xp, .ref xi, .int (xl + 1), xr, xq])), (xi, .inl (cA 2, 80, .inl (upd xI (ix xl) (vp_nar .char x1))))] H_15 := hP
      have hD : va_D A [(x, .inr (1, [.ref g, xs, xp, .ref xi, .int (xl + 1), xr, xq])), (xi, .inl (cA 2, 80, .inl (upd xI (ix xl) (vp_nar .char x1))))] := hD
      refine lv_aload_n hx hb dX1_feed_37 rfl (lv_at hl 0 rfl) ?_
      refine va_get hx hb hts in_X1 hown hK.1 hP 0 (fs := [.ref g, xs, xp, .ref xi, .int (xl + 1), xr, xq]) rfl rfl 4 (by decide) (hts _ q356) (fun _ hh => hh) (v := .int (xl + 1)) rfl dX1_feed_38 ?_
      have hP9 := hP.sub (ws' := [(x, .inr (1, [.ref g, xs, xp, .ref xi, .int (xl + 1), xr, xq])), (xi, .inl (cA 2, 80, .inl (upd xI (ix xl) (vp_nar .char x1))))]) [0, 1] rfl
      have hD9 := hD.sub (ws' := [(x, .inr (1, [.ref g, xs, xp, .ref xi, .int (xl + 1), xr, xq])), (xi, .inl (cA 2, 80, .inl (upd xI (ix xl) (vp_nar .char x1))))]) [0, 1] (by decide) rfl
      obtain rfl := Option.some.inj h
      refine vx_ret ?_
      exact W.iret hx hb hr (fun t ht hW => ⟨⟨_, ((xl + 1), (upd xI (ix xl) (vp_nar .char x1))), rfl, ⟨_, rfl, rfl, rfl⟩, ⟨by rw [ht]; exact hP9, hK.warm hW, hD9⟩⟩, hS.F ht⟩) hS.2.2 dX1_feed_41
  · replace h := ga_iff c_1 h
    refine lv_iconst (v := 1) hx hb dX1_feed_9 (by decide) ?_
    refine lv_goto (tgt := 14) hx hb dX1_feed_10 (by decide) ?_
    obtain ⟨r_17, e_18, h⟩ := ga_gb h
    have hFc := va_free (wc := []) hD hS hA [] rfl
    refine vx_callv (vx_runS (As := [.int 1]) (rest := []) ⟨hx, hb, hml, hown, hts⟩ (met_X1_checkState l D cA (va_A [] s.heap.size) zs N 1 hX.2 r_17 e_18) (va_cwS 1 hts (lw_S q665 q666 q67 q667) rfl rfl rfl (by decide +kernel) ⟨Nat.le_of_ble_eq_true rfl, Nat.le_of_ble_eq_true rfl⟩) (ga_XS hK ga_P0 (hD.sub (ws' := []) [] (by decide) rfl).self (fun _ hq => Or.inr hq) (hST.at hS hFc)) rfl rfl hl.1 rfl (lv_room (Nat.le_of_ble_eq_true rfl)) dX1_feed_14 ⟨Nat.le_of_ble_eq_true rfl, Nat.le_of_ble_eq_true rfl⟩) hS (fun q _ hq => hFc q hq) hFc (fun q _ hq => hFc q hq) (fun E_24 ce q_25 u_22 t H_23 locs ht _ w_20 hB _ hk hS hce hcv hcl => ?_) (fun u_22 t H_21 locs ht _ w_20 hB _ hk hS => ?_)
    · replace h := ga_swr w_20 h
      obtain ⟨eE, hP1, hD1⟩ := hB
      rw [ht] at hP1
      obtain ⟨hP, hD⟩ := va_join (wr := [(x, .inr (1, [.ref g, xs, xp, .ref xi, .int xl, xr, xq])), (xi, .inl (cA 2, 80, .inl xI))]) (w1 := []) hP hD [] [0, 1] rfl rfl (by decide) (by decide) hk hFc hP1 hD1
      have hP : va_P D ga_cl [(x, .inr (1, [.ref g, xs, xp, .ref xi, .int xl, xr, xq])), (xi, .inl (cA 2, 80, .inl xI))] H_23 := hP
      have hD : va_D A [(x, .inr (1, [.ref g, xs, xp, .ref xi, .int xl, xr, xq])), (xi, .inl (cA 2, 80, .inl xI))] := hD
      have hP9 := hP.sub (ws' := [(x, .inr (1, [.ref g, xs, xp, .ref xi, .int xl, xr, xq])), (xi, .inl (cA 2, 80, .inl xI))]) [0, 1] rfl
      have hD9 := hD.sub (ws' := [(x, .inr (1, [.ref g, xs, xp, .ref xi, .int xl, xr, xq])), (xi, .inl (cA 2, 80, .inl xI))]) [0, 1] (by decide) rfl
      obtain rfl := Option.some.inj h
      exact vx_out (fun x hx9 => (hX.1 x hx9).elim) hlocks hce hcv hcl (fun t ht _ => ⟨u_22, rfl, ⟨eE, by rw [ht]; exact hP9, hD9⟩, hS.F ht⟩) hS.2.2 (by decide) (by decide)
    · obtain ⟨v_26, ev_26, hv9⟩ := w_20
      replace h := ga_swl ev_26 h
      obtain rfl := hv9
      obtain ⟨hP1, -, hD1⟩ := hB
      rw [ht] at hP1
      obtain ⟨hP, hD⟩ := va_join (wr := [(x, .inr (1, [.ref g, xs, xp, .ref xi, .int xl, xr, xq])), (xi, .inl (cA 2, 80, .inl xI))]) (w1 := []) hP hD [] [0, 1] rfl rfl (by decide) (by decide) hk hFc hP1 hD1
      have hP : va_P D ga_cl [(x, .inr (1, [.ref g, xs, xp, .ref xi, .int xl, xr, xq])), (xi, .inl (cA 2, 80, .inl xI))] H_21 := hP
      have hD : va_D A [(x, .inr (1, [.ref g, xs, xp, .ref xi, .int xl, xr, xq])), (xi, .inl (cA 2, 80, .inl xI))] := hD
      refine W.cs (cells' := 1) (slots' := 6) rfl rfl ?_
      refine lv_aload_n hx hb dX1_feed_17 rfl (lv_at hl 0 rfl) ?_
      refine va_get hx hb hts in_X1 hown hK.1 hP 0 (fs := [.ref g, xs, xp, .ref xi, .int xl, xr, xq]) rfl rfl 3 (by decide) (hts _ q354) (fun _ hh => hh) (v := .ref xi) rfl dX1_feed_18 ?_
      refine lv_aload_n hx hb dX1_feed_21 rfl (lv_at hl 0 rfl) ?_
      refine va_get hx hb hts in_X1 hown hK.1 hP 0 (fs := [.ref g, xs, xp, .ref xi, .int xl, xr, xq]) rfl rfl 4 (by decide) (hts _ q356) (fun _ hh => hh) (v := .int xl) rfl dX1_feed_22 ?_
      refine lv_iload_n hx hb dX1_feed_25 rfl (lv_at hl 1 rfl) ?_
      obtain ⟨i_28, h⟩ := ga_gif h
      refine va_cast hx hb hK.1 hP hD hS 1 2 (f := xI) rfl rfl (ga_in i_28) dX1_feed_26 (fun H_29 locs hP hD hS => ?_)
      have hP : va_P D ga_cl [(x, .inr (1, [.ref g, xs, xp, .ref xi, .int xl, xr, xq])), (xi, .inl (cA 2, 80, .inl (upd xI (ix xl) (vp_nar .char x1))))] H_29 := hP
      have hD : va_D A [(x, .inr (1, [.ref g, xs, xp, .ref xi, .int xl, xr, xq])), (xi, .inl (cA 2, 80, .inl (upd xI (ix xl) (vp_nar .char x1))))] := hD
      refine lv_aload_n hx hb dX1_feed_27 rfl (lv_at hl 0 rfl) ?_
      refine lv_dup hx hb dX1_feed_28 rfl ?_
      refine va_get hx hb hts in_X1 hown hK.1 hP 0 (fs := [.ref g, xs, xp, .ref xi, .int xl, xr, xq]) rfl rfl 4 (by decide) (hts _ q356) (fun _ hh => hh) (v := .int xl) rfl dX1_feed_29 ?_
      refine lv_iconst (v := 1) hx hb dX1_feed_32 (by decide) ?_
      refine lv_iadd hx hb dX1_feed_33 ?_
      refine va_put hx hb hts in_X1 tyX1 tyX1_ok nmX1 hown hK.1 hP hD hS 0 (fs := [.ref g, xs, xp, .ref xi, .int xl, xr, xq]) rfl rfl 4 (by decide) (hts _ q356) (fun _ hh => hh) rfl (v := .int (xl + 1)) rfl rfl rfl (show 4 < 7 by decide) dX1_feed_34 (fun H_30 locs hP hD hS => ?_)
      have hP : va_P D ga_cl [(x, .inr (1, [.ref g, xs, xp, .ref xi, .int (xl + 1), xr, xq])), (xi, .inl (cA 2, 80, .inl (upd xI (ix xl) (vp_nar .char x1))))] H_30 := hP
      have hD : va_D A [(x, .inr (1, [.ref g, xs, xp, .ref xi, .int (xl + 1), xr, xq])), (xi, .inl (cA 2, 80, .inl (upd xI (ix xl) (vp_nar .char x1))))] := hD
      refine lv_aload_n hx hb dX1_feed_37 rfl (lv_at hl 0 rfl) ?_
      refine va_get hx hb hts in_X1 hown hK.1 hP 0 (fs := [.ref g, xs, xp, .ref xi, .int (xl + 1), xr, xq]) rfl rfl 4 (by decide) (hts _ q356) (fun _ hh => hh) (v := .int (xl + 1)) rfl dX1_feed_38 ?_
      have hP9 := hP.sub (ws' := [(x, .inr (1, [.ref g, xs, xp, .ref xi, .int (xl + 1), xr, xq])), (xi, .inl (cA 2, 80, .inl (upd xI (ix xl) (vp_nar .char x1))))]) [0, 1] rfl
      have hD9 := hD.sub (ws' := [(x, .inr (1, [.ref g, xs, xp, .ref xi, .int (xl + 1), xr, xq])), (xi, .inl (cA 2, 80, .inl (upd xI (ix xl) (vp_nar .char x1))))]) [0, 1] (by decide) rfl
      obtain rfl := Option.some.inj h
      refine vx_ret ?_
      exact W.iret hx hb hr (fun t ht hW => ⟨⟨_, ((xl + 1), (upd xI (ix xl) (vp_nar .char x1))), rfl, ⟨_, rfl, rfl, rfl⟩, ⟨by rw [ht]; exact hP9, hK.warm hW, hD9⟩⟩, hS.F ht⟩) hS.2.2 dX1_feed_41
abbrev rm_X1_regions : Room := { frames := 6, cells := 0, slots := 0, locals := 116 }
def lp_X1_regions_25 (N : Nat) (xl : Int32) (gr : Int32) (lm : Int32) (lz : Int32) (ln : Nat) (r1 : Int32) (r2 : Int32) (rN : Int32) (rbB : Int64) (rbS : Nat → Int64) (rbA : Nat → Int64) (zw : Int32) (zh : Int32) (zA : Int64) (zL : Int64) (zR : Int64) (zE : Int64) (x1 : Int32) (x2 : Int32) : Nat → (Int64) → (Int32) → (Int32) → Option (Int32)
  | 0, _, _, _ => none
  | n+1, x3, x5, x6 =>
    (if (lg_cmp x3 0) = 0 then
    (if x2 = 0 then
    some x5
    else
    some x6)
    else
    ((F_J13_numberOfTrailingZeros N x3).bind fun r_12 =>
    ((F_X4_connected N zw zh zA zL zR zE r_12 x3).bind fun r_17 =>
    lp_X1_regions_25 N xl gr lm lz ln r1 r2 rN rbB rbS rbA zw zh zA zL zR zE x1 x2 n (x3 &&& (r_17 ^^^ (-1))) (x5 + 1) (jimax x6 (V_J13_bitCount r_17)))))
set_option maxHeartbeats 4000000 in
theorem w_X1_regions_25 {p : Program} {l : Launch} {e : Env} {s : State} {m : MethodId} {args : Array Value} {below : List Frame} {meth : Method} {c : Code} {D : va_G} {cA : Nat → ClassId} {x : Nat} {g : Nat} {xs : Value} {xp : Value} {xi : Nat} {xr : Value} {xq : Value} {sh : Nat} {al : Nat} {g_b : Nat} {g_t : Nat} {ed : Nat} {lf : Nat → Option Nat} {r : Nat} {r_b : Nat} {r_w : Nat} {r_s : Nat} {r_r : Nat} {r_v : Nat} {r_b_s : Nat} {r_b_a : Nat} {r_b_c : Nat} {r_b_g : Nat} {N : Nat} {xl : Int32} {gr : Int32} {lm : Int32} {lz : Int32} {ln : Nat} {r1 : Int32} {r2 : Int32} {rN : Int32} {rbB : Int64} {rbS : Nat → Int64} {rbA : Nat → Int64} {zw : Int32} {zh : Int32} {zA : Int64} {zL : Int64} {zR : Int64} {zE : Int64} {x1 : Int32} {x2 : Int32} (hlast : lf (ix (lz - 1)) = some r) (C : ga_cx p m c meth s args RX1 cX1_regions 9 (some .int)) (hK : ga_K D cA s) (hP : va_P D ga_cl [(x, .inr (1, [.ref g, xs, xp, .ref xi, .int xl, xr, xq])), (g, .inr (2, [.ref sh, .ref al, .int gr, .ref g_b, .ref g_t])), (al, .inr (6, [.int lm, .ref ed, .int lz])), (ed, .inl (cA 5, ln, .inr (.inr (.inr (.inr lf))))), (r, .inr (5, [.int r1, .int r2, .ref r_b, .ref r_w, .int rN, .ref r_s, .ref r_r, .ref r_v])), (r_b, .inr (3, [.ref r_b_s, .ref r_b_a, .long rbB, .ref r_b_c, .ref r_b_g])), (r_b_s, .inl (cA 1, 2, .inr (.inl rbS))), (r_b_a, .inl (cA 1, 2, .inr (.inl rbA))), (sh, .inr (4, [.int zw, .int zh, .long zA, .long zL, .long zR, .long zE]))] s.heap) {out : Int32} : ∀ n : Nat, ∀ (x3 : Int64) (x5 : Int32) (x6 : Int32), lp_X1_regions_25 N xl gr lm lz ln r1 r2 rN rbB rbS rbA zw zh zA zL zR zE x1 x2 n x3 x5 x6 = some out → ∀ ls : Array Slot, lv_has ls 9 [(0, .ref x), (2, .int x2), (3, .long x3), (5, .int x5), (6, .int x6)] → W p l e (headSpec (ws_ yX1_regions cX1_regions 9 (some .int)) rm_X1_regions).room s m args below meth c s.heap [] 0 0 (MQ below (vp_Si (fun r => out = r)) args s 0 0 ga_F) (F0 m 25 ls []) := by
  have C0 := C
  obtain ⟨hx, hb, hr, hlocks, hml, hown, hts⟩ := C0
  intro n
  induction n with
  | zero =>
    intro x3 x5 x6 h
    rw [lp_X1_regions_25.eq_1] at h
    cases h
  | succ n ih =>
    intro x3 x5 x6 h ls hl
    rw [lp_X1_regions_25.eq_2] at h
    refine lv_lload_n hx hb dX1_regions_25 rfl (lv_at hl 2 rfl) ?_
    refine lv_lconst (v := 0) hx hb dX1_regions_26 (by decide) ?_
    refine W.lcmp hx hb dX1_regions_27 ?_
    refine lv_if_eq (tgt := 75) hx hb dX1_regions_28 (by decide) (fun c_10 => ?_) (fun c_10 => ?_)
    · replace h := ga_ift c_10 h
      refine lv_iload_n hx hb dX1_regions_75 rfl (lv_at hl 1 rfl) ?_
      refine lv_if_eq (tgt := 84) hx hb dX1_regions_76 (by decide) (fun c_11 => ?_) (fun c_11 => ?_)
      · replace h := ga_ift c_11 h
        refine lv_iload hx hb dX1_regions_84 (lv_at hl 3 rfl) ?_
        obtain rfl := Option.some.inj h
        exact W.iret hx hb hr (fun t ht hW => ⟨_, rfl, rfl, ht⟩) (fun _ hq => by cases hq) dX1_regions_86
      · replace h := ga_iff c_11 h
        refine lv_iload hx hb dX1_regions_79 (lv_at hl 4 rfl) ?_
        refine lv_goto (tgt := 86) hx hb dX1_regions_81 (by decide) ?_
        obtain rfl := Option.some.inj h
        exact W.iret hx hb hr (fun t ht hW => ⟨_, rfl, rfl, ht⟩) (fun _ hq => by cases hq) dX1_regions_86
    · replace h := ga_iff c_10 h
      refine lv_aload_n hx hb dX1_regions_31 rfl (lv_at hl 0 rfl) ?_
      refine va_get hx hb hts in_X1 hown hK.1 hP 0 (fs := [.ref g, xs, xp, .ref xi, .int xl, xr, xq]) rfl rfl 0 (by decide) (hts _ q350) (fun _ hh => hh) (v := .ref g) rfl dX1_regions_32 ?_
      refine va_getN hx hb hts in_X2 hown hK.1 hP 1 (fs := [.ref sh, .ref al, .int gr, .ref g_b, .ref g_t]) rfl rfl 0 (by decide) (ga_nu hK q329 rfl) (fun _ hh => hh) (v := .ref sh) rfl dX1_regions_35 ?_
      refine lv_lload_n hx hb dX1_regions_38 rfl (lv_at hl 2 rfl) ?_
      obtain ⟨r_12, e_13, h⟩ := ga_gb h
      refine vp_callSi (va_Run.run (va_runS (As := [.long x3]) (rest := [.ref sh]) ⟨hx, hb, hml, hown, hts⟩ (met_J13_numberOfTrailingZeros l D cA N x3 r_12 e_13) (va_cwS 1 hts (lw_S q945 q946 q87 q947) rfl rfl rfl (by decide +kernel) ⟨Nat.le_of_ble_eq_true rfl, Nat.le_of_ble_eq_true rfl⟩) (ga_PS hK ga_P0) rfl rfl hl.1 rfl (lv_room (Nat.le_of_ble_eq_true rfl)) dX1_regions_39 ⟨Nat.le_of_ble_eq_true rfl, Nat.le_of_ble_eq_true rfl⟩)) (fun z_14 w_15 => ?_)
      obtain rfl := w_15
      refine lv_lload_n hx hb dX1_regions_42 rfl (lv_at hl 2 rfl) ?_
      obtain ⟨r_17, e_18, h⟩ := ga_gb h
      refine vp_callSl (va_Run.run (va_runV (As := [.int r_12, .long x3]) (rest := []) ⟨hx, hb, hml, hown, hts⟩ (met_X4_connected l D cA sh zw zh zA zL zR zE N r_12 x3 r_17 e_18) (cwV 2 hts (lw_V q952 q843 q844 q73 q845) rfl rfl rfl (by decide +kernel) ⟨Nat.le_of_ble_eq_true rfl, Nat.le_of_ble_eq_true rfl⟩) (ga_PV hK (hP.sub (ws' := [(sh, .inr (4, [.int zw, .int zh, .long zA, .long zL, .long zR, .long zE]))]) [8] rfl) (va_recv hK.1 hP (ci := 4) (q0 := 8) rfl rfl)) rfl rfl hl.1 rfl (lv_room (Nat.le_of_ble_eq_true rfl)) dX1_regions_43 ⟨Nat.le_of_ble_eq_true rfl, Nat.le_of_ble_eq_true rfl⟩)) (fun z_19 w_20 => ?_)
      obtain rfl := w_20
      refine lv_lstore (lv' := [(7, .long r_17), (0, .ref x), (2, .int x2), (3, .long x3), (5, .int x5), (6, .int x6)]) hx hb dX1_regions_46 hl (by decide) rfl (fun ls hl => ?_)
      refine lv_lload_n hx hb dX1_regions_48 rfl (lv_at hl 3 rfl) ?_
      refine lv_lload hx hb dX1_regions_49 (lv_at hl 0 rfl) ?_
      refine lv_ldc2 hx hb hown (hts _ q953) dX1_regions_51 ?_
      refine lv_lxor hx hb dX1_regions_54 ?_
      refine lv_land hx hb dX1_regions_55 ?_
      refine lv_lstore_n (lv' := [(3, .long (x3 &&& (r_17 ^^^ (-1)))), (7, .long r_17), (0, .ref x), (2, .int x2), (5, .int x5), (6, .int x6)]) hx hb dX1_regions_56 rfl hl (by decide) rfl (fun ls hl => ?_)
      refine lv_iinc (v := (x5 + 1)) (lv' := [(5, .int (x5 + 1)), (3, .long (x3 &&& (r_17 ^^^ (-1)))), (7, .long r_17), (0, .ref x), (2, .int x2), (6, .int x6)]) hx hb dX1_regions_57 hl (k := 4) rfl rfl (by decide) rfl (fun ls hl => ?_)
      refine lv_iload hx hb dX1_regions_60 (lv_at hl 5 rfl) ?_
      refine lv_lload hx hb dX1_regions_62 (lv_at hl 2 rfl) ?_
      refine vp_callSi (va_Run.run (va_runS (As := [.long r_17]) (rest := [.int x6]) ⟨hx, hb, hml, hown, hts⟩ (met_X1_size l D cA N r_17 (V_J13_bitCount r_17) rfl) (va_cwS 1 hts (lw_S q567 q568 q67 q569) rfl rfl rfl (by decide +kernel) ⟨Nat.le_of_ble_eq_true rfl, Nat.le_of_ble_eq_true rfl⟩) (ga_PS hK ga_P0) rfl rfl hl.1 rfl (lv_room (Nat.le_of_ble_eq_true rfl)) dX1_regions_64 ⟨Nat.le_of_ble_eq_true rfl, Nat.le_of_ble_eq_true rfl⟩)) (fun z_24 w_25 => ?_)
      obtain rfl := w_25
      refine ga_mmax hx hb (hml.trans hl.1.symm) hown (hts _ q954) (hts _ q278) (hts _ q76) (hts _ q279) (Nat.le_of_ble_eq_true rfl) (Nat.le_of_ble_eq_true rfl) (Nat.le_of_ble_eq_true rfl) (Nat.le_of_ble_eq_true rfl) dX1_regions_67 ?_
      refine lv_istore (lv' := [(6, .int (jimax x6 (V_J13_bitCount r_17))), (5, .int (x5 + 1)), (3, .long (x3 &&& (r_17 ^^^ (-1)))), (7, .long r_17), (0, .ref x), (2, .int x2)]) hx hb dX1_regions_70 hl (by decide) rfl (fun ls hl => ?_)
      refine lv_goto (tgt := 25) hx hb dX1_regions_72 (by decide) ?_
      exact ih (x3 &&& (r_17 ^^^ (-1))) (x5 + 1) (jimax x6 (V_J13_bitCount r_17)) h _ (lv_sub hl [4, 5, 2, 1, 0] rfl)
def F_X1_regions (N : Nat) (xl : Int32) (gr : Int32) (lm : Int32) (lz : Int32) (ln : Nat) (r1 : Int32) (r2 : Int32) (rN : Int32) (rbB : Int64) (rbS : Nat → Int64) (rbA : Nat → Int64) (zw : Int32) (zh : Int32) (zA : Int64) (zL : Int64) (zR : Int64) (zE : Int64) (x1 : Int32) (x2 : Int32) : Option (Int32) :=
  ((F_X2_board N gr lm lz ln r1 r2 rN).bind fun r_1 =>
  ((F_X3_open N rbB rbS rbA zw zh zA zL zR zE x1).bind fun r_5 =>
  lp_X1_regions_25 N xl gr lm lz ln r1 r2 rN rbB rbS rbA zw zh zA zL zR zE x1 x2 N r_5 0 0))
set_option maxHeartbeats 4000000 in
theorem met_X1_regions (l : Launch) (D : va_G) (cA : Nat → ClassId) (x : Nat) (g : Nat) (xs : Value) (xp : Value) (xi : Nat) (xr : Value) (xq : Value) (sh : Nat) (al : Nat) (g_b : Nat) (g_t : Nat) (ed : Nat) (lf : Nat → Option Nat) (r : Nat) (r_b : Nat) (r_w : Nat) (r_s : Nat) (r_r : Nat) (r_v : Nat) (r_b_s : Nat) (r_b_a : Nat) (r_b_c : Nat) (r_b_g : Nat) (xl : Int32) (gr : Int32) (lm : Int32) (lz : Int32) (ln : Nat) (r1 : Int32) (r2 : Int32) (rN : Int32) (rbB : Int64) (rbS : Nat → Int64) (rbA : Nat → Int64) (zw : Int32) (zh : Int32) (zA : Int64) (zL : Int64) (zR : Int64) (zE : Int64) (N : Nat) (x1 : Int32) (x2 : Int32) (hlast : lf (ix (lz - 1)) = some r) (out : Int32) (h : F_X1_regions N xl gr lm lz ln r1 r2 rN rbB rbS rbA zw zh zA zL zR zE x1 x2 = some out) : Met l yX1_regions (ws_ yX1_regions cX1_regions 9 (some .int)) rm_X1_regions (ga_P D cA [(x, .inr (1, [.ref g, xs, xp, .ref xi, .int xl, xr, xq])), (g, .inr (2, [.ref sh, .ref al, .int gr, .ref g_b, .ref g_t])), (al, .inr (6, [.int lm, .ref ed, .int lz])), (ed, .inl (cA 5, ln, .inr (.inr (.inr (.inr lf))))), (r, .inr (5, [.int r1, .int r2, .ref r_b, .ref r_w, .int rN, .ref r_s, .ref r_r, .ref r_v])), (r_b, .inr (3, [.ref r_b_s, .ref r_b_a, .long rbB, .ref r_b_c, .ref r_b_g])), (r_b_s, .inl (cA 1, 2, .inr (.inl rbS))), (r_b_a, .inl (cA 1, 2, .inr (.inl rbA))), (sh, .inr (4, [.int zw, .int zh, .long zA, .long zL, .long zR, .long zE]))] [.ref x, .int x1, .int x2]) (vp_Si (fun r => out = r)) 0 0 ga_F := by
  refine Met.ofW (cc := cX1_regions) (maxL := 9) (ret := (some .int)) (by decide) rfl ?_
  intro p e s m args below meth c s₁ B hml hv
  obtain ⟨rfl, hP, hK⟩ := hv
  have C : ga_cx p m c meth s _ RX1 cX1_regions 9 (some .int) := ga_cx_of B hml
  have C0 := C
  obtain ⟨hx, hb, hr, hlocks, hml, hown, hts⟩ := C0
  have hl := lv_entry ([.ref x, .int x1, .int x2]) (n := 9) (Nat.le_of_ble_eq_true rfl)
  rw [lg_entry_eq]
  generalize (lg_sl ([.ref x, .int x1, .int x2]) ++ List.replicate (9 - (lg_sl ([.ref x, .int x1, .int x2])).length) Slot.unset).toArray = ls at hl ⊢
  have hl : lv_has ls 9 [(0, .ref x), (1, .int x1), (2, .int x2)] := hl
  rw [F_X1_regions] at h
  refine lv_aload_n hx hb dX1_regions_0 rfl (lv_at hl 0 rfl) ?_
  refine va_get hx hb hts in_X1 hown hK.1 hP 0 (fs := [.ref g, xs, xp, .ref xi, .int xl, xr, xq]) rfl rfl 0 (by decide) (hts _ q350) (fun _ hh => hh) (v := .ref g) rfl dX1_regions_1 ?_
  obtain ⟨r_1, e_2, h⟩ := ga_gb h
  refine va_csr (va_Run.run (va_runV (As := []) (rest := []) ⟨hx, hb, hml, hown, hts⟩ (met_X2_board l D cA g sh al g_b g_t ed lf r r_b r_w r_s r_r r_v gr lm lz ln r1 r2 rN N hlast r_1 e_2) (cwV 0 hts (lw_V q565 q385 q386 q68 q387) rfl rfl rfl (by decide +kernel) ⟨Nat.le_of_ble_eq_true rfl, Nat.le_of_ble_eq_true rfl⟩) (ga_PV hK (hP.sub (ws' := [(g, .inr (2, [.ref sh, .ref al, .int gr, .ref g_b, .ref g_t])), (al, .inr (6, [.int lm, .ref ed, .int lz])), (ed, .inl (cA 5, ln, .inr (.inr (.inr (.inr lf))))), (r, .inr (5, [.int r1, .int r2, .ref r_b, .ref r_w, .int rN, .ref r_s, .ref r_r, .ref r_v]))]) [1, 2, 3, 4] rfl) (va_recv hK.1 hP (ci := 2) (q0 := 1) rfl rfl)) rfl rfl hl.1 rfl (lv_room (Nat.le_of_ble_eq_true rfl)) dX1_regions_4 ⟨Nat.le_of_ble_eq_true rfl, Nat.le_of_ble_eq_true rfl⟩)) (fun _ _ => ?_)
  refine lv_aload_n hx hb dX1_regions_7 rfl (lv_at hl 0 rfl) ?_
  refine va_get hx hb hts in_X1 hown hK.1 hP 0 (fs := [.ref g, xs, xp, .ref xi, .int xl, xr, xq]) rfl rfl 0 (by decide) (hts _ q350) (fun _ hh => hh) (v := .ref g) rfl dX1_regions_8 ?_
  refine va_getN hx hb hts in_X2 hown hK.1 hP 1 (fs := [.ref sh, .ref al, .int gr, .ref g_b, .ref g_t]) rfl rfl 0 (by decide) (ga_nu hK q329 rfl) (fun _ hh => hh) (v := .ref sh) rfl dX1_regions_11 ?_
  refine lv_iload_n hx hb dX1_regions_14 rfl (lv_at hl 1 rfl) ?_
  obtain ⟨r_5, e_6, h⟩ := ga_gb h
  refine vp_callSl (va_Run.run (va_runV (As := [.ref sh, .int x1]) (rest := []) ⟨hx, hb, hml, hown, hts⟩ (met_X3_open l D cA r_b r_b_s r_b_a r_b_c r_b_g sh rbB rbS rbA zw zh zA zL zR zE N x1 r_5 e_6) (cwV 2 hts (lw_V q944 q839 q840 q72 q841) rfl rfl rfl (by decide +kernel) ⟨Nat.le_of_ble_eq_true rfl, Nat.le_of_ble_eq_true rfl⟩) (ga_PV hK (hP.sub (ws' := [(r_b, .inr (3, [.ref r_b_s, .ref r_b_a, .long rbB, .ref r_b_c, .ref r_b_g])), (r_b_s, .inl (cA 1, 2, .inr (.inl rbS))), (r_b_a, .inl (cA 1, 2, .inr (.inl rbA))), (sh, .inr (4, [.int zw, .int zh, .long zA, .long zL, .long zR, .long zE]))]) [5, 6, 7, 8] rfl) (va_recv hK.1 hP (ci := 3) (q0 := 5) rfl rfl)) rfl rfl hl.1 rfl (lv_room (Nat.le_of_ble_eq_true rfl)) dX1_regions_15 ⟨Nat.le_of_ble_eq_true rfl, Nat.le_of_ble_eq_true rfl⟩)) (fun z_7 w_8 => ?_)
  obtain rfl := w_8
  refine lv_lstore_n (lv' := [(3, .long r_5), (0, .ref x), (1, .int x1), (2, .int x2)]) hx hb dX1_regions_18 rfl hl (by decide) rfl (fun ls hl => ?_)
  refine lv_iconst (v := 0) hx hb dX1_regions_19 (by decide) ?_
  refine lv_istore (lv' := [(5, .int 0), (3, .long r_5), (0, .ref x), (1, .int x1), (2, .int x2)]) hx hb dX1_regions_20 hl (by decide) rfl (fun ls hl => ?_)
  refine lv_iconst (v := 0) hx hb dX1_regions_22 (by decide) ?_
  refine lv_istore (lv' := [(6, .int 0), (5, .int 0), (3, .long r_5), (0, .ref x), (1, .int x1), (2, .int x2)]) hx hb dX1_regions_23 hl (by decide) rfl (fun ls hl => ?_)
  exact w_X1_regions_25 hlast C hK hP N r_5 0 0 h _ (lv_sub hl [3, 5, 2, 1, 0] rfl)
