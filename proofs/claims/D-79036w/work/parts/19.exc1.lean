abbrev rm_J6_init_3_Ce : Room := { frames := 1, cells := 0, slots := 0, locals := 12 }
def F_J6_init_3_Ce (N : Nat)   : Option (Unit) :=
  some ()
set_option maxHeartbeats 4000000 in
theorem met_J6_init_3_Ce (l : Launch) (D : va_G) (cA : Nat → ClassId) (A : Nat → Prop) (q : Nat) (zs : Nat → Nat)  (N : Nat)   (out : Unit) (h : F_J6_init_3_Ce N = some out) : Met l yJ6_init_3 (ws_ yJ6_init_3 cJ6_init_3 5 none) rm_J6_init_3_Ce (ga_X D cA zs A [(q, .inr (10, [.int 0, .int 0, .null, .null, .null, .null, .null, .int 0]))] [.ref q, .null, .null, .int 0, .int 0]) (va_Qv (fun (u : Unit) => out = u) (fun (u : Unit) (t : State) => va_P D ga_cl [(q, .inr (10, [.int 0, .int 0, .null, .null, .null, .null, .null, .int 0]))] t.heap ∧ ga_K D cA t ∧ va_D A [(q, .inr (10, [.int 0, .int 0, .null, .null, .null, .null, .null, .int 0]))]) A) 0 0 A := by
  refine Met.ofW (cc := cJ6_init_3) (maxL := 5) (ret := none) (by decide) rfl ?_
  intro p e s m args below meth c s₁ B hml hv
  obtain ⟨rfl, hP, hK, hD, hA, hST⟩ := hv
  have hS : va_S A s.heap s.heap [] := va_S.rf
  have hin : meth.name = "<init>" := (name_of_methodNamed B.named B.method).1
  have C : ga_cx p m c meth s _ RJ6 cJ6_init_3 5 none := ga_cx_of B hml
  have C0 := C
  obtain ⟨hx, hb, hr, hlocks, hml, hown, hts⟩ := C0
  have hl := lv_entry ([.ref q, .null, .null, .int 0, .int 0]) (n := 5) (Nat.le_of_ble_eq_true rfl)
  rw [lg_entry_eq]
  generalize (lg_sl ([.ref q, .null, .null, .int 0, .int 0]) ++ List.replicate (5 - (lg_sl ([.ref q, .null, .null, .int 0, .int 0])).length) Slot.unset).toArray = ls at hl ⊢
  have hl : lv_has ls 5 [(0, .ref q), (1, .null), (2, .null), (3, .int 0), (4, .int 0)] := hl
  rw [F_J6_init_3_Ce] at h
  refine lv_aload_n hx hb dJ6_init_3_0 rfl (lv_at hl 0 rfl) ?_
  refine W.objInit hx hb hown (hts _ q518) (hts _ q113) (hts _ q114) rfl (by rw [hml]; exact hl.1) rfl dJ6_init_3_1 (Nat.le_of_ble_eq_true rfl) (Nat.le_of_ble_eq_true rfl) ?_
  refine W.eq (g2 := F0 m 4 ls []) rfl ?_
  refine lv_aload_n hx hb dJ6_init_3_4 rfl (lv_at hl 0 rfl) ?_
  refine lv_aload_n hx hb dJ6_init_3_5 rfl (lv_at hl 0 rfl) ?_
  refine va_put hx hb hts in_X8 tyX8 tyX8_ok nmX8 hown hK.1 hP hD hS 0 (fs := [.int 0, .int 0, .null, .null, .null, .null, .null, .int 0]) rfl rfl 2 (by decide) (hts _ q554) (fun _ hh => hh) rfl (v := .ref q) rfl rfl rfl (show 2 < 8 by decide) dJ6_init_3_6 (fun H_1 locs hP hD hS => ?_)
  have hP : va_P D ga_cl [(q, .inr (10, [.int 0, .int 0, .ref q, .null, .null, .null, .null, .int 0]))] H_1 := hP
  have hD : va_D A [(q, .inr (10, [.int 0, .int 0, .ref q, .null, .null, .null, .null, .int 0]))] := hD
  refine lv_aload_n hx hb dJ6_init_3_9 rfl (lv_at hl 0 rfl) ?_
  obtain ⟨o_3, f_4⟩ := ga_Zq hST.1.1
  refine va_gets hx hb f_4 hS hown (hts _ q519) (fun _ hh => hh) dJ6_init_3_10 ?_
  refine va_put hx hb hts in_X8 tyX8 tyX8_ok nmX8 hown hK.1 hP hD hS 0 (fs := [.int 0, .int 0, .ref q, .null, .null, .null, .null, .int 0]) rfl rfl 3 (by decide) (hts _ q555) (fun _ hh => hh) rfl (v := va_rf o_3) rfl (by cases o_3 <;> rfl) (by cases o_3 <;> rfl) (show 3 < 8 by decide) dJ6_init_3_13 (fun H_5 locs hP hD hS => ?_)
  have hP : va_P D ga_cl [(q, .inr (10, [.int 0, .int 0, .ref q, va_rf o_3, .null, .null, .null, .int 0]))] H_5 := hP
  have hD : va_D A [(q, .inr (10, [.int 0, .int 0, .ref q, va_rf o_3, .null, .null, .null, .int 0]))] := hD
  refine lv_aload_n hx hb dJ6_init_3_16 rfl (lv_at hl 0 rfl) ?_
  obtain ⟨o_7, f_8⟩ := ga_Zq hST.2.1.1
  refine va_gets hx hb f_8 hS hown (hts _ q521) (fun _ hh => hh) dJ6_init_3_17 ?_
  refine va_put hx hb hts in_X8 tyX8 tyX8_ok nmX8 hown hK.1 hP hD hS 0 (fs := [.int 0, .int 0, .ref q, va_rf o_3, .null, .null, .null, .int 0]) rfl rfl 4 (by decide) (hts _ q556) (fun _ hh => hh) rfl (v := va_rf o_7) rfl (by cases o_7 <;> rfl) (by cases o_7 <;> rfl) (show 4 < 8 by decide) dJ6_init_3_20 (fun H_9 locs hP hD hS => ?_)
  have hP : va_P D ga_cl [(q, .inr (10, [.int 0, .int 0, .ref q, va_rf o_3, va_rf o_7, .null, .null, .int 0]))] H_9 := hP
  have hD : va_D A [(q, .inr (10, [.int 0, .int 0, .ref q, va_rf o_3, va_rf o_7, .null, .null, .int 0]))] := hD
  refine lv_iload hx hb dJ6_init_3_23 (lv_at hl 4 rfl) ?_
  refine lv_if_eq (tgt := 36) hx hb dJ6_init_3_25 (by decide) (fun _ => ?_) (fun c_11 => absurd (by decide) c_11)
  refine lv_aload_n hx hb dJ6_init_3_36 rfl (lv_at hl 0 rfl) ?_
  refine lv_null hx hb dJ6_init_3_37 ?_
  refine va_put hx hb hts in_X8 tyX8 tyX8_ok nmX8 hown hK.1 hP hD hS 0 (fs := [.int 0, .int 0, .ref q, va_rf o_3, va_rf o_7, .null, .null, .int 0]) rfl rfl 3 (by decide) (hts _ q555) (fun _ hh => hh) rfl (v := .null) rfl rfl rfl (show 3 < 8 by decide) dJ6_init_3_38 (fun H_12 locs hP hD hS => ?_)
  have hP : va_P D ga_cl [(q, .inr (10, [.int 0, .int 0, .ref q, .null, va_rf o_7, .null, .null, .int 0]))] H_12 := hP
  have hD : va_D A [(q, .inr (10, [.int 0, .int 0, .ref q, .null, va_rf o_7, .null, .null, .int 0]))] := hD
  refine lv_aload_n hx hb dJ6_init_3_41 rfl (lv_at hl 0 rfl) ?_
  refine lv_aload_nN hx hb dJ6_init_3_42 rfl (lv_at hl 1 rfl) ?_
  refine va_put hx hb hts in_X8 tyX8 tyX8_ok nmX8 hown hK.1 hP hD hS 0 (fs := [.int 0, .int 0, .ref q, .null, va_rf o_7, .null, .null, .int 0]) rfl rfl 5 (by decide) (hts _ q553) (fun _ hh => hh) rfl (v := .null) rfl rfl rfl (show 5 < 8 by decide) dJ6_init_3_43 (fun H_14 locs hP hD hS => ?_)
  have hP : va_P D ga_cl [(q, .inr (10, [.int 0, .int 0, .ref q, .null, va_rf o_7, .null, .null, .int 0]))] H_14 := hP
  have hD : va_D A [(q, .inr (10, [.int 0, .int 0, .ref q, .null, va_rf o_7, .null, .null, .int 0]))] := hD
  refine lv_aload_n hx hb dJ6_init_3_46 rfl (lv_at hl 0 rfl) ?_
  refine lv_aload_nN hx hb dJ6_init_3_47 rfl (lv_at hl 2 rfl) ?_
  refine va_put hx hb hts in_X8 tyX8 tyX8_ok nmX8 hown hK.1 hP hD hS 0 (fs := [.int 0, .int 0, .ref q, .null, va_rf o_7, .null, .null, .int 0]) rfl rfl 2 (by decide) (hts _ q554) (fun _ hh => hh) rfl (v := .null) rfl rfl rfl (show 2 < 8 by decide) dJ6_init_3_48 (fun H_16 locs hP hD hS => ?_)
  have hP : va_P D ga_cl [(q, .inr (10, [.int 0, .int 0, .null, .null, va_rf o_7, .null, .null, .int 0]))] H_16 := hP
  have hD : va_D A [(q, .inr (10, [.int 0, .int 0, .null, .null, va_rf o_7, .null, .null, .int 0]))] := hD
  refine lv_iload_n hx hb dJ6_init_3_51 rfl (lv_at hl 3 rfl) ?_
  refine lv_if_ne (tgt := 60) hx hb dJ6_init_3_52 (by decide) (fun c_18 => absurd (by decide) c_18) (fun _ => ?_)
  refine lv_aload_n hx hb dJ6_init_3_55 rfl (lv_at hl 0 rfl) ?_
  refine lv_null hx hb dJ6_init_3_56 ?_
  refine va_put hx hb hts in_X8 tyX8 tyX8_ok nmX8 hown hK.1 hP hD hS 0 (fs := [.int 0, .int 0, .null, .null, va_rf o_7, .null, .null, .int 0]) rfl rfl 4 (by decide) (hts _ q556) (fun _ hh => hh) rfl (v := .null) rfl rfl rfl (show 4 < 8 by decide) dJ6_init_3_57 (fun H_19 locs hP hD hS => ?_)
  have hP : va_P D ga_cl [(q, .inr (10, [.int 0, .int 0, .null, .null, .null, .null, .null, .int 0]))] H_19 := hP
  have hD : va_D A [(q, .inr (10, [.int 0, .int 0, .null, .null, .null, .null, .null, .int 0]))] := hD
  have hP9 := hP.sub (ws' := [(q, .inr (10, [.int 0, .int 0, .null, .null, .null, .null, .null, .int 0]))]) [0] rfl
  have hD9 := hD.sub (ws' := [(q, .inr (10, [.int 0, .int 0, .null, .null, .null, .null, .null, .int 0]))]) [0] (by decide) rfl
  obtain rfl := Option.some.inj h
  exact W.vret hx hb hr (fun t ht hW => ⟨⟨(), rfl, rfl, ⟨by rw [ht]; exact hP9, hK.warm hW, hD9⟩⟩, hS.F ht⟩) hS.2.2 dJ6_init_3_60
abbrev rm_J7_init_3_Ce : Room := { frames := 2, cells := 0, slots := 0, locals := 36 }
def F_J7_init_3_Ce (N : Nat)   : Option (Unit) :=
  ((F_J6_init_3_Ce N).bind fun r_1 =>
  some ())
set_option maxHeartbeats 4000000 in
theorem met_J7_init_3_Ce (l : Launch) (D : va_G) (cA : Nat → ClassId) (A : Nat → Prop) (q : Nat) (zs : Nat → Nat)  (N : Nat)   (out : Unit) (h : F_J7_init_3_Ce N = some out) : Met l yJ7_init_3 (ws_ yJ7_init_3 cJ7_init_3 5 none) rm_J7_init_3_Ce (ga_X D cA zs A [(q, .inr (10, [.int 0, .int 0, .null, .null, .null, .null, .null, .int 0]))] [.ref q, .null, .null, .int 0, .int 0]) (va_Qv (fun (u : Unit) => out = u) (fun (u : Unit) (t : State) => va_P D ga_cl [(q, .inr (10, [.int 0, .int 0, .null, .null, .null, .null, .null, .int 0]))] t.heap ∧ ga_K D cA t ∧ va_D A [(q, .inr (10, [.int 0, .int 0, .null, .null, .null, .null, .null, .int 0]))]) A) 0 0 A := by
  refine Met.ofW (cc := cJ7_init_3) (maxL := 5) (ret := none) (by decide) rfl ?_
  intro p e s m args below meth c s₁ B hml hv
  obtain ⟨rfl, hP, hK, hD, hA, hST⟩ := hv
  have hS : va_S A s.heap s.heap [] := va_S.rf
  have hin : meth.name = "<init>" := (name_of_methodNamed B.named B.method).1
  have C : ga_cx p m c meth s _ RJ7 cJ7_init_3 5 none := ga_cx_of B hml
  have C0 := C
  obtain ⟨hx, hb, hr, hlocks, hml, hown, hts⟩ := C0
  have hl := lv_entry ([.ref q, .null, .null, .int 0, .int 0]) (n := 5) (Nat.le_of_ble_eq_true rfl)
  rw [lg_entry_eq]
  generalize (lg_sl ([.ref q, .null, .null, .int 0, .int 0]) ++ List.replicate (5 - (lg_sl ([.ref q, .null, .null, .int 0, .int 0])).length) Slot.unset).toArray = ls at hl ⊢
  have hl : lv_has ls 5 [(0, .ref q), (1, .null), (2, .null), (3, .int 0), (4, .int 0)] := hl
  rw [F_J7_init_3_Ce] at h
  refine lv_aload_n hx hb dJ7_init_3_0 rfl (lv_at hl 0 rfl) ?_
  refine lv_aload_nN hx hb dJ7_init_3_1 rfl (lv_at hl 1 rfl) ?_
  refine lv_aload_nN hx hb dJ7_init_3_2 rfl (lv_at hl 2 rfl) ?_
  refine lv_iload_n hx hb dJ7_init_3_3 rfl (lv_at hl 3 rfl) ?_
  refine lv_iload hx hb dJ7_init_3_4 (lv_at hl 4 rfl) ?_
  obtain ⟨r_1, e_2, h⟩ := ga_gb h
  have hFc := va_free (wc := [(q, .inr (10, [.int 0, .int 0, .null, .null, .null, .null, .null, .int 0]))]) hD hS hA [0] rfl
  refine va_callv (va_runI (As := [.null, .null, .int 0, .int 0]) (rest := []) ⟨hx, hb, hml, hown, hts⟩ (met_J6_init_3_Ce l D cA (va_A [(q, .inr (10, [.int 0, .int 0, .null, .null, .null, .null, .null, .int 0]))] s.heap.size) q zs N r_1 e_2) (cwI 4 hts (lw_meth q728) rfl rfl rfl (hts _ q80) (hts _ q726) (hts _ q727) rfl (by decide +kernel) ⟨Nat.le_of_ble_eq_true rfl, Nat.le_of_ble_eq_true rfl⟩) (ga_XS hK (hP.sub (ws' := [(q, .inr (10, [.int 0, .int 0, .null, .null, .null, .null, .null, .int 0]))]) [0] rfl) (hD.sub (ws' := [(q, .inr (10, [.int 0, .int 0, .null, .null, .null, .null, .null, .int 0]))]) [0] (by decide) rfl).self (fun _ hq => Or.inr hq) (hST.at hS hFc)) rfl rfl hl.1 rfl (lv_room (Nat.le_of_ble_eq_true rfl)) dJ7_init_3_6 ⟨Nat.le_of_ble_eq_true rfl, Nat.le_of_ble_eq_true rfl⟩) hS (fun q _ hq => hFc q hq) hFc (fun u_6 t H_5 locs ht _ w_4 hB _ hk hS => ?_)
  obtain ⟨hP1, -, hD1⟩ := hB
  obtain rfl := w_4
  rw [ht] at hP1
  obtain ⟨hP, hD⟩ := va_join (wr := []) (w1 := [(q, .inr (10, [.int 0, .int 0, .null, .null, .null, .null, .null, .int 0]))]) hP hD [0] [] rfl rfl (by decide) (by decide) hk hFc hP1 hD1
  have hP : va_P D ga_cl [(q, .inr (10, [.int 0, .int 0, .null, .null, .null, .null, .null, .int 0]))] H_5 := hP
  have hD : va_D A [(q, .inr (10, [.int 0, .int 0, .null, .null, .null, .null, .null, .int 0]))] := hD
  have hP9 := hP.sub (ws' := [(q, .inr (10, [.int 0, .int 0, .null, .null, .null, .null, .null, .int 0]))]) [0] rfl
  have hD9 := hD.sub (ws' := [(q, .inr (10, [.int 0, .int 0, .null, .null, .null, .null, .null, .int 0]))]) [0] (by decide) rfl
  obtain rfl := Option.some.inj h
  exact W.vret hx hb hr (fun t ht hW => ⟨⟨(), rfl, rfl, ⟨by rw [ht]; exact hP9, hK.warm hW, hD9⟩⟩, hS.F ht⟩) hS.2.2 dJ7_init_3_9
abbrev rm_X7_init_Ce : Room := { frames := 3, cells := 0, slots := 0, locals := 60 }
def F_X7_init_Ce (N : Nat)  (x1 : Int32) (x2 : Int32) : Option (Int32 × Int32) :=
  ((F_J7_init_3_Ce N).bind fun r_1 =>
  some (x1, x2))
set_option maxHeartbeats 4000000 in
theorem met_X7_init_Ce (l : Launch) (D : va_G) (cA : Nat → ClassId) (A : Nat → Prop) (q : Nat) (zs : Nat → Nat)  (N : Nat) (x1 : Int32) (x2 : Int32)  (out : Int32 × Int32) (h : F_X7_init_Ce N x1 x2 = some out) : Met l yX7_init (ws_ yX7_init cX7_init 4 none) rm_X7_init_Ce (ga_X D cA zs A [(q, .inr (10, [.int 0, .int 0, .null, .null, .null, .null, .null, .int 0]))] [.ref q, .int x1, .int x2, .null]) (va_Qv (fun (u : Int32 × Int32) => out = u) (fun (u : Int32 × Int32) (t : State) => va_P D ga_cl [(q, .inr (10, [.int u.1, .int u.2, .null, .null, .null, .null, .null, .int 0]))] t.heap ∧ ga_K D cA t ∧ va_D A [(q, .inr (10, [.int u.1, .int u.2, .null, .null, .null, .null, .null, .int 0]))]) A) 0 0 A := by
  refine Met.ofW (cc := cX7_init) (maxL := 4) (ret := none) (by decide) rfl ?_
  intro p e s m args below meth c s₁ B hml hv
  obtain ⟨rfl, hP, hK, hD, hA, hST⟩ := hv
  have hS : va_S A s.heap s.heap [] := va_S.rf
  have hin : meth.name = "<init>" := (name_of_methodNamed B.named B.method).1
  have C : ga_cx p m c meth s _ RX7 cX7_init 4 none := ga_cx_of B hml
  have C0 := C
  obtain ⟨hx, hb, hr, hlocks, hml, hown, hts⟩ := C0
  have hl := lv_entry ([.ref q, .int x1, .int x2, .null]) (n := 4) (Nat.le_of_ble_eq_true rfl)
  rw [lg_entry_eq]
  generalize (lg_sl ([.ref q, .int x1, .int x2, .null]) ++ List.replicate (4 - (lg_sl ([.ref q, .int x1, .int x2, .null])).length) Slot.unset).toArray = ls at hl ⊢
  have hl : lv_has ls 4 [(0, .ref q), (1, .int x1), (2, .int x2), (3, .null)] := hl
  rw [F_X7_init_Ce] at h
  refine lv_aload_n hx hb dX7_init_0 rfl (lv_at hl 0 rfl) ?_
  refine lv_null hx hb dX7_init_1 ?_
  refine lv_aload_nN hx hb dX7_init_2 rfl (lv_at hl 3 rfl) ?_
  refine lv_iconst (v := 0) hx hb dX7_init_3 (by decide) ?_
  refine lv_iconst (v := 0) hx hb dX7_init_4 (by decide) ?_
  obtain ⟨r_1, e_2, h⟩ := ga_gb h
  have hFc := va_free (wc := [(q, .inr (10, [.int 0, .int 0, .null, .null, .null, .null, .null, .int 0]))]) hD hS hA [0] rfl
  refine va_callv (va_runI (As := [.null, .null, .int 0, .int 0]) (rest := []) ⟨hx, hb, hml, hown, hts⟩ (met_J7_init_3_Ce l D cA (va_A [(q, .inr (10, [.int 0, .int 0, .null, .null, .null, .null, .null, .int 0]))] s.heap.size) q zs N r_1 e_2) (cwI 4 hts (lw_meth q725) rfl rfl rfl (hts _ q81) (hts _ q723) (hts _ q724) rfl (by decide +kernel) ⟨Nat.le_of_ble_eq_true rfl, Nat.le_of_ble_eq_true rfl⟩) (ga_XS hK (hP.sub (ws' := [(q, .inr (10, [.int 0, .int 0, .null, .null, .null, .null, .null, .int 0]))]) [0] rfl) (hD.sub (ws' := [(q, .inr (10, [.int 0, .int 0, .null, .null, .null, .null, .null, .int 0]))]) [0] (by decide) rfl).self (fun _ hq => Or.inr hq) (hST.at hS hFc)) rfl rfl hl.1 rfl (lv_room (Nat.le_of_ble_eq_true rfl)) dX7_init_5 ⟨Nat.le_of_ble_eq_true rfl, Nat.le_of_ble_eq_true rfl⟩) hS (fun q _ hq => hFc q hq) hFc (fun u_6 t H_5 locs ht _ w_4 hB _ hk hS => ?_)
  obtain ⟨hP1, -, hD1⟩ := hB
  obtain rfl := w_4
  rw [ht] at hP1
  obtain ⟨hP, hD⟩ := va_join (wr := []) (w1 := [(q, .inr (10, [.int 0, .int 0, .null, .null, .null, .null, .null, .int 0]))]) hP hD [0] [] rfl rfl (by decide) (by decide) hk hFc hP1 hD1
  have hP : va_P D ga_cl [(q, .inr (10, [.int 0, .int 0, .null, .null, .null, .null, .null, .int 0]))] H_5 := hP
  have hD : va_D A [(q, .inr (10, [.int 0, .int 0, .null, .null, .null, .null, .null, .int 0]))] := hD
  refine lv_aload_n hx hb dX7_init_8 rfl (lv_at hl 0 rfl) ?_
  refine lv_iload_n hx hb dX7_init_9 rfl (lv_at hl 1 rfl) ?_
  refine va_putF hx hb hts in_X8 tyX8 tyX8_ok nmX8 hown hK.1 hP hD hS 0 (fs := [.int 0, .int 0, .null, .null, .null, .null, .null, .int 0]) rfl rfl 0 (by decide) (hts _ q729) (fun _ hh => hh) rfl hin rfl (v := .int x1) rfl rfl rfl (show 0 < 8 by decide) dX7_init_10 (fun H_8 locs hP hD hS => ?_)
  have hP : va_P D ga_cl [(q, .inr (10, [.int x1, .int 0, .null, .null, .null, .null, .null, .int 0]))] H_8 := hP
  have hD : va_D A [(q, .inr (10, [.int x1, .int 0, .null, .null, .null, .null, .null, .int 0]))] := hD
  refine lv_aload_n hx hb dX7_init_13 rfl (lv_at hl 0 rfl) ?_
  refine lv_iload_n hx hb dX7_init_14 rfl (lv_at hl 2 rfl) ?_
  refine va_putF hx hb hts in_X8 tyX8 tyX8_ok nmX8 hown hK.1 hP hD hS 0 (fs := [.int x1, .int 0, .null, .null, .null, .null, .null, .int 0]) rfl rfl 1 (by decide) (hts _ q730) (fun _ hh => hh) rfl hin rfl (v := .int x2) rfl rfl rfl (show 1 < 8 by decide) dX7_init_15 (fun H_10 locs hP hD hS => ?_)
  have hP : va_P D ga_cl [(q, .inr (10, [.int x1, .int x2, .null, .null, .null, .null, .null, .int 0]))] H_10 := hP
  have hD : va_D A [(q, .inr (10, [.int x1, .int x2, .null, .null, .null, .null, .null, .int 0]))] := hD
  have hP9 := hP.sub (ws' := [(q, .inr (10, [.int x1, .int x2, .null, .null, .null, .null, .null, .int 0]))]) [0] rfl
  have hD9 := hD.sub (ws' := [(q, .inr (10, [.int x1, .int x2, .null, .null, .null, .null, .null, .int 0]))]) [0] (by decide) rfl
  obtain rfl := Option.some.inj h
  exact W.vret hx hb hr (fun t ht hW => ⟨⟨(x1, x2), rfl, rfl, ⟨by rw [ht]; exact hP9, hK.warm hW, hD9⟩⟩, hS.F ht⟩) hS.2.2 dX7_init_18
abbrev rm_X8_init_Ce : Room := { frames := 4, cells := 0, slots := 0, locals := 83 }
def F_X8_init_Ce (N : Nat)  (x1 : Int32) (x2 : Int32) : Option (Int32 × Int32) :=
  ((F_X7_init_Ce N (10 + x1) x2).bind fun r_1 =>
  some (r_1.1, r_1.2))
set_option maxHeartbeats 4000000 in
theorem met_X8_init_Ce (l : Launch) (D : va_G) (cA : Nat → ClassId) (A : Nat → Prop) (q : Nat) (zs : Nat → Nat)  (N : Nat) (x1 : Int32) (x2 : Int32)  (out : Int32 × Int32) (h : F_X8_init_Ce N x1 x2 = some out) : Met l yX8_init (ws_ yX8_init cX8_init 4 none) rm_X8_init_Ce (ga_X D cA zs A [(q, .inr (10, [.int 0, .int 0, .null, .null, .null, .null, .null, .int 0]))] [.ref q, .int x1, .int x2, .null]) (va_Qv (fun (u : Int32 × Int32) => out = u) (fun (u : Int32 × Int32) (t : State) => va_P D ga_cl [(q, .inr (10, [.int u.1, .int u.2, .null, .null, .null, .null, .null, .int 0]))] t.heap ∧ ga_K D cA t ∧ va_D A [(q, .inr (10, [.int u.1, .int u.2, .null, .null, .null, .null, .null, .int 0]))]) A) 0 0 A := by
  refine Met.ofW (cc := cX8_init) (maxL := 4) (ret := none) (by decide) rfl ?_
  intro p e s m args below meth c s₁ B hml hv
  obtain ⟨rfl, hP, hK, hD, hA, hST⟩ := hv
  have hS : va_S A s.heap s.heap [] := va_S.rf
  have hin : meth.name = "<init>" := (name_of_methodNamed B.named B.method).1
  have C : ga_cx p m c meth s _ RX8 cX8_init 4 none := ga_cx_of B hml
  have C0 := C
  obtain ⟨hx, hb, hr, hlocks, hml, hown, hts⟩ := C0
  have hl := lv_entry ([.ref q, .int x1, .int x2, .null]) (n := 4) (Nat.le_of_ble_eq_true rfl)
  rw [lg_entry_eq]
  generalize (lg_sl ([.ref q, .int x1, .int x2, .null]) ++ List.replicate (4 - (lg_sl ([.ref q, .int x1, .int x2, .null])).length) Slot.unset).toArray = ls at hl ⊢
  have hl : lv_has ls 4 [(0, .ref q), (1, .int x1), (2, .int x2), (3, .null)] := hl
  rw [F_X8_init_Ce] at h
  refine lv_aload_n hx hb dX8_init_0 rfl (lv_at hl 0 rfl) ?_
  refine lv_bipush (v := 10) hx hb dX8_init_1 (by decide) ?_
  refine lv_iload_n hx hb dX8_init_3 rfl (lv_at hl 1 rfl) ?_
  refine lv_iadd hx hb dX8_init_4 ?_
  refine lv_iload_n hx hb dX8_init_5 rfl (lv_at hl 2 rfl) ?_
  refine lv_aload_nN hx hb dX8_init_6 rfl (lv_at hl 3 rfl) ?_
  obtain ⟨r_1, e_2, h⟩ := ga_gb h
  have hFc := va_free (wc := [(q, .inr (10, [.int 0, .int 0, .null, .null, .null, .null, .null, .int 0]))]) hD hS hA [0] rfl
  refine va_callv (va_runI (As := [.int (10 + x1), .int x2, .null]) (rest := []) ⟨hx, hb, hml, hown, hts⟩ (met_X7_init_Ce l D cA (va_A [(q, .inr (10, [.int 0, .int 0, .null, .null, .null, .null, .null, .int 0]))] s.heap.size) q zs N (10 + x1) x2 r_1 e_2) (cwI 3 hts (lw_meth q722) rfl rfl rfl (hts _ q92) (hts _ q720) (hts _ q721) rfl (by decide +kernel) ⟨Nat.le_of_ble_eq_true rfl, Nat.le_of_ble_eq_true rfl⟩) (ga_XS hK (hP.sub (ws' := [(q, .inr (10, [.int 0, .int 0, .null, .null, .null, .null, .null, .int 0]))]) [0] rfl) (hD.sub (ws' := [(q, .inr (10, [.int 0, .int 0, .null, .null, .null, .null, .null, .int 0]))]) [0] (by decide) rfl).self (fun _ hq => Or.inr hq) (hST.at hS hFc)) rfl rfl hl.1 rfl (lv_room (Nat.le_of_ble_eq_true rfl)) dX8_init_7 ⟨Nat.le_of_ble_eq_true rfl, Nat.le_of_ble_eq_true rfl⟩) hS (fun q _ hq => hFc q hq) hFc (fun u_6 t H_5 locs ht _ w_4 hB _ hk hS => ?_)
  obtain ⟨hP1, -, hD1⟩ := hB
  obtain rfl := w_4
  rw [ht] at hP1
  obtain ⟨hP, hD⟩ := va_join (wr := []) (w1 := [(q, .inr (10, [.int r_1.1, .int r_1.2, .null, .null, .null, .null, .null, .int 0]))]) hP hD [0] [] rfl rfl (by decide) (by decide) hk hFc hP1 hD1
  have hP : va_P D ga_cl [(q, .inr (10, [.int r_1.1, .int r_1.2, .null, .null, .null, .null, .null, .int 0]))] H_5 := hP
  have hD : va_D A [(q, .inr (10, [.int r_1.1, .int r_1.2, .null, .null, .null, .null, .null, .int 0]))] := hD
  have hP9 := hP.sub (ws' := [(q, .inr (10, [.int r_1.1, .int r_1.2, .null, .null, .null, .null, .null, .int 0]))]) [0] rfl
  have hD9 := hD.sub (ws' := [(q, .inr (10, [.int r_1.1, .int r_1.2, .null, .null, .null, .null, .null, .int 0]))]) [0] (by decide) rfl
  obtain rfl := Option.some.inj h
  exact W.vret hx hb hr (fun t ht hW => ⟨⟨(r_1.1, r_1.2), rfl, rfl, ⟨by rw [ht]; exact hP9, hK.warm hW, hD9⟩⟩, hS.F ht⟩) hS.2.2 dX8_init_10
abbrev rm_J6_init_3_Ce_r : Room := { frames := 1, cells := 0, slots := 0, locals := 12 }
def F_J6_init_3_Ce_r (N : Nat)   : Option (Unit) :=
  some ()
set_option maxHeartbeats 4000000 in
theorem met_J6_init_3_Ce_r (l : Launch) (D : va_G) (cA : Nat → ClassId) (A : Nat → Prop) (q : Nat) (zs : Nat → Nat) (cz : Nat)  (N : Nat)   (out : Unit) (h : F_J6_init_3_Ce_r N = some out) : Met l yJ6_init_3 (ws_ yJ6_init_3 cJ6_init_3 5 none) rm_J6_init_3_Ce_r (ga_X D cA zs A [(q, .inr (10, [.int 0, .int 0, .null, .null, .null, .null, .null, .int 0]))] [.ref q, .null, .ref cz, .int 0, .int 0]) (va_Qv (fun (u : Unit) => out = u) (fun (u : Unit) (t : State) => va_P D ga_cl [(q, .inr (10, [.int 0, .int 0, .ref cz, .null, .null, .null, .null, .int 0]))] t.heap ∧ ga_K D cA t ∧ va_D A [(q, .inr (10, [.int 0, .int 0, .ref cz, .null, .null, .null, .null, .int 0]))]) A) 0 0 A := by
  refine Met.ofW (cc := cJ6_init_3) (maxL := 5) (ret := none) (by decide) rfl ?_
  intro p e s m args below meth c s₁ B hml hv
  obtain ⟨rfl, hP, hK, hD, hA, hST⟩ := hv
  have hS : va_S A s.heap s.heap [] := va_S.rf
  have hin : meth.name = "<init>" := (name_of_methodNamed B.named B.method).1
  have C : ga_cx p m c meth s _ RJ6 cJ6_init_3 5 none := ga_cx_of B hml
  have C0 := C
  obtain ⟨hx, hb, hr, hlocks, hml, hown, hts⟩ := C0
  have hl := lv_entry ([.ref q, .null, .ref cz, .int 0, .int 0]) (n := 5) (Nat.le_of_ble_eq_true rfl)
  rw [lg_entry_eq]
  generalize (lg_sl ([.ref q, .null, .ref cz, .int 0, .int 0]) ++ List.replicate (5 - (lg_sl ([.ref q, .null, .ref cz, .int 0, .int 0])).length) Slot.unset).toArray = ls at hl ⊢
  have hl : lv_has ls 5 [(0, .ref q), (1, .null), (2, .ref cz), (3, .int 0), (4, .int 0)] := hl
  rw [F_J6_init_3_Ce_r] at h
  refine lv_aload_n hx hb dJ6_init_3_0 rfl (lv_at hl 0 rfl) ?_
  refine W.objInit hx hb hown (hts _ q518) (hts _ q113) (hts _ q114) rfl (by rw [hml]; exact hl.1) rfl dJ6_init_3_1 (Nat.le_of_ble_eq_true rfl) (Nat.le_of_ble_eq_true rfl) ?_
  refine W.eq (g2 := F0 m 4 ls []) rfl ?_
  refine lv_aload_n hx hb dJ6_init_3_4 rfl (lv_at hl 0 rfl) ?_
  refine lv_aload_n hx hb dJ6_init_3_5 rfl (lv_at hl 0 rfl) ?_
  refine va_put hx hb hts in_X8 tyX8 tyX8_ok nmX8 hown hK.1 hP hD hS 0 (fs := [.int 0, .int 0, .null, .null, .null, .null, .null, .int 0]) rfl rfl 2 (by decide) (hts _ q554) (fun _ hh => hh) rfl (v := .ref q) rfl rfl rfl (show 2 < 8 by decide) dJ6_init_3_6 (fun H_1 locs hP hD hS => ?_)
  have hP : va_P D ga_cl [(q, .inr (10, [.int 0, .int 0, .ref q, .null, .null, .null, .null, .int 0]))] H_1 := hP
  have hD : va_D A [(q, .inr (10, [.int 0, .int 0, .ref q, .null, .null, .null, .null, .int 0]))] := hD
  refine lv_aload_n hx hb dJ6_init_3_9 rfl (lv_at hl 0 rfl) ?_
  obtain ⟨o_3, f_4⟩ := ga_Zq hST.1.1
  refine va_gets hx hb f_4 hS hown (hts _ q519) (fun _ hh => hh) dJ6_init_3_10 ?_
  refine va_put hx hb hts in_X8 tyX8 tyX8_ok nmX8 hown hK.1 hP hD hS 0 (fs := [.int 0, .int 0, .ref q, .null, .null, .null, .null, .int 0]) rfl rfl 3 (by decide) (hts _ q555) (fun _ hh => hh) rfl (v := va_rf o_3) rfl (by cases o_3 <;> rfl) (by cases o_3 <;> rfl) (show 3 < 8 by decide) dJ6_init_3_13 (fun H_5 locs hP hD hS => ?_)
  have hP : va_P D ga_cl [(q, .inr (10, [.int 0, .int 0, .ref q, va_rf o_3, .null, .null, .null, .int 0]))] H_5 := hP
  have hD : va_D A [(q, .inr (10, [.int 0, .int 0, .ref q, va_rf o_3, .null, .null, .null, .int 0]))] := hD
  refine lv_aload_n hx hb dJ6_init_3_16 rfl (lv_at hl 0 rfl) ?_
  obtain ⟨o_7, f_8⟩ := ga_Zq hST.2.1.1
  refine va_gets hx hb f_8 hS hown (hts _ q521) (fun _ hh => hh) dJ6_init_3_17 ?_
  refine va_put hx hb hts in_X8 tyX8 tyX8_ok nmX8 hown hK.1 hP hD hS 0 (fs := [.int 0, .int 0, .ref q, va_rf o_3, .null, .null, .null, .int 0]) rfl rfl 4 (by decide) (hts _ q556) (fun _ hh => hh) rfl (v := va_rf o_7) rfl (by cases o_7 <;> rfl) (by cases o_7 <;> rfl) (show 4 < 8 by decide) dJ6_init_3_20 (fun H_9 locs hP hD hS => ?_)
  have hP : va_P D ga_cl [(q, .inr (10, [.int 0, .int 0, .ref q, va_rf o_3, va_rf o_7, .null, .null, .int 0]))] H_9 := hP
  have hD : va_D A [(q, .inr (10, [.int 0, .int 0, .ref q, va_rf o_3, va_rf o_7, .null, .null, .int 0]))] := hD
  refine lv_iload hx hb dJ6_init_3_23 (lv_at hl 4 rfl) ?_
  refine lv_if_eq (tgt := 36) hx hb dJ6_init_3_25 (by decide) (fun _ => ?_) (fun c_11 => absurd (by decide) c_11)
  refine lv_aload_n hx hb dJ6_init_3_36 rfl (lv_at hl 0 rfl) ?_
  refine lv_null hx hb dJ6_init_3_37 ?_
  refine va_put hx hb hts in_X8 tyX8 tyX8_ok nmX8 hown hK.1 hP hD hS 0 (fs := [.int 0, .int 0, .ref q, va_rf o_3, va_rf o_7, .null, .null, .int 0]) rfl rfl 3 (by decide) (hts _ q555) (fun _ hh => hh) rfl (v := .null) rfl rfl rfl (show 3 < 8 by decide) dJ6_init_3_38 (fun H_12 locs hP hD hS => ?_)
  have hP : va_P D ga_cl [(q, .inr (10, [.int 0, .int 0, .ref q, .null, va_rf o_7, .null, .null, .int 0]))] H_12 := hP
  have hD : va_D A [(q, .inr (10, [.int 0, .int 0, .ref q, .null, va_rf o_7, .null, .null, .int 0]))] := hD
  refine lv_aload_n hx hb dJ6_init_3_41 rfl (lv_at hl 0 rfl) ?_
  refine lv_aload_nN hx hb dJ6_init_3_42 rfl (lv_at hl 1 rfl) ?_
  refine va_put hx hb hts in_X8 tyX8 tyX8_ok nmX8 hown hK.1 hP hD hS 0 (fs := [.int 0, .int 0, .ref q, .null, va_rf o_7, .null, .null, .int 0]) rfl rfl 5 (by decide) (hts _ q553) (fun _ hh => hh) rfl (v := .null) rfl rfl rfl (show 5 < 8 by decide) dJ6_init_3_43 (fun H_14 locs hP hD hS => ?_)
  have hP : va_P D ga_cl [(q, .inr (10, [.int 0, .int 0, .ref q, .null, va_rf o_7, .null, .null, .int 0]))] H_14 := hP
  have hD : va_D A [(q, .inr (10, [.int 0, .int 0, .ref q, .null, va_rf o_7, .null, .null, .int 0]))] := hD
  refine lv_aload_n hx hb dJ6_init_3_46 rfl (lv_at hl 0 rfl) ?_
  refine lv_aload_n hx hb dJ6_init_3_47 rfl (lv_at hl 2 rfl) ?_
  refine va_put hx hb hts in_X8 tyX8 tyX8_ok nmX8 hown hK.1 hP hD hS 0 (fs := [.int 0, .int 0, .ref q, .null, va_rf o_7, .null, .null, .int 0]) rfl rfl 2 (by decide) (hts _ q554) (fun _ hh => hh) rfl (v := .ref cz) rfl rfl rfl (show 2 < 8 by decide) dJ6_init_3_48 (fun H_16 locs hP hD hS => ?_)
  have hP : va_P D ga_cl [(q, .inr (10, [.int 0, .int 0, .ref cz, .null, va_rf o_7, .null, .null, .int 0]))] H_16 := hP
  have hD : va_D A [(q, .inr (10, [.int 0, .int 0, .ref cz, .null, va_rf o_7, .null, .null, .int 0]))] := hD
  refine lv_iload_n hx hb dJ6_init_3_51 rfl (lv_at hl 3 rfl) ?_
  refine lv_if_ne (tgt := 60) hx hb dJ6_init_3_52 (by decide) (fun c_18 => absurd (by decide) c_18) (fun _ => ?_)
  refine lv_aload_n hx hb dJ6_init_3_55 rfl (lv_at hl 0 rfl) ?_
  refine lv_null hx hb dJ6_init_3_56 ?_
  refine va_put hx hb hts in_X8 tyX8 tyX8_ok nmX8 hown hK.1 hP hD hS 0 (fs := [.int 0, .int 0, .ref cz, .null, va_rf o_7, .null, .null, .int 0]) rfl rfl 4 (by decide) (hts _ q556) (fun _ hh => hh) rfl (v := .null) rfl rfl rfl (show 4 < 8 by decide) dJ6_init_3_57 (fun H_19 locs hP hD hS => ?_)
  have hP : va_P D ga_cl [(q, .inr (10, [.int 0, .int 0, .ref cz, .null, .null, .null, .null, .int 0]))] H_19 := hP
  have hD : va_D A [(q, .inr (10, [.int 0, .int 0, .ref cz, .null, .null, .null, .null, .int 0]))] := hD
  have hP9 := hP.sub (ws' := [(q, .inr (10, [.int 0, .int 0, .ref cz, .null, .null, .null, .null, .int 0]))]) [0] rfl
  have hD9 := hD.sub (ws' := [(q, .inr (10, [.int 0, .int 0, .ref cz, .null, .null, .null, .null, .int 0]))]) [0] (by decide) rfl
  obtain rfl := Option.some.inj h
  exact W.vret hx hb hr (fun t ht hW => ⟨⟨(), rfl, rfl, ⟨by rw [ht]; exact hP9, hK.warm hW, hD9⟩⟩, hS.F ht⟩) hS.2.2 dJ6_init_3_60
abbrev rm_J7_init_3_Ce_r : Room := { frames := 2, cells := 0, slots := 0, locals := 36 }
def F_J7_init_3_Ce_r (N : Nat)   : Option (Unit) :=
  ((F_J6_init_3_Ce_r N).bind fun r_1 =>
  some ())
set_option maxHeartbeats 4000000 in
theorem met_J7_init_3_Ce_r (l : Launch) (D : va_G) (cA : Nat → ClassId) (A : Nat → Prop) (q : Nat) (zs : Nat → Nat) (cz : Nat)  (N : Nat)   (out : Unit) (h : F_J7_init_3_Ce_r N = some out) : Met l yJ7_init_3 (ws_ yJ7_init_3 cJ7_init_3 5 none) rm_J7_init_3_Ce_r (ga_X D cA zs A [(q, .inr (10, [.int 0, .int 0, .null, .null, .null, .null, .null, .int 0]))] [.ref q, .null, .ref cz, .int 0, .int 0]) (va_Qv (fun (u : Unit) => out = u) (fun (u : Unit) (t : State) => va_P D ga_cl [(q, .inr (10, [.int 0, .int 0, .ref cz, .null, .null, .null, .null, .int 0]))] t.heap ∧ ga_K D cA t ∧ va_D A [(q, .inr (10, [.int 0, .int 0, .ref cz, .null, .null, .null, .null, .int 0]))]) A) 0 0 A := by
  refine Met.ofW (cc := cJ7_init_3) (maxL := 5) (ret := none) (by decide) rfl ?_
  intro p e s m args below meth c s₁ B hml hv
  obtain ⟨rfl, hP, hK, hD, hA, hST⟩ := hv
  have hS : va_S A s.heap s.heap [] := va_S.rf
  have hin : meth.name = "<init>" := (name_of_methodNamed B.named B.method).1
  have C : ga_cx p m c meth s _ RJ7 cJ7_init_3 5 none := ga_cx_of B hml
  have C0 := C
  obtain ⟨hx, hb, hr, hlocks, hml, hown, hts⟩ := C0
  have hl := lv_entry ([.ref q, .null, .ref cz, .int 0, .int 0]) (n := 5) (Nat.le_of_ble_eq_true rfl)
  rw [lg_entry_eq]
  generalize (lg_sl ([.ref q, .null, .ref cz, .int 0, .int 0]) ++ List.replicate (5 - (lg_sl ([.ref q, .null, .ref cz, .int 0, .int 0])).length) Slot.unset).toArray = ls at hl ⊢
  have hl : lv_has ls 5 [(0, .ref q), (1, .null), (2, .ref cz), (3, .int 0), (4, .int 0)] := hl
  rw [F_J7_init_3_Ce_r] at h
  refine lv_aload_n hx hb dJ7_init_3_0 rfl (lv_at hl 0 rfl) ?_
  refine lv_aload_nN hx hb dJ7_init_3_1 rfl (lv_at hl 1 rfl) ?_
  refine lv_aload_n hx hb dJ7_init_3_2 rfl (lv_at hl 2 rfl) ?_
  refine lv_iload_n hx hb dJ7_init_3_3 rfl (lv_at hl 3 rfl) ?_
  refine lv_iload hx hb dJ7_init_3_4 (lv_at hl 4 rfl) ?_
  obtain ⟨r_1, e_2, h⟩ := ga_gb h
  have hFc := va_free (wc := [(q, .inr (10, [.int 0, .int 0, .null, .null, .null, .null, .null, .int 0]))]) hD hS hA [0] rfl
  refine va_callv (va_runI (As := [.null, .ref cz, .int 0, .int 0]) (rest := []) ⟨hx, hb, hml, hown, hts⟩ (met_J6_init_3_Ce_r l D cA (va_A [(q, .inr (10, [.int 0, .int 0, .null, .null, .null, .null, .null, .int 0]))] s.heap.size) q zs cz N r_1 e_2) (cwI 4 hts (lw_meth q728) rfl rfl rfl (hts _ q80) (hts _ q726) (hts _ q727) rfl (by decide +kernel) ⟨Nat.le_of_ble_eq_true rfl, Nat.le_of_ble_eq_true rfl⟩) (ga_XS hK (hP.sub (ws' := [(q, .inr (10, [.int 0, .int 0, .null, .null, .null, .null, .null, .int 0]))]) [0] rfl) (hD.sub (ws' := [(q, .inr (10, [.int 0, .int 0, .null, .null, .null, .null, .null, .int 0]))]) [0] (by decide) rfl).self (fun _ hq => Or.inr hq) (hST.at hS hFc)) rfl rfl hl.1 rfl (lv_room (Nat.le_of_ble_eq_true rfl)) dJ7_init_3_6 ⟨Nat.le_of_ble_eq_true rfl, Nat.le_of_ble_eq_true rfl⟩) hS (fun q _ hq => hFc q hq) hFc (fun u_6 t H_5 locs ht _ w_4 hB _ hk hS => ?_)
  obtain ⟨hP1, -, hD1⟩ := hB
  obtain rfl := w_4
  rw [ht] at hP1
  obtain ⟨hP, hD⟩ := va_join (wr := []) (w1 := [(q, .inr (10, [.int 0, .int 0, .ref cz, .null, .null, .null, .null, .int 0]))]) hP hD [0] [] rfl rfl (by decide) (by decide) hk hFc hP1 hD1
  have hP : va_P D ga_cl [(q, .inr (10, [.int 0, .int 0, .ref cz, .null, .null, .null, .null, .int 0]))] H_5 := hP
  have hD : va_D A [(q, .inr (10, [.int 0, .int 0, .ref cz, .null, .null, .null, .null, .int 0]))] := hD
  have hP9 := hP.sub (ws' := [(q, .inr (10, [.int 0, .int 0, .ref cz, .null, .null, .null, .null, .int 0]))]) [0] rfl
  have hD9 := hD.sub (ws' := [(q, .inr (10, [.int 0, .int 0, .ref cz, .null, .null, .null, .null, .int 0]))]) [0] (by decide) rfl
  obtain rfl := Option.some.inj h
  exact W.vret hx hb hr (fun t ht hW => ⟨⟨(), rfl, rfl, ⟨by rw [ht]; exact hP9, hK.warm hW, hD9⟩⟩, hS.F ht⟩) hS.2.2 dJ7_init_3_9
abbrev rm_X7_init_Ce_r : Room := { frames := 3, cells := 0, slots := 0, locals := 60 }
def F_X7_init_Ce_r (N : Nat)  (x1 : Int32) (x2 : Int32) : Option (Int32 × Int32) :=
  ((F_J7_init_3_Ce_r N).bind fun r_1 =>
  some (x1, x2))
set_option maxHeartbeats 4000000 in
theorem met_X7_init_Ce_r (l : Launch) (D : va_G) (cA : Nat → ClassId) (A : Nat → Prop) (q : Nat) (zs : Nat → Nat) (cz : Nat)  (N : Nat) (x1 : Int32) (x2 : Int32)  (out : Int32 × Int32) (h : F_X7_init_Ce_r N x1 x2 = some out) : Met l yX7_init (ws_ yX7_init cX7_init 4 none) rm_X7_init_Ce_r (ga_X D cA zs A [(q, .inr (10, [.int 0, .int 0, .null, .null, .null, .null, .null, .int 0]))] [.ref q, .int x1, .int x2, .ref cz]) (va_Qv (fun (u : Int32 × Int32) => out = u) (fun (u : Int32 × Int32) (t : State) => va_P D ga_cl [(q, .inr (10, [.int u.1, .int u.2, .ref cz, .null, .null, .null, .null, .int 0]))] t.heap ∧ ga_K D cA t ∧ va_D A [(q, .inr (10, [.int u.1, .int u.2, .ref cz, .null, .null, .null, .null, .int 0]))]) A) 0 0 A := by
  refine Met.ofW (cc := cX7_init) (maxL := 4) (ret := none) (by decide) rfl ?_
  intro p e s m args below meth c s₁ B hml hv
  obtain ⟨rfl, hP, hK, hD, hA, hST⟩ := hv
  have hS : va_S A s.heap s.heap [] := va_S.rf
  have hin : meth.name = "<init>" := (name_of_methodNamed B.named B.method).1
  have C : ga_cx p m c meth s _ RX7 cX7_init 4 none := ga_cx_of B hml
  have C0 := C
  obtain ⟨hx, hb, hr, hlocks, hml, hown, hts⟩ := C0
  have hl := lv_entry ([.ref q, .int x1, .int x2, .ref cz]) (n := 4) (Nat.le_of_ble_eq_true rfl)
  rw [lg_entry_eq]
  generalize (lg_sl ([.ref q, .int x1, .int x2, .ref cz]) ++ List.replicate (4 - (lg_sl ([.ref q, .int x1, .int x2, .ref cz])).length) Slot.unset).toArray = ls at hl ⊢
  have hl : lv_has ls 4 [(0, .ref q), (1, .int x1), (2, .int x2), (3, .ref cz)] := hl
  rw [F_X7_init_Ce_r] at h
  refine lv_aload_n hx hb dX7_init_0 rfl (lv_at hl 0 rfl) ?_
  refine lv_null hx hb dX7_init_1 ?_
  refine lv_aload_n hx hb dX7_init_2 rfl (lv_at hl 3 rfl) ?_
  refine lv_iconst (v := 0) hx hb dX7_init_3 (by decide) ?_
  refine lv_iconst (v := 0) hx hb dX7_init_4 (by decide) ?_
  obtain ⟨r_1, e_2, h⟩ := ga_gb h
  have hFc := va_free (wc := [(q, .inr (10, [.int 0, .int 0, .null, .null, .null, .null, .null, .int 0]))]) hD hS hA [0] rfl
  refine va_callv (va_runI (As := [.null, .ref cz, .int 0, .int 0]) (rest := []) ⟨hx, hb, hml, hown, hts⟩ (met_J7_init_3_Ce_r l D cA (va_A [(q, .inr (10, [.int 0, .int 0, .null, .null, .null, .null, .null, .int 0]))] s.heap.size) q zs cz N r_1 e_2) (cwI 4 hts (lw_meth q725) rfl rfl rfl (hts _ q81) (hts _ q723) (hts _ q724) rfl (by decide +kernel) ⟨Nat.le_of_ble_eq_true rfl, Nat.le_of_ble_eq_true rfl⟩) (ga_XS hK (hP.sub (ws' := [(q, .inr (10, [.int 0, .int 0, .null, .null, .null, .null, .null, .int 0]))]) [0] rfl) (hD.sub (ws' := [(q, .inr (10, [.int 0, .int 0, .null, .null, .null, .null, .null, .int 0]))]) [0] (by decide) rfl).self (fun _ hq => Or.inr hq) (hST.at hS hFc)) rfl rfl hl.1 rfl (lv_room (Nat.le_of_ble_eq_true rfl)) dX7_init_5 ⟨Nat.le_of_ble_eq_true rfl, Nat.le_of_ble_eq_true rfl⟩) hS (fun q _ hq => hFc q hq) hFc (fun u_6 t H_5 locs ht _ w_4 hB _ hk hS => ?_)
  obtain ⟨hP1, -, hD1⟩ := hB
  obtain rfl := w_4
  rw [ht] at hP1
  obtain ⟨hP, hD⟩ := va_join (wr := []) (w1 := [(q, .inr (10, [.int 0, .int 0, .ref cz, .null, .null, .null, .null, .int 0]))]) hP hD [0] [] rfl rfl (by decide) (by decide) hk hFc hP1 hD1
  have hP : va_P D ga_cl [(q, .inr (10, [.int 0, .int 0, .ref cz, .null, .null, .null, .null, .int 0]))] H_5 := hP
  have hD : va_D A [(q, .inr (10, [.int 0, .int 0, .ref cz, .null, .null, .null, .null, .int 0]))] := hD
  refine lv_aload_n hx hb dX7_init_8 rfl (lv_at hl 0 rfl) ?_
  refine lv_iload_n hx hb dX7_init_9 rfl (lv_at hl 1 rfl) ?_
  refine va_putF hx hb hts in_X8 tyX8 tyX8_ok nmX8 hown hK.1 hP hD hS 0 (fs := [.int 0, .int 0, .ref cz, .null, .null, .null, .null, .int 0]) rfl rfl 0 (by decide) (hts _ q729) (fun _ hh => hh) rfl hin rfl (v := .int x1) rfl rfl rfl (show 0 < 8 by decide) dX7_init_10 (fun H_8 locs hP hD hS => ?_)
  have hP : va_P D ga_cl [(q, .inr (10, [.int x1, .int 0, .ref cz, .null, .null, .null, .null, .int 0]))] H_8 := hP
  have hD : va_D A [(q, .inr (10, [.int x1, .int 0, .ref cz, .null, .null, .null, .null, .int 0]))] := hD
  refine lv_aload_n hx hb dX7_init_13 rfl (lv_at hl 0 rfl) ?_
  refine lv_iload_n hx hb dX7_init_14 rfl (lv_at hl 2 rfl) ?_
  refine va_putF hx hb hts in_X8 tyX8 tyX8_ok nmX8 hown hK.1 hP hD hS 0 (fs := [.int x1, .int 0, .ref cz, .null, .null, .null, .null, .int 0]) rfl rfl 1 (by decide) (hts _ q730) (fun _ hh => hh) rfl hin rfl (v := .int x2) rfl rfl rfl (show 1 < 8 by decide) dX7_init_15 (fun H_10 locs hP hD hS => ?_)
  have hP : va_P D ga_cl [(q, .inr (10, [.int x1, .int x2, .ref cz, .null, .null, .null, .null, .int 0]))] H_10 := hP
  have hD : va_D A [(q, .inr (10, [.int x1, .int x2, .ref cz, .null, .null, .null, .null, .int 0]))] := hD
  have hP9 := hP.sub (ws' := [(q, .inr (10, [.int x1, .int x2, .ref cz, .null, .null, .null, .null, .int 0]))]) [0] rfl
  have hD9 := hD.sub (ws' := [(q, .inr (10, [.int x1, .int x2, .ref cz, .null, .null, .null, .null, .int 0]))]) [0] (by decide) rfl
  obtain rfl := Option.some.inj h
  exact W.vret hx hb hr (fun t ht hW => ⟨⟨(x1, x2), rfl, rfl, ⟨by rw [ht]; exact hP9, hK.warm hW, hD9⟩⟩, hS.F ht⟩) hS.2.2 dX7_init_18
abbrev rm_X8_init_Ce_r : Room := { frames := 4, cells := 0, slots := 0, locals := 83 }
def F_X8_init_Ce_r (N : Nat)  (x1 : Int32) (x2 : Int32) : Option (Int32 × Int32) :=
  ((F_X7_init_Ce_r N (10 + x1) x2).bind fun r_1 =>
  some (r_1.1, r_1.2))
set_option maxHeartbeats 4000000 in
theorem met_X8_init_Ce_r (l : Launch) (D : va_G) (cA : Nat → ClassId) (A : Nat → Prop) (q : Nat) (zs : Nat → Nat) (cz : Nat)  (N : Nat) (x1 : Int32) (x2 : Int32)  (out : Int32 × Int32) (h : F_X8_init_Ce_r N x1 x2 = some out) : Met l yX8_init (ws_ yX8_init cX8_init 4 none) rm_X8_init_Ce_r (ga_X D cA zs A [(q, .inr (10, [.int 0, .int 0, .null, .null, .null, .null, .null, .int 0]))] [.ref q, .int x1, .int x2, .ref cz]) (va_Qv (fun (u : Int32 × Int32) => out = u) (fun (u : Int32 × Int32) (t : State) => va_P D ga_cl [(q, .inr (10, [.int u.1, .int u.2, .ref cz, .null, .null, .null, .null, .int 0]))] t.heap ∧ ga_K D cA t ∧ va_D A [(q, .inr (10, [.int u.1, .int u.2, .ref cz, .null, .null, .null, .null, .int 0]))]) A) 0 0 A := by
  refine Met.ofW (cc := cX8_init) (maxL := 4) (ret := none) (by decide) rfl ?_
  intro p e s m args below meth c s₁ B hml hv
  obtain ⟨rfl, hP, hK, hD, hA, hST⟩ := hv
  have hS : va_S A s.heap s.heap [] := va_S.rf
  have hin : meth.name = "<init>" := (name_of_methodNamed B.named B.method).1
  have C : ga_cx p m c meth s _ RX8 cX8_init 4 none := ga_cx_of B hml
  have C0 := C
  obtain ⟨hx, hb, hr, hlocks, hml, hown, hts⟩ := C0
  have hl := lv_entry ([.ref q, .int x1, .int x2, .ref cz]) (n := 4) (Nat.le_of_ble_eq_true rfl)
  rw [lg_entry_eq]
  generalize (lg_sl ([.ref q, .int x1, .int x2, .ref cz]) ++ List.replicate (4 - (lg_sl ([.ref q, .int x1, .int x2, .ref cz])).length) Slot.unset).toArray = ls at hl ⊢
  have hl : lv_has ls 4 [(0, .ref q), (1, .int x1), (2, .int x2), (3, .ref cz)] := hl
  rw [F_X8_init_Ce_r] at h
  refine lv_aload_n hx hb dX8_init_0 rfl (lv_at hl 0 rfl) ?_
  refine lv_bipush (v := 10) hx hb dX8_init_1 (by decide) ?_
  refine lv_iload_n hx hb dX8_init_3 rfl (lv_at hl 1 rfl) ?_
  refine lv_iadd hx hb dX8_init_4 ?_
  refine lv_iload_n hx hb dX8_init_5 rfl (lv_at hl 2 rfl) ?_
  refine lv_aload_n hx hb dX8_init_6 rfl (lv_at hl 3 rfl) ?_
  obtain ⟨r_1, e_2, h⟩ := ga_gb h
  have hFc := va_free (wc := [(q, .inr (10, [.int 0, .int 0, .null, .null, .null, .null, .null, .int 0]))]) hD hS hA [0] rfl
  refine va_callv (va_runI (As := [.int (10 + x1), .int x2, .ref cz]) (rest := []) ⟨hx, hb, hml, hown, hts⟩ (met_X7_init_Ce_r l D cA (va_A [(q, .inr (10, [.int 0, .int 0, .null, .null, .null, .null, .null, .int 0]))] s.heap.size) q zs cz N (10 + x1) x2 r_1 e_2) (cwI 3 hts (lw_meth q722) rfl rfl rfl (hts _ q92) (hts _ q720) (hts _ q721) rfl (by decide +kernel) ⟨Nat.le_of_ble_eq_true rfl, Nat.le_of_ble_eq_true rfl⟩) (ga_XS hK (hP.sub (ws' := [(q, .inr (10, [.int 0, .int 0, .null, .null, .null, .null, .null, .int 0]))]) [0] rfl) (hD.sub (ws' := [(q, .inr (10, [.int 0, .int 0, .null, .null, .null, .null, .null, .int 0]))]) [0] (by decide) rfl).self (fun _ hq => Or.inr hq) (hST.at hS hFc)) rfl rfl hl.1 rfl (lv_room (Nat.le_of_ble_eq_true rfl)) dX8_init_7 ⟨Nat.le_of_ble_eq_true rfl, Nat.le_of_ble_eq_true rfl⟩) hS (fun q _ hq => hFc q hq) hFc (fun u_6 t H_5 locs ht _ w_4 hB _ hk hS => ?_)
  obtain ⟨hP1, -, hD1⟩ := hB
  obtain rfl := w_4
  rw [ht] at hP1
  obtain ⟨hP, hD⟩ := va_join (wr := []) (w1 := [(q, .inr (10, [.int r_1.1, .int r_1.2, .ref cz, .null, .null, .null, .null, .int 0]))]) hP hD [0] [] rfl rfl (by decide) (by decide) hk hFc hP1 hD1
  have hP : va_P D ga_cl [(q, .inr (10, [.int r_1.1, .int r_1.2, .ref cz, .null, .null, .null, .null, .int 0]))] H_5 := hP
  have hD : va_D A [(q, .inr (10, [.int r_1.1, .int r_1.2, .ref cz, .null, .null, .null, .null, .int 0]))] := hD
  have hP9 := hP.sub (ws' := [(q, .inr (10, [.int r_1.1, .int r_1.2, .ref cz, .null, .null, .null, .null, .int 0]))]) [0] rfl
  have hD9 := hD.sub (ws' := [(q, .inr (10, [.int r_1.1, .int r_1.2, .ref cz, .null, .null, .null, .null, .int 0]))]) [0] (by decide) rfl
  obtain rfl := Option.some.inj h
  exact W.vret hx hb hr (fun t ht hW => ⟨⟨(r_1.1, r_1.2), rfl, rfl, ⟨by rw [ht]; exact hP9, hK.warm hW, hD9⟩⟩, hS.F ht⟩) hS.2.2 dX8_init_10
abbrev rm_J6_init_3_Wa : Room := { frames := 1, cells := 0, slots := 0, locals := 12 }
def F_J6_init_3_Wa (N : Nat)   : Option (Unit) :=
  some ()
set_option maxHeartbeats 4000000 in
theorem met_J6_init_3_Wa (l : Launch) (D : va_G) (cA : Nat → ClassId) (A : Nat → Prop) (q : Nat) (zs : Nat → Nat)  (N : Nat)   (out : Unit) (h : F_J6_init_3_Wa N = some out) : Met l yJ6_init_3 (ws_ yJ6_init_3 cJ6_init_3 5 none) rm_J6_init_3_Wa (ga_X D cA zs A [(q, .inr (11, [.int 0, .int 0, .null, .null, .null, .null, .null, .int 0]))] [.ref q, .null, .null, .int 0, .int 0]) (va_Qv (fun (u : Unit) => out = u) (fun (u : Unit) (t : State) => va_P D ga_cl [(q, .inr (11, [.int 0, .int 0, .null, .null, .null, .null, .null, .int 0]))] t.heap ∧ ga_K D cA t ∧ va_D A [(q, .inr (11, [.int 0, .int 0, .null, .null, .null, .null, .null, .int 0]))]) A) 0 0 A := by
  refine Met.ofW (cc := cJ6_init_3) (maxL := 5) (ret := none) (by decide) rfl ?_
  intro p e s m args below meth c s₁ B hml hv
  obtain ⟨rfl, hP, hK, hD, hA, hST⟩ := hv
  have hS : va_S A s.heap s.heap [] := va_S.rf
  have hin : meth.name = "<init>" := (name_of_methodNamed B.named B.method).1
  have C : ga_cx p m c meth s _ RJ6 cJ6_init_3 5 none := ga_cx_of B hml
  have C0 := C
  obtain ⟨hx, hb, hr, hlocks, hml, hown, hts⟩ := C0
  have hl := lv_entry ([.ref q, .null, .null, .int 0, .int 0]) (n := 5) (Nat.le_of_ble_eq_true rfl)
  rw [lg_entry_eq]
  generalize (lg_sl ([.ref q, .null, .null, .int 0, .int 0]) ++ List.replicate (5 - (lg_sl ([.ref q, .null, .null, .int 0, .int 0])).length) Slot.unset).toArray = ls at hl ⊢
  have hl : lv_has ls 5 [(0, .ref q), (1, .null), (2, .null), (3, .int 0), (4, .int 0)] := hl
  rw [F_J6_init_3_Wa] at h
  refine lv_aload_n hx hb dJ6_init_3_0 rfl (lv_at hl 0 rfl) ?_
  refine W.objInit hx hb hown (hts _ q518) (hts _ q113) (hts _ q114) rfl (by rw [hml]; exact hl.1) rfl dJ6_init_3_1 (Nat.le_of_ble_eq_true rfl) (Nat.le_of_ble_eq_true rfl) ?_
  refine W.eq (g2 := F0 m 4 ls []) rfl ?_
  refine lv_aload_n hx hb dJ6_init_3_4 rfl (lv_at hl 0 rfl) ?_
  refine lv_aload_n hx hb dJ6_init_3_5 rfl (lv_at hl 0 rfl) ?_
  refine va_put hx hb hts in_X9 tyX9 tyX9_ok nmX9 hown hK.1 hP hD hS 0 (fs := [.int 0, .int 0, .null, .null, .null, .null, .null, .int 0]) rfl rfl 2 (by decide) (hts _ q554) (fun _ hh => hh) rfl (v := .ref q) rfl rfl rfl (show 2 < 8 by decide) dJ6_init_3_6 (fun H_1 locs hP hD hS => ?_)
  have hP : va_P D ga_cl [(q, .inr (11, [.int 0, .int 0, .ref q, .null, .null, .null, .null, .int 0]))] H_1 := hP
  have hD : va_D A [(q, .inr (11, [.int 0, .int 0, .ref q, .null, .null, .null, .null, .int 0]))] := hD
  refine lv_aload_n hx hb dJ6_init_3_9 rfl (lv_at hl 0 rfl) ?_
  obtain ⟨o_3, f_4⟩ := ga_Zq hST.1.1
  refine va_gets hx hb f_4 hS hown (hts _ q519) (fun _ hh => hh) dJ6_init_3_10 ?_
  refine va_put hx hb hts in_X9 tyX9 tyX9_ok nmX9 hown hK.1 hP hD hS 0 (fs := [.int 0, .int 0, .ref q, .null, .null, .null, .null, .int 0]) rfl rfl 3 (by decide) (hts _ q555) (fun _ hh => hh) rfl (v := va_rf o_3) rfl (by cases o_3 <;> rfl) (by cases o_3 <;> rfl) (show 3 < 8 by decide) dJ6_init_3_13 (fun H_5 locs hP hD hS => ?_)
  have hP : va_P D ga_cl [(q, .inr (11, [.int 0, .int 0, .ref q, va_rf o_3, .null, .null, .null, .int 0]))] H_5 := hP
  have hD : va_D A [(q, .inr (11, [.int 0, .int 0, .ref q, va_rf o_3, .null, .null, .null, .int 0]))] := hD
  refine lv_aload_n hx hb dJ6_init_3_16 rfl (lv_at hl 0 rfl) ?_
  obtain ⟨o_7, f_8⟩ := ga_Zq hST.2.1.1
  refine va_gets hx hb f_8 hS hown (hts _ q521) (fun _ hh => hh) dJ6_init_3_17 ?_
  refine va_put hx hb hts in_X9 tyX9 tyX9_ok nmX9 hown hK.1 hP hD hS 0 (fs := [.int 0, .int 0, .ref q, va_rf o_3, .null, .null, .null, .int 0]) rfl rfl 4 (by decide) (hts _ q556) (fun _ hh => hh) rfl (v := va_rf o_7) rfl (by cases o_7 <;> rfl) (by cases o_7 <;> rfl) (show 4 < 8 by decide) dJ6_init_3_20 (fun H_9 locs hP hD hS => ?_)
  have hP : va_P D ga_cl [(q, .inr (11, [.int 0, .int 0, .ref q, va_rf o_3, va_rf o_7, .null, .null, .int 0]))] H_9 := hP
  have hD : va_D A [(q, .inr (11, [.int 0, .int 0, .ref q, va_rf o_3, va_rf o_7, .null, .null, .int 0]))] := hD
  refine lv_iload hx hb dJ6_init_3_23 (lv_at hl 4 rfl) ?_
  refine lv_if_eq (tgt := 36) hx hb dJ6_init_3_25 (by decide) (fun _ => ?_) (fun c_11 => absurd (by decide) c_11)
  refine lv_aload_n hx hb dJ6_init_3_36 rfl (lv_at hl 0 rfl) ?_
  refine lv_null hx hb dJ6_init_3_37 ?_
  refine va_put hx hb hts in_X9 tyX9 tyX9_ok nmX9 hown hK.1 hP hD hS 0 (fs := [.int 0, .int 0, .ref q, va_rf o_3, va_rf o_7, .null, .null, .int 0]) rfl rfl 3 (by decide) (hts _ q555) (fun _ hh => hh) rfl (v := .null) rfl rfl rfl (show 3 < 8 by decide) dJ6_init_3_38 (fun H_12 locs hP hD hS => ?_)
  have hP : va_P D ga_cl [(q, .inr (11, [.int 0, .int 0, .ref q, .null, va_rf o_7, .null, .null, .int 0]))] H_12 := hP
  have hD : va_D A [(q, .inr (11, [.int 0, .int 0, .ref q, .null, va_rf o_7, .null, .null, .int 0]))] := hD
  refine lv_aload_n hx hb dJ6_init_3_41 rfl (lv_at hl 0 rfl) ?_
  refine lv_aload_nN hx hb dJ6_init_3_42 rfl (lv_at hl 1 rfl) ?_
  refine va_put hx hb hts in_X9 tyX9 tyX9_ok nmX9 hown hK.1 hP hD hS 0 (fs := [.int 0, .int 0, .ref q, .null, va_rf o_7, .null, .null, .int 0]) rfl rfl 5 (by decide) (hts _ q553) (fun _ hh => hh) rfl (v := .null) rfl rfl rfl (show 5 < 8 by decide) dJ6_init_3_43 (fun H_14 locs hP hD hS => ?_)
  have hP : va_P D ga_cl [(q, .inr (11, [.int 0, .int 0, .ref q, .null, va_rf o_7, .null, .null, .int 0]))] H_14 := hP
  have hD : va_D A [(q, .inr (11, [.int 0, .int 0, .ref q, .null, va_rf o_7, .null, .null, .int 0]))] := hD
  refine lv_aload_n hx hb dJ6_init_3_46 rfl (lv_at hl 0 rfl) ?_
  refine lv_aload_nN hx hb dJ6_init_3_47 rfl (lv_at hl 2 rfl) ?_
  refine va_put hx hb hts in_X9 tyX9 tyX9_ok nmX9 hown hK.1 hP hD hS 0 (fs := [.int 0, .int 0, .ref q, .null, va_rf o_7, .null, .null, .int 0]) rfl rfl 2 (by decide) (hts _ q554) (fun _ hh => hh) rfl (v := .null) rfl rfl rfl (show 2 < 8 by decide) dJ6_init_3_48 (fun H_16 locs hP hD hS => ?_)
  have hP : va_P D ga_cl [(q, .inr (11, [.int 0, .int 0, .null, .null, va_rf o_7, .null, .null, .int 0]))] H_16 := hP
  have hD : va_D A [(q, .inr (11, [.int 0, .int 0, .null, .null, va_rf o_7, .null, .null, .int 0]))] := hD
  refine lv_iload_n hx hb dJ6_init_3_51 rfl (lv_at hl 3 rfl) ?_
  refine lv_if_ne (tgt := 60) hx hb dJ6_init_3_52 (by decide) (fun c_18 => absurd (by decide) c_18) (fun _ => ?_)
  refine lv_aload_n hx hb dJ6_init_3_55 rfl (lv_at hl 0 rfl) ?_
  refine lv_null hx hb dJ6_init_3_56 ?_
  refine va_put hx hb hts in_X9 tyX9 tyX9_ok nmX9 hown hK.1 hP hD hS 0 (fs := [.int 0, .int 0, .null, .null, va_rf o_7, .null, .null, .int 0]) rfl rfl 4 (by decide) (hts _ q556) (fun _ hh => hh) rfl (v := .null) rfl rfl rfl (show 4 < 8 by decide) dJ6_init_3_57 (fun H_19 locs hP hD hS => ?_)
  have hP : va_P D ga_cl [(q, .inr (11, [.int 0, .int 0, .null, .null, .null, .null, .null, .int 0]))] H_19 := hP
  have hD : va_D A [(q, .inr (11, [.int 0, .int 0, .null, .null, .null, .null, .null, .int 0]))] := hD
  have hP9 := hP.sub (ws' := [(q, .inr (11, [.int 0, .int 0, .null, .null, .null, .null, .null, .int 0]))]) [0] rfl
  have hD9 := hD.sub (ws' := [(q, .inr (11, [.int 0, .int 0, .null, .null, .null, .null, .null, .int 0]))]) [0] (by decide) rfl
  obtain rfl := Option.some.inj h
  exact W.vret hx hb hr (fun t ht hW => ⟨⟨(), rfl, rfl, ⟨by rw [ht]; exact hP9, hK.warm hW, hD9⟩⟩, hS.F ht⟩) hS.2.2 dJ6_init_3_60
abbrev rm_J7_init_3_Wa : Room := { frames := 2, cells := 0, slots := 0, locals := 36 }
def F_J7_init_3_Wa (N : Nat)   : Option (Unit) :=
  ((F_J6_init_3_Wa N).bind fun r_1 =>
  some ())
set_option maxHeartbeats 4000000 in
theorem met_J7_init_3_Wa (l : Launch) (D : va_G) (cA : Nat → ClassId) (A : Nat → Prop) (q : Nat) (zs : Nat → Nat)  (N : Nat)   (out : Unit) (h : F_J7_init_3_Wa N = some out) : Met l yJ7_init_3 (ws_ yJ7_init_3 cJ7_init_3 5 none) rm_J7_init_3_Wa (ga_X D cA zs A [(q, .inr (11, [.int 0, .int 0, .null, .null, .null, .null, .null, .int 0]))] [.ref q, .null, .null, .int 0, .int 0]) (va_Qv (fun (u : Unit) => out = u) (fun (u : Unit) (t : State) => va_P D ga_cl [(q, .inr (11, [.int 0, .int 0, .null, .null, .null, .null, .null, .int 0]))] t.heap ∧ ga_K D cA t ∧ va_D A [(q, .inr (11, [.int 0, .int 0, .null, .null, .null, .null, .null, .int 0]))]) A) 0 0 A := by
  refine Met.ofW (cc := cJ7_init_3) (maxL := 5) (ret := none) (by decide) rfl ?_
  intro p e s m args below meth c s₁ B hml hv
  obtain ⟨rfl, hP, hK, hD, hA, hST⟩ := hv
  have hS : va_S A s.heap s.heap [] := va_S.rf
  have hin : meth.name = "<init>" := (name_of_methodNamed B.named B.method).1
  have C : ga_cx p m c meth s _ RJ7 cJ7_init_3 5 none := ga_cx_of B hml
  have C0 := C
  obtain ⟨hx, hb, hr, hlocks, hml, hown, hts⟩ := C0
  have hl := lv_entry ([.ref q, .null, .null, .int 0, .int 0]) (n := 5) (Nat.le_of_ble_eq_true rfl)
  rw [lg_entry_eq]
  generalize (lg_sl ([.ref q, .null, .null, .int 0, .int 0]) ++ List.replicate (5 - (lg_sl ([.ref q, .null, .null, .int 0, .int 0])).length) Slot.unset).toArray = ls at hl ⊢
  have hl : lv_has ls 5 [(0, .ref q), (1, .null), (2, .null), (3, .int 0), (4, .int 0)] := hl
  rw [F_J7_init_3_Wa] at h
  refine lv_aload_n hx hb dJ7_init_3_0 rfl (lv_at hl 0 rfl) ?_
  refine lv_aload_nN hx hb dJ7_init_3_1 rfl (lv_at hl 1 rfl) ?_
  refine lv_aload_nN hx hb dJ7_init_3_2 rfl (lv_at hl 2 rfl) ?_
  refine lv_iload_n hx hb dJ7_init_3_3 rfl (lv_at hl 3 rfl) ?_
  refine lv_iload hx hb dJ7_init_3_4 (lv_at hl 4 rfl) ?_
  obtain ⟨r_1, e_2, h⟩ := ga_gb h
  have hFc := va_free (wc := [(q, .inr (11, [.int 0, .int 0, .null, .null, .null, .null, .null, .int 0]))]) hD hS hA [0] rfl
  refine va_callv (va_runI (As := [.null, .null, .int 0, .int 0]) (rest := []) ⟨hx, hb, hml, hown, hts⟩ (met_J6_init_3_Wa l D cA (va_A [(q, .inr (11, [.int 0, .int 0, .null, .null, .null, .null, .null, .int 0]))] s.heap.size) q zs N r_1 e_2) (cwI 4 hts (lw_meth q728) rfl rfl rfl (hts _ q80) (hts _ q726) (hts _ q727) rfl (by decide +kernel) ⟨Nat.le_of_ble_eq_true rfl, Nat.le_of_ble_eq_true rfl⟩) (ga_XS hK (hP.sub (ws' := [(q, .inr (11, [.int 0, .int 0, .null, .null, .null, .null, .null, .int 0]))]) [0] rfl) (hD.sub (ws' := [(q, .inr (11, [.int 0, .int 0, .null, .null, .null, .null, .null, .int 0]))]) [0] (by decide) rfl).self (fun _ hq => Or.inr hq) (hST.at hS hFc)) rfl rfl hl.1 rfl (lv_room (Nat.le_of_ble_eq_true rfl)) dJ7_init_3_6 ⟨Nat.le_of_ble_eq_true rfl, Nat.le_of_ble_eq_true rfl⟩) hS (fun q _ hq => hFc q hq) hFc (fun u_6 t H_5 locs ht _ w_4 hB _ hk hS => ?_)
  obtain ⟨hP1, -, hD1⟩ := hB
  obtain rfl := w_4
  rw [ht] at hP1
  obtain ⟨hP, hD⟩ := va_join (wr := []) (w1 := [(q, .inr (11, [.int 0, .int 0, .null, .null, .null, .null, .null, .int 0]))]) hP hD [0] [] rfl rfl (by decide) (by decide) hk hFc hP1 hD1
  have hP : va_P D ga_cl [(q, .inr (11, [.int 0, .int 0, .null, .null, .null, .null, .null, .int 0]))] H_5 := hP
  have hD : va_D A [(q, .inr (11, [.int 0, .int 0, .null, .null, .null, .null, .null, .int 0]))] := hD
  have hP9 := hP.sub (ws' := [(q, .inr (11, [.int 0, .int 0, .null, .null, .null, .null, .null, .int 0]))]) [0] rfl
  have hD9 := hD.sub (ws' := [(q, .inr (11, [.int 0, .int 0, .null, .null, .null, .null, .null, .int 0]))]) [0] (by decide) rfl
  obtain rfl := Option.some.inj h
  exact W.vret hx hb hr (fun t ht hW => ⟨⟨(), rfl, rfl, ⟨by rw [ht]; exact hP9, hK.warm hW, hD9⟩⟩, hS.F ht⟩) hS.2.2 dJ7_init_3_9
abbrev rm_X7_init_Wa : Room := { frames := 3, cells := 0, slots := 0, locals := 60 }
def F_X7_init_Wa (N : Nat)  (x1 : Int32) (x2 : Int32) : Option (Int32 × Int32) :=
  ((F_J7_init_3_Wa N).bind fun r_1 =>
  some (x1, x2))
set_option maxHeartbeats 4000000 in
theorem met_X7_init_Wa (l : Launch) (D : va_G) (cA : Nat → ClassId) (A : Nat → Prop) (q : Nat) (zs : Nat → Nat)  (N : Nat) (x1 : Int32) (x2 : Int32)  (out : Int32 × Int32) (h : F_X7_init_Wa N x1 x2 = some out) : Met l yX7_init (ws_ yX7_init cX7_init 4 none) rm_X7_init_Wa (ga_X D cA zs A [(q, .inr (11, [.int 0, .int 0, .null, .null, .null, .null, .null, .int 0]))] [.ref q, .int x1, .int x2, .null]) (va_Qv (fun (u : Int32 × Int32) => out = u) (fun (u : Int32 × Int32) (t : State) => va_P D ga_cl [(q, .inr (11, [.int u.1, .int u.2, .null, .null, .null, .null, .null, .int 0]))] t.heap ∧ ga_K D cA t ∧ va_D A [(q, .inr (11, [.int u.1, .int u.2, .null, .null, .null, .null, .null, .int 0]))]) A) 0 0 A := by
  refine Met.ofW (cc := cX7_init) (maxL := 4) (ret := none) (by decide) rfl ?_
  intro p e s m args below meth c s₁ B hml hv
  obtain ⟨rfl, hP, hK, hD, hA, hST⟩ := hv
  have hS : va_S A s.heap s.heap [] := va_S.rf
  have hin : meth.name = "<init>" := (name_of_methodNamed B.named B.method).1
  have C : ga_cx p m c meth s _ RX7 cX7_init 4 none := ga_cx_of B hml
  have C0 := C
  obtain ⟨hx, hb, hr, hlocks, hml, hown, hts⟩ := C0
  have hl := lv_entry ([.ref q, .int x1, .int x2, .null]) (n := 4) (Nat.le_of_ble_eq_true rfl)
  rw [lg_entry_eq]
  generalize (lg_sl ([.ref q, .int x1, .int x2, .null]) ++ List.replicate (4 - (lg_sl ([.ref q, .int x1, .int x2, .null])).length) Slot.unset).toArray = ls at hl ⊢
  have hl : lv_has ls 4 [(0, .ref q), (1, .int x1), (2, .int x2), (3, .null)] := hl
  rw [F_X7_init_Wa] at h
  refine lv_aload_n hx hb dX7_init_0 rfl (lv_at hl 0 rfl) ?_
  refine lv_null hx hb dX7_init_1 ?_
  refine lv_aload_nN hx hb dX7_init_2 rfl (lv_at hl 3 rfl) ?_
  refine lv_iconst (v := 0) hx hb dX7_init_3 (by decide) ?_
  refine lv_iconst (v := 0) hx hb dX7_init_4 (by decide) ?_
  obtain ⟨r_1, e_2, h⟩ := ga_gb h
  have hFc := va_free (wc := [(q, .inr (11, [.int 0, .int 0, .null, .null, .null, .null, .null, .int 0]))]) hD hS hA [0] rfl
  refine va_callv (va_runI (As := [.null, .null, .int 0, .int 0]) (rest := []) ⟨hx, hb, hml, hown, hts⟩ (met_J7_init_3_Wa l D cA (va_A [(q, .inr (11, [.int 0, .int 0, .null, .null, .null, .null, .null, .int 0]))] s.heap.size) q zs N r_1 e_2) (cwI 4 hts (lw_meth q725) rfl rfl rfl (hts _ q81) (hts _ q723) (hts _ q724) rfl (by decide +kernel) ⟨Nat.le_of_ble_eq_true rfl, Nat.le_of_ble_eq_true rfl⟩) (ga_XS hK (hP.sub (ws' := [(q, .inr (11, [.int 0, .int 0, .null, .null, .null, .null, .null, .int 0]))]) [0] rfl) (hD.sub (ws' := [(q, .inr (11, [.int 0, .int 0, .null, .null, .null, .null, .null, .int 0]))]) [0] (by decide) rfl).self (fun _ hq => Or.inr hq) (hST.at hS hFc)) rfl rfl hl.1 rfl (lv_room (Nat.le_of_ble_eq_true rfl)) dX7_init_5 ⟨Nat.le_of_ble_eq_true rfl, Nat.le_of_ble_eq_true rfl⟩) hS (fun q _ hq => hFc q hq) hFc (fun u_6 t H_5 locs ht _ w_4 hB _ hk hS => ?_)
  obtain ⟨hP1, -, hD1⟩ := hB
  obtain rfl := w_4
  rw [ht] at hP1
  obtain ⟨hP, hD⟩ := va_join (wr := []) (w1 := [(q, .inr (11, [.int 0, .int 0, .null, .null, .null, .null, .null, .int 0]))]) hP hD [0] [] rfl rfl (by decide) (by decide) hk hFc hP1 hD1
  have hP : va_P D ga_cl [(q, .inr (11, [.int 0, .int 0, .null, .null, .null, .null, .null, .int 0]))] H_5 := hP
  have hD : va_D A [(q, .inr (11, [.int 0, .int 0, .null, .null, .null, .null, .null, .int 0]))] := hD
  refine lv_aload_n hx hb dX7_init_8 rfl (lv_at hl 0 rfl) ?_
  refine lv_iload_n hx hb dX7_init_9 rfl (lv_at hl 1 rfl) ?_
  refine va_putF hx hb hts in_X9 tyX9 tyX9_ok nmX9 hown hK.1 hP hD hS 0 (fs := [.int 0, .int 0, .null, .null, .null, .null, .null, .int 0]) rfl rfl 0 (by decide) (hts _ q729) (fun _ hh => hh) rfl hin rfl (v := .int x1) rfl rfl rfl (show 0 < 8 by decide) dX7_init_10 (fun H_8 locs hP hD hS => ?_)
  have hP : va_P D ga_cl [(q, .inr (11, [.int x1, .int 0, .null, .null, .null, .null, .null, .int 0]))] H_8 := hP
  have hD : va_D A [(q, .inr (11, [.int x1, .int 0, .null, .null, .null, .null, .null, .int 0]))] := hD
  refine lv_aload_n hx hb dX7_init_13 rfl (lv_at hl 0 rfl) ?_
  refine lv_iload_n hx hb dX7_init_14 rfl (lv_at hl 2 rfl) ?_
  refine va_putF hx hb hts in_X9 tyX9 tyX9_ok nmX9 hown hK.1 hP hD hS 0 (fs := [.int x1, .int 0, .null, .null, .null, .null, .null, .int 0]) rfl rfl 1 (by decide) (hts _ q730) (fun _ hh => hh) rfl hin rfl (v := .int x2) rfl rfl rfl (show 1 < 8 by decide) dX7_init_15 (fun H_10 locs hP hD hS => ?_)
  have hP : va_P D ga_cl [(q, .inr (11, [.int x1, .int x2, .null, .null, .null, .null, .null, .int 0]))] H_10 := hP
  have hD : va_D A [(q, .inr (11, [.int x1, .int x2, .null, .null, .null, .null, .null, .int 0]))] := hD
  have hP9 := hP.sub (ws' := [(q, .inr (11, [.int x1, .int x2, .null, .null, .null, .null, .null, .int 0]))]) [0] rfl
  have hD9 := hD.sub (ws' := [(q, .inr (11, [.int x1, .int x2, .null, .null, .null, .null, .null, .int 0]))]) [0] (by decide) rfl
  obtain rfl := Option.some.inj h
  exact W.vret hx hb hr (fun t ht hW => ⟨⟨(x1, x2), rfl, rfl, ⟨by rw [ht]; exact hP9, hK.warm hW, hD9⟩⟩, hS.F ht⟩) hS.2.2 dX7_init_18
abbrev rm_X9_init_Wa : Room := { frames := 4, cells := 0, slots := 0, locals := 83 }
def F_X9_init_Wa (N : Nat)  (x1 : Int32) (x2 : Int32) : Option (Int32 × Int32) :=
  ((F_X7_init_Wa N (20 + x1) x2).bind fun r_1 =>
  some (r_1.1, r_1.2))
set_option maxHeartbeats 4000000 in
theorem met_X9_init_Wa (l : Launch) (D : va_G) (cA : Nat → ClassId) (A : Nat → Prop) (q : Nat) (zs : Nat → Nat)  (N : Nat) (x1 : Int32) (x2 : Int32)  (out : Int32 × Int32) (h : F_X9_init_Wa N x1 x2 = some out) : Met l yX9_init (ws_ yX9_init cX9_init 3 none) rm_X9_init_Wa (ga_X D cA zs A [(q, .inr (11, [.int 0, .int 0, .null, .null, .null, .null, .null, .int 0]))] [.ref q, .int x1, .int x2]) (va_Qv (fun (u : Int32 × Int32) => out = u) (fun (u : Int32 × Int32) (t : State) => va_P D ga_cl [(q, .inr (11, [.int u.1, .int u.2, .null, .null, .null, .null, .null, .int 0]))] t.heap ∧ ga_K D cA t ∧ va_D A [(q, .inr (11, [.int u.1, .int u.2, .null, .null, .null, .null, .null, .int 0]))]) A) 0 0 A := by
  refine Met.ofW (cc := cX9_init) (maxL := 3) (ret := none) (by decide) rfl ?_
  intro p e s m args below meth c s₁ B hml hv
  obtain ⟨rfl, hP, hK, hD, hA, hST⟩ := hv
  have hS : va_S A s.heap s.heap [] := va_S.rf
  have hin : meth.name = "<init>" := (name_of_methodNamed B.named B.method).1
  have C : ga_cx p m c meth s _ RX9 cX9_init 3 none := ga_cx_of B hml
  have C0 := C
  obtain ⟨hx, hb, hr, hlocks, hml, hown, hts⟩ := C0
  have hl := lv_entry ([.ref q, .int x1, .int x2]) (n := 3) (Nat.le_of_ble_eq_true rfl)
  rw [lg_entry_eq]
  generalize (lg_sl ([.ref q, .int x1, .int x2]) ++ List.replicate (3 - (lg_sl ([.ref q, .int x1, .int x2])).length) Slot.unset).toArray = ls at hl ⊢
  have hl : lv_has ls 3 [(0, .ref q), (1, .int x1), (2, .int x2)] := hl
  rw [F_X9_init_Wa] at h
  refine lv_aload_n hx hb dX9_init_0 rfl (lv_at hl 0 rfl) ?_
  refine lv_bipush (v := 20) hx hb dX9_init_1 (by decide) ?_
  refine lv_iload_n hx hb dX9_init_3 rfl (lv_at hl 1 rfl) ?_
  refine lv_iadd hx hb dX9_init_4 ?_
  refine lv_iload_n hx hb dX9_init_5 rfl (lv_at hl 2 rfl) ?_
  refine lv_null hx hb dX9_init_6 ?_
  obtain ⟨r_1, e_2, h⟩ := ga_gb h
  have hFc := va_free (wc := [(q, .inr (11, [.int 0, .int 0, .null, .null, .null, .null, .null, .int 0]))]) hD hS hA [0] rfl
  refine va_callv (va_runI (As := [.int (20 + x1), .int x2, .null]) (rest := []) ⟨hx, hb, hml, hown, hts⟩ (met_X7_init_Wa l D cA (va_A [(q, .inr (11, [.int 0, .int 0, .null, .null, .null, .null, .null, .int 0]))] s.heap.size) q zs N (20 + x1) x2 r_1 e_2) (cwI 3 hts (lw_meth q722) rfl rfl rfl (hts _ q92) (hts _ q753) (hts _ q721) rfl (by decide +kernel) ⟨Nat.le_of_ble_eq_true rfl, Nat.le_of_ble_eq_true rfl⟩) (ga_XS hK (hP.sub (ws' := [(q, .inr (11, [.int 0, .int 0, .null, .null, .null, .null, .null, .int 0]))]) [0] rfl) (hD.sub (ws' := [(q, .inr (11, [.int 0, .int 0, .null, .null, .null, .null, .null, .int 0]))]) [0] (by decide) rfl).self (fun _ hq => Or.inr hq) (hST.at hS hFc)) rfl rfl hl.1 rfl (lv_room (Nat.le_of_ble_eq_true rfl)) dX9_init_7 ⟨Nat.le_of_ble_eq_true rfl, Nat.le_of_ble_eq_true rfl⟩) hS (fun q _ hq => hFc q hq) hFc (fun u_6 t H_5 locs ht _ w_4 hB _ hk hS => ?_)
  obtain ⟨hP1, -, hD1⟩ := hB
  obtain rfl := w_4
  rw [ht] at hP1
  obtain ⟨hP, hD⟩ := va_join (wr := []) (w1 := [(q, .inr (11, [.int r_1.1, .int r_1.2, .null, .null, .null, .null, .null, .int 0]))]) hP hD [0] [] rfl rfl (by decide) (by decide) hk hFc hP1 hD1
  have hP : va_P D ga_cl [(q, .inr (11, [.int r_1.1, .int r_1.2, .null, .null, .null, .null, .null, .int 0]))] H_5 := hP
  have hD : va_D A [(q, .inr (11, [.int r_1.1, .int r_1.2, .null, .null, .null, .null, .null, .int 0]))] := hD
  have hP9 := hP.sub (ws' := [(q, .inr (11, [.int r_1.1, .int r_1.2, .null, .null, .null, .null, .null, .int 0]))]) [0] rfl
  have hD9 := hD.sub (ws' := [(q, .inr (11, [.int r_1.1, .int r_1.2, .null, .null, .null, .null, .null, .int 0]))]) [0] (by decide) rfl
  obtain rfl := Option.some.inj h
  exact W.vret hx hb hr (fun t ht hW => ⟨⟨(r_1.1, r_1.2), rfl, rfl, ⟨by rw [ht]; exact hP9, hK.warm hW, hD9⟩⟩, hS.F ht⟩) hS.2.2 dX9_init_10
abbrev rm_J6_init_3_Ch_r : Room := { frames := 1, cells := 0, slots := 0, locals := 12 }
def F_J6_init_3_Ch_r (N : Nat)   : Option (Unit) :=
  some ()
set_option maxHeartbeats 4000000 in
theorem met_J6_init_3_Ch_r (l : Launch) (D : va_G) (cA : Nat → ClassId) (A : Nat → Prop) (q : Nat) (zs : Nat → Nat) (cz : Nat)  (N : Nat)   (out : Unit) (h : F_J6_init_3_Ch_r N = some out) : Met l yJ6_init_3 (ws_ yJ6_init_3 cJ6_init_3 5 none) rm_J6_init_3_Ch_r (ga_X D cA zs A [(q, .inr (12, [.int 0, .int 0, .null, .null, .null, .null, .null, .int 0]))] [.ref q, .null, .ref cz, .int 0, .int 0]) (va_Qv (fun (u : Unit) => out = u) (fun (u : Unit) (t : State) => va_P D ga_cl [(q, .inr (12, [.int 0, .int 0, .ref cz, .null, .null, .null, .null, .int 0]))] t.heap ∧ ga_K D cA t ∧ va_D A [(q, .inr (12, [.int 0, .int 0, .ref cz, .null, .null, .null, .null, .int 0]))]) A) 0 0 A := by
  refine Met.ofW (cc := cJ6_init_3) (maxL := 5) (ret := none) (by decide) rfl ?_
  intro p e s m args below meth c s₁ B hml hv
  obtain ⟨rfl, hP, hK, hD, hA, hST⟩ := hv
  have hS : va_S A s.heap s.heap [] := va_S.rf
  have hin : meth.name = "<init>" := (name_of_methodNamed B.named B.method).1
  have C : ga_cx p m c meth s _ RJ6 cJ6_init_3 5 none := ga_cx_of B hml
  have C0 := C
  obtain ⟨hx, hb, hr, hlocks, hml, hown, hts⟩ := C0
  have hl := lv_entry ([.ref q, .null, .ref cz, .int 0, .int 0]) (n := 5) (Nat.le_of_ble_eq_true rfl)
  rw [lg_entry_eq]
  generalize (lg_sl ([.ref q, .null, .ref cz, .int 0, .int 0]) ++ List.replicate (5 - (lg_sl ([.ref q, .null, .ref cz, .int 0, .int 0])).length) Slot.unset).toArray = ls at hl ⊢
  have hl : lv_has ls 5 [(0, .ref q), (1, .null), (2, .ref cz), (3, .int 0), (4, .int 0)] := hl
  rw [F_J6_init_3_Ch_r] at h
  refine lv_aload_n hx hb dJ6_init_3_0 rfl (lv_at hl 0 rfl) ?_
  refine W.objInit hx hb hown (hts _ q518) (hts _ q113) (hts _ q114) rfl (by rw [hml]; exact hl.1) rfl dJ6_init_3_1 (Nat.le_of_ble_eq_true rfl) (Nat.le_of_ble_eq_true rfl) ?_
  refine W.eq (g2 := F0 m 4 ls []) rfl ?_
  refine lv_aload_n hx hb dJ6_init_3_4 rfl (lv_at hl 0 rfl) ?_
  refine lv_aload_n hx hb dJ6_init_3_5 rfl (lv_at hl 0 rfl) ?_
  refine va_put hx hb hts in_X10 tyX10 tyX10_ok nmX10 hown hK.1 hP hD hS 0 (fs := [.int 0, .int 0, .null, .null, .null, .null, .null, .int 0]) rfl rfl 2 (by decide) (hts _ q554) (fun _ hh => hh) rfl (v := .ref q) rfl rfl rfl (show 2 < 8 by decide) dJ6_init_3_6 (fun H_1 locs hP hD hS => ?_)
  have hP : va_P D ga_cl [(q, .inr (12, [.int 0, .int 0, .ref q, .null, .null, .null, .null, .int 0]))] H_1 := hP
  have hD : va_D A [(q, .inr (12, [.int 0, .int 0, .ref q, .null, .null, .null, .null, .int 0]))] := hD
  refine lv_aload_n hx hb dJ6_init_3_9 rfl (lv_at hl 0 rfl) ?_
  obtain ⟨o_3, f_4⟩ := ga_Zq hST.1.1
  refine va_gets hx hb f_4 hS hown (hts _ q519) (fun _ hh => hh) dJ6_init_3_10 ?_
  refine va_put hx hb hts in_X10 tyX10 tyX10_ok nmX10 hown hK.1 hP hD hS 0 (fs := [.int 0, .int 0, .ref q, .null, .null, .null, .null, .int 0]) rfl rfl 3 (by decide) (hts _ q555) (fun _ hh => hh) rfl (v := va_rf o_3) rfl (by cases o_3 <;> rfl) (by cases o_3 <;> rfl) (show 3 < 8 by decide) dJ6_init_3_13 (fun H_5 locs hP hD hS => ?_)
  have hP : va_P D ga_cl [(q, .inr (12, [.int 0, .int 0, .ref q, va_rf o_3, .null, .null, .null, .int 0]))] H_5 := hP
  have hD : va_D A [(q, .inr (12, [.int 0, .int 0, .ref q, va_rf o_3, .null, .null, .null, .int 0]))] := hD
  refine lv_aload_n hx hb dJ6_init_3_16 rfl (lv_at hl 0 rfl) ?_
  obtain ⟨o_7, f_8⟩ := ga_Zq hST.2.1.1
  refine va_gets hx hb f_8 hS hown (hts _ q521) (fun _ hh => hh) dJ6_init_3_17 ?_
  refine va_put hx hb hts in_X10 tyX10 tyX10_ok nmX10 hown hK.1 hP hD hS 0 (fs := [.int 0, .int 0, .ref q, va_rf o_3, .null, .null, .null, .int 0]) rfl rfl 4 (by decide) (hts _ q556) (fun _ hh => hh) rfl (v := va_rf o_7) rfl (by cases o_7 <;> rfl) (by cases o_7 <;> rfl) (show 4 < 8 by decide) dJ6_init_3_20 (fun H_9 locs hP hD hS => ?_)
  have hP : va_P D ga_cl [(q, .inr (12, [.int 0, .int 0, .ref q, va_rf o_3, va_rf o_7, .null, .null, .int 0]))] H_9 := hP
  have hD : va_D A [(q, .inr (12, [.int 0, .int 0, .ref q, va_rf o_3, va_rf o_7, .null, .null, .int 0]))] := hD
  refine lv_iload hx hb dJ6_init_3_23 (lv_at hl 4 rfl) ?_
  refine lv_if_eq (tgt := 36) hx hb dJ6_init_3_25 (by decide) (fun _ => ?_) (fun c_11 => absurd (by decide) c_11)
  refine lv_aload_n hx hb dJ6_init_3_36 rfl (lv_at hl 0 rfl) ?_
  refine lv_null hx hb dJ6_init_3_37 ?_
  refine va_put hx hb hts in_X10 tyX10 tyX10_ok nmX10 hown hK.1 hP hD hS 0 (fs := [.int 0, .int 0, .ref q, va_rf o_3, va_rf o_7, .null, .null, .int 0]) rfl rfl 3 (by decide) (hts _ q555) (fun _ hh => hh) rfl (v := .null) rfl rfl rfl (show 3 < 8 by decide) dJ6_init_3_38 (fun H_12 locs hP hD hS => ?_)
  have hP : va_P D ga_cl [(q, .inr (12, [.int 0, .int 0, .ref q, .null, va_rf o_7, .null, .null, .int 0]))] H_12 := hP
  have hD : va_D A [(q, .inr (12, [.int 0, .int 0, .ref q, .null, va_rf o_7, .null, .null, .int 0]))] := hD
  refine lv_aload_n hx hb dJ6_init_3_41 rfl (lv_at hl 0 rfl) ?_
  refine lv_aload_nN hx hb dJ6_init_3_42 rfl (lv_at hl 1 rfl) ?_
  refine va_put hx hb hts in_X10 tyX10 tyX10_ok nmX10 hown hK.1 hP hD hS 0 (fs := [.int 0, .int 0, .ref q, .null, va_rf o_7, .null, .null, .int 0]) rfl rfl 5 (by decide) (hts _ q553) (fun _ hh => hh) rfl (v := .null) rfl rfl rfl (show 5 < 8 by decide) dJ6_init_3_43 (fun H_14 locs hP hD hS => ?_)
  have hP : va_P D ga_cl [(q, .inr (12, [.int 0, .int 0, .ref q, .null, va_rf o_7, .null, .null, .int 0]))] H_14 := hP
  have hD : va_D A [(q, .inr (12, [.int 0, .int 0, .ref q, .null, va_rf o_7, .null, .null, .int 0]))] := hD
  refine lv_aload_n hx hb dJ6_init_3_46 rfl (lv_at hl 0 rfl) ?_
  refine lv_aload_n hx hb dJ6_init_3_47 rfl (lv_at hl 2 rfl) ?_
  refine va_put hx hb hts in_X10 tyX10 tyX10_ok nmX10 hown hK.1 hP hD hS 0 (fs := [.int 0, .int 0, .ref q, .null, va_rf o_7, .null, .null, .int 0]) rfl rfl 2 (by decide) (hts _ q554) (fun _ hh => hh) rfl (v := .ref cz) rfl rfl rfl (show 2 < 8 by decide) dJ6_init_3_48 (fun H_16 locs hP hD hS => ?_)
  have hP : va_P D ga_cl [(q, .inr (12, [.int 0, .int 0, .ref cz, .null, va_rf o_7, .null, .null, .int 0]))] H_16 := hP
  have hD : va_D A [(q, .inr (12, [.int 0, .int 0, .ref cz, .null, va_rf o_7, .null, .null, .int 0]))] := hD
  refine lv_iload_n hx hb dJ6_init_3_51 rfl (lv_at hl 3 rfl) ?_
  refine lv_if_ne (tgt := 60) hx hb dJ6_init_3_52 (by decide) (fun c_18 => absurd (by decide) c_18) (fun _ => ?_)
  refine lv_aload_n hx hb dJ6_init_3_55 rfl (lv_at hl 0 rfl) ?_
  refine lv_null hx hb dJ6_init_3_56 ?_
  refine va_put hx hb hts in_X10 tyX10 tyX10_ok nmX10 hown hK.1 hP hD hS 0 (fs := [.int 0, .int 0, .ref cz, .null, va_rf o_7, .null, .null, .int 0]) rfl rfl 4 (by decide) (hts _ q556) (fun _ hh => hh) rfl (v := .null) rfl rfl rfl (show 4 < 8 by decide) dJ6_init_3_57 (fun H_19 locs hP hD hS => ?_)
  have hP : va_P D ga_cl [(q, .inr (12, [.int 0, .int 0, .ref cz, .null, .null, .null, .null, .int 0]))] H_19 := hP
  have hD : va_D A [(q, .inr (12, [.int 0, .int 0, .ref cz, .null, .null, .null, .null, .int 0]))] := hD
  have hP9 := hP.sub (ws' := [(q, .inr (12, [.int 0, .int 0, .ref cz, .null, .null, .null, .null, .int 0]))]) [0] rfl
  have hD9 := hD.sub (ws' := [(q, .inr (12, [.int 0, .int 0, .ref cz, .null, .null, .null, .null, .int 0]))]) [0] (by decide) rfl
  obtain rfl := Option.some.inj h
  exact W.vret hx hb hr (fun t ht hW => ⟨⟨(), rfl, rfl, ⟨by rw [ht]; exact hP9, hK.warm hW, hD9⟩⟩, hS.F ht⟩) hS.2.2 dJ6_init_3_60
abbrev rm_J7_init_3_Ch_r : Room := { frames := 2, cells := 0, slots := 0, locals := 36 }
def F_J7_init_3_Ch_r (N : Nat)   : Option (Unit) :=
  ((F_J6_init_3_Ch_r N).bind fun r_1 =>
  some ())
set_option maxHeartbeats 4000000 in
theorem met_J7_init_3_Ch_r (l : Launch) (D : va_G) (cA : Nat → ClassId) (A : Nat → Prop) (q : Nat) (zs : Nat → Nat) (cz : Nat)  (N : Nat)   (out : Unit) (h : F_J7_init_3_Ch_r N = some out) : Met l yJ7_init_3 (ws_ yJ7_init_3 cJ7_init_3 5 none) rm_J7_init_3_Ch_r (ga_X D cA zs A [(q, .inr (12, [.int 0, .int 0, .null, .null, .null, .null, .null, .int 0]))] [.ref q, .null, .ref cz, .int 0, .int 0]) (va_Qv (fun (u : Unit) => out = u) (fun (u : Unit) (t : State) => va_P D ga_cl [(q, .inr (12, [.int 0, .int 0, .ref cz, .null, .null, .null, .null, .int 0]))] t.heap ∧ ga_K D cA t ∧ va_D A [(q, .inr (12, [.int 0, .int 0, .ref cz, .null, .null, .null, .null, .int 0]))]) A) 0 0 A := by
  refine Met.ofW (cc := cJ7_init_3) (maxL := 5) (ret := none) (by decide) rfl ?_
  intro p e s m args below meth c s₁ B hml hv
  obtain ⟨rfl, hP, hK, hD, hA, hST⟩ := hv
  have hS : va_S A s.heap s.heap [] := va_S.rf
  have hin : meth.name = "<init>" := (name_of_methodNamed B.named B.method).1
  have C : ga_cx p m c meth s _ RJ7 cJ7_init_3 5 none := ga_cx_of B hml
  have C0 := C
  obtain ⟨hx, hb, hr, hlocks, hml, hown, hts⟩ := C0
  have hl := lv_entry ([.ref q, .null, .ref cz, .int 0, .int 0]) (n := 5) (Nat.le_of_ble_eq_true rfl)
  rw [lg_entry_eq]
  generalize (lg_sl ([.ref q, .null, .ref cz, .int 0, .int 0]) ++ List.replicate (5 - (lg_sl ([.ref q, .null, .ref cz, .int 0, .int 0])).length) Slot.unset).toArray = ls at hl ⊢
  have hl : lv_has ls 5 [(0, .ref q), (1, .null), (2, .ref cz), (3, .int 0), (4, .int 0)] := hl
  rw [F_J7_init_3_Ch_r] at h
  refine lv_aload_n hx hb dJ7_init_3_0 rfl (lv_at hl 0 rfl) ?_
  refine lv_aload_nN hx hb dJ7_init_3_1 rfl (lv_at hl 1 rfl) ?_
  refine lv_aload_n hx hb dJ7_init_3_2 rfl (lv_at hl 2 rfl) ?_
  refine lv_iload_n hx hb dJ7_init_3_3 rfl (lv_at hl 3 rfl) ?_
  refine lv_iload hx hb dJ7_init_3_4 (lv_at hl 4 rfl) ?_
  obtain ⟨r_1, e_2, h⟩ := ga_gb h
  have hFc := va_free (wc := [(q, .inr (12, [.int 0, .int 0, .null, .null, .null, .null, .null, .int 0]))]) hD hS hA [0] rfl
  refine va_callv (va_runI (As := [.null, .ref cz, .int 0, .int 0]) (rest := []) ⟨hx, hb, hml, hown, hts⟩ (met_J6_init_3_Ch_r l D cA (va_A [(q, .inr (12, [.int 0, .int 0, .null, .null, .null, .null, .null, .int 0]))] s.heap.size) q zs cz N r_1 e_2) (cwI 4 hts (lw_meth q728) rfl rfl rfl (hts _ q80) (hts _ q726) (hts _ q727) rfl (by decide +kernel) ⟨Nat.le_of_ble_eq_true rfl, Nat.le_of_ble_eq_true rfl⟩) (ga_XS hK (hP.sub (ws' := [(q, .inr (12, [.int 0, .int 0, .null, .null, .null, .null, .null, .int 0]))]) [0] rfl) (hD.sub (ws' := [(q, .inr (12, [.int 0, .int 0, .null, .null, .null, .null, .null, .int 0]))]) [0] (by decide) rfl).self (fun _ hq => Or.inr hq) (hST.at hS hFc)) rfl rfl hl.1 rfl (lv_room (Nat.le_of_ble_eq_true rfl)) dJ7_init_3_6 ⟨Nat.le_of_ble_eq_true rfl, Nat.le_of_ble_eq_true rfl⟩) hS (fun q _ hq => hFc q hq) hFc (fun u_6 t H_5 locs ht _ w_4 hB _ hk hS => ?_)
  obtain ⟨hP1, -, hD1⟩ := hB
  obtain rfl := w_4
  rw [ht] at hP1
  obtain ⟨hP, hD⟩ := va_join (wr := []) (w1 := [(q, .inr (12, [.int 0, .int 0, .ref cz, .null, .null, .null, .null, .int 0]))]) hP hD [0] [] rfl rfl (by decide) (by decide) hk hFc hP1 hD1
  have hP : va_P D ga_cl [(q, .inr (12, [.int 0, .int 0, .ref cz, .null, .null, .null, .null, .int 0]))] H_5 := hP
  have hD : va_D A [(q, .inr (12, [.int 0, .int 0, .ref cz, .null, .null, .null, .null, .int 0]))] := hD
  have hP9 := hP.sub (ws' := [(q, .inr (12, [.int 0, .int 0, .ref cz, .null, .null, .null, .null, .int 0]))]) [0] rfl
  have hD9 := hD.sub (ws' := [(q, .inr (12, [.int 0, .int 0, .ref cz, .null, .null, .null, .null, .int 0]))]) [0] (by decide) rfl
  obtain rfl := Option.some.inj h
  exact W.vret hx hb hr (fun t ht hW => ⟨⟨(), rfl, rfl, ⟨by rw [ht]; exact hP9, hK.warm hW, hD9⟩⟩, hS.F ht⟩) hS.2.2 dJ7_init_3_9
abbrev rm_X7_init_Ch_r : Room := { frames := 3, cells := 0, slots := 0, locals := 60 }
def F_X7_init_Ch_r (N : Nat)  (x1 : Int32) (x2 : Int32) : Option (Int32 × Int32) :=
  ((F_J7_init_3_Ch_r N).bind fun r_1 =>
  some (x1, x2))
set_option maxHeartbeats 4000000 in
theorem met_X7_init_Ch_r (l : Launch) (D : va_G) (cA : Nat → ClassId) (A : Nat → Prop) (q : Nat) (zs : Nat → Nat) (cz : Nat)  (N : Nat) (x1 : Int32) (x2 : Int32)  (out : Int32 × Int32) (h : F_X7_init_Ch_r N x1 x2 = some out) : Met l yX7_init (ws_ yX7_init cX7_init 4 none) rm_X7_init_Ch_r (ga_X D cA zs A [(q, .inr (12, [.int 0, .int 0, .null, .null, .null, .null, .null, .int 0]))] [.ref q, .int x1, .int x2, .ref cz]) (va_Qv (fun (u : Int32 × Int32) => out = u) (fun (u : Int32 × Int32) (t : State) => va_P D ga_cl [(q, .inr (12, [.int u.1, .int u.2, .ref cz, .null, .null, .null, .null, .int 0]))] t.heap ∧ ga_K D cA t ∧ va_D A [(q, .inr (12, [.int u.1, .int u.2, .ref cz, .null, .null, .null, .null, .int 0]))]) A) 0 0 A := by
  refine Met.ofW (cc := cX7_init) (maxL := 4) (ret := none) (by decide) rfl ?_
  intro p e s m args below meth c s₁ B hml hv
  obtain ⟨rfl, hP, hK, hD, hA, hST⟩ := hv
  have hS : va_S A s.heap s.heap [] := va_S.rf
  have hin : meth.name = "<init>" := (name_of_methodNamed B.named B.method).1
  have C : ga_cx p m c meth s _ RX7 cX7_init 4 none := ga_cx_of B hml
  have C0 := C
  obtain ⟨hx, hb, hr, hlocks, hml, hown, hts⟩ := C0
  have hl := lv_entry ([.ref q, .int x1, .int x2, .ref cz]) (n := 4) (Nat.le_of_ble_eq_true rfl)
  rw [lg_entry_eq]
  generalize (lg_sl ([.ref q, .int x1, .int x2, .ref cz]) ++ List.replicate (4 - (lg_sl ([.ref q, .int x1, .int x2, .ref cz])).length) Slot.unset).toArray = ls at hl ⊢
  have hl : lv_has ls 4 [(0, .ref q), (1, .int x1), (2, .int x2), (3, .ref cz)] := hl
  rw [F_X7_init_Ch_r] at h
  refine lv_aload_n hx hb dX7_init_0 rfl (lv_at hl 0 rfl) ?_
  refine lv_null hx hb dX7_init_1 ?_
  refine lv_aload_n hx hb dX7_init_2 rfl (lv_at hl 3 rfl) ?_
  refine lv_iconst (v := 0) hx hb dX7_init_3 (by decide) ?_
  refine lv_iconst (v := 0) hx hb dX7_init_4 (by decide) ?_
  obtain ⟨r_1, e_2, h⟩ := ga_gb h
  have hFc := va_free (wc := [(q, .inr (12, [.int 0, .int 0, .null, .null, .null, .null, .null, .int 0]))]) hD hS hA [0] rfl
  refine va_callv (va_runI (As := [.null, .ref cz, .int 0, .int 0]) (rest := []) ⟨hx, hb, hml, hown, hts⟩ (met_J7_init_3_Ch_r l D cA (va_A [(q, .inr (12, [.int 0, .int 0, .null, .null, .null, .null, .null, .int 0]))] s.heap.size) q zs cz N r_1 e_2) (cwI 4 hts (lw_meth q725) rfl rfl rfl (hts _ q81) (hts _ q723) (hts _ q724) rfl (by decide +kernel) ⟨Nat.le_of_ble_eq_true rfl, Nat.le_of_ble_eq_true rfl⟩) (ga_XS hK (hP.sub (ws' := [(q, .inr (12, [.int 0, .int 0, .null, .null, .null, .null, .null, .int 0]))]) [0] rfl) (hD.sub (ws' := [(q, .inr (12, [.int 0, .int 0, .null, .null, .null, .null, .null, .int 0]))]) [0] (by decide) rfl).self (fun _ hq => Or.inr hq) (hST.at hS hFc)) rfl rfl hl.1 rfl (lv_room (Nat.le_of_ble_eq_true rfl)) dX7_init_5 ⟨Nat.le_of_ble_eq_true rfl, Nat.le_of_ble_eq_true rfl⟩) hS (fun q _ hq => hFc q hq) hFc (fun u_6 t H_5 locs ht _ w_4 hB _ hk hS => ?_)
  obtain ⟨hP1, -, hD1⟩ := hB
  obtain rfl := w_4
  rw [ht] at hP1
  obtain ⟨hP, hD⟩ := va_join (wr := []) (w1 := [(q, .inr (12, [.int 0, .int 0, .ref cz, .null, .null, .null, .null, .int 0]))]) hP hD [0] [] rfl rfl (by decide) (by decide) hk hFc hP1 hD1
  have hP : va_P D ga_cl [(q, .inr (12, [.int 0, .int 0, .ref cz, .null, .null, .null, .null, .int 0]))] H_5 := hP
  have hD : va_D A [(q, .inr (12, [.int 0, .int 0, .ref cz, .null, .null, .null, .null, .int 0]))] := hD
  refine lv_aload_n hx hb dX7_init_8 rfl (lv_at hl 0 rfl) ?_
  refine lv_iload_n hx hb dX7_init_9 rfl (lv_at hl 1 rfl) ?_
  refine va_putF hx hb hts in_X10 tyX10 tyX10_ok nmX10 hown hK.1 hP hD hS 0 (fs := [.int 0, .int 0, .ref cz, .null, .null, .null, .null, .int 0]) rfl rfl 0 (by decide) (hts _ q729) (fun _ hh => hh) rfl hin rfl (v := .int x1) rfl rfl rfl (show 0 < 8 by decide) dX7_init_10 (fun H_8 locs hP hD hS => ?_)
  have hP : va_P D ga_cl [(q, .inr (12, [.int x1, .int 0, .ref cz, .null, .null, .null, .null, .int 0]))] H_8 := hP
  have hD : va_D A [(q, .inr (12, [.int x1, .int 0, .ref cz, .null, .null, .null, .null, .int 0]))] := hD
  refine lv_aload_n hx hb dX7_init_13 rfl (lv_at hl 0 rfl) ?_
  refine lv_iload_n hx hb dX7_init_14 rfl (lv_at hl 2 rfl) ?_
  refine va_putF hx hb hts in_X10 tyX10 tyX10_ok nmX10 hown hK.1 hP hD hS 0 (fs := [.int x1, .int 0, .ref cz, .null, .null, .null, .null, .int 0]) rfl rfl 1 (by decide) (hts _ q730) (fun _ hh => hh) rfl hin rfl (v := .int x2) rfl rfl rfl (show 1 < 8 by decide) dX7_init_15 (fun H_10 locs hP hD hS => ?_)
  have hP : va_P D ga_cl [(q, .inr (12, [.int x1, .int x2, .ref cz, .null, .null, .null, .null, .int 0]))] H_10 := hP
  have hD : va_D A [(q, .inr (12, [.int x1, .int x2, .ref cz, .null, .null, .null, .null, .int 0]))] := hD
  have hP9 := hP.sub (ws' := [(q, .inr (12, [.int x1, .int x2, .ref cz, .null, .null, .null, .null, .int 0]))]) [0] rfl
  have hD9 := hD.sub (ws' := [(q, .inr (12, [.int x1, .int x2, .ref cz, .null, .null, .null, .null, .int 0]))]) [0] (by decide) rfl
  obtain rfl := Option.some.inj h
  exact W.vret hx hb hr (fun t ht hW => ⟨⟨(x1, x2), rfl, rfl, ⟨by rw [ht]; exact hP9, hK.warm hW, hD9⟩⟩, hS.F ht⟩) hS.2.2 dX7_init_18
abbrev rm_X10_init_Ch_r : Room := { frames := 4, cells := 0, slots := 0, locals := 83 }
def F_X10_init_Ch_r (N : Nat)  (x1 : Int32) (x2 : Int32) : Option (Int32 × Int32) :=
  ((F_X7_init_Ch_r N (2 + x1) x2).bind fun r_1 =>
  some (r_1.1, r_1.2))
set_option maxHeartbeats 4000000 in
theorem met_X10_init_Ch_r (l : Launch) (D : va_G) (cA : Nat → ClassId) (A : Nat → Prop) (q : Nat) (zs : Nat → Nat) (cz : Nat)  (N : Nat) (x1 : Int32) (x2 : Int32)  (out : Int32 × Int32) (h : F_X10_init_Ch_r N x1 x2 = some out) : Met l yX10_init (ws_ yX10_init cX10_init 4 none) rm_X10_init_Ch_r (ga_X D cA zs A [(q, .inr (12, [.int 0, .int 0, .null, .null, .null, .null, .null, .int 0]))] [.ref q, .int x1, .int x2, .ref cz]) (va_Qv (fun (u : Int32 × Int32) => out = u) (fun (u : Int32 × Int32) (t : State) => va_P D ga_cl [(q, .inr (12, [.int u.1, .int u.2, .ref cz, .null, .null, .null, .null, .int 0]))] t.heap ∧ ga_K D cA t ∧ va_D A [(q, .inr (12, [.int u.1, .int u.2, .ref cz, .null, .null, .null, .null, .int 0]))]) A) 0 0 A := by
  refine Met.ofW (cc := cX10_init) (maxL := 4) (ret := none) (by decide) rfl ?_
  intro p e s m args below meth c s₁ B hml hv
  obtain ⟨rfl, hP, hK, hD, hA, hST⟩ := hv
  have hS : va_S A s.heap s.heap [] := va_S.rf
  have hin : meth.name = "<init>" := (name_of_methodNamed B.named B.method).1
  have C : ga_cx p m c meth s _ RX10 cX10_init 4 none := ga_cx_of B hml
  have C0 := C
  obtain ⟨hx, hb, hr, hlocks, hml, hown, hts⟩ := C0
  have hl := lv_entry ([.ref q, .int x1, .int x2, .ref cz]) (n := 4) (Nat.le_of_ble_eq_true rfl)
  rw [lg_entry_eq]
  generalize (lg_sl ([.ref q, .int x1, .int x2, .ref cz]) ++ List.replicate (4 - (lg_sl ([.ref q, .int x1, .int x2, .ref cz])).length) Slot.unset).toArray = ls at hl ⊢
  have hl : lv_has ls 4 [(0, .ref q), (1, .int x1), (2, .int x2), (3, .ref cz)] := hl
  rw [F_X10_init_Ch_r] at h
  refine lv_aload_n hx hb dX10_init_0 rfl (lv_at hl 0 rfl) ?_
  refine lv_iconst (v := 2) hx hb dX10_init_1 (by decide) ?_
  refine lv_iload_n hx hb dX10_init_2 rfl (lv_at hl 1 rfl) ?_
  refine lv_iadd hx hb dX10_init_3 ?_
  refine lv_iload_n hx hb dX10_init_4 rfl (lv_at hl 2 rfl) ?_
  refine lv_aload_n hx hb dX10_init_5 rfl (lv_at hl 3 rfl) ?_
  obtain ⟨r_1, e_2, h⟩ := ga_gb h
  have hFc := va_free (wc := [(q, .inr (12, [.int 0, .int 0, .null, .null, .null, .null, .null, .int 0]))]) hD hS hA [0] rfl
  refine va_callv (va_runI (As := [.int (2 + x1), .int x2, .ref cz]) (rest := []) ⟨hx, hb, hml, hown, hts⟩ (met_X7_init_Ch_r l D cA (va_A [(q, .inr (12, [.int 0, .int 0, .null, .null, .null, .null, .null, .int 0]))] s.heap.size) q zs cz N (2 + x1) x2 r_1 e_2) (cwI 3 hts (lw_meth q722) rfl rfl rfl (hts _ q92) (hts _ q769) (hts _ q721) rfl (by decide +kernel) ⟨Nat.le_of_ble_eq_true rfl, Nat.le_of_ble_eq_true rfl⟩) (ga_XS hK (hP.sub (ws' := [(q, .inr (12, [.int 0, .int 0, .null, .null, .null, .null, .null, .int 0]))]) [0] rfl) (hD.sub (ws' := [(q, .inr (12, [.int 0, .int 0, .null, .null, .null, .null, .null, .int 0]))]) [0] (by decide) rfl).self (fun _ hq => Or.inr hq) (hST.at hS hFc)) rfl rfl hl.1 rfl (lv_room (Nat.le_of_ble_eq_true rfl)) dX10_init_6 ⟨Nat.le_of_ble_eq_true rfl, Nat.le_of_ble_eq_true rfl⟩) hS (fun q _ hq => hFc q hq) hFc (fun u_6 t H_5 locs ht _ w_4 hB _ hk hS => ?_)
  obtain ⟨hP1, -, hD1⟩ := hB
  obtain rfl := w_4
  rw [ht] at hP1
  obtain ⟨hP, hD⟩ := va_join (wr := []) (w1 := [(q, .inr (12, [.int r_1.1, .int r_1.2, .ref cz, .null, .null, .null, .null, .int 0]))]) hP hD [0] [] rfl rfl (by decide) (by decide) hk hFc hP1 hD1
  have hP : va_P D ga_cl [(q, .inr (12, [.int r_1.1, .int r_1.2, .ref cz, .null, .null, .null, .null, .int 0]))] H_5 := hP
  have hD : va_D A [(q, .inr (12, [.int r_1.1, .int r_1.2, .ref cz, .null, .null, .null, .null, .int 0]))] := hD
  have hP9 := hP.sub (ws' := [(q, .inr (12, [.int r_1.1, .int r_1.2, .ref cz, .null, .null, .null, .null, .int 0]))]) [0] rfl
  have hD9 := hD.sub (ws' := [(q, .inr (12, [.int r_1.1, .int r_1.2, .ref cz, .null, .null, .null, .null, .int 0]))]) [0] (by decide) rfl
  obtain rfl := Option.some.inj h
  exact W.vret hx hb hr (fun t ht hW => ⟨⟨(r_1.1, r_1.2), rfl, rfl, ⟨by rw [ht]; exact hP9, hK.warm hW, hD9⟩⟩, hS.F ht⟩) hS.2.2 dX10_init_9
abbrev rm_J6_init_3_Ro_r : Room := { frames := 1, cells := 0, slots := 0, locals := 12 }
def F_J6_init_3_Ro_r (N : Nat)   : Option (Unit) :=
  some ()
set_option maxHeartbeats 4000000 in
theorem met_J6_init_3_Ro_r (l : Launch) (D : va_G) (cA : Nat → ClassId) (A : Nat → Prop) (q : Nat) (zs : Nat → Nat) (cz : Nat)  (N : Nat)   (out : Unit) (h : F_J6_init_3_Ro_r N = some out) : Met l yJ6_init_3 (ws_ yJ6_init_3 cJ6_init_3 5 none) rm_J6_init_3_Ro_r (ga_X D cA zs A [(q, .inr (13, [.int 0, .int 0, .null, .null, .null, .null, .null, .int 0]))] [.ref q, .null, .ref cz, .int 0, .int 0]) (va_Qv (fun (u : Unit) => out = u) (fun (u : Unit) (t : State) => va_P D ga_cl [(q, .inr (13, [.int 0, .int 0, .ref cz, .null, .null, .null, .null, .int 0]))] t.heap ∧ ga_K D cA t ∧ va_D A [(q, .inr (13, [.int 0, .int 0, .ref cz, .null, .null, .null, .null, .int 0]))]) A) 0 0 A := by
  refine Met.ofW (cc := cJ6_init_3) (maxL := 5) (ret := none) (by decide) rfl ?_
  intro p e s m args below meth c s₁ B hml hv
  obtain ⟨rfl, hP, hK, hD, hA, hST⟩ := hv
  have hS : va_S A s.heap s.heap [] := va_S.rf
  have hin : meth.name = "<init>" := (name_of_methodNamed B.named B.method).1
  have C : ga_cx p m c meth s _ RJ6 cJ6_init_3 5 none := ga_cx_of B hml
  have C0 := C
  obtain ⟨hx, hb, hr, hlocks, hml, hown, hts⟩ := C0
  have hl := lv_entry ([.ref q, .null, .ref cz, .int 0, .int 0]) (n := 5) (Nat.le_of_ble_eq_true rfl)
  rw [lg_entry_eq]
  generalize (lg_sl ([.ref q, .null, .ref cz, .int 0, .int 0]) ++ List.replicate (5 - (lg_sl ([.ref q, .null, .ref cz, .int 0, .int 0])).length) Slot.unset).toArray = ls at hl ⊢
  have hl : lv_has ls 5 [(0, .ref q), (1, .null), (2, .ref cz), (3, .int 0), (4, .int 0)] := hl
  rw [F_J6_init_3_Ro_r] at h
  refine lv_aload_n hx hb dJ6_init_3_0 rfl (lv_at hl 0 rfl) ?_
  refine W.objInit hx hb hown (hts _ q518) (hts _ q113) (hts _ q114) rfl (by rw [hml]; exact hl.1) rfl dJ6_init_3_1 (Nat.le_of_ble_eq_true rfl) (Nat.le_of_ble_eq_true rfl) ?_
  refine W.eq (g2 := F0 m 4 ls []) rfl ?_
  refine lv_aload_n hx hb dJ6_init_3_4 rfl (lv_at hl 0 rfl) ?_
  refine lv_aload_n hx hb dJ6_init_3_5 rfl (lv_at hl 0 rfl) ?_
  refine va_put hx hb hts in_X11 tyX11 tyX11_ok nmX11 hown hK.1 hP hD hS 0 (fs := [.int 0, .int 0, .null, .null, .null, .null, .null, .int 0]) rfl rfl 2 (by decide) (hts _ q554) (fun _ hh => hh) rfl (v := .ref q) rfl rfl rfl (show 2 < 8 by decide) dJ6_init_3_6 (fun H_1 locs hP hD hS => ?_)
  have hP : va_P D ga_cl [(q, .inr (13, [.int 0, .int 0, .ref q, .null, .null, .null, .null, .int 0]))] H_1 := hP
  have hD : va_D A [(q, .inr (13, [.int 0, .int 0, .ref q, .null, .null, .null, .null, .int 0]))] := hD
  refine lv_aload_n hx hb dJ6_init_3_9 rfl (lv_at hl 0 rfl) ?_
  obtain ⟨o_3, f_4⟩ := ga_Zq hST.1.1
  refine va_gets hx hb f_4 hS hown (hts _ q519) (fun _ hh => hh) dJ6_init_3_10 ?_
  refine va_put hx hb hts in_X11 tyX11 tyX11_ok nmX11 hown hK.1 hP hD hS 0 (fs := [.int 0, .int 0, .ref q, .null, .null, .null, .null, .int 0]) rfl rfl 3 (by decide) (hts _ q555) (fun _ hh => hh) rfl (v := va_rf o_3) rfl (by cases o_3 <;> rfl) (by cases o_3 <;> rfl) (show 3 < 8 by decide) dJ6_init_3_13 (fun H_5 locs hP hD hS => ?_)
  have hP : va_P D ga_cl [(q, .inr (13, [.int 0, .int 0, .ref q, va_rf o_3, .null, .null, .null, .int 0]))] H_5 := hP
  have hD : va_D A [(q, .inr (13, [.int 0, .int 0, .ref q, va_rf o_3, .null, .null, .null, .int 0]))] := hD
  refine lv_aload_n hx hb dJ6_init_3_16 rfl (lv_at hl 0 rfl) ?_
  obtain ⟨o_7, f_8⟩ := ga_Zq hST.2.1.1
  refine va_gets hx hb f_8 hS hown (hts _ q521) (fun _ hh => hh) dJ6_init_3_17 ?_
  refine va_put hx hb hts in_X11 tyX11 tyX11_ok nmX11 hown hK.1 hP hD hS 0 (fs := [.int 0, .int 0, .ref q, va_rf o_3, .null, .null, .null, .int 0]) rfl rfl 4 (by decide) (hts _ q556) (fun _ hh => hh) rfl (v := va_rf o_7) rfl (by cases o_7 <;> rfl) (by cases o_7 <;> rfl) (show 4 < 8 by decide) dJ6_init_3_20 (fun H_9 locs hP hD hS => ?_)
  have hP : va_P D ga_cl [(q, .inr (13, [.int 0, .int 0, .ref q, va_rf o_3, va_rf o_7, .null, .null, .int 0]))] H_9 := hP
  have hD : va_D A [(q, .inr (13, [.int 0, .int 0, .ref q, va_rf o_3, va_rf o_7, .null, .null, .int 0]))] := hD
  refine lv_iload hx hb dJ6_init_3_23 (lv_at hl 4 rfl) ?_
  refine lv_if_eq (tgt := 36) hx hb dJ6_init_3_25 (by decide) (fun _ => ?_) (fun c_11 => absurd (by decide) c_11)
  refine lv_aload_n hx hb dJ6_init_3_36 rfl (lv_at hl 0 rfl) ?_
  refine lv_null hx hb dJ6_init_3_37 ?_
  refine va_put hx hb hts in_X11 tyX11 tyX11_ok nmX11 hown hK.1 hP hD hS 0 (fs := [.int 0, .int 0, .ref q, va_rf o_3, va_rf o_7, .null, .null, .int 0]) rfl rfl 3 (by decide) (hts _ q555) (fun _ hh => hh) rfl (v := .null) rfl rfl rfl (show 3 < 8 by decide) dJ6_init_3_38 (fun H_12 locs hP hD hS => ?_)
  have hP : va_P D ga_cl [(q, .inr (13, [.int 0, .int 0, .ref q, .null, va_rf o_7, .null, .null, .int 0]))] H_12 := hP
  have hD : va_D A [(q, .inr (13, [.int 0, .int 0, .ref q, .null, va_rf o_7, .null, .null, .int 0]))] := hD
  refine lv_aload_n hx hb dJ6_init_3_41 rfl (lv_at hl 0 rfl) ?_
  refine lv_aload_nN hx hb dJ6_init_3_42 rfl (lv_at hl 1 rfl) ?_
  refine va_put hx hb hts in_X11 tyX11 tyX11_ok nmX11 hown hK.1 hP hD hS 0 (fs := [.int 0, .int 0, .ref q, .null, va_rf o_7, .null, .null, .int 0]) rfl rfl 5 (by decide) (hts _ q553) (fun _ hh => hh) rfl (v := .null) rfl rfl rfl (show 5 < 8 by decide) dJ6_init_3_43 (fun H_14 locs hP hD hS => ?_)
  have hP : va_P D ga_cl [(q, .inr (13, [.int 0, .int 0, .ref q, .null, va_rf o_7, .null, .null, .int 0]))] H_14 := hP
  have hD : va_D A [(q, .inr (13, [.int 0, .int 0, .ref q, .null, va_rf o_7, .null, .null, .int 0]))] := hD
  refine lv_aload_n hx hb dJ6_init_3_46 rfl (lv_at hl 0 rfl) ?_
  refine lv_aload_n hx hb dJ6_init_3_47 rfl (lv_at hl 2 rfl) ?_
  refine va_put hx hb hts in_X11 tyX11 tyX11_ok nmX11 hown hK.1 hP hD hS 0 (fs := [.int 0, .int 0, .ref q, .null, va_rf o_7, .null, .null, .int 0]) rfl rfl 2 (by decide) (hts _ q554) (fun _ hh => hh) rfl (v := .ref cz) rfl rfl rfl (show 2 < 8 by decide) dJ6_init_3_48 (fun H_16 locs hP hD hS => ?_)
  have hP : va_P D ga_cl [(q, .inr (13, [.int 0, .int 0, .ref cz, .null, va_rf o_7, .null, .null, .int 0]))] H_16 := hP
  have hD : va_D A [(q, .inr (13, [.int 0, .int 0, .ref cz, .null, va_rf o_7, .null, .null, .int 0]))] := hD
  refine lv_iload_n hx hb dJ6_init_3_51 rfl (lv_at hl 3 rfl) ?_
  refine lv_if_ne (tgt := 60) hx hb dJ6_init_3_52 (by decide) (fun c_18 => absurd (by decide) c_18) (fun _ => ?_)
  refine lv_aload_n hx hb dJ6_init_3_55 rfl (lv_at hl 0 rfl) ?_
  refine lv_null hx hb dJ6_init_3_56 ?_
  refine va_put hx hb hts in_X11 tyX11 tyX11_ok nmX11 hown hK.1 hP hD hS 0 (fs := [.int 0, .int 0, .ref cz, .null, va_rf o_7, .null, .null, .int 0]) rfl rfl 4 (by decide) (hts _ q556) (fun _ hh => hh) rfl (v := .null) rfl rfl rfl (show 4 < 8 by decide) dJ6_init_3_57 (fun H_19 locs hP hD hS => ?_)
  have hP : va_P D ga_cl [(q, .inr (13, [.int 0, .int 0, .ref cz, .null, .null, .null, .null, .int 0]))] H_19 := hP
  have hD : va_D A [(q, .inr (13, [.int 0, .int 0, .ref cz, .null, .null, .null, .null, .int 0]))] := hD
  have hP9 := hP.sub (ws' := [(q, .inr (13, [.int 0, .int 0, .ref cz, .null, .null, .null, .null, .int 0]))]) [0] rfl
  have hD9 := hD.sub (ws' := [(q, .inr (13, [.int 0, .int 0, .ref cz, .null, .null, .null, .null, .int 0]))]) [0] (by decide) rfl
  obtain rfl := Option.some.inj h
  exact W.vret hx hb hr (fun t ht hW => ⟨⟨(), rfl, rfl, ⟨by rw [ht]; exact hP9, hK.warm hW, hD9⟩⟩, hS.F ht⟩) hS.2.2 dJ6_init_3_60
abbrev rm_J7_init_3_Ro_r : Room := { frames := 2, cells := 0, slots := 0, locals := 36 }
def F_J7_init_3_Ro_r (N : Nat)   : Option (Unit) :=
  ((F_J6_init_3_Ro_r N).bind fun r_1 =>
  some ())
set_option maxHeartbeats 4000000 in
theorem met_J7_init_3_Ro_r (l : Launch) (D : va_G) (cA : Nat → ClassId) (A : Nat → Prop) (q : Nat) (zs : Nat → Nat) (cz : Nat)  (N : Nat)   (out : Unit) (h : F_J7_init_3_Ro_r N = some out) : Met l yJ7_init_3 (ws_ yJ7_init_3 cJ7_init_3 5 none) rm_J7_init_3_Ro_r (ga_X D cA zs A [(q, .inr (13, [.int 0, .int 0, .null, .null, .null, .null, .null, .int 0]))] [.ref q, .null, .ref cz, .int 0, .int 0]) (va_Qv (fun (u : Unit) => out = u) (fun (u : Unit) (t : State) => va_P D ga_cl [(q, .inr (13, [.int 0, .int 0, .ref cz, .null, .null, .null, .null, .int 0]))] t.heap ∧ ga_K D cA t ∧ va_D A [(q, .inr (13, [.int 0, .int 0, .ref cz, .null, .null, .null, .null, .int 0]))]) A) 0 0 A := by
  refine Met.ofW (cc := cJ7_init_3) (maxL := 5) (ret := none) (by decide) rfl ?_
  intro p e s m args below meth c s₁ B hml hv
  obtain ⟨rfl, hP, hK, hD, hA, hST⟩ := hv
  have hS : va_S A s.heap s.heap [] := va_S.rf
  have hin : meth.name = "<init>" := (name_of_methodNamed B.named B.method).1
  have C : ga_cx p m c meth s _ RJ7 cJ7_init_3 5 none := ga_cx_of B hml
  have C0 := C
  obtain ⟨hx, hb, hr, hlocks, hml, hown, hts⟩ := C0
  have hl := lv_entry ([.ref q, .null, .ref cz, .int 0, .int 0]) (n := 5) (Nat.le_of_ble_eq_true rfl)
  rw [lg_entry_eq]
  generalize (lg_sl ([.ref q, .null, .ref cz, .int 0, .int 0]) ++ List.replicate (5 - (lg_sl ([.ref q, .null, .ref cz, .int 0, .int 0])).length) Slot.unset).toArray = ls at hl ⊢
  have hl : lv_has ls 5 [(0, .ref q), (1, .null), (2, .ref cz), (3, .int 0), (4, .int 0)] := hl
  rw [F_J7_init_3_Ro_r] at h
  refine lv_aload_n hx hb dJ7_init_3_0 rfl (lv_at hl 0 rfl) ?_
  refine lv_aload_nN hx hb dJ7_init_3_1 rfl (lv_at hl 1 rfl) ?_
  refine lv_aload_n hx hb dJ7_init_3_2 rfl (lv_at hl 2 rfl) ?_
  refine lv_iload_n hx hb dJ7_init_3_3 rfl (lv_at hl 3 rfl) ?_
  refine lv_iload hx hb dJ7_init_3_4 (lv_at hl 4 rfl) ?_
  obtain ⟨r_1, e_2, h⟩ := ga_gb h
  have hFc := va_free (wc := [(q, .inr (13, [.int 0, .int 0, .null, .null, .null, .null, .null, .int 0]))]) hD hS hA [0] rfl
  refine va_callv (va_runI (As := [.null, .ref cz, .int 0, .int 0]) (rest := []) ⟨hx, hb, hml, hown, hts⟩ (met_J6_init_3_Ro_r l D cA (va_A [(q, .inr (13, [.int 0, .int 0, .null, .null, .null, .null, .null, .int 0]))] s.heap.size) q zs cz N r_1 e_2) (cwI 4 hts (lw_meth q728) rfl rfl rfl (hts _ q80) (hts _ q726) (hts _ q727) rfl (by decide +kernel) ⟨Nat.le_of_ble_eq_true rfl, Nat.le_of_ble_eq_true rfl⟩) (ga_XS hK (hP.sub (ws' := [(q, .inr (13, [.int 0, .int 0, .null, .null, .null, .null, .null, .int 0]))]) [0] rfl) (hD.sub (ws' := [(q, .inr (13, [.int 0, .int 0, .null, .null, .null, .null, .null, .int 0]))]) [0] (by decide) rfl).self (fun _ hq => Or.inr hq) (hST.at hS hFc)) rfl rfl hl.1 rfl (lv_room (Nat.le_of_ble_eq_true rfl)) dJ7_init_3_6 ⟨Nat.le_of_ble_eq_true rfl, Nat.le_of_ble_eq_true rfl⟩) hS (fun q _ hq => hFc q hq) hFc (fun u_6 t H_5 locs ht _ w_4 hB _ hk hS => ?_)
  obtain ⟨hP1, -, hD1⟩ := hB
  obtain rfl := w_4
  rw [ht] at hP1
  obtain ⟨hP, hD⟩ := va_join (wr := []) (w1 := [(q, .inr (13, [.int 0, .int 0, .ref cz, .null, .null, .null, .null, .int 0]))]) hP hD [0] [] rfl rfl (by decide) (by decide) hk hFc hP1 hD1
  have hP : va_P D ga_cl [(q, .inr (13, [.int 0, .int 0, .ref cz, .null, .null, .null, .null, .int 0]))] H_5 := hP
  have hD : va_D A [(q, .inr (13, [.int 0, .int 0, .ref cz, .null, .null, .null, .null, .int 0]))] := hD
  have hP9 := hP.sub (ws' := [(q, .inr (13, [.int 0, .int 0, .ref cz, .null, .null, .null, .null, .int 0]))]) [0] rfl
  have hD9 := hD.sub (ws' := [(q, .inr (13, [.int 0, .int 0, .ref cz, .null, .null, .null, .null, .int 0]))]) [0] (by decide) rfl
  obtain rfl := Option.some.inj h
  exact W.vret hx hb hr (fun t ht hW => ⟨⟨(), rfl, rfl, ⟨by rw [ht]; exact hP9, hK.warm hW, hD9⟩⟩, hS.F ht⟩) hS.2.2 dJ7_init_3_9
abbrev rm_X7_init_Ro_r : Room := { frames := 3, cells := 0, slots := 0, locals := 60 }
def F_X7_init_Ro_r (N : Nat)  (x1 : Int32) (x2 : Int32) : Option (Int32 × Int32) :=
  ((F_J7_init_3_Ro_r N).bind fun r_1 =>
  some (x1, x2))
set_option maxHeartbeats 4000000 in
theorem met_X7_init_Ro_r (l : Launch) (D : va_G) (cA : Nat → ClassId) (A : Nat → Prop) (q : Nat) (zs : Nat → Nat) (cz : Nat)  (N : Nat) (x1 : Int32) (x2 : Int32)  (out : Int32 × Int32) (h : F_X7_init_Ro_r N x1 x2 = some out) : Met l yX7_init (ws_ yX7_init cX7_init 4 none) rm_X7_init_Ro_r (ga_X D cA zs A [(q, .inr (13, [.int 0, .int 0, .null, .null, .null, .null, .null, .int 0]))] [.ref q, .int x1, .int x2, .ref cz]) (va_Qv (fun (u : Int32 × Int32) => out = u) (fun (u : Int32 × Int32) (t : State) => va_P D ga_cl [(q, .inr (13, [.int u.1, .int u.2, .ref cz, .null, .null, .null, .null, .int 0]))] t.heap ∧ ga_K D cA t ∧ va_D A [(q, .inr (13, [.int u.1, .int u.2, .ref cz, .null, .null, .null, .null, .int 0]))]) A) 0 0 A := by
  refine Met.ofW (cc := cX7_init) (maxL := 4) (ret := none) (by decide) rfl ?_
  intro p e s m args below meth c s₁ B hml hv
  obtain ⟨rfl, hP, hK, hD, hA, hST⟩ := hv
  have hS : va_S A s.heap s.heap [] := va_S.rf
  have hin : meth.name = "<init>" := (name_of_methodNamed B.named B.method).1
  have C : ga_cx p m c meth s _ RX7 cX7_init 4 none := ga_cx_of B hml
  have C0 := C
  obtain ⟨hx, hb, hr, hlocks, hml, hown, hts⟩ := C0
  have hl := lv_entry ([.ref q, .int x1, .int x2, .ref cz]) (n := 4) (Nat.le_of_ble_eq_true rfl)
  rw [lg_entry_eq]
  generalize (lg_sl ([.ref q, .int x1, .int x2, .ref cz]) ++ List.replicate (4 - (lg_sl ([.ref q, .int x1, .int x2, .ref cz])).length) Slot.unset).toArray = ls at hl ⊢
  have hl : lv_has ls 4 [(0, .ref q), (1, .int x1), (2, .int x2), (3, .ref cz)] := hl
  rw [F_X7_init_Ro_r] at h
  refine lv_aload_n hx hb dX7_init_0 rfl (lv_at hl 0 rfl) ?_
  refine lv_null hx hb dX7_init_1 ?_
  refine lv_aload_n hx hb dX7_init_2 rfl (lv_at hl 3 rfl) ?_
  refine lv_iconst (v := 0) hx hb dX7_init_3 (by decide) ?_
  refine lv_iconst (v := 0) hx hb dX7_init_4 (by decide) ?_
  obtain ⟨r_1, e_2, h⟩ := ga_gb h
  have hFc := va_free (wc := [(q, .inr (13, [.int 0, .int 0, .null, .null, .null, .null, .null, .int 0]))]) hD hS hA [0] rfl
  refine va_callv (va_runI (As := [.null, .ref cz, .int 0, .int 0]) (rest := []) ⟨hx, hb, hml, hown, hts⟩ (met_J7_init_3_Ro_r l D cA (va_A [(q, .inr (13, [.int 0, .int 0, .null, .null, .null, .null, .null, .int 0]))] s.heap.size) q zs cz N r_1 e_2) (cwI 4 hts (lw_meth q725) rfl rfl rfl (hts _ q81) (hts _ q723) (hts _ q724) rfl (by decide +kernel) ⟨Nat.le_of_ble_eq_true rfl, Nat.le_of_ble_eq_true rfl⟩) (ga_XS hK (hP.sub (ws' := [(q, .inr (13, [.int 0, .int 0, .null, .null, .null, .null, .null, .int 0]))]) [0] rfl) (hD.sub (ws' := [(q, .inr (13, [.int 0, .int 0, .null, .null, .null, .null, .null, .int 0]))]) [0] (by decide) rfl).self (fun _ hq => Or.inr hq) (hST.at hS hFc)) rfl rfl hl.1 rfl (lv_room (Nat.le_of_ble_eq_true rfl)) dX7_init_5 ⟨Nat.le_of_ble_eq_true rfl, Nat.le_of_ble_eq_true rfl⟩) hS (fun q _ hq => hFc q hq) hFc (fun u_6 t H_5 locs ht _ w_4 hB _ hk hS => ?_)
  obtain ⟨hP1, -, hD1⟩ := hB
  obtain rfl := w_4
  rw [ht] at hP1
  obtain ⟨hP, hD⟩ := va_join (wr := []) (w1 := [(q, .inr (13, [.int 0, .int 0, .ref cz, .null, .null, .null, .null, .int 0]))]) hP hD [0] [] rfl rfl (by decide) (by decide) hk hFc hP1 hD1
  have hP : va_P D ga_cl [(q, .inr (13, [.int 0, .int 0, .ref cz, .null, .null, .null, .null, .int 0]))] H_5 := hP
  have hD : va_D A [(q, .inr (13, [.int 0, .int 0, .ref cz, .null, .null, .null, .null, .int 0]))] := hD
  refine lv_aload_n hx hb dX7_init_8 rfl (lv_at hl 0 rfl) ?_
  refine lv_iload_n hx hb dX7_init_9 rfl (lv_at hl 1 rfl) ?_
  refine va_putF hx hb hts in_X11 tyX11 tyX11_ok nmX11 hown hK.1 hP hD hS 0 (fs := [.int 0, .int 0, .ref cz, .null, .null, .null, .null, .int 0]) rfl rfl 0 (by decide) (hts _ q729) (fun _ hh => hh) rfl hin rfl (v := .int x1) rfl rfl rfl (show 0 < 8 by decide) dX7_init_10 (fun H_8 locs hP hD hS => ?_)
  have hP : va_P D ga_cl [(q, .inr (13, [.int x1, .int 0, .ref cz, .null, .null, .null, .null, .int 0]))] H_8 := hP
  have hD : va_D A [(q, .inr (13, [.int x1, .int 0, .ref cz, .null, .null, .null, .null, .int 0]))] := hD
  refine lv_aload_n hx hb dX7_init_13 rfl (lv_at hl 0 rfl) ?_
  refine lv_iload_n hx hb dX7_init_14 rfl (lv_at hl 2 rfl) ?_
  refine va_putF hx hb hts in_X11 tyX11 tyX11_ok nmX11 hown hK.1 hP hD hS 0 (fs := [.int x1, .int 0, .ref cz, .null, .null, .null, .null, .int 0]) rfl rfl 1 (by decide) (hts _ q730) (fun _ hh => hh) rfl hin rfl (v := .int x2) rfl rfl rfl (show 1 < 8 by decide) dX7_init_15 (fun H_10 locs hP hD hS => ?_)
  have hP : va_P D ga_cl [(q, .inr (13, [.int x1, .int x2, .ref cz, .null, .null, .null, .null, .int 0]))] H_10 := hP
  have hD : va_D A [(q, .inr (13, [.int x1, .int x2, .ref cz, .null, .null, .null, .null, .int 0]))] := hD
  have hP9 := hP.sub (ws' := [(q, .inr (13, [.int x1, .int x2, .ref cz, .null, .null, .null, .null, .int 0]))]) [0] rfl
  have hD9 := hD.sub (ws' := [(q, .inr (13, [.int x1, .int x2, .ref cz, .null, .null, .null, .null, .int 0]))]) [0] (by decide) rfl
  obtain rfl := Option.some.inj h
  exact W.vret hx hb hr (fun t ht hW => ⟨⟨(x1, x2), rfl, rfl, ⟨by rw [ht]; exact hP9, hK.warm hW, hD9⟩⟩, hS.F ht⟩) hS.2.2 dX7_init_18
abbrev rm_X11_init_Ro_r : Room := { frames := 4, cells := 0, slots := 0, locals := 83 }
def F_X11_init_Ro_r (N : Nat)  (x1 : Int32) : Option (Int32 × Int32) :=
  ((F_X7_init_Ro_r N 1 x1).bind fun r_1 =>
  some (r_1.1, r_1.2))
set_option maxHeartbeats 4000000 in
theorem met_X11_init_Ro_r (l : Launch) (D : va_G) (cA : Nat → ClassId) (A : Nat → Prop) (q : Nat) (zs : Nat → Nat) (cz : Nat)  (N : Nat) (x1 : Int32)  (out : Int32 × Int32) (h : F_X11_init_Ro_r N x1 = some out) : Met l yX11_init (ws_ yX11_init cX11_init 3 none) rm_X11_init_Ro_r (ga_X D cA zs A [(q, .inr (13, [.int 0, .int 0, .null, .null, .null, .null, .null, .int 0]))] [.ref q, .int x1, .ref cz]) (va_Qv (fun (u : Int32 × Int32) => out = u) (fun (u : Int32 × Int32) (t : State) => va_P D ga_cl [(q, .inr (13, [.int u.1, .int u.2, .ref cz, .null, .null, .null, .null, .int 0]))] t.heap ∧ ga_K D cA t ∧ va_D A [(q, .inr (13, [.int u.1, .int u.2, .ref cz, .null, .null, .null, .null, .int 0]))]) A) 0 0 A := by
  refine Met.ofW (cc := cX11_init) (maxL := 3) (ret := none) (by decide) rfl ?_
  intro p e s m args below meth c s₁ B hml hv
  obtain ⟨rfl, hP, hK, hD, hA, hST⟩ := hv
  have hS : va_S A s.heap s.heap [] := va_S.rf
  have hin : meth.name = "<init>" := (name_of_methodNamed B.named B.method).1
  have C : ga_cx p m c meth s _ RX11 cX11_init 3 none := ga_cx_of B hml
  have C0 := C
  obtain ⟨hx, hb, hr, hlocks, hml, hown, hts⟩ := C0
  have hl := lv_entry ([.ref q, .int x1, .ref cz]) (n := 3) (Nat.le_of_ble_eq_true rfl)
  rw [lg_entry_eq]
  generalize (lg_sl ([.ref q, .int x1, .ref cz]) ++ List.replicate (3 - (lg_sl ([.ref q, .int x1, .ref cz])).length) Slot.unset).toArray = ls at hl ⊢
  have hl : lv_has ls 3 [(0, .ref q), (1, .int x1), (2, .ref cz)] := hl
  rw [F_X11_init_Ro_r] at h
  refine lv_aload_n hx hb dX11_init_0 rfl (lv_at hl 0 rfl) ?_
  refine lv_iconst (v := 1) hx hb dX11_init_1 (by decide) ?_
  refine lv_iload_n hx hb dX11_init_2 rfl (lv_at hl 1 rfl) ?_
  refine lv_aload_n hx hb dX11_init_3 rfl (lv_at hl 2 rfl) ?_
  obtain ⟨r_1, e_2, h⟩ := ga_gb h
  have hFc := va_free (wc := [(q, .inr (13, [.int 0, .int 0, .null, .null, .null, .null, .null, .int 0]))]) hD hS hA [0] rfl
  refine va_callv (va_runI (As := [.int 1, .int x1, .ref cz]) (rest := []) ⟨hx, hb, hml, hown, hts⟩ (met_X7_init_Ro_r l D cA (va_A [(q, .inr (13, [.int 0, .int 0, .null, .null, .null, .null, .null, .int 0]))] s.heap.size) q zs cz N 1 x1 r_1 e_2) (cwI 3 hts (lw_meth q722) rfl rfl rfl (hts _ q92) (hts _ q786) (hts _ q721) rfl (by decide +kernel) ⟨Nat.le_of_ble_eq_true rfl, Nat.le_of_ble_eq_true rfl⟩) (ga_XS hK (hP.sub (ws' := [(q, .inr (13, [.int 0, .int 0, .null, .null, .null, .null, .null, .int 0]))]) [0] rfl) (hD.sub (ws' := [(q, .inr (13, [.int 0, .int 0, .null, .null, .null, .null, .null, .int 0]))]) [0] (by decide) rfl).self (fun _ hq => Or.inr hq) (hST.at hS hFc)) rfl rfl hl.1 rfl (lv_room (Nat.le_of_ble_eq_true rfl)) dX11_init_4 ⟨Nat.le_of_ble_eq_true rfl, Nat.le_of_ble_eq_true rfl⟩) hS (fun q _ hq => hFc q hq) hFc (fun u_6 t H_5 locs ht _ w_4 hB _ hk hS => ?_)
  obtain ⟨hP1, -, hD1⟩ := hB
  obtain rfl := w_4
  rw [ht] at hP1
  obtain ⟨hP, hD⟩ := va_join (wr := []) (w1 := [(q, .inr (13, [.int r_1.1, .int r_1.2, .ref cz, .null, .null, .null, .null, .int 0]))]) hP hD [0] [] rfl rfl (by decide) (by decide) hk hFc hP1 hD1
  have hP : va_P D ga_cl [(q, .inr (13, [.int r_1.1, .int r_1.2, .ref cz, .null, .null, .null, .null, .int 0]))] H_5 := hP
  have hD : va_D A [(q, .inr (13, [.int r_1.1, .int r_1.2, .ref cz, .null, .null, .null, .null, .int 0]))] := hD
  have hP9 := hP.sub (ws' := [(q, .inr (13, [.int r_1.1, .int r_1.2, .ref cz, .null, .null, .null, .null, .int 0]))]) [0] rfl
  have hD9 := hD.sub (ws' := [(q, .inr (13, [.int r_1.1, .int r_1.2, .ref cz, .null, .null, .null, .null, .int 0]))]) [0] (by decide) rfl
  obtain rfl := Option.some.inj h
  exact W.vret hx hb hr (fun t ht hW => ⟨⟨(r_1.1, r_1.2), rfl, rfl, ⟨by rw [ht]; exact hP9, hK.warm hW, hD9⟩⟩, hS.F ht⟩) hS.2.2 dX11_init_7
abbrev rm_J6_init_3_Te : Room := { frames := 1, cells := 0, slots := 0, locals := 12 }
def F_J6_init_3_Te (N : Nat)   : Option (Unit) :=
  some ()
set_option maxHeartbeats 4000000 in
theorem met_J6_init_3_Te (l : Launch) (D : va_G) (cA : Nat → ClassId) (A : Nat → Prop) (q : Nat) (zs : Nat → Nat)  (N : Nat)   (out : Unit) (h : F_J6_init_3_Te N = some out) : Met l yJ6_init_3 (ws_ yJ6_init_3 cJ6_init_3 5 none) rm_J6_init_3_Te (ga_X D cA zs A [(q, .inr (14, [.null, .null, .null, .null, .null, .int 0, .int 0]))] [.ref q, .null, .null, .int 0, .int 0]) (va_Qv (fun (u : Unit) => out = u) (fun (u : Unit) (t : State) => va_P D ga_cl [(q, .inr (14, [.null, .null, .null, .null, .null, .int 0, .int 0]))] t.heap ∧ ga_K D cA t ∧ va_D A [(q, .inr (14, [.null, .null, .null, .null, .null, .int 0, .int 0]))]) A) 0 0 A := by
  refine Met.ofW (cc := cJ6_init_3) (maxL := 5) (ret := none) (by decide) rfl ?_
  intro p e s m args below meth c s₁ B hml hv
  obtain ⟨rfl, hP, hK, hD, hA, hST⟩ := hv
  have hS : va_S A s.heap s.heap [] := va_S.rf
  have hin : meth.name = "<init>" := (name_of_methodNamed B.named B.method).1
  have C : ga_cx p m c meth s _ RJ6 cJ6_init_3 5 none := ga_cx_of B hml
  have C0 := C
  obtain ⟨hx, hb, hr, hlocks, hml, hown, hts⟩ := C0
  have hl := lv_entry ([.ref q, .null, .null, .int 0, .int 0]) (n := 5) (Nat.le_of_ble_eq_true rfl)
  rw [lg_entry_eq]
  generalize (lg_sl ([.ref q, .null, .null, .int 0, .int 0]) ++ List.replicate (5 - (lg_sl ([.ref q, .null, .null, .int 0, .int 0])).length) Slot.unset).toArray = ls at hl ⊢
  have hl : lv_has ls 5 [(0, .ref q), (1, .null), (2, .null), (3, .int 0), (4, .int 0)] := hl
  rw [F_J6_init_3_Te] at h
  refine lv_aload_n hx hb dJ6_init_3_0 rfl (lv_at hl 0 rfl) ?_
  refine W.objInit hx hb hown (hts _ q518) (hts _ q113) (hts _ q114) rfl (by rw [hml]; exact hl.1) rfl dJ6_init_3_1 (Nat.le_of_ble_eq_true rfl) (Nat.le_of_ble_eq_true rfl) ?_
  refine W.eq (g2 := F0 m 4 ls []) rfl ?_
  refine lv_aload_n hx hb dJ6_init_3_4 rfl (lv_at hl 0 rfl) ?_
  refine lv_aload_n hx hb dJ6_init_3_5 rfl (lv_at hl 0 rfl) ?_
  refine va_put hx hb hts in_X13 tyX13 tyX13_ok nmX13 hown hK.1 hP hD hS 0 (fs := [.null, .null, .null, .null, .null, .int 0, .int 0]) rfl rfl 0 (by decide) (hts _ q554) (fun _ hh => hh) rfl (v := .ref q) rfl rfl rfl (show 0 < 7 by decide) dJ6_init_3_6 (fun H_1 locs hP hD hS => ?_)
  have hP : va_P D ga_cl [(q, .inr (14, [.ref q, .null, .null, .null, .null, .int 0, .int 0]))] H_1 := hP
  have hD : va_D A [(q, .inr (14, [.ref q, .null, .null, .null, .null, .int 0, .int 0]))] := hD
  refine lv_aload_n hx hb dJ6_init_3_9 rfl (lv_at hl 0 rfl) ?_
  obtain ⟨o_3, f_4⟩ := ga_Zq hST.1.1
  refine va_gets hx hb f_4 hS hown (hts _ q519) (fun _ hh => hh) dJ6_init_3_10 ?_
  refine va_put hx hb hts in_X13 tyX13 tyX13_ok nmX13 hown hK.1 hP hD hS 0 (fs := [.ref q, .null, .null, .null, .null, .int 0, .int 0]) rfl rfl 1 (by decide) (hts _ q555) (fun _ hh => hh) rfl (v := va_rf o_3) rfl (by cases o_3 <;> rfl) (by cases o_3 <;> rfl) (show 1 < 7 by decide) dJ6_init_3_13 (fun H_5 locs hP hD hS => ?_)
  have hP : va_P D ga_cl [(q, .inr (14, [.ref q, va_rf o_3, .null, .null, .null, .int 0, .int 0]))] H_5 := hP
  have hD : va_D A [(q, .inr (14, [.ref q, va_rf o_3, .null, .null, .null, .int 0, .int 0]))] := hD
  refine lv_aload_n hx hb dJ6_init_3_16 rfl (lv_at hl 0 rfl) ?_
  obtain ⟨o_7, f_8⟩ := ga_Zq hST.2.1.1
  refine va_gets hx hb f_8 hS hown (hts _ q521) (fun _ hh => hh) dJ6_init_3_17 ?_
  refine va_put hx hb hts in_X13 tyX13 tyX13_ok nmX13 hown hK.1 hP hD hS 0 (fs := [.ref q, va_rf o_3, .null, .null, .null, .int 0, .int 0]) rfl rfl 2 (by decide) (hts _ q556) (fun _ hh => hh) rfl (v := va_rf o_7) rfl (by cases o_7 <;> rfl) (by cases o_7 <;> rfl) (show 2 < 7 by decide) dJ6_init_3_20 (fun H_9 locs hP hD hS => ?_)
  have hP : va_P D ga_cl [(q, .inr (14, [.ref q, va_rf o_3, va_rf o_7, .null, .null, .int 0, .int 0]))] H_9 := hP
  have hD : va_D A [(q, .inr (14, [.ref q, va_rf o_3, va_rf o_7, .null, .null, .int 0, .int 0]))] := hD
  refine lv_iload hx hb dJ6_init_3_23 (lv_at hl 4 rfl) ?_
  refine lv_if_eq (tgt := 36) hx hb dJ6_init_3_25 (by decide) (fun _ => ?_) (fun c_11 => absurd (by decide) c_11)
  refine lv_aload_n hx hb dJ6_init_3_36 rfl (lv_at hl 0 rfl) ?_
  refine lv_null hx hb dJ6_init_3_37 ?_
  refine va_put hx hb hts in_X13 tyX13 tyX13_ok nmX13 hown hK.1 hP hD hS 0 (fs := [.ref q, va_rf o_3, va_rf o_7, .null, .null, .int 0, .int 0]) rfl rfl 1 (by decide) (hts _ q555) (fun _ hh => hh) rfl (v := .null) rfl rfl rfl (show 1 < 7 by decide) dJ6_init_3_38 (fun H_12 locs hP hD hS => ?_)
  have hP : va_P D ga_cl [(q, .inr (14, [.ref q, .null, va_rf o_7, .null, .null, .int 0, .int 0]))] H_12 := hP
  have hD : va_D A [(q, .inr (14, [.ref q, .null, va_rf o_7, .null, .null, .int 0, .int 0]))] := hD
  refine lv_aload_n hx hb dJ6_init_3_41 rfl (lv_at hl 0 rfl) ?_
  refine lv_aload_nN hx hb dJ6_init_3_42 rfl (lv_at hl 1 rfl) ?_
  refine va_put hx hb hts in_X13 tyX13 tyX13_ok nmX13 hown hK.1 hP hD hS 0 (fs := [.ref q, .null, va_rf o_7, .null, .null, .int 0, .int 0]) rfl rfl 3 (by decide) (hts _ q553) (fun _ hh => hh) rfl (v := .null) rfl rfl rfl (show 3 < 7 by decide) dJ6_init_3_43 (fun H_14 locs hP hD hS => ?_)
  have hP : va_P D ga_cl [(q, .inr (14, [.ref q, .null, va_rf o_7, .null, .null, .int 0, .int 0]))] H_14 := hP
  have hD : va_D A [(q, .inr (14, [.ref q, .null, va_rf o_7, .null, .null, .int 0, .int 0]))] := hD
  refine lv_aload_n hx hb dJ6_init_3_46 rfl (lv_at hl 0 rfl) ?_
  refine lv_aload_nN hx hb dJ6_init_3_47 rfl (lv_at hl 2 rfl) ?_
  refine va_put hx hb hts in_X13 tyX13 tyX13_ok nmX13 hown hK.1 hP hD hS 0 (fs := [.ref q, .null, va_rf o_7, .null, .null, .int 0, .int 0]) rfl rfl 0 (by decide) (hts _ q554) (fun _ hh => hh) rfl (v := .null) rfl rfl rfl (show 0 < 7 by decide) dJ6_init_3_48 (fun H_16 locs hP hD hS => ?_)
  have hP : va_P D ga_cl [(q, .inr (14, [.null, .null, va_rf o_7, .null, .null, .int 0, .int 0]))] H_16 := hP
  have hD : va_D A [(q, .inr (14, [.null, .null, va_rf o_7, .null, .null, .int 0, .int 0]))] := hD
  refine lv_iload_n hx hb dJ6_init_3_51 rfl (lv_at hl 3 rfl) ?_
  refine lv_if_ne (tgt := 60) hx hb dJ6_init_3_52 (by decide) (fun c_18 => absurd (by decide) c_18) (fun _ => ?_)
  refine lv_aload_n hx hb dJ6_init_3_55 rfl (lv_at hl 0 rfl) ?_
  refine lv_null hx hb dJ6_init_3_56 ?_
  refine va_put hx hb hts in_X13 tyX13 tyX13_ok nmX13 hown hK.1 hP hD hS 0 (fs := [.null, .null, va_rf o_7, .null, .null, .int 0, .int 0]) rfl rfl 2 (by decide) (hts _ q556) (fun _ hh => hh) rfl (v := .null) rfl rfl rfl (show 2 < 7 by decide) dJ6_init_3_57 (fun H_19 locs hP hD hS => ?_)
  have hP : va_P D ga_cl [(q, .inr (14, [.null, .null, .null, .null, .null, .int 0, .int 0]))] H_19 := hP
  have hD : va_D A [(q, .inr (14, [.null, .null, .null, .null, .null, .int 0, .int 0]))] := hD
  have hP9 := hP.sub (ws' := [(q, .inr (14, [.null, .null, .null, .null, .null, .int 0, .int 0]))]) [0] rfl
  have hD9 := hD.sub (ws' := [(q, .inr (14, [.null, .null, .null, .null, .null, .int 0, .int 0]))]) [0] (by decide) rfl
  obtain rfl := Option.some.inj h
  exact W.vret hx hb hr (fun t ht hW => ⟨⟨(), rfl, rfl, ⟨by rw [ht]; exact hP9, hK.warm hW, hD9⟩⟩, hS.F ht⟩) hS.2.2 dJ6_init_3_60
abbrev rm_J7_init_3_Te : Room := { frames := 2, cells := 0, slots := 0, locals := 36 }
def F_J7_init_3_Te (N : Nat)   : Option (Unit) :=
  ((F_J6_init_3_Te N).bind fun r_1 =>
  some ())
set_option maxHeartbeats 4000000 in
theorem met_J7_init_3_Te (l : Launch) (D : va_G) (cA : Nat → ClassId) (A : Nat → Prop) (q : Nat) (zs : Nat → Nat)  (N : Nat)   (out : Unit) (h : F_J7_init_3_Te N = some out) : Met l yJ7_init_3 (ws_ yJ7_init_3 cJ7_init_3 5 none) rm_J7_init_3_Te (ga_X D cA zs A [(q, .inr (14, [.null, .null, .null, .null, .null, .int 0, .int 0]))] [.ref q, .null, .null, .int 0, .int 0]) (va_Qv (fun (u : Unit) => out = u) (fun (u : Unit) (t : State) => va_P D ga_cl [(q, .inr (14, [.null, .null, .null, .null, .null, .int 0, .int 0]))] t.heap ∧ ga_K D cA t ∧ va_D A [(q, .inr (14, [.null, .null, .null, .null, .null, .int 0, .int 0]))]) A) 0 0 A := by
  refine Met.ofW (cc := cJ7_init_3) (maxL := 5) (ret := none) (by decide) rfl ?_
  intro p e s m args below meth c s₁ B hml hv
  obtain ⟨rfl, hP, hK, hD, hA, hST⟩ := hv
  have hS : va_S A s.heap s.heap [] := va_S.rf
  have hin : meth.name = "<init>" := (name_of_methodNamed B.named B.method).1
  have C : ga_cx p m c meth s _ RJ7 cJ7_init_3 5 none := ga_cx_of B hml
  have C0 := C
  obtain ⟨hx, hb, hr, hlocks, hml, hown, hts⟩ := C0
  have hl := lv_entry ([.ref q, .null, .null, .int 0, .int 0]) (n := 5) (Nat.le_of_ble_eq_true rfl)
  rw [lg_entry_eq]
  generalize (lg_sl ([.ref q, .null, .null, .int 0, .int 0]) ++ List.replicate (5 - (lg_sl ([.ref q, .null, .null, .int 0, .int 0])).length) Slot.unset).toArray = ls at hl ⊢
  have hl : lv_has ls 5 [(0, .ref q), (1, .null), (2, .null), (3, .int 0), (4, .int 0)] := hl
  rw [F_J7_init_3_Te] at h
  refine lv_aload_n hx hb dJ7_init_3_0 rfl (lv_at hl 0 rfl) ?_
  refine lv_aload_nN hx hb dJ7_init_3_1 rfl (lv_at hl 1 rfl) ?_
  refine lv_aload_nN hx hb dJ7_init_3_2 rfl (lv_at hl 2 rfl) ?_
  refine lv_iload_n hx hb dJ7_init_3_3 rfl (lv_at hl 3 rfl) ?_
  refine lv_iload hx hb dJ7_init_3_4 (lv_at hl 4 rfl) ?_
  obtain ⟨r_1, e_2, h⟩ := ga_gb h
  have hFc := va_free (wc := [(q, .inr (14, [.null, .null, .null, .null, .null, .int 0, .int 0]))]) hD hS hA [0] rfl
  refine va_callv (va_runI (As := [.null, .null, .int 0, .int 0]) (rest := []) ⟨hx, hb, hml, hown, hts⟩ (met_J6_init_3_Te l D cA (va_A [(q, .inr (14, [.null, .null, .null, .null, .null, .int 0, .int 0]))] s.heap.size) q zs N r_1 e_2) (cwI 4 hts (lw_meth q728) rfl rfl rfl (hts _ q80) (hts _ q726) (hts _ q727) rfl (by decide +kernel) ⟨Nat.le_of_ble_eq_true rfl, Nat.le_of_ble_eq_true rfl⟩) (ga_XS hK (hP.sub (ws' := [(q, .inr (14, [.null, .null, .null, .null, .null, .int 0, .int 0]))]) [0] rfl) (hD.sub (ws' := [(q, .inr (14, [.null, .null, .null, .null, .null, .int 0, .int 0]))]) [0] (by decide) rfl).self (fun _ hq => Or.inr hq) (hST.at hS hFc)) rfl rfl hl.1 rfl (lv_room (Nat.le_of_ble_eq_true rfl)) dJ7_init_3_6 ⟨Nat.le_of_ble_eq_true rfl, Nat.le_of_ble_eq_true rfl⟩) hS (fun q _ hq => hFc q hq) hFc (fun u_6 t H_5 locs ht _ w_4 hB _ hk hS => ?_)
  obtain ⟨hP1, -, hD1⟩ := hB
  obtain rfl := w_4
  rw [ht] at hP1
  obtain ⟨hP, hD⟩ := va_join (wr := []) (w1 := [(q, .inr (14, [.null, .null, .null, .null, .null, .int 0, .int 0]))]) hP hD [0] [] rfl rfl (by decide) (by decide) hk hFc hP1 hD1
  have hP : va_P D ga_cl [(q, .inr (14, [.null, .null, .null, .null, .null, .int 0, .int 0]))] H_5 := hP
  have hD : va_D A [(q, .inr (14, [.null, .null, .null, .null, .null, .int 0, .int 0]))] := hD
  have hP9 := hP.sub (ws' := [(q, .inr (14, [.null, .null, .null, .null, .null, .int 0, .int 0]))]) [0] rfl
  have hD9 := hD.sub (ws' := [(q, .inr (14, [.null, .null, .null, .null, .null, .int 0, .int 0]))]) [0] (by decide) rfl
  obtain rfl := Option.some.inj h
  exact W.vret hx hb hr (fun t ht hW => ⟨⟨(), rfl, rfl, ⟨by rw [ht]; exact hP9, hK.warm hW, hD9⟩⟩, hS.F ht⟩) hS.2.2 dJ7_init_3_9
abbrev rm_X13_init_Te : Room := { frames := 3, cells := 0, slots := 0, locals := 60 }
def F_X13_init_Te (N : Nat)  (x1 : Int32) : Option (Int32) :=
  ((F_J7_init_3_Te N).bind fun r_1 =>
  some x1)
set_option maxHeartbeats 4000000 in
theorem met_X13_init_Te (l : Launch) (D : va_G) (cA : Nat → ClassId) (A : Nat → Prop) (q : Nat) (zs : Nat → Nat)  (N : Nat) (x1 : Int32)  (out : Int32) (h : F_X13_init_Te N x1 = some out) : Met l yX13_init (ws_ yX13_init cX13_init 2 none) rm_X13_init_Te (ga_X D cA zs A [(q, .inr (14, [.null, .null, .null, .null, .null, .int 0, .int 0]))] [.ref q, .int x1]) (va_Qv (fun (u : Int32) => out = u) (fun (u : Int32) (t : State) => va_P D ga_cl [(q, .inr (14, [.null, .null, .null, .null, .null, .int 0, .int u]))] t.heap ∧ ga_K D cA t ∧ va_D A [(q, .inr (14, [.null, .null, .null, .null, .null, .int 0, .int u]))]) A) 0 0 A := by
  refine Met.ofW (cc := cX13_init) (maxL := 2) (ret := none) (by decide) rfl ?_
  intro p e s m args below meth c s₁ B hml hv
  obtain ⟨rfl, hP, hK, hD, hA, hST⟩ := hv
  have hS : va_S A s.heap s.heap [] := va_S.rf
  have hin : meth.name = "<init>" := (name_of_methodNamed B.named B.method).1
  have C : ga_cx p m c meth s _ RX13 cX13_init 2 none := ga_cx_of B hml
  have C0 := C
  obtain ⟨hx, hb, hr, hlocks, hml, hown, hts⟩ := C0
  have hl := lv_entry ([.ref q, .int x1]) (n := 2) (Nat.le_of_ble_eq_true rfl)
  rw [lg_entry_eq]
  generalize (lg_sl ([.ref q, .int x1]) ++ List.replicate (2 - (lg_sl ([.ref q, .int x1])).length) Slot.unset).toArray = ls at hl ⊢
  have hl : lv_has ls 2 [(0, .ref q), (1, .int x1)] := hl
  rw [F_X13_init_Te] at h
  refine lv_aload_n hx hb dX13_init_0 rfl (lv_at hl 0 rfl) ?_
  refine lv_null hx hb dX13_init_1 ?_
  refine lv_null hx hb dX13_init_2 ?_
  refine lv_iconst (v := 0) hx hb dX13_init_3 (by decide) ?_
  refine lv_iconst (v := 0) hx hb dX13_init_4 (by decide) ?_
  obtain ⟨r_1, e_2, h⟩ := ga_gb h
  have hFc := va_free (wc := [(q, .inr (14, [.null, .null, .null, .null, .null, .int 0, .int 0]))]) hD hS hA [0] rfl
  refine va_callv (va_runI (As := [.null, .null, .int 0, .int 0]) (rest := []) ⟨hx, hb, hml, hown, hts⟩ (met_J7_init_3_Te l D cA (va_A [(q, .inr (14, [.null, .null, .null, .null, .null, .int 0, .int 0]))] s.heap.size) q zs N r_1 e_2) (cwI 4 hts (lw_meth q725) rfl rfl rfl (hts _ q81) (hts _ q1180) (hts _ q724) rfl (by decide +kernel) ⟨Nat.le_of_ble_eq_true rfl, Nat.le_of_ble_eq_true rfl⟩) (ga_XS hK (hP.sub (ws' := [(q, .inr (14, [.null, .null, .null, .null, .null, .int 0, .int 0]))]) [0] rfl) (hD.sub (ws' := [(q, .inr (14, [.null, .null, .null, .null, .null, .int 0, .int 0]))]) [0] (by decide) rfl).self (fun _ hq => Or.inr hq) (hST.at hS hFc)) rfl rfl hl.1 rfl (lv_room (Nat.le_of_ble_eq_true rfl)) dX13_init_5 ⟨Nat.le_of_ble_eq_true rfl, Nat.le_of_ble_eq_true rfl⟩) hS (fun q _ hq => hFc q hq) hFc (fun u_6 t H_5 locs ht _ w_4 hB _ hk hS => ?_)
  obtain ⟨hP1, -, hD1⟩ := hB
  obtain rfl := w_4
  rw [ht] at hP1
  obtain ⟨hP, hD⟩ := va_join (wr := []) (w1 := [(q, .inr (14, [.null, .null, .null, .null, .null, .int 0, .int 0]))]) hP hD [0] [] rfl rfl (by decide) (by decide) hk hFc hP1 hD1
  have hP : va_P D ga_cl [(q, .inr (14, [.null, .null, .null, .null, .null, .int 0, .int 0]))] H_5 := hP
  have hD : va_D A [(q, .inr (14, [.null, .null, .null, .null, .null, .int 0, .int 0]))] := hD
  refine lv_aload_n hx hb dX13_init_8 rfl (lv_at hl 0 rfl) ?_
  refine lv_iload_n hx hb dX13_init_9 rfl (lv_at hl 1 rfl) ?_
  refine va_putF hx hb hts in_X13 tyX13 tyX13_ok nmX13 hown hK.1 hP hD hS 0 (fs := [.null, .null, .null, .null, .null, .int 0, .int 0]) rfl rfl 6 (by decide) (hts _ q1181) (fun _ hh => hh) rfl hin rfl (v := .int x1) rfl rfl rfl (show 6 < 7 by decide) dX13_init_10 (fun H_8 locs hP hD hS => ?_)
  have hP : va_P D ga_cl [(q, .inr (14, [.null, .null, .null, .null, .null, .int 0, .int x1]))] H_8 := hP
  have hD : va_D A [(q, .inr (14, [.null, .null, .null, .null, .null, .int 0, .int x1]))] := hD
  have hP9 := hP.sub (ws' := [(q, .inr (14, [.null, .null, .null, .null, .null, .int 0, .int x1]))]) [0] rfl
  have hD9 := hD.sub (ws' := [(q, .inr (14, [.null, .null, .null, .null, .null, .int 0, .int x1]))]) [0] (by decide) rfl
  obtain rfl := Option.some.inj h
  exact W.vret hx hb hr (fun t ht hW => ⟨⟨x1, rfl, rfl, ⟨by rw [ht]; exact hP9, hK.warm hW, hD9⟩⟩, hS.F ht⟩) hS.2.2 dX13_init_13
