abbrev rm_X7_at_3_0 : Room := { frames := 1, cells := 0, slots := 0, locals := 12 }
def F_X7_at_3_0 (N : Nat) (d0 : Int32) (d1 : Int32) (d2 : Int32) (d3 : Int32) (d4 : Int32) (d5 : Int32)  : Option (Unit) :=
  some ()
set_option maxHeartbeats 4000000 in
theorem met_X7_at_3_0 (l : Launch) (D : va_G) (cA : Nat → ClassId) (e0 : Nat) (e1 : Nat) (e2 : Nat) (d0 : Int32) (d1 : Int32) (d2 : Int32) (d3 : Int32) (d4 : Int32) (d5 : Int32) (N : Nat)   (out : Unit) (h : F_X7_at_3_0 N d0 d1 d2 d3 d4 d5 = some out) : Met l yX7_at (ws_ yX7_at cX7_at 4 (Option.some (.object "EnclosureReferee$RefusedException"))) rm_X7_at_3_0 (ga_PR D cA (ga_rm D [(e0, .inr (13, [.int d0, .int d1, .ref e1, .null, .null, .null, .null, .int 0])), (e1, .inr (12, [.int d2, .int d3, .ref e2, .null, .null, .null, .null, .int 0])), (e2, .inr (10, [.int d4, .int d5, .null, .null, .null, .null, .null, .int 0]))]) [] [.ref e0, .int 0]) (va_Sr (fun _ => True) (fun _ => .ref e0)) 0 0 ga_F := by
  refine Met.ofW (cc := cX7_at) (maxL := 4) (ret := (Option.some (.object "EnclosureReferee$RefusedException"))) (by decide) rfl ?_
  intro p e s m args below meth c s₁ B hml hv
  obtain ⟨rfl, hP, hK, hR⟩ := hv
  have C : ga_cx p m c meth s _ RX7 cX7_at 4 (Option.some (.object "EnclosureReferee$RefusedException")) := ga_cx_of B hml
  have C0 := C
  obtain ⟨hx, hb, hr, hlocks, hml, hown, hts⟩ := C0
  have hl := lv_entry ([.ref e0, .int 0]) (n := 4) (Nat.le_of_ble_eq_true rfl)
  rw [lg_entry_eq]
  generalize (lg_sl ([.ref e0, .int 0]) ++ List.replicate (4 - (lg_sl ([.ref e0, .int 0])).length) Slot.unset).toArray = ls at hl ⊢
  have hl : lv_has ls 4 [(0, .ref e0), (1, .int 0)] := hl
  rw [F_X7_at_3_0] at h
  refine lv_aload_n hx hb dX7_at_0 rfl (lv_at hl 0 rfl) ?_
  refine lv_astore_n (lv' := [(2, .ref e0), (0, .ref e0), (1, .int 0)]) hx hb dX7_at_1 rfl hl (by decide) rfl (fun ls hl => ?_)
  refine lv_iconst (v := 0) hx hb dX7_at_2 (by decide) ?_
  refine lv_istore_n (lv' := [(3, .int 0), (2, .ref e0), (0, .ref e0), (1, .int 0)]) hx hb dX7_at_3 rfl hl (by decide) rfl (fun ls hl => ?_)
  refine lv_iload_n hx hb dX7_at_4 rfl (lv_at hl 0 rfl) ?_
  refine lv_iload_n hx hb dX7_at_5 rfl (lv_at hl 3 rfl) ?_
  refine lv_icmp_ge (tgt := 24) hx hb dX7_at_6 (by decide) (fun _ => ?_) (fun c_1 => absurd (by decide) c_1)
  refine lv_aload_n hx hb dX7_at_24 rfl (lv_at hl 1 rfl) ?_
  have hP : va_P D ga_cl [(e0, .inr (13, [.int d0, .int d1, .ref e1, .null, .null, .null, .null, .int 0])), (e1, .inr (12, [.int d2, .int d3, .ref e2, .null, .null, .null, .null, .int 0])), (e2, .inr (10, [.int d4, .int d5, .null, .null, .null, .null, .null, .int 0]))] s.heap := hP.app hR.1.1
  refine va_instY hx hb hown (hts _ q466) (hK.2.1 _ q1893 rfl) (va_recv hK.1 hP (ci := 13) (q0 := 0) rfl rfl) dX7_at_25 ?_
  refine lv_if_eq (tgt := 38) hx hb dX7_at_28 (by decide) (fun c_2 => absurd c_2 (by decide)) (fun _ => ?_)
  refine lv_aload_n hx hb dX7_at_31 rfl (lv_at hl 1 rfl) ?_
  refine va_castY hx hb hown (hts _ q466) (hK.2.1 _ q1893 rfl) (va_recv hK.1 hP (ci := 13) (q0 := 0) rfl rfl) dX7_at_32 ?_
  refine lv_goto (tgt := 39) hx hb dX7_at_35 (by decide) ?_
  obtain rfl := Option.some.inj h
  exact W.aret hx hb hr (Or.inl ⟨_, rfl⟩) (Or.inr ⟨_, rfl⟩) (fun t ht hW => ⟨0, rfl, trivial, ht⟩) (fun _ hq => by cases hq) dX7_at_39
abbrev rm_X7_at_3_1 : Room := { frames := 2, cells := 0, slots := 0, locals := 40 }
def F_X7_at_3_1 (N : Nat) (d0 : Int32) (d1 : Int32) (d2 : Int32) (d3 : Int32) (d4 : Int32) (d5 : Int32)  : Option (Unit) :=
  some ()
set_option maxHeartbeats 4000000 in
theorem met_X7_at_3_1 (l : Launch) (D : va_G) (cA : Nat → ClassId) (e0 : Nat) (e1 : Nat) (e2 : Nat) (d0 : Int32) (d1 : Int32) (d2 : Int32) (d3 : Int32) (d4 : Int32) (d5 : Int32) (N : Nat)   (out : Unit) (h : F_X7_at_3_1 N d0 d1 d2 d3 d4 d5 = some out) : Met l yX7_at (ws_ yX7_at cX7_at 4 (Option.some (.object "EnclosureReferee$RefusedException"))) rm_X7_at_3_1 (ga_PR D cA (ga_rm D [(e0, .inr (13, [.int d0, .int d1, .ref e1, .null, .null, .null, .null, .int 0])), (e1, .inr (12, [.int d2, .int d3, .ref e2, .null, .null, .null, .null, .int 0])), (e2, .inr (10, [.int d4, .int d5, .null, .null, .null, .null, .null, .int 0]))]) [] [.ref e0, .int 1]) (va_Sr (fun _ => True) (fun _ => .ref e1)) 0 0 ga_F := by
  refine Met.ofW (cc := cX7_at) (maxL := 4) (ret := (Option.some (.object "EnclosureReferee$RefusedException"))) (by decide) rfl ?_
  intro p e s m args below meth c s₁ B hml hv
  obtain ⟨rfl, hP, hK, hR⟩ := hv
  have C : ga_cx p m c meth s _ RX7 cX7_at 4 (Option.some (.object "EnclosureReferee$RefusedException")) := ga_cx_of B hml
  have C0 := C
  obtain ⟨hx, hb, hr, hlocks, hml, hown, hts⟩ := C0
  have hl := lv_entry ([.ref e0, .int 1]) (n := 4) (Nat.le_of_ble_eq_true rfl)
  rw [lg_entry_eq]
  generalize (lg_sl ([.ref e0, .int 1]) ++ List.replicate (4 - (lg_sl ([.ref e0, .int 1])).length) Slot.unset).toArray = ls at hl ⊢
  have hl : lv_has ls 4 [(0, .ref e0), (1, .int 1)] := hl
  rw [F_X7_at_3_1] at h
  refine lv_aload_n hx hb dX7_at_0 rfl (lv_at hl 0 rfl) ?_
  refine lv_astore_n (lv' := [(2, .ref e0), (0, .ref e0), (1, .int 1)]) hx hb dX7_at_1 rfl hl (by decide) rfl (fun ls hl => ?_)
  refine lv_iconst (v := 0) hx hb dX7_at_2 (by decide) ?_
  refine lv_istore_n (lv' := [(3, .int 0), (2, .ref e0), (0, .ref e0), (1, .int 1)]) hx hb dX7_at_3 rfl hl (by decide) rfl (fun ls hl => ?_)
  refine lv_iload_n hx hb dX7_at_4 rfl (lv_at hl 0 rfl) ?_
  refine lv_iload_n hx hb dX7_at_5 rfl (lv_at hl 3 rfl) ?_
  refine lv_icmp_ge (tgt := 24) hx hb dX7_at_6 (by decide) (fun c_1 => absurd c_1 (by decide)) (fun _ => ?_)
  refine lv_aload_n hx hb dX7_at_9 rfl (lv_at hl 1 rfl) ?_
  refine lv_ifnull hx hb dX7_at_10 ?_
  refine lv_aload_n hx hb dX7_at_13 rfl (lv_at hl 1 rfl) ?_
  have hP : va_P D ga_cl [(e0, .inr (13, [.int d0, .int d1, .ref e1, .null, .null, .null, .null, .int 0])), (e1, .inr (12, [.int d2, .int d3, .ref e2, .null, .null, .null, .null, .int 0])), (e2, .inr (10, [.int d4, .int d5, .null, .null, .null, .null, .null, .int 0]))] s.heap := hP.app hR.1.1
  refine ga_cause hx hb (hl.1.trans hml.symm) hts in_X11 hown hK.1 hP 0 (fs := [.int d0, .int d1, .ref e1, .null, .null, .null, .null, .int 0]) rfl rfl 2 (by decide) ⟨rfl, rfl, rfl⟩ (v := .ref e1) rfl (Or.inr ⟨_, rfl, ga_rmN hR 1 0 rfl rfl (by decide)⟩) (ga_rmM hR 0 rfl) (hts _ q451) (hts _ q452) (hts _ q456) (hts _ q80) (hts _ q465) (hts _ q554) ⟨Nat.le_of_ble_eq_true rfl, Nat.le_of_ble_eq_true rfl⟩ ⟨Nat.le_of_ble_eq_true rfl, Nat.le_of_ble_eq_true rfl⟩ (by decide) dX7_at_14 ?_
  refine lv_astore_n (lv' := [(2, .ref e1), (3, .int 0), (0, .ref e0), (1, .int 1)]) hx hb dX7_at_17 rfl hl (by decide) rfl (fun ls hl => ?_)
  refine lv_iinc (v := 1) (lv' := [(3, .int 1), (2, .ref e1), (0, .ref e0), (1, .int 1)]) hx hb dX7_at_18 hl (k := 1) rfl rfl (by decide) rfl (fun ls hl => ?_)
  refine lv_goto (tgt := 4) hx hb dX7_at_21 (by decide) ?_
  refine lv_iload_n hx hb dX7_at_4 rfl (lv_at hl 0 rfl) ?_
  refine lv_iload_n hx hb dX7_at_5 rfl (lv_at hl 3 rfl) ?_
  refine lv_icmp_ge (tgt := 24) hx hb dX7_at_6 (by decide) (fun _ => ?_) (fun c_2 => absurd (by decide) c_2)
  refine lv_aload_n hx hb dX7_at_24 rfl (lv_at hl 1 rfl) ?_
  refine va_instY hx hb hown (hts _ q466) (hK.2.1 _ q1892 rfl) (va_recv hK.1 hP (ci := 12) (q0 := 1) rfl rfl) dX7_at_25 ?_
  refine lv_if_eq (tgt := 38) hx hb dX7_at_28 (by decide) (fun c_3 => absurd c_3 (by decide)) (fun _ => ?_)
  refine lv_aload_n hx hb dX7_at_31 rfl (lv_at hl 1 rfl) ?_
  refine va_castY hx hb hown (hts _ q466) (hK.2.1 _ q1892 rfl) (va_recv hK.1 hP (ci := 12) (q0 := 1) rfl rfl) dX7_at_32 ?_
  refine lv_goto (tgt := 39) hx hb dX7_at_35 (by decide) ?_
  obtain rfl := Option.some.inj h
  exact W.aret hx hb hr (Or.inl ⟨_, rfl⟩) (Or.inr ⟨_, rfl⟩) (fun t ht hW => ⟨0, rfl, trivial, ht⟩) (fun _ hq => by cases hq) dX7_at_39
abbrev rm_X7_at_3_2 : Room := { frames := 2, cells := 0, slots := 0, locals := 40 }
def F_X7_at_3_2 (N : Nat) (d0 : Int32) (d1 : Int32) (d2 : Int32) (d3 : Int32) (d4 : Int32) (d5 : Int32)  : Option (Unit) :=
  some ()
set_option maxHeartbeats 4000000 in
theorem met_X7_at_3_2 (l : Launch) (D : va_G) (cA : Nat → ClassId) (e0 : Nat) (e1 : Nat) (e2 : Nat) (d0 : Int32) (d1 : Int32) (d2 : Int32) (d3 : Int32) (d4 : Int32) (d5 : Int32) (N : Nat)   (out : Unit) (h : F_X7_at_3_2 N d0 d1 d2 d3 d4 d5 = some out) : Met l yX7_at (ws_ yX7_at cX7_at 4 (Option.some (.object "EnclosureReferee$RefusedException"))) rm_X7_at_3_2 (ga_PR D cA (ga_rm D [(e0, .inr (13, [.int d0, .int d1, .ref e1, .null, .null, .null, .null, .int 0])), (e1, .inr (12, [.int d2, .int d3, .ref e2, .null, .null, .null, .null, .int 0])), (e2, .inr (10, [.int d4, .int d5, .null, .null, .null, .null, .null, .int 0]))]) [] [.ref e0, .int 2]) (va_Sr (fun _ => True) (fun _ => .ref e2)) 0 0 ga_F := by
  refine Met.ofW (cc := cX7_at) (maxL := 4) (ret := (Option.some (.object "EnclosureReferee$RefusedException"))) (by decide) rfl ?_
  intro p e s m args below meth c s₁ B hml hv
  obtain ⟨rfl, hP, hK, hR⟩ := hv
  have C : ga_cx p m c meth s _ RX7 cX7_at 4 (Option.some (.object "EnclosureReferee$RefusedException")) := ga_cx_of B hml
  have C0 := C
  obtain ⟨hx, hb, hr, hlocks, hml, hown, hts⟩ := C0
  have hl := lv_entry ([.ref e0, .int 2]) (n := 4) (Nat.le_of_ble_eq_true rfl)
  rw [lg_entry_eq]
  generalize (lg_sl ([.ref e0, .int 2]) ++ List.replicate (4 - (lg_sl ([.ref e0, .int 2])).length) Slot.unset).toArray = ls at hl ⊢
  have hl : lv_has ls 4 [(0, .ref e0), (1, .int 2)] := hl
  rw [F_X7_at_3_2] at h
  refine lv_aload_n hx hb dX7_at_0 rfl (lv_at hl 0 rfl) ?_
  refine lv_astore_n (lv' := [(2, .ref e0), (0, .ref e0), (1, .int 2)]) hx hb dX7_at_1 rfl hl (by decide) rfl (fun ls hl => ?_)
  refine lv_iconst (v := 0) hx hb dX7_at_2 (by decide) ?_
  refine lv_istore_n (lv' := [(3, .int 0), (2, .ref e0), (0, .ref e0), (1, .int 2)]) hx hb dX7_at_3 rfl hl (by decide) rfl (fun ls hl => ?_)
  refine lv_iload_n hx hb dX7_at_4 rfl (lv_at hl 0 rfl) ?_
  refine lv_iload_n hx hb dX7_at_5 rfl (lv_at hl 3 rfl) ?_
  refine lv_icmp_ge (tgt := 24) hx hb dX7_at_6 (by decide) (fun c_1 => absurd c_1 (by decide)) (fun _ => ?_)
  refine lv_aload_n hx hb dX7_at_9 rfl (lv_at hl 1 rfl) ?_
  refine lv_ifnull hx hb dX7_at_10 ?_
  refine lv_aload_n hx hb dX7_at_13 rfl (lv_at hl 1 rfl) ?_
  have hP : va_P D ga_cl [(e0, .inr (13, [.int d0, .int d1, .ref e1, .null, .null, .null, .null, .int 0])), (e1, .inr (12, [.int d2, .int d3, .ref e2, .null, .null, .null, .null, .int 0])), (e2, .inr (10, [.int d4, .int d5, .null, .null, .null, .null, .null, .int 0]))] s.heap := hP.app hR.1.1
  refine ga_cause hx hb (hl.1.trans hml.symm) hts in_X11 hown hK.1 hP 0 (fs := [.int d0, .int d1, .ref e1, .null, .null, .null, .null, .int 0]) rfl rfl 2 (by decide) ⟨rfl, rfl, rfl⟩ (v := .ref e1) rfl (Or.inr ⟨_, rfl, ga_rmN hR 1 0 rfl rfl (by decide)⟩) (ga_rmM hR 0 rfl) (hts _ q451) (hts _ q452) (hts _ q456) (hts _ q80) (hts _ q465) (hts _ q554) ⟨Nat.le_of_ble_eq_true rfl, Nat.le_of_ble_eq_true rfl⟩ ⟨Nat.le_of_ble_eq_true rfl, Nat.le_of_ble_eq_true rfl⟩ (by decide) dX7_at_14 ?_
  refine lv_astore_n (lv' := [(2, .ref e1), (3, .int 0), (0, .ref e0), (1, .int 2)]) hx hb dX7_at_17 rfl hl (by decide) rfl (fun ls hl => ?_)
  refine lv_iinc (v := 1) (lv' := [(3, .int 1), (2, .ref e1), (0, .ref e0), (1, .int 2)]) hx hb dX7_at_18 hl (k := 1) rfl rfl (by decide) rfl (fun ls hl => ?_)
  refine lv_goto (tgt := 4) hx hb dX7_at_21 (by decide) ?_
  refine lv_iload_n hx hb dX7_at_4 rfl (lv_at hl 0 rfl) ?_
  refine lv_iload_n hx hb dX7_at_5 rfl (lv_at hl 3 rfl) ?_
  refine lv_icmp_ge (tgt := 24) hx hb dX7_at_6 (by decide) (fun c_2 => absurd c_2 (by decide)) (fun _ => ?_)
  refine lv_aload_n hx hb dX7_at_9 rfl (lv_at hl 1 rfl) ?_
  refine lv_ifnull hx hb dX7_at_10 ?_
  refine lv_aload_n hx hb dX7_at_13 rfl (lv_at hl 1 rfl) ?_
  refine ga_cause hx hb (hl.1.trans hml.symm) hts in_X10 hown hK.1 hP 1 (fs := [.int d2, .int d3, .ref e2, .null, .null, .null, .null, .int 0]) rfl rfl 2 (by decide) ⟨rfl, rfl, rfl⟩ (v := .ref e2) rfl (Or.inr ⟨_, rfl, ga_rmN hR 2 1 rfl rfl (by decide)⟩) (ga_rmM hR 1 rfl) (hts _ q451) (hts _ q452) (hts _ q455) (hts _ q80) (hts _ q465) (hts _ q554) ⟨Nat.le_of_ble_eq_true rfl, Nat.le_of_ble_eq_true rfl⟩ ⟨Nat.le_of_ble_eq_true rfl, Nat.le_of_ble_eq_true rfl⟩ (by decide) dX7_at_14 ?_
  refine lv_astore_n (lv' := [(2, .ref e2), (3, .int 1), (0, .ref e0), (1, .int 2)]) hx hb dX7_at_17 rfl hl (by decide) rfl (fun ls hl => ?_)
  refine lv_iinc (v := 2) (lv' := [(3, .int 2), (2, .ref e2), (0, .ref e0), (1, .int 2)]) hx hb dX7_at_18 hl (k := 1) rfl rfl (by decide) rfl (fun ls hl => ?_)
  refine lv_goto (tgt := 4) hx hb dX7_at_21 (by decide) ?_
  refine lv_iload_n hx hb dX7_at_4 rfl (lv_at hl 0 rfl) ?_
  refine lv_iload_n hx hb dX7_at_5 rfl (lv_at hl 3 rfl) ?_
  refine lv_icmp_ge (tgt := 24) hx hb dX7_at_6 (by decide) (fun _ => ?_) (fun c_3 => absurd (by decide) c_3)
  refine lv_aload_n hx hb dX7_at_24 rfl (lv_at hl 1 rfl) ?_
  refine va_instY hx hb hown (hts _ q466) (hK.2.1 _ q1891 rfl) (va_recv hK.1 hP (ci := 10) (q0 := 2) rfl rfl) dX7_at_25 ?_
  refine lv_if_eq (tgt := 38) hx hb dX7_at_28 (by decide) (fun c_4 => absurd c_4 (by decide)) (fun _ => ?_)
  refine lv_aload_n hx hb dX7_at_31 rfl (lv_at hl 1 rfl) ?_
  refine va_castY hx hb hown (hts _ q466) (hK.2.1 _ q1891 rfl) (va_recv hK.1 hP (ci := 10) (q0 := 2) rfl rfl) dX7_at_32 ?_
  refine lv_goto (tgt := 39) hx hb dX7_at_35 (by decide) ?_
  obtain rfl := Option.some.inj h
  exact W.aret hx hb hr (Or.inl ⟨_, rfl⟩) (Or.inr ⟨_, rfl⟩) (fun t ht hW => ⟨0, rfl, trivial, ht⟩) (fun _ hq => by cases hq) dX7_at_39
abbrev rm_X7_at_3_3 : Room := { frames := 2, cells := 0, slots := 0, locals := 40 }
def F_X7_at_3_3 (N : Nat) (d0 : Int32) (d1 : Int32) (d2 : Int32) (d3 : Int32) (d4 : Int32) (d5 : Int32)  : Option (Unit) :=
  some ()
set_option maxHeartbeats 4000000 in
theorem met_X7_at_3_3 (l : Launch) (D : va_G) (cA : Nat → ClassId) (e0 : Nat) (e1 : Nat) (e2 : Nat) (d0 : Int32) (d1 : Int32) (d2 : Int32) (d3 : Int32) (d4 : Int32) (d5 : Int32) (N : Nat)   (out : Unit) (h : F_X7_at_3_3 N d0 d1 d2 d3 d4 d5 = some out) : Met l yX7_at (ws_ yX7_at cX7_at 4 (Option.some (.object "EnclosureReferee$RefusedException"))) rm_X7_at_3_3 (ga_PR D cA (ga_rm D [(e0, .inr (13, [.int d0, .int d1, .ref e1, .null, .null, .null, .null, .int 0])), (e1, .inr (12, [.int d2, .int d3, .ref e2, .null, .null, .null, .null, .int 0])), (e2, .inr (10, [.int d4, .int d5, .null, .null, .null, .null, .null, .int 0]))]) [] [.ref e0, .int 3]) (va_Sq (fun r => none = r)) 0 0 ga_F := by
  refine Met.ofW (cc := cX7_at) (maxL := 4) (ret := (Option.some (.object "EnclosureReferee$RefusedException"))) (by decide) rfl ?_
  intro p e s m args below meth c s₁ B hml hv
  obtain ⟨rfl, hP, hK, hR⟩ := hv
  have C : ga_cx p m c meth s _ RX7 cX7_at 4 (Option.some (.object "EnclosureReferee$RefusedException")) := ga_cx_of B hml
  have C0 := C
  obtain ⟨hx, hb, hr, hlocks, hml, hown, hts⟩ := C0
  have hl := lv_entry ([.ref e0, .int 3]) (n := 4) (Nat.le_of_ble_eq_true rfl)
  rw [lg_entry_eq]
  generalize (lg_sl ([.ref e0, .int 3]) ++ List.replicate (4 - (lg_sl ([.ref e0, .int 3])).length) Slot.unset).toArray = ls at hl ⊢
  have hl : lv_has ls 4 [(0, .ref e0), (1, .int 3)] := hl
  rw [F_X7_at_3_3] at h
  refine lv_aload_n hx hb dX7_at_0 rfl (lv_at hl 0 rfl) ?_
  refine lv_astore_n (lv' := [(2, .ref e0), (0, .ref e0), (1, .int 3)]) hx hb dX7_at_1 rfl hl (by decide) rfl (fun ls hl => ?_)
  refine lv_iconst (v := 0) hx hb dX7_at_2 (by decide) ?_
  refine lv_istore_n (lv' := [(3, .int 0), (2, .ref e0), (0, .ref e0), (1, .int 3)]) hx hb dX7_at_3 rfl hl (by decide) rfl (fun ls hl => ?_)
  refine lv_iload_n hx hb dX7_at_4 rfl (lv_at hl 0 rfl) ?_
  refine lv_iload_n hx hb dX7_at_5 rfl (lv_at hl 3 rfl) ?_
  refine lv_icmp_ge (tgt := 24) hx hb dX7_at_6 (by decide) (fun c_1 => absurd c_1 (by decide)) (fun _ => ?_)
  refine lv_aload_n hx hb dX7_at_9 rfl (lv_at hl 1 rfl) ?_
  refine lv_ifnull hx hb dX7_at_10 ?_
  refine lv_aload_n hx hb dX7_at_13 rfl (lv_at hl 1 rfl) ?_
  have hP : va_P D ga_cl [(e0, .inr (13, [.int d0, .int d1, .ref e1, .null, .null, .null, .null, .int 0])), (e1, .inr (12, [.int d2, .int d3, .ref e2, .null, .null, .null, .null, .int 0])), (e2, .inr (10, [.int d4, .int d5, .null, .null, .null, .null, .null, .int 0]))] s.heap := hP.app hR.1.1
  refine ga_cause hx hb (hl.1.trans hml.symm) hts in_X11 hown hK.1 hP 0 (fs := [.int d0, .int d1, .ref e1, .null, .null, .null, .null, .int 0]) rfl rfl 2 (by decide) ⟨rfl, rfl, rfl⟩ (v := .ref e1) rfl (Or.inr ⟨_, rfl, ga_rmN hR 1 0 rfl rfl (by decide)⟩) (ga_rmM hR 0 rfl) (hts _ q451) (hts _ q452) (hts _ q456) (hts _ q80) (hts _ q465) (hts _ q554) ⟨Nat.le_of_ble_eq_true rfl, Nat.le_of_ble_eq_true rfl⟩ ⟨Nat.le_of_ble_eq_true rfl, Nat.le_of_ble_eq_true rfl⟩ (by decide) dX7_at_14 ?_
  refine lv_astore_n (lv' := [(2, .ref e1), (3, .int 0), (0, .ref e0), (1, .int 3)]) hx hb dX7_at_17 rfl hl (by decide) rfl (fun ls hl => ?_)
  refine lv_iinc (v := 1) (lv' := [(3, .int 1), (2, .ref e1), (0, .ref e0), (1, .int 3)]) hx hb dX7_at_18 hl (k := 1) rfl rfl (by decide) rfl (fun ls hl => ?_)
  refine lv_goto (tgt := 4) hx hb dX7_at_21 (by decide) ?_
  refine lv_iload_n hx hb dX7_at_4 rfl (lv_at hl 0 rfl) ?_
  refine lv_iload_n hx hb dX7_at_5 rfl (lv_at hl 3 rfl) ?_
  refine lv_icmp_ge (tgt := 24) hx hb dX7_at_6 (by decide) (fun c_2 => absurd c_2 (by decide)) (fun _ => ?_)
  refine lv_aload_n hx hb dX7_at_9 rfl (lv_at hl 1 rfl) ?_
  refine lv_ifnull hx hb dX7_at_10 ?_
  refine lv_aload_n hx hb dX7_at_13 rfl (lv_at hl 1 rfl) ?_
  refine ga_cause hx hb (hl.1.trans hml.symm) hts in_X10 hown hK.1 hP 1 (fs := [.int d2, .int d3, .ref e2, .null, .null, .null, .null, .int 0]) rfl rfl 2 (by decide) ⟨rfl, rfl, rfl⟩ (v := .ref e2) rfl (Or.inr ⟨_, rfl, ga_rmN hR 2 1 rfl rfl (by decide)⟩) (ga_rmM hR 1 rfl) (hts _ q451) (hts _ q452) (hts _ q455) (hts _ q80) (hts _ q465) (hts _ q554) ⟨Nat.le_of_ble_eq_true rfl, Nat.le_of_ble_eq_true rfl⟩ ⟨Nat.le_of_ble_eq_true rfl, Nat.le_of_ble_eq_true rfl⟩ (by decide) dX7_at_14 ?_
  refine lv_astore_n (lv' := [(2, .ref e2), (3, .int 1), (0, .ref e0), (1, .int 3)]) hx hb dX7_at_17 rfl hl (by decide) rfl (fun ls hl => ?_)
  refine lv_iinc (v := 2) (lv' := [(3, .int 2), (2, .ref e2), (0, .ref e0), (1, .int 3)]) hx hb dX7_at_18 hl (k := 1) rfl rfl (by decide) rfl (fun ls hl => ?_)
  refine lv_goto (tgt := 4) hx hb dX7_at_21 (by decide) ?_
  refine lv_iload_n hx hb dX7_at_4 rfl (lv_at hl 0 rfl) ?_
  refine lv_iload_n hx hb dX7_at_5 rfl (lv_at hl 3 rfl) ?_
  refine lv_icmp_ge (tgt := 24) hx hb dX7_at_6 (by decide) (fun c_3 => absurd c_3 (by decide)) (fun _ => ?_)
  refine lv_aload_n hx hb dX7_at_9 rfl (lv_at hl 1 rfl) ?_
  refine lv_ifnull hx hb dX7_at_10 ?_
  refine lv_aload_n hx hb dX7_at_13 rfl (lv_at hl 1 rfl) ?_
  refine ga_cause hx hb (hl.1.trans hml.symm) hts in_X8 hown hK.1 hP 2 (fs := [.int d4, .int d5, .null, .null, .null, .null, .null, .int 0]) rfl rfl 2 (by decide) ⟨rfl, rfl, rfl⟩ (v := .null) rfl (Or.inl rfl) (ga_rmM hR 2 rfl) (hts _ q451) (hts _ q452) (hts _ q454) (hts _ q80) (hts _ q465) (hts _ q554) ⟨Nat.le_of_ble_eq_true rfl, Nat.le_of_ble_eq_true rfl⟩ ⟨Nat.le_of_ble_eq_true rfl, Nat.le_of_ble_eq_true rfl⟩ (by decide) dX7_at_14 ?_
  refine lv_astore_nN (lv' := [(2, .null), (3, .int 2), (0, .ref e0), (1, .int 3)]) hx hb dX7_at_17 rfl hl (by decide) rfl (fun ls hl => ?_)
  refine lv_iinc (v := 3) (lv' := [(3, .int 3), (2, .null), (0, .ref e0), (1, .int 3)]) hx hb dX7_at_18 hl (k := 1) rfl rfl (by decide) rfl (fun ls hl => ?_)
  refine lv_goto (tgt := 4) hx hb dX7_at_21 (by decide) ?_
  refine lv_iload_n hx hb dX7_at_4 rfl (lv_at hl 0 rfl) ?_
  refine lv_iload_n hx hb dX7_at_5 rfl (lv_at hl 3 rfl) ?_
  refine lv_icmp_ge (tgt := 24) hx hb dX7_at_6 (by decide) (fun _ => ?_) (fun c_4 => absurd (by decide) c_4)
  refine lv_aload_nN hx hb dX7_at_24 rfl (lv_at hl 1 rfl) ?_
  refine lv_instN hx hb dX7_at_25 ?_
  refine lv_if_eq (tgt := 38) hx hb dX7_at_28 (by decide) (fun _ => ?_) (fun c_5 => absurd (by decide) c_5)
  refine lv_null hx hb dX7_at_38 ?_
  obtain rfl := Option.some.inj h
  exact W.aret (v := .null) hx hb hr (Or.inl ⟨_, rfl⟩) (Or.inl rfl) (fun t ht hW => ⟨none, rfl, rfl, ht⟩) (fun _ hq => by cases hq) dX7_at_39
abbrev rm_X7_levels_3 : Room := { frames := 3, cells := 0, slots := 0, locals := 63 }
def F_X7_levels_3 (N : Nat) (d0 : Int32) (d1 : Int32) (d2 : Int32) (d3 : Int32) (d4 : Int32) (d5 : Int32)  : Option (Int32) :=
  some 3
set_option maxHeartbeats 4000000 in
theorem met_X7_levels_3 (l : Launch) (D : va_G) (cA : Nat → ClassId) (e0 : Nat) (e1 : Nat) (e2 : Nat) (d0 : Int32) (d1 : Int32) (d2 : Int32) (d3 : Int32) (d4 : Int32) (d5 : Int32) (N : Nat)   (out : Int32) (h : F_X7_levels_3 N d0 d1 d2 d3 d4 d5 = some out) : Met l yX7_levels (ws_ yX7_levels cX7_levels 2 (some .int)) rm_X7_levels_3 (ga_PR D cA (ga_rm D [(e0, .inr (13, [.int d0, .int d1, .ref e1, .null, .null, .null, .null, .int 0])), (e1, .inr (12, [.int d2, .int d3, .ref e2, .null, .null, .null, .null, .int 0])), (e2, .inr (10, [.int d4, .int d5, .null, .null, .null, .null, .null, .int 0]))]) [] [.ref e0]) (vp_Si (fun r => out = r)) 0 0 ga_F := by
  refine Met.ofW (cc := cX7_levels) (maxL := 2) (ret := (some .int)) (by decide) rfl ?_
  intro p e s m args below meth c s₁ B hml hv
  obtain ⟨rfl, hP, hK, hR⟩ := hv
  have C : ga_cx p m c meth s _ RX7 cX7_levels 2 (some .int) := ga_cx_of B hml
  have C0 := C
  obtain ⟨hx, hb, hr, hlocks, hml, hown, hts⟩ := C0
  have hl := lv_entry ([.ref e0]) (n := 2) (Nat.le_of_ble_eq_true rfl)
  rw [lg_entry_eq]
  generalize (lg_sl ([.ref e0]) ++ List.replicate (2 - (lg_sl ([.ref e0])).length) Slot.unset).toArray = ls at hl ⊢
  have hl : lv_has ls 2 [(0, .ref e0)] := hl
  rw [F_X7_levels_3] at h
  refine lv_iconst (v := 0) hx hb dX7_levels_0 (by decide) ?_
  refine lv_istore_n (lv' := [(1, .int 0), (0, .ref e0)]) hx hb dX7_levels_1 rfl hl (by decide) rfl (fun ls hl => ?_)
  refine lv_aload_n hx hb dX7_levels_2 rfl (lv_at hl 1 rfl) ?_
  refine lv_iload_n hx hb dX7_levels_3 rfl (lv_at hl 0 rfl) ?_
  have hP : va_P D ga_cl [(e0, .inr (13, [.int d0, .int d1, .ref e1, .null, .null, .null, .null, .int 0])), (e1, .inr (12, [.int d2, .int d3, .ref e2, .null, .null, .null, .null, .int 0])), (e2, .inr (10, [.int d4, .int d5, .null, .null, .null, .null, .null, .int 0]))] s.heap := hP.app hR.1.1
  refine va_csr (va_Run.run (va_runV (As := [.int 0]) (rest := []) ⟨hx, hb, hml, hown, hts⟩ (met_X7_at_3_0 l D cA e0 e1 e2 d0 d1 d2 d3 d4 d5 N () rfl) (⟨callB_of 1 hts (lw_meth q450) rfl rfl rfl (hts _ q92) (hts _ q443) (by decide +kernel) ⟨Nat.le_of_ble_eq_true rfl, Nat.le_of_ble_eq_true rfl⟩, hts _ q444, hts _ q448⟩) (ga_PRV ga_rmK (ga_rmS hR [0, 1, 2] rfl rfl (by decide) (fun _ h => False.elim h)) hK ga_P0 (va_recv hK.1 hP (ci := 13) (q0 := 0) rfl rfl)) rfl rfl hl.1 rfl (lv_room (Nat.le_of_ble_eq_true rfl)) dX7_levels_4 ⟨Nat.le_of_ble_eq_true rfl, Nat.le_of_ble_eq_true rfl⟩)) (fun _ _ => ?_)
  refine lv_ifnull hx hb dX7_levels_7 ?_
  refine lv_iinc (v := 1) (lv' := [(1, .int 1), (0, .ref e0)]) hx hb dX7_levels_10 hl (k := 0) rfl rfl (by decide) rfl (fun ls hl => ?_)
  refine lv_goto (tgt := 2) hx hb dX7_levels_13 (by decide) ?_
  refine lv_aload_n hx hb dX7_levels_2 rfl (lv_at hl 1 rfl) ?_
  refine lv_iload_n hx hb dX7_levels_3 rfl (lv_at hl 0 rfl) ?_
  refine va_csr (va_Run.run (va_runV (As := [.int 1]) (rest := []) ⟨hx, hb, hml, hown, hts⟩ (met_X7_at_3_1 l D cA e0 e1 e2 d0 d1 d2 d3 d4 d5 N () rfl) (⟨callB_of 1 hts (lw_meth q450) rfl rfl rfl (hts _ q92) (hts _ q443) (by decide +kernel) ⟨Nat.le_of_ble_eq_true rfl, Nat.le_of_ble_eq_true rfl⟩, hts _ q444, hts _ q448⟩) (ga_PRV ga_rmK (ga_rmS hR [0, 1, 2] rfl rfl (by decide) (fun _ h => False.elim h)) hK ga_P0 (va_recv hK.1 hP (ci := 13) (q0 := 0) rfl rfl)) rfl rfl hl.1 rfl (lv_room (Nat.le_of_ble_eq_true rfl)) dX7_levels_4 ⟨Nat.le_of_ble_eq_true rfl, Nat.le_of_ble_eq_true rfl⟩)) (fun _ _ => ?_)
  refine lv_ifnull hx hb dX7_levels_7 ?_
  refine lv_iinc (v := 2) (lv' := [(1, .int 2), (0, .ref e0)]) hx hb dX7_levels_10 hl (k := 0) rfl rfl (by decide) rfl (fun ls hl => ?_)
  refine lv_goto (tgt := 2) hx hb dX7_levels_13 (by decide) ?_
  refine lv_aload_n hx hb dX7_levels_2 rfl (lv_at hl 1 rfl) ?_
  refine lv_iload_n hx hb dX7_levels_3 rfl (lv_at hl 0 rfl) ?_
  refine va_csr (va_Run.run (va_runV (As := [.int 2]) (rest := []) ⟨hx, hb, hml, hown, hts⟩ (met_X7_at_3_2 l D cA e0 e1 e2 d0 d1 d2 d3 d4 d5 N () rfl) (⟨callB_of 1 hts (lw_meth q450) rfl rfl rfl (hts _ q92) (hts _ q443) (by decide +kernel) ⟨Nat.le_of_ble_eq_true rfl, Nat.le_of_ble_eq_true rfl⟩, hts _ q444, hts _ q448⟩) (ga_PRV ga_rmK (ga_rmS hR [0, 1, 2] rfl rfl (by decide) (fun _ h => False.elim h)) hK ga_P0 (va_recv hK.1 hP (ci := 13) (q0 := 0) rfl rfl)) rfl rfl hl.1 rfl (lv_room (Nat.le_of_ble_eq_true rfl)) dX7_levels_4 ⟨Nat.le_of_ble_eq_true rfl, Nat.le_of_ble_eq_true rfl⟩)) (fun _ _ => ?_)
  refine lv_ifnull hx hb dX7_levels_7 ?_
  refine lv_iinc (v := 3) (lv' := [(1, .int 3), (0, .ref e0)]) hx hb dX7_levels_10 hl (k := 0) rfl rfl (by decide) rfl (fun ls hl => ?_)
  refine lv_goto (tgt := 2) hx hb dX7_levels_13 (by decide) ?_
  refine lv_aload_n hx hb dX7_levels_2 rfl (lv_at hl 1 rfl) ?_
  refine lv_iload_n hx hb dX7_levels_3 rfl (lv_at hl 0 rfl) ?_
  refine va_csq (va_Run.run (va_runV (As := [.int 3]) (rest := []) ⟨hx, hb, hml, hown, hts⟩ (met_X7_at_3_3 l D cA e0 e1 e2 d0 d1 d2 d3 d4 d5 N () rfl) (⟨callB_of 1 hts (lw_meth q450) rfl rfl rfl (hts _ q92) (hts _ q443) (by decide +kernel) ⟨Nat.le_of_ble_eq_true rfl, Nat.le_of_ble_eq_true rfl⟩, hts _ q444, hts _ q448⟩) (ga_PRV ga_rmK (ga_rmS hR [0, 1, 2] rfl rfl (by decide) (fun _ h => False.elim h)) hK ga_P0 (va_recv hK.1 hP (ci := 13) (q0 := 0) rfl rfl)) rfl rfl hl.1 rfl (lv_room (Nat.le_of_ble_eq_true rfl)) dX7_levels_4 ⟨Nat.le_of_ble_eq_true rfl, Nat.le_of_ble_eq_true rfl⟩)) (fun z_15 w_16 => ?_)
  obtain rfl := w_16
  refine lv_ifnullN (tgt := 16) hx hb dX7_levels_7 (by decide) ?_
  refine lv_iload_n hx hb dX7_levels_16 rfl (lv_at hl 0 rfl) ?_
  obtain rfl := Option.some.inj h
  exact W.iret hx hb hr (fun t ht hW => ⟨_, rfl, rfl, ht⟩) (fun _ hq => by cases hq) dX7_levels_17
abbrev rm_X7_at_4_0 : Room := { frames := 1, cells := 0, slots := 0, locals := 12 }
def F_X7_at_4_0 (N : Nat) (d0 : Int32) (d1 : Int32) (d2 : Int32) (d3 : Int32) (d4 : Int32) (d5 : Int32) (d6 : Int32) (d7 : Int32)  : Option (Unit) :=
  some ()
set_option maxHeartbeats 4000000 in
theorem met_X7_at_4_0 (l : Launch) (D : va_G) (cA : Nat → ClassId) (e0 : Nat) (e1 : Nat) (e2 : Nat) (e3 : Nat) (d0 : Int32) (d1 : Int32) (d2 : Int32) (d3 : Int32) (d4 : Int32) (d5 : Int32) (d6 : Int32) (d7 : Int32) (N : Nat)   (out : Unit) (h : F_X7_at_4_0 N d0 d1 d2 d3 d4 d5 d6 d7 = some out) : Met l yX7_at (ws_ yX7_at cX7_at 4 (Option.some (.object "EnclosureReferee$RefusedException"))) rm_X7_at_4_0 (ga_PR D cA (ga_rm D [(e0, .inr (13, [.int d0, .int d1, .ref e1, .null, .null, .null, .null, .int 0])), (e1, .inr (12, [.int d2, .int d3, .ref e2, .null, .null, .null, .null, .int 0])), (e2, .inr (10, [.int d4, .int d5, .ref e3, .null, .null, .null, .null, .int 0])), (e3, .inr (11, [.int d6, .int d7, .null, .null, .null, .null, .null, .int 0]))]) [] [.ref e0, .int 0]) (va_Sr (fun _ => True) (fun _ => .ref e0)) 0 0 ga_F := by
  refine Met.ofW (cc := cX7_at) (maxL := 4) (ret := (Option.some (.object "EnclosureReferee$RefusedException"))) (by decide) rfl ?_
  intro p e s m args below meth c s₁ B hml hv
  obtain ⟨rfl, hP, hK, hR⟩ := hv
  have C : ga_cx p m c meth s _ RX7 cX7_at 4 (Option.some (.object "EnclosureReferee$RefusedException")) := ga_cx_of B hml
  have C0 := C
  obtain ⟨hx, hb, hr, hlocks, hml, hown, hts⟩ := C0
  have hl := lv_entry ([.ref e0, .int 0]) (n := 4) (Nat.le_of_ble_eq_true rfl)
  rw [lg_entry_eq]
  generalize (lg_sl ([.ref e0, .int 0]) ++ List.replicate (4 - (lg_sl ([.ref e0, .int 0])).length) Slot.unset).toArray = ls at hl ⊢
  have hl : lv_has ls 4 [(0, .ref e0), (1, .int 0)] := hl
  rw [F_X7_at_4_0] at h
  refine lv_aload_n hx hb dX7_at_0 rfl (lv_at hl 0 rfl) ?_
  refine lv_astore_n (lv' := [(2, .ref e0), (0, .ref e0), (1, .int 0)]) hx hb dX7_at_1 rfl hl (by decide) rfl (fun ls hl => ?_)
  refine lv_iconst (v := 0) hx hb dX7_at_2 (by decide) ?_
  refine lv_istore_n (lv' := [(3, .int 0), (2, .ref e0), (0, .ref e0), (1, .int 0)]) hx hb dX7_at_3 rfl hl (by decide) rfl (fun ls hl => ?_)
  refine lv_iload_n hx hb dX7_at_4 rfl (lv_at hl 0 rfl) ?_
  refine lv_iload_n hx hb dX7_at_5 rfl (lv_at hl 3 rfl) ?_
  refine lv_icmp_ge (tgt := 24) hx hb dX7_at_6 (by decide) (fun _ => ?_) (fun c_1 => absurd (by decide) c_1)
  refine lv_aload_n hx hb dX7_at_24 rfl (lv_at hl 1 rfl) ?_
  have hP : va_P D ga_cl [(e0, .inr (13, [.int d0, .int d1, .ref e1, .null, .null, .null, .null, .int 0])), (e1, .inr (12, [.int d2, .int d3, .ref e2, .null, .null, .null, .null, .int 0])), (e2, .inr (10, [.int d4, .int d5, .ref e3, .null, .null, .null, .null, .int 0])), (e3, .inr (11, [.int d6, .int d7, .null, .null, .null, .null, .null, .int 0]))] s.heap := hP.app hR.1.1
  refine va_instY hx hb hown (hts _ q466) (hK.2.1 _ q1893 rfl) (va_recv hK.1 hP (ci := 13) (q0 := 0) rfl rfl) dX7_at_25 ?_
  refine lv_if_eq (tgt := 38) hx hb dX7_at_28 (by decide) (fun c_2 => absurd c_2 (by decide)) (fun _ => ?_)
  refine lv_aload_n hx hb dX7_at_31 rfl (lv_at hl 1 rfl) ?_
  refine va_castY hx hb hown (hts _ q466) (hK.2.1 _ q1893 rfl) (va_recv hK.1 hP (ci := 13) (q0 := 0) rfl rfl) dX7_at_32 ?_
  refine lv_goto (tgt := 39) hx hb dX7_at_35 (by decide) ?_
  obtain rfl := Option.some.inj h
  exact W.aret hx hb hr (Or.inl ⟨_, rfl⟩) (Or.inr ⟨_, rfl⟩) (fun t ht hW => ⟨0, rfl, trivial, ht⟩) (fun _ hq => by cases hq) dX7_at_39
abbrev rm_X7_at_4_1 : Room := { frames := 2, cells := 0, slots := 0, locals := 40 }
def F_X7_at_4_1 (N : Nat) (d0 : Int32) (d1 : Int32) (d2 : Int32) (d3 : Int32) (d4 : Int32) (d5 : Int32) (d6 : Int32) (d7 : Int32)  : Option (Unit) :=
  some ()
set_option maxHeartbeats 4000000 in
theorem met_X7_at_4_1 (l : Launch) (D : va_G) (cA : Nat → ClassId) (e0 : Nat) (e1 : Nat) (e2 : Nat) (e3 : Nat) (d0 : Int32) (d1 : Int32) (d2 : Int32) (d3 : Int32) (d4 : Int32) (d5 : Int32) (d6 : Int32) (d7 : Int32) (N : Nat)   (out : Unit) (h : F_X7_at_4_1 N d0 d1 d2 d3 d4 d5 d6 d7 = some out) : Met l yX7_at (ws_ yX7_at cX7_at 4 (Option.some (.object "EnclosureReferee$RefusedException"))) rm_X7_at_4_1 (ga_PR D cA (ga_rm D [(e0, .inr (13, [.int d0, .int d1, .ref e1, .null, .null, .null, .null, .int 0])), (e1, .inr (12, [.int d2, .int d3, .ref e2, .null, .null, .null, .null, .int 0])), (e2, .inr (10, [.int d4, .int d5, .ref e3, .null, .null, .null, .null, .int 0])), (e3, .inr (11, [.int d6, .int d7, .null, .null, .null, .null, .null, .int 0]))]) [] [.ref e0, .int 1]) (va_Sr (fun _ => True) (fun _ => .ref e1)) 0 0 ga_F := by
  refine Met.ofW (cc := cX7_at) (maxL := 4) (ret := (Option.some (.object "EnclosureReferee$RefusedException"))) (by decide) rfl ?_
  intro p e s m args below meth c s₁ B hml hv
  obtain ⟨rfl, hP, hK, hR⟩ := hv
  have C : ga_cx p m c meth s _ RX7 cX7_at 4 (Option.some (.object "EnclosureReferee$RefusedException")) := ga_cx_of B hml
  have C0 := C
  obtain ⟨hx, hb, hr, hlocks, hml, hown, hts⟩ := C0
  have hl := lv_entry ([.ref e0, .int 1]) (n := 4) (Nat.le_of_ble_eq_true rfl)
  rw [lg_entry_eq]
  generalize (lg_sl ([.ref e0, .int 1]) ++ List.replicate (4 - (lg_sl ([.ref e0, .int 1])).length) Slot.unset).toArray = ls at hl ⊢
  have hl : lv_has ls 4 [(0, .ref e0), (1, .int 1)] := hl
  rw [F_X7_at_4_1] at h
  refine lv_aload_n hx hb dX7_at_0 rfl (lv_at hl 0 rfl) ?_
  refine lv_astore_n (lv' := [(2, .ref e0), (0, .ref e0), (1, .int 1)]) hx hb dX7_at_1 rfl hl (by decide) rfl (fun ls hl => ?_)
  refine lv_iconst (v := 0) hx hb dX7_at_2 (by decide) ?_
  refine lv_istore_n (lv' := [(3, .int 0), (2, .ref e0), (0, .ref e0), (1, .int 1)]) hx hb dX7_at_3 rfl hl (by decide) rfl (fun ls hl => ?_)
  refine lv_iload_n hx hb dX7_at_4 rfl (lv_at hl 0 rfl) ?_
  refine lv_iload_n hx hb dX7_at_5 rfl (lv_at hl 3 rfl) ?_
  refine lv_icmp_ge (tgt := 24) hx hb dX7_at_6 (by decide) (fun c_1 => absurd c_1 (by decide)) (fun _ => ?_)
  refine lv_aload_n hx hb dX7_at_9 rfl (lv_at hl 1 rfl) ?_
  refine lv_ifnull hx hb dX7_at_10 ?_
  refine lv_aload_n hx hb dX7_at_13 rfl (lv_at hl 1 rfl) ?_
  have hP : va_P D ga_cl [(e0, .inr (13, [.int d0, .int d1, .ref e1, .null, .null, .null, .null, .int 0])), (e1, .inr (12, [.int d2, .int d3, .ref e2, .null, .null, .null, .null, .int 0])), (e2, .inr (10, [.int d4, .int d5, .ref e3, .null, .null, .null, .null, .int 0])), (e3, .inr (11, [.int d6, .int d7, .null, .null, .null, .null, .null, .int 0]))] s.heap := hP.app hR.1.1
  refine ga_cause hx hb (hl.1.trans hml.symm) hts in_X11 hown hK.1 hP 0 (fs := [.int d0, .int d1, .ref e1, .null, .null, .null, .null, .int 0]) rfl rfl 2 (by decide) ⟨rfl, rfl, rfl⟩ (v := .ref e1) rfl (Or.inr ⟨_, rfl, ga_rmN hR 1 0 rfl rfl (by decide)⟩) (ga_rmM hR 0 rfl) (hts _ q451) (hts _ q452) (hts _ q456) (hts _ q80) (hts _ q465) (hts _ q554) ⟨Nat.le_of_ble_eq_true rfl, Nat.le_of_ble_eq_true rfl⟩ ⟨Nat.le_of_ble_eq_true rfl, Nat.le_of_ble_eq_true rfl⟩ (by decide) dX7_at_14 ?_
  refine lv_astore_n (lv' := [(2, .ref e1), (3, .int 0), (0, .ref e0), (1, .int 1)]) hx hb dX7_at_17 rfl hl (by decide) rfl (fun ls hl => ?_)
  refine lv_iinc (v := 1) (lv' := [(3, .int 1), (2, .ref e1), (0, .ref e0), (1, .int 1)]) hx hb dX7_at_18 hl (k := 1) rfl rfl (by decide) rfl (fun ls hl => ?_)
  refine lv_goto (tgt := 4) hx hb dX7_at_21 (by decide) ?_
  refine lv_iload_n hx hb dX7_at_4 rfl (lv_at hl 0 rfl) ?_
  refine lv_iload_n hx hb dX7_at_5 rfl (lv_at hl 3 rfl) ?_
  refine lv_icmp_ge (tgt := 24) hx hb dX7_at_6 (by decide) (fun _ => ?_) (fun c_2 => absurd (by decide) c_2)
  refine lv_aload_n hx hb dX7_at_24 rfl (lv_at hl 1 rfl) ?_
  refine va_instY hx hb hown (hts _ q466) (hK.2.1 _ q1892 rfl) (va_recv hK.1 hP (ci := 12) (q0 := 1) rfl rfl) dX7_at_25 ?_
  refine lv_if_eq (tgt := 38) hx hb dX7_at_28 (by decide) (fun c_3 => absurd c_3 (by decide)) (fun _ => ?_)
  refine lv_aload_n hx hb dX7_at_31 rfl (lv_at hl 1 rfl) ?_
  refine va_castY hx hb hown (hts _ q466) (hK.2.1 _ q1892 rfl) (va_recv hK.1 hP (ci := 12) (q0 := 1) rfl rfl) dX7_at_32 ?_
  refine lv_goto (tgt := 39) hx hb dX7_at_35 (by decide) ?_
  obtain rfl := Option.some.inj h
  exact W.aret hx hb hr (Or.inl ⟨_, rfl⟩) (Or.inr ⟨_, rfl⟩) (fun t ht hW => ⟨0, rfl, trivial, ht⟩) (fun _ hq => by cases hq) dX7_at_39
abbrev rm_X7_at_4_2 : Room := { frames := 2, cells := 0, slots := 0, locals := 40 }
def F_X7_at_4_2 (N : Nat) (d0 : Int32) (d1 : Int32) (d2 : Int32) (d3 : Int32) (d4 : Int32) (d5 : Int32) (d6 : Int32) (d7 : Int32)  : Option (Unit) :=
  some ()
set_option maxHeartbeats 4000000 in
theorem met_X7_at_4_2 (l : Launch) (D : va_G) (cA : Nat → ClassId) (e0 : Nat) (e1 : Nat) (e2 : Nat) (e3 : Nat) (d0 : Int32) (d1 : Int32) (d2 : Int32) (d3 : Int32) (d4 : Int32) (d5 : Int32) (d6 : Int32) (d7 : Int32) (N : Nat)   (out : Unit) (h : F_X7_at_4_2 N d0 d1 d2 d3 d4 d5 d6 d7 = some out) : Met l yX7_at (ws_ yX7_at cX7_at 4 (Option.some (.object "EnclosureReferee$RefusedException"))) rm_X7_at_4_2 (ga_PR D cA (ga_rm D [(e0, .inr (13, [.int d0, .int d1, .ref e1, .null, .null, .null, .null, .int 0])), (e1, .inr (12, [.int d2, .int d3, .ref e2, .null, .null, .null, .null, .int 0])), (e2, .inr (10, [.int d4, .int d5, .ref e3, .null, .null, .null, .null, .int 0])), (e3, .inr (11, [.int d6, .int d7, .null, .null, .null, .null, .null, .int 0]))]) [] [.ref e0, .int 2]) (va_Sr (fun _ => True) (fun _ => .ref e2)) 0 0 ga_F := by
  refine Met.ofW (cc := cX7_at) (maxL := 4) (ret := (Option.some (.object "EnclosureReferee$RefusedException"))) (by decide) rfl ?_
  intro p e s m args below meth c s₁ B hml hv
  obtain ⟨rfl, hP, hK, hR⟩ := hv
  have C : ga_cx p m c meth s _ RX7 cX7_at 4 (Option.some (.object "EnclosureReferee$RefusedException")) := ga_cx_of B hml
  have C0 := C
  obtain ⟨hx, hb, hr, hlocks, hml, hown, hts⟩ := C0
  have hl := lv_entry ([.ref e0, .int 2]) (n := 4) (Nat.le_of_ble_eq_true rfl)
  rw [lg_entry_eq]
  generalize (lg_sl ([.ref e0, .int 2]) ++ List.replicate (4 - (lg_sl ([.ref e0, .int 2])).length) Slot.unset).toArray = ls at hl ⊢
  have hl : lv_has ls 4 [(0, .ref e0), (1, .int 2)] := hl
  rw [F_X7_at_4_2] at h
  refine lv_aload_n hx hb dX7_at_0 rfl (lv_at hl 0 rfl) ?_
  refine lv_astore_n (lv' := [(2, .ref e0), (0, .ref e0), (1, .int 2)]) hx hb dX7_at_1 rfl hl (by decide) rfl (fun ls hl => ?_)
  refine lv_iconst (v := 0) hx hb dX7_at_2 (by decide) ?_
  refine lv_istore_n (lv' := [(3, .int 0), (2, .ref e0), (0, .ref e0), (1, .int 2)]) hx hb dX7_at_3 rfl hl (by decide) rfl (fun ls hl => ?_)
  refine lv_iload_n hx hb dX7_at_4 rfl (lv_at hl 0 rfl) ?_
  refine lv_iload_n hx hb dX7_at_5 rfl (lv_at hl 3 rfl) ?_
  refine lv_icmp_ge (tgt := 24) hx hb dX7_at_6 (by decide) (fun c_1 => absurd c_1 (by decide)) (fun _ => ?_)
  refine lv_aload_n hx hb dX7_at_9 rfl (lv_at hl 1 rfl) ?_
  refine lv_ifnull hx hb dX7_at_10 ?_
  refine lv_aload_n hx hb dX7_at_13 rfl (lv_at hl 1 rfl) ?_
  have hP : va_P D ga_cl [(e0, .inr (13, [.int d0, .int d1, .ref e1, .null, .null, .null, .null, .int 0])), (e1, .inr (12, [.int d2, .int d3, .ref e2, .null, .null, .null, .null, .int 0])), (e2, .inr (10, [.int d4, .int d5, .ref e3, .null, .null, .null, .null, .int 0])), (e3, .inr (11, [.int d6, .int d7, .null, .null, .null, .null, .null, .int 0]))] s.heap := hP.app hR.1.1
  refine ga_cause hx hb (hl.1.trans hml.symm) hts in_X11 hown hK.1 hP 0 (fs := [.int d0, .int d1, .ref e1, .null, .null, .null, .null, .int 0]) rfl rfl 2 (by decide) ⟨rfl, rfl, rfl⟩ (v := .ref e1) rfl (Or.inr ⟨_, rfl, ga_rmN hR 1 0 rfl rfl (by decide)⟩) (ga_rmM hR 0 rfl) (hts _ q451) (hts _ q452) (hts _ q456) (hts _ q80) (hts _ q465) (hts _ q554) ⟨Nat.le_of_ble_eq_true rfl, Nat.le_of_ble_eq_true rfl⟩ ⟨Nat.le_of_ble_eq_true rfl, Nat.le_of_ble_eq_true rfl⟩ (by decide) dX7_at_14 ?_
  refine lv_astore_n (lv' := [(2, .ref e1), (3, .int 0), (0, .ref e0), (1, .int 2)]) hx hb dX7_at_17 rfl hl (by decide) rfl (fun ls hl => ?_)
  refine lv_iinc (v := 1) (lv' := [(3, .int 1), (2, .ref e1), (0, .ref e0), (1, .int 2)]) hx hb dX7_at_18 hl (k := 1) rfl rfl (by decide) rfl (fun ls hl => ?_)
  refine lv_goto (tgt := 4) hx hb dX7_at_21 (by decide) ?_
  refine lv_iload_n hx hb dX7_at_4 rfl (lv_at hl 0 rfl) ?_
  refine lv_iload_n hx hb dX7_at_5 rfl (lv_at hl 3 rfl) ?_
  refine lv_icmp_ge (tgt := 24) hx hb dX7_at_6 (by decide) (fun c_2 => absurd c_2 (by decide)) (fun _ => ?_)
  refine lv_aload_n hx hb dX7_at_9 rfl (lv_at hl 1 rfl) ?_
  refine lv_ifnull hx hb dX7_at_10 ?_
  refine lv_aload_n hx hb dX7_at_13 rfl (lv_at hl 1 rfl) ?_
  refine ga_cause hx hb (hl.1.trans hml.symm) hts in_X10 hown hK.1 hP 1 (fs := [.int d2, .int d3, .ref e2, .null, .null, .null, .null, .int 0]) rfl rfl 2 (by decide) ⟨rfl, rfl, rfl⟩ (v := .ref e2) rfl (Or.inr ⟨_, rfl, ga_rmN hR 2 1 rfl rfl (by decide)⟩) (ga_rmM hR 1 rfl) (hts _ q451) (hts _ q452) (hts _ q455) (hts _ q80) (hts _ q465) (hts _ q554) ⟨Nat.le_of_ble_eq_true rfl, Nat.le_of_ble_eq_true rfl⟩ ⟨Nat.le_of_ble_eq_true rfl, Nat.le_of_ble_eq_true rfl⟩ (by decide) dX7_at_14 ?_
  refine lv_astore_n (lv' := [(2, .ref e2), (3, .int 1), (0, .ref e0), (1, .int 2)]) hx hb dX7_at_17 rfl hl (by decide) rfl (fun ls hl => ?_)
  refine lv_iinc (v := 2) (lv' := [(3, .int 2), (2, .ref e2), (0, .ref e0), (1, .int 2)]) hx hb dX7_at_18 hl (k := 1) rfl rfl (by decide) rfl (fun ls hl => ?_)
  refine lv_goto (tgt := 4) hx hb dX7_at_21 (by decide) ?_
  refine lv_iload_n hx hb dX7_at_4 rfl (lv_at hl 0 rfl) ?_
  refine lv_iload_n hx hb dX7_at_5 rfl (lv_at hl 3 rfl) ?_
  refine lv_icmp_ge (tgt := 24) hx hb dX7_at_6 (by decide) (fun _ => ?_) (fun c_3 => absurd (by decide) c_3)
  refine lv_aload_n hx hb dX7_at_24 rfl (lv_at hl 1 rfl) ?_
  refine va_instY hx hb hown (hts _ q466) (hK.2.1 _ q1891 rfl) (va_recv hK.1 hP (ci := 10) (q0 := 2) rfl rfl) dX7_at_25 ?_
  refine lv_if_eq (tgt := 38) hx hb dX7_at_28 (by decide) (fun c_4 => absurd c_4 (by decide)) (fun _ => ?_)
  refine lv_aload_n hx hb dX7_at_31 rfl (lv_at hl 1 rfl) ?_
  refine va_castY hx hb hown (hts _ q466) (hK.2.1 _ q1891 rfl) (va_recv hK.1 hP (ci := 10) (q0 := 2) rfl rfl) dX7_at_32 ?_
  refine lv_goto (tgt := 39) hx hb dX7_at_35 (by decide) ?_
  obtain rfl := Option.some.inj h
  exact W.aret hx hb hr (Or.inl ⟨_, rfl⟩) (Or.inr ⟨_, rfl⟩) (fun t ht hW => ⟨0, rfl, trivial, ht⟩) (fun _ hq => by cases hq) dX7_at_39
abbrev rm_X7_at_4_3 : Room := { frames := 2, cells := 0, slots := 0, locals := 40 }
def F_X7_at_4_3 (N : Nat) (d0 : Int32) (d1 : Int32) (d2 : Int32) (d3 : Int32) (d4 : Int32) (d5 : Int32) (d6 : Int32) (d7 : Int32)  : Option (Unit) :=
  some ()
set_option maxHeartbeats 4000000 in
theorem met_X7_at_4_3 (l : Launch) (D : va_G) (cA : Nat → ClassId) (e0 : Nat) (e1 : Nat) (e2 : Nat) (e3 : Nat) (d0 : Int32) (d1 : Int32) (d2 : Int32) (d3 : Int32) (d4 : Int32) (d5 : Int32) (d6 : Int32) (d7 : Int32) (N : Nat)   (out : Unit) (h : F_X7_at_4_3 N d0 d1 d2 d3 d4 d5 d6 d7 = some out) : Met l yX7_at (ws_ yX7_at cX7_at 4 (Option.some (.object "EnclosureReferee$RefusedException"))) rm_X7_at_4_3 (ga_PR D cA (ga_rm D [(e0, .inr (13, [.int d0, .int d1, .ref e1, .null, .null, .null, .null, .int 0])), (e1, .inr (12, [.int d2, .int d3, .ref e2, .null, .null, .null, .null, .int 0])), (e2, .inr (10, [.int d4, .int d5, .ref e3, .null, .null, .null, .null, .int 0])), (e3, .inr (11, [.int d6, .int d7, .null, .null, .null, .null, .null, .int 0]))]) [] [.ref e0, .int 3]) (va_Sr (fun _ => True) (fun _ => .ref e3)) 0 0 ga_F := by
  refine Met.ofW (cc := cX7_at) (maxL := 4) (ret := (Option.some (.object "EnclosureReferee$RefusedException"))) (by decide) rfl ?_
  intro p e s m args below meth c s₁ B hml hv
  obtain ⟨rfl, hP, hK, hR⟩ := hv
  have C : ga_cx p m c meth s _ RX7 cX7_at 4 (Option.some (.object "EnclosureReferee$RefusedException")) := ga_cx_of B hml
  have C0 := C
  obtain ⟨hx, hb, hr, hlocks, hml, hown, hts⟩ := C0
  have hl := lv_entry ([.ref e0, .int 3]) (n := 4) (Nat.le_of_ble_eq_true rfl)
  rw [lg_entry_eq]
  generalize (lg_sl ([.ref e0, .int 3]) ++ List.replicate (4 - (lg_sl ([.ref e0, .int 3])).length) Slot.unset).toArray = ls at hl ⊢
  have hl : lv_has ls 4 [(0, .ref e0), (1, .int 3)] := hl
  rw [F_X7_at_4_3] at h
  refine lv_aload_n hx hb dX7_at_0 rfl (lv_at hl 0 rfl) ?_
  refine lv_astore_n (lv' := [(2, .ref e0), (0, .ref e0), (1, .int 3)]) hx hb dX7_at_1 rfl hl (by decide) rfl (fun ls hl => ?_)
  refine lv_iconst (v := 0) hx hb dX7_at_2 (by decide) ?_
  refine lv_istore_n (lv' := [(3, .int 0), (2, .ref e0), (0, .ref e0), (1, .int 3)]) hx hb dX7_at_3 rfl hl (by decide) rfl (fun ls hl => ?_)
  refine lv_iload_n hx hb dX7_at_4 rfl (lv_at hl 0 rfl) ?_
  refine lv_iload_n hx hb dX7_at_5 rfl (lv_at hl 3 rfl) ?_
  refine lv_icmp_ge (tgt := 24) hx hb dX7_at_6 (by decide) (fun c_1 => absurd c_1 (by decide)) (fun _ => ?_)
  refine lv_aload_n hx hb dX7_at_9 rfl (lv_at hl 1 rfl) ?_
  refine lv_ifnull hx hb dX7_at_10 ?_
  refine lv_aload_n hx hb dX7_at_13 rfl (lv_at hl 1 rfl) ?_
  have hP : va_P D ga_cl [(e0, .inr (13, [.int d0, .int d1, .ref e1, .null, .null, .null, .null, .int 0])), (e1, .inr (12, [.int d2, .int d3, .ref e2, .null, .null, .null, .null, .int 0])), (e2, .inr (10, [.int d4, .int d5, .ref e3, .null, .null, .null, .null, .int 0])), (e3, .inr (11, [.int d6, .int d7, .null, .null, .null, .null, .null, .int 0]))] s.heap := hP.app hR.1.1
  refine ga_cause hx hb (hl.1.trans hml.symm) hts in_X11 hown hK.1 hP 0 (fs := [.int d0, .int d1, .ref e1, .null, .null, .null, .null, .int 0]) rfl rfl 2 (by decide) ⟨rfl, rfl, rfl⟩ (v := .ref e1) rfl (Or.inr ⟨_, rfl, ga_rmN hR 1 0 rfl rfl (by decide)⟩) (ga_rmM hR 0 rfl) (hts _ q451) (hts _ q452) (hts _ q456) (hts _ q80) (hts _ q465) (hts _ q554) ⟨Nat.le_of_ble_eq_true rfl, Nat.le_of_ble_eq_true rfl⟩ ⟨Nat.le_of_ble_eq_true rfl, Nat.le_of_ble_eq_true rfl⟩ (by decide) dX7_at_14 ?_
  refine lv_astore_n (lv' := [(2, .ref e1), (3, .int 0), (0, .ref e0), (1, .int 3)]) hx hb dX7_at_17 rfl hl (by decide) rfl (fun ls hl => ?_)
  refine lv_iinc (v := 1) (lv' := [(3, .int 1), (2, .ref e1), (0, .ref e0), (1, .int 3)]) hx hb dX7_at_18 hl (k := 1) rfl rfl (by decide) rfl (fun ls hl => ?_)
  refine lv_goto (tgt := 4) hx hb dX7_at_21 (by decide) ?_
  refine lv_iload_n hx hb dX7_at_4 rfl (lv_at hl 0 rfl) ?_
  refine lv_iload_n hx hb dX7_at_5 rfl (lv_at hl 3 rfl) ?_
  refine lv_icmp_ge (tgt := 24) hx hb dX7_at_6 (by decide) (fun c_2 => absurd c_2 (by decide)) (fun _ => ?_)
  refine lv_aload_n hx hb dX7_at_9 rfl (lv_at hl 1 rfl) ?_
  refine lv_ifnull hx hb dX7_at_10 ?_
  refine lv_aload_n hx hb dX7_at_13 rfl (lv_at hl 1 rfl) ?_
  refine ga_cause hx hb (hl.1.trans hml.symm) hts in_X10 hown hK.1 hP 1 (fs := [.int d2, .int d3, .ref e2, .null, .null, .null, .null, .int 0]) rfl rfl 2 (by decide) ⟨rfl, rfl, rfl⟩ (v := .ref e2) rfl (Or.inr ⟨_, rfl, ga_rmN hR 2 1 rfl rfl (by decide)⟩) (ga_rmM hR 1 rfl) (hts _ q451) (hts _ q452) (hts _ q455) (hts _ q80) (hts _ q465) (hts _ q554) ⟨Nat.le_of_ble_eq_true rfl, Nat.le_of_ble_eq_true rfl⟩ ⟨Nat.le_of_ble_eq_true rfl, Nat.le_of_ble_eq_true rfl⟩ (by decide) dX7_at_14 ?_
  refine lv_astore_n (lv' := [(2, .ref e2), (3, .int 1), (0, .ref e0), (1, .int 3)]) hx hb dX7_at_17 rfl hl (by decide) rfl (fun ls hl => ?_)
  refine lv_iinc (v := 2) (lv' := [(3, .int 2), (2, .ref e2), (0, .ref e0), (1, .int 3)]) hx hb dX7_at_18 hl (k := 1) rfl rfl (by decide) rfl (fun ls hl => ?_)
  refine lv_goto (tgt := 4) hx hb dX7_at_21 (by decide) ?_
  refine lv_iload_n hx hb dX7_at_4 rfl (lv_at hl 0 rfl) ?_
  refine lv_iload_n hx hb dX7_at_5 rfl (lv_at hl 3 rfl) ?_
  refine lv_icmp_ge (tgt := 24) hx hb dX7_at_6 (by decide) (fun c_3 => absurd c_3 (by decide)) (fun _ => ?_)
  refine lv_aload_n hx hb dX7_at_9 rfl (lv_at hl 1 rfl) ?_
  refine lv_ifnull hx hb dX7_at_10 ?_
  refine lv_aload_n hx hb dX7_at_13 rfl (lv_at hl 1 rfl) ?_
  refine ga_cause hx hb (hl.1.trans hml.symm) hts in_X8 hown hK.1 hP 2 (fs := [.int d4, .int d5, .ref e3, .null, .null, .null, .null, .int 0]) rfl rfl 2 (by decide) ⟨rfl, rfl, rfl⟩ (v := .ref e3) rfl (Or.inr ⟨_, rfl, ga_rmN hR 3 2 rfl rfl (by decide)⟩) (ga_rmM hR 2 rfl) (hts _ q451) (hts _ q452) (hts _ q454) (hts _ q80) (hts _ q465) (hts _ q554) ⟨Nat.le_of_ble_eq_true rfl, Nat.le_of_ble_eq_true rfl⟩ ⟨Nat.le_of_ble_eq_true rfl, Nat.le_of_ble_eq_true rfl⟩ (by decide) dX7_at_14 ?_
  refine lv_astore_n (lv' := [(2, .ref e3), (3, .int 2), (0, .ref e0), (1, .int 3)]) hx hb dX7_at_17 rfl hl (by decide) rfl (fun ls hl => ?_)
  refine lv_iinc (v := 3) (lv' := [(3, .int 3), (2, .ref e3), (0, .ref e0), (1, .int 3)]) hx hb dX7_at_18 hl (k := 1) rfl rfl (by decide) rfl (fun ls hl => ?_)
  refine lv_goto (tgt := 4) hx hb dX7_at_21 (by decide) ?_
  refine lv_iload_n hx hb dX7_at_4 rfl (lv_at hl 0 rfl) ?_
  refine lv_iload_n hx hb dX7_at_5 rfl (lv_at hl 3 rfl) ?_
  refine lv_icmp_ge (tgt := 24) hx hb dX7_at_6 (by decide) (fun _ => ?_) (fun c_4 => absurd (by decide) c_4)
  refine lv_aload_n hx hb dX7_at_24 rfl (lv_at hl 1 rfl) ?_
  refine va_instY hx hb hown (hts _ q466) (hK.2.1 _ q1894 rfl) (va_recv hK.1 hP (ci := 11) (q0 := 3) rfl rfl) dX7_at_25 ?_
  refine lv_if_eq (tgt := 38) hx hb dX7_at_28 (by decide) (fun c_5 => absurd c_5 (by decide)) (fun _ => ?_)
  refine lv_aload_n hx hb dX7_at_31 rfl (lv_at hl 1 rfl) ?_
  refine va_castY hx hb hown (hts _ q466) (hK.2.1 _ q1894 rfl) (va_recv hK.1 hP (ci := 11) (q0 := 3) rfl rfl) dX7_at_32 ?_
  refine lv_goto (tgt := 39) hx hb dX7_at_35 (by decide) ?_
  obtain rfl := Option.some.inj h
  exact W.aret hx hb hr (Or.inl ⟨_, rfl⟩) (Or.inr ⟨_, rfl⟩) (fun t ht hW => ⟨0, rfl, trivial, ht⟩) (fun _ hq => by cases hq) dX7_at_39
abbrev rm_X7_at_4_4 : Room := { frames := 2, cells := 0, slots := 0, locals := 40 }
def F_X7_at_4_4 (N : Nat) (d0 : Int32) (d1 : Int32) (d2 : Int32) (d3 : Int32) (d4 : Int32) (d5 : Int32) (d6 : Int32) (d7 : Int32)  : Option (Unit) :=
  some ()
set_option maxHeartbeats 4000000 in
theorem met_X7_at_4_4 (l : Launch) (D : va_G) (cA : Nat → ClassId) (e0 : Nat) (e1 : Nat) (e2 : Nat) (e3 : Nat) (d0 : Int32) (d1 : Int32) (d2 : Int32) (d3 : Int32) (d4 : Int32) (d5 : Int32) (d6 : Int32) (d7 : Int32) (N : Nat)   (out : Unit) (h : F_X7_at_4_4 N d0 d1 d2 d3 d4 d5 d6 d7 = some out) : Met l yX7_at (ws_ yX7_at cX7_at 4 (Option.some (.object "EnclosureReferee$RefusedException"))) rm_X7_at_4_4 (ga_PR D cA (ga_rm D [(e0, .inr (13, [.int d0, .int d1, .ref e1, .null, .null, .null, .null, .int 0])), (e1, .inr (12, [.int d2, .int d3, .ref e2, .null, .null, .null, .null, .int 0])), (e2, .inr (10, [.int d4, .int d5, .ref e3, .null, .null, .null, .null, .int 0])), (e3, .inr (11, [.int d6, .int d7, .null, .null, .null, .null, .null, .int 0]))]) [] [.ref e0, .int 4]) (va_Sq (fun r => none = r)) 0 0 ga_F := by
  refine Met.ofW (cc := cX7_at) (maxL := 4) (ret := (Option.some (.object "EnclosureReferee$RefusedException"))) (by decide) rfl ?_
  intro p e s m args below meth c s₁ B hml hv
  obtain ⟨rfl, hP, hK, hR⟩ := hv
  have C : ga_cx p m c meth s _ RX7 cX7_at 4 (Option.some (.object "EnclosureReferee$RefusedException")) := ga_cx_of B hml
  have C0 := C
  obtain ⟨hx, hb, hr, hlocks, hml, hown, hts⟩ := C0
  have hl := lv_entry ([.ref e0, .int 4]) (n := 4) (Nat.le_of_ble_eq_true rfl)
  rw [lg_entry_eq]
  generalize (lg_sl ([.ref e0, .int 4]) ++ List.replicate (4 - (lg_sl ([.ref e0, .int 4])).length) Slot.unset).toArray = ls at hl ⊢
  have hl : lv_has ls 4 [(0, .ref e0), (1, .int 4)] := hl
  rw [F_X7_at_4_4] at h
  refine lv_aload_n hx hb dX7_at_0 rfl (lv_at hl 0 rfl) ?_
  refine lv_astore_n (lv' := [(2, .ref e0), (0, .ref e0), (1, .int 4)]) hx hb dX7_at_1 rfl hl (by decide) rfl (fun ls hl => ?_)
  refine lv_iconst (v := 0) hx hb dX7_at_2 (by decide) ?_
  refine lv_istore_n (lv' := [(3, .int 0), (2, .ref e0), (0, .ref e0), (1, .int 4)]) hx hb dX7_at_3 rfl hl (by decide) rfl (fun ls hl => ?_)
  refine lv_iload_n hx hb dX7_at_4 rfl (lv_at hl 0 rfl) ?_
  refine lv_iload_n hx hb dX7_at_5 rfl (lv_at hl 3 rfl) ?_
  refine lv_icmp_ge (tgt := 24) hx hb dX7_at_6 (by decide) (fun c_1 => absurd c_1 (by decide)) (fun _ => ?_)
  refine lv_aload_n hx hb dX7_at_9 rfl (lv_at hl 1 rfl) ?_
  refine lv_ifnull hx hb dX7_at_10 ?_
  refine lv_aload_n hx hb dX7_at_13 rfl (lv_at hl 1 rfl) ?_
  have hP : va_P D ga_cl [(e0, .inr (13, [.int d0, .int d1, .ref e1, .null, .null, .null, .null, .int 0])), (e1, .inr (12, [.int d2, .int d3, .ref e2, .null, .null, .null, .null, .int 0])), (e2, .inr (10, [.int d4, .int d5, .ref e3, .null, .null, .null, .null, .int 0])), (e3, .inr (11, [.int d6, .int d7, .null, .null, .null, .null, .null, .int 0]))] s.heap := hP.app hR.1.1
  refine ga_cause hx hb (hl.1.trans hml.symm) hts in_X11 hown hK.1 hP 0 (fs := [.int d0, .int d1, .ref e1, .null, .null, .null, .null, .int 0]) rfl rfl 2 (by decide) ⟨rfl, rfl, rfl⟩ (v := .ref e1) rfl (Or.inr ⟨_, rfl, ga_rmN hR 1 0 rfl rfl (by decide)⟩) (ga_rmM hR 0 rfl) (hts _ q451) (hts _ q452) (hts _ q456) (hts _ q80) (hts _ q465) (hts _ q554) ⟨Nat.le_of_ble_eq_true rfl, Nat.le_of_ble_eq_true rfl⟩ ⟨Nat.le_of_ble_eq_true rfl, Nat.le_of_ble_eq_true rfl⟩ (by decide) dX7_at_14 ?_
  refine lv_astore_n (lv' := [(2, .ref e1), (3, .int 0), (0, .ref e0), (1, .int 4)]) hx hb dX7_at_17 rfl hl (by decide) rfl (fun ls hl => ?_)
  refine lv_iinc (v := 1) (lv' := [(3, .int 1), (2, .ref e1), (0, .ref e0), (1, .int 4)]) hx hb dX7_at_18 hl (k := 1) rfl rfl (by decide) rfl (fun ls hl => ?_)
  refine lv_goto (tgt := 4) hx hb dX7_at_21 (by decide) ?_
  refine lv_iload_n hx hb dX7_at_4 rfl (lv_at hl 0 rfl) ?_
  refine lv_iload_n hx hb dX7_at_5 rfl (lv_at hl 3 rfl) ?_
  refine lv_icmp_ge (tgt := 24) hx hb dX7_at_6 (by decide) (fun c_2 => absurd c_2 (by decide)) (fun _ => ?_)
  refine lv_aload_n hx hb dX7_at_9 rfl (lv_at hl 1 rfl) ?_
  refine lv_ifnull hx hb dX7_at_10 ?_
  refine lv_aload_n hx hb dX7_at_13 rfl (lv_at hl 1 rfl) ?_
  refine ga_cause hx hb (hl.1.trans hml.symm) hts in_X10 hown hK.1 hP 1 (fs := [.int d2, .int d3, .ref e2, .null, .null, .null, .null, .int 0]) rfl rfl 2 (by decide) ⟨rfl, rfl, rfl⟩ (v := .ref e2) rfl (Or.inr ⟨_, rfl, ga_rmN hR 2 1 rfl rfl (by decide)⟩) (ga_rmM hR 1 rfl) (hts _ q451) (hts _ q452) (hts _ q455) (hts _ q80) (hts _ q465) (hts _ q554) ⟨Nat.le_of_ble_eq_true rfl, Nat.le_of_ble_eq_true rfl⟩ ⟨Nat.le_of_ble_eq_true rfl, Nat.le_of_ble_eq_true rfl⟩ (by decide) dX7_at_14 ?_
  refine lv_astore_n (lv' := [(2, .ref e2), (3, .int 1), (0, .ref e0), (1, .int 4)]) hx hb dX7_at_17 rfl hl (by decide) rfl (fun ls hl => ?_)
  refine lv_iinc (v := 2) (lv' := [(3, .int 2), (2, .ref e2), (0, .ref e0), (1, .int 4)]) hx hb dX7_at_18 hl (k := 1) rfl rfl (by decide) rfl (fun ls hl => ?_)
  refine lv_goto (tgt := 4) hx hb dX7_at_21 (by decide) ?_
  refine lv_iload_n hx hb dX7_at_4 rfl (lv_at hl 0 rfl) ?_
  refine lv_iload_n hx hb dX7_at_5 rfl (lv_at hl 3 rfl) ?_
  refine lv_icmp_ge (tgt := 24) hx hb dX7_at_6 (by decide) (fun c_3 => absurd c_3 (by decide)) (fun _ => ?_)
  refine lv_aload_n hx hb dX7_at_9 rfl (lv_at hl 1 rfl) ?_
  refine lv_ifnull hx hb dX7_at_10 ?_
  refine lv_aload_n hx hb dX7_at_13 rfl (lv_at hl 1 rfl) ?_
  refine ga_cause hx hb (hl.1.trans hml.symm) hts in_X8 hown hK.1 hP 2 (fs := [.int d4, .int d5, .ref e3, .null, .null, .null, .null, .int 0]) rfl rfl 2 (by decide) ⟨rfl, rfl, rfl⟩ (v := .ref e3) rfl (Or.inr ⟨_, rfl, ga_rmN hR 3 2 rfl rfl (by decide)⟩) (ga_rmM hR 2 rfl) (hts _ q451) (hts _ q452) (hts _ q454) (hts _ q80) (hts _ q465) (hts _ q554) ⟨Nat.le_of_ble_eq_true rfl, Nat.le_of_ble_eq_true rfl⟩ ⟨Nat.le_of_ble_eq_true rfl, Nat.le_of_ble_eq_true rfl⟩ (by decide) dX7_at_14 ?_
  refine lv_astore_n (lv' := [(2, .ref e3), (3, .int 2), (0, .ref e0), (1, .int 4)]) hx hb dX7_at_17 rfl hl (by decide) rfl (fun ls hl => ?_)
  refine lv_iinc (v := 3) (lv' := [(3, .int 3), (2, .ref e3), (0, .ref e0), (1, .int 4)]) hx hb dX7_at_18 hl (k := 1) rfl rfl (by decide) rfl (fun ls hl => ?_)
  refine lv_goto (tgt := 4) hx hb dX7_at_21 (by decide) ?_
  refine lv_iload_n hx hb dX7_at_4 rfl (lv_at hl 0 rfl) ?_
  refine lv_iload_n hx hb dX7_at_5 rfl (lv_at hl 3 rfl) ?_
  refine lv_icmp_ge (tgt := 24) hx hb dX7_at_6 (by decide) (fun c_4 => absurd c_4 (by decide)) (fun _ => ?_)
  refine lv_aload_n hx hb dX7_at_9 rfl (lv_at hl 1 rfl) ?_
  refine lv_ifnull hx hb dX7_at_10 ?_
  refine lv_aload_n hx hb dX7_at_13 rfl (lv_at hl 1 rfl) ?_
  refine ga_cause hx hb (hl.1.trans hml.symm) hts in_X9 hown hK.1 hP 3 (fs := [.int d6, .int d7, .null, .null, .null, .null, .null, .int 0]) rfl rfl 2 (by decide) ⟨rfl, rfl, rfl⟩ (v := .null) rfl (Or.inl rfl) (ga_rmM hR 3 rfl) (hts _ q451) (hts _ q452) (hts _ q458) (hts _ q80) (hts _ q465) (hts _ q554) ⟨Nat.le_of_ble_eq_true rfl, Nat.le_of_ble_eq_true rfl⟩ ⟨Nat.le_of_ble_eq_true rfl, Nat.le_of_ble_eq_true rfl⟩ (by decide) dX7_at_14 ?_
  refine lv_astore_nN (lv' := [(2, .null), (3, .int 3), (0, .ref e0), (1, .int 4)]) hx hb dX7_at_17 rfl hl (by decide) rfl (fun ls hl => ?_)
  refine lv_iinc (v := 4) (lv' := [(3, .int 4), (2, .null), (0, .ref e0), (1, .int 4)]) hx hb dX7_at_18 hl (k := 1) rfl rfl (by decide) rfl (fun ls hl => ?_)
  refine lv_goto (tgt := 4) hx hb dX7_at_21 (by decide) ?_
  refine lv_iload_n hx hb dX7_at_4 rfl (lv_at hl 0 rfl) ?_
  refine lv_iload_n hx hb dX7_at_5 rfl (lv_at hl 3 rfl) ?_
  refine lv_icmp_ge (tgt := 24) hx hb dX7_at_6 (by decide) (fun _ => ?_) (fun c_5 => absurd (by decide) c_5)
  refine lv_aload_nN hx hb dX7_at_24 rfl (lv_at hl 1 rfl) ?_
  refine lv_instN hx hb dX7_at_25 ?_
  refine lv_if_eq (tgt := 38) hx hb dX7_at_28 (by decide) (fun _ => ?_) (fun c_6 => absurd (by decide) c_6)
  refine lv_null hx hb dX7_at_38 ?_
  obtain rfl := Option.some.inj h
  exact W.aret (v := .null) hx hb hr (Or.inl ⟨_, rfl⟩) (Or.inl rfl) (fun t ht hW => ⟨none, rfl, rfl, ht⟩) (fun _ hq => by cases hq) dX7_at_39
abbrev rm_X7_levels_4 : Room := { frames := 3, cells := 0, slots := 0, locals := 63 }
def F_X7_levels_4 (N : Nat) (d0 : Int32) (d1 : Int32) (d2 : Int32) (d3 : Int32) (d4 : Int32) (d5 : Int32) (d6 : Int32) (d7 : Int32)  : Option (Int32) :=
  some 4
set_option maxHeartbeats 4000000 in
theorem met_X7_levels_4 (l : Launch) (D : va_G) (cA : Nat → ClassId) (e0 : Nat) (e1 : Nat) (e2 : Nat) (e3 : Nat) (d0 : Int32) (d1 : Int32) (d2 : Int32) (d3 : Int32) (d4 : Int32) (d5 : Int32) (d6 : Int32) (d7 : Int32) (N : Nat)   (out : Int32) (h : F_X7_levels_4 N d0 d1 d2 d3 d4 d5 d6 d7 = some out) : Met l yX7_levels (ws_ yX7_levels cX7_levels 2 (some .int)) rm_X7_levels_4 (ga_PR D cA (ga_rm D [(e0, .inr (13, [.int d0, .int d1, .ref e1, .null, .null, .null, .null, .int 0])), (e1, .inr (12, [.int d2, .int d3, .ref e2, .null, .null, .null, .null, .int 0])), (e2, .inr (10, [.int d4, .int d5, .ref e3, .null, .null, .null, .null, .int 0])), (e3, .inr (11, [.int d6, .int d7, .null, .null, .null, .null, .null, .int 0]))]) [] [.ref e0]) (vp_Si (fun r => out = r)) 0 0 ga_F := by
  refine Met.ofW (cc := cX7_levels) (maxL := 2) (ret := (some .int)) (by decide) rfl ?_
  intro p e s m args below meth c s₁ B hml hv
  obtain ⟨rfl, hP, hK, hR⟩ := hv
  have C : ga_cx p m c meth s _ RX7 cX7_levels 2 (some .int) := ga_cx_of B hml
  have C0 := C
  obtain ⟨hx, hb, hr, hlocks, hml, hown, hts⟩ := C0
  have hl := lv_entry ([.ref e0]) (n := 2) (Nat.le_of_ble_eq_true rfl)
  rw [lg_entry_eq]
  generalize (lg_sl ([.ref e0]) ++ List.replicate (2 - (lg_sl ([.ref e0])).length) Slot.unset).toArray = ls at hl ⊢
  have hl : lv_has ls 2 [(0, .ref e0)] := hl
  rw [F_X7_levels_4] at h
  refine lv_iconst (v := 0) hx hb dX7_levels_0 (by decide) ?_
  refine lv_istore_n (lv' := [(1, .int 0), (0, .ref e0)]) hx hb dX7_levels_1 rfl hl (by decide) rfl (fun ls hl => ?_)
  refine lv_aload_n hx hb dX7_levels_2 rfl (lv_at hl 1 rfl) ?_
  refine lv_iload_n hx hb dX7_levels_3 rfl (lv_at hl 0 rfl) ?_
  have hP : va_P D ga_cl [(e0, .inr (13, [.int d0, .int d1, .ref e1, .null, .null, .null, .null, .int 0])), (e1, .inr (12, [.int d2, .int d3, .ref e2, .null, .null, .null, .null, .int 0])), (e2, .inr (10, [.int d4, .int d5, .ref e3, .null, .null, .null, .null, .int 0])), (e3, .inr (11, [.int d6, .int d7, .null, .null, .null, .null, .null, .int 0]))] s.heap := hP.app hR.1.1
  refine va_csr (va_Run.run (va_runV (As := [.int 0]) (rest := []) ⟨hx, hb, hml, hown, hts⟩ (met_X7_at_4_0 l D cA e0 e1 e2 e3 d0 d1 d2 d3 d4 d5 d6 d7 N () rfl) (⟨callB_of 1 hts (lw_meth q450) rfl rfl rfl (hts _ q92) (hts _ q443) (by decide +kernel) ⟨Nat.le_of_ble_eq_true rfl, Nat.le_of_ble_eq_true rfl⟩, hts _ q444, hts _ q448⟩) (ga_PRV ga_rmK (ga_rmS hR [0, 1, 2, 3] rfl rfl (by decide) (fun _ h => False.elim h)) hK ga_P0 (va_recv hK.1 hP (ci := 13) (q0 := 0) rfl rfl)) rfl rfl hl.1 rfl (lv_room (Nat.le_of_ble_eq_true rfl)) dX7_levels_4 ⟨Nat.le_of_ble_eq_true rfl, Nat.le_of_ble_eq_true rfl⟩)) (fun _ _ => ?_)
  refine lv_ifnull hx hb dX7_levels_7 ?_
  refine lv_iinc (v := 1) (lv' := [(1, .int 1), (0, .ref e0)]) hx hb dX7_levels_10 hl (k := 0) rfl rfl (by decide) rfl (fun ls hl => ?_)
  refine lv_goto (tgt := 2) hx hb dX7_levels_13 (by decide) ?_
  refine lv_aload_n hx hb dX7_levels_2 rfl (lv_at hl 1 rfl) ?_
  refine lv_iload_n hx hb dX7_levels_3 rfl (lv_at hl 0 rfl) ?_
  refine va_csr (va_Run.run (va_runV (As := [.int 1]) (rest := []) ⟨hx, hb, hml, hown, hts⟩ (met_X7_at_4_1 l D cA e0 e1 e2 e3 d0 d1 d2 d3 d4 d5 d6 d7 N () rfl) (⟨callB_of 1 hts (lw_meth q450) rfl rfl rfl (hts _ q92) (hts _ q443) (by decide +kernel) ⟨Nat.le_of_ble_eq_true rfl, Nat.le_of_ble_eq_true rfl⟩, hts _ q444, hts _ q448⟩) (ga_PRV ga_rmK (ga_rmS hR [0, 1, 2, 3] rfl rfl (by decide) (fun _ h => False.elim h)) hK ga_P0 (va_recv hK.1 hP (ci := 13) (q0 := 0) rfl rfl)) rfl rfl hl.1 rfl (lv_room (Nat.le_of_ble_eq_true rfl)) dX7_levels_4 ⟨Nat.le_of_ble_eq_true rfl, Nat.le_of_ble_eq_true rfl⟩)) (fun _ _ => ?_)
  refine lv_ifnull hx hb dX7_levels_7 ?_
  refine lv_iinc (v := 2) (lv' := [(1, .int 2), (0, .ref e0)]) hx hb dX7_levels_10 hl (k := 0) rfl rfl (by decide) rfl (fun ls hl => ?_)
  refine lv_goto (tgt := 2) hx hb dX7_levels_13 (by decide) ?_
  refine lv_aload_n hx hb dX7_levels_2 rfl (lv_at hl 1 rfl) ?_
  refine lv_iload_n hx hb dX7_levels_3 rfl (lv_at hl 0 rfl) ?_
  refine va_csr (va_Run.run (va_runV (As := [.int 2]) (rest := []) ⟨hx, hb, hml, hown, hts⟩ (met_X7_at_4_2 l D cA e0 e1 e2 e3 d0 d1 d2 d3 d4 d5 d6 d7 N () rfl) (⟨callB_of 1 hts (lw_meth q450) rfl rfl rfl (hts _ q92) (hts _ q443) (by decide +kernel) ⟨Nat.le_of_ble_eq_true rfl, Nat.le_of_ble_eq_true rfl⟩, hts _ q444, hts _ q448⟩) (ga_PRV ga_rmK (ga_rmS hR [0, 1, 2, 3] rfl rfl (by decide) (fun _ h => False.elim h)) hK ga_P0 (va_recv hK.1 hP (ci := 13) (q0 := 0) rfl rfl)) rfl rfl hl.1 rfl (lv_room (Nat.le_of_ble_eq_true rfl)) dX7_levels_4 ⟨Nat.le_of_ble_eq_true rfl, Nat.le_of_ble_eq_true rfl⟩)) (fun _ _ => ?_)
  refine lv_ifnull hx hb dX7_levels_7 ?_
  refine lv_iinc (v := 3) (lv' := [(1, .int 3), (0, .ref e0)]) hx hb dX7_levels_10 hl (k := 0) rfl rfl (by decide) rfl (fun ls hl => ?_)
  refine lv_goto (tgt := 2) hx hb dX7_levels_13 (by decide) ?_
  refine lv_aload_n hx hb dX7_levels_2 rfl (lv_at hl 1 rfl) ?_
  refine lv_iload_n hx hb dX7_levels_3 rfl (lv_at hl 0 rfl) ?_
  refine va_csr (va_Run.run (va_runV (As := [.int 3]) (rest := []) ⟨hx, hb, hml, hown, hts⟩ (met_X7_at_4_3 l D cA e0 e1 e2 e3 d0 d1 d2 d3 d4 d5 d6 d7 N () rfl) (⟨callB_of 1 hts (lw_meth q450) rfl rfl rfl (hts _ q92) (hts _ q443) (by decide +kernel) ⟨Nat.le_of_ble_eq_true rfl, Nat.le_of_ble_eq_true rfl⟩, hts _ q444, hts _ q448⟩) (ga_PRV ga_rmK (ga_rmS hR [0, 1, 2, 3] rfl rfl (by decide) (fun _ h => False.elim h)) hK ga_P0 (va_recv hK.1 hP (ci := 13) (q0 := 0) rfl rfl)) rfl rfl hl.1 rfl (lv_room (Nat.le_of_ble_eq_true rfl)) dX7_levels_4 ⟨Nat.le_of_ble_eq_true rfl, Nat.le_of_ble_eq_true rfl⟩)) (fun _ _ => ?_)
  refine lv_ifnull hx hb dX7_levels_7 ?_
  refine lv_iinc (v := 4) (lv' := [(1, .int 4), (0, .ref e0)]) hx hb dX7_levels_10 hl (k := 0) rfl rfl (by decide) rfl (fun ls hl => ?_)
  refine lv_goto (tgt := 2) hx hb dX7_levels_13 (by decide) ?_
  refine lv_aload_n hx hb dX7_levels_2 rfl (lv_at hl 1 rfl) ?_
  refine lv_iload_n hx hb dX7_levels_3 rfl (lv_at hl 0 rfl) ?_
  refine va_csq (va_Run.run (va_runV (As := [.int 4]) (rest := []) ⟨hx, hb, hml, hown, hts⟩ (met_X7_at_4_4 l D cA e0 e1 e2 e3 d0 d1 d2 d3 d4 d5 d6 d7 N () rfl) (⟨callB_of 1 hts (lw_meth q450) rfl rfl rfl (hts _ q92) (hts _ q443) (by decide +kernel) ⟨Nat.le_of_ble_eq_true rfl, Nat.le_of_ble_eq_true rfl⟩, hts _ q444, hts _ q448⟩) (ga_PRV ga_rmK (ga_rmS hR [0, 1, 2, 3] rfl rfl (by decide) (fun _ h => False.elim h)) hK ga_P0 (va_recv hK.1 hP (ci := 13) (q0 := 0) rfl rfl)) rfl rfl hl.1 rfl (lv_room (Nat.le_of_ble_eq_true rfl)) dX7_levels_4 ⟨Nat.le_of_ble_eq_true rfl, Nat.le_of_ble_eq_true rfl⟩)) (fun z_19 w_20 => ?_)
  obtain rfl := w_20
  refine lv_ifnullN (tgt := 16) hx hb dX7_levels_7 (by decide) ?_
  refine lv_iload_n hx hb dX7_levels_16 rfl (lv_at hl 0 rfl) ?_
  obtain rfl := Option.some.inj h
  exact W.iret hx hb hr (fun t ht hW => ⟨_, rfl, rfl, ht⟩) (fun _ hq => by cases hq) dX7_levels_17
abbrev rm_X7_part_Ro : Room := { frames := 1, cells := 0, slots := 0, locals := 12 }
def F_X7_part_Ro (N : Nat) (d0 : Int32) (d1 : Int32) (x1 : Int32) : Option (Int32) :=
  (if x1 = 0 then
  some d0
  else
  some d1)
set_option maxHeartbeats 4000000 in
theorem met_X7_part_Ro (l : Launch) (D : va_G) (cA : Nat → ClassId) (q : Nat) (cz : Nat) (d0 : Int32) (d1 : Int32) (N : Nat) (x1 : Int32)  (out : Int32) (h : F_X7_part_Ro N d0 d1 x1 = some out) : Met l yX7_part (ws_ yX7_part cX7_part 2 (some .int)) rm_X7_part_Ro (ga_PR D cA (ga_rm D [(q, .inr (13, [.int d0, .int d1, .ref cz, .null, .null, .null, .null, .int 0]))]) [] [.ref q, .int x1]) (vp_Si (fun r => out = r)) 0 0 ga_F := by
  refine Met.ofW (cc := cX7_part) (maxL := 2) (ret := (some .int)) (by decide) rfl ?_
  intro p e s m args below meth c s₁ B hml hv
  obtain ⟨rfl, hP, hK, hR⟩ := hv
  have C : ga_cx p m c meth s _ RX7 cX7_part 2 (some .int) := ga_cx_of B hml
  have C0 := C
  obtain ⟨hx, hb, hr, hlocks, hml, hown, hts⟩ := C0
  have hl := lv_entry ([.ref q, .int x1]) (n := 2) (Nat.le_of_ble_eq_true rfl)
  rw [lg_entry_eq]
  generalize (lg_sl ([.ref q, .int x1]) ++ List.replicate (2 - (lg_sl ([.ref q, .int x1])).length) Slot.unset).toArray = ls at hl ⊢
  have hl : lv_has ls 2 [(0, .ref q), (1, .int x1)] := hl
  rw [F_X7_part_Ro] at h
  refine lv_iload_n hx hb dX7_part_0 rfl (lv_at hl 1 rfl) ?_
  refine lv_if_ne (tgt := 11) hx hb dX7_part_1 (by decide) (fun c_1 => ?_) (fun c_1 => ?_)
  · replace h := ga_iff c_1 h
    refine lv_aload_n hx hb dX7_part_11 rfl (lv_at hl 0 rfl) ?_
    have hP : va_P D ga_cl [(q, .inr (13, [.int d0, .int d1, .ref cz, .null, .null, .null, .null, .int 0]))] s.heap := hP.app hR.1.1
    refine va_get hx hb hts in_X11 hown hK.1 hP 0 (fs := [.int d0, .int d1, .ref cz, .null, .null, .null, .null, .int 0]) rfl rfl 1 (by decide) (hts _ q730) (fun _ hh => hh) (v := .int d1) rfl dX7_part_12 ?_
    obtain rfl := Option.some.inj h
    exact W.iret hx hb hr (fun t ht hW => ⟨_, rfl, rfl, ht⟩) (fun _ hq => by cases hq) dX7_part_15
  · replace h := ga_ift c_1 h
    refine lv_aload_n hx hb dX7_part_4 rfl (lv_at hl 0 rfl) ?_
    have hP : va_P D ga_cl [(q, .inr (13, [.int d0, .int d1, .ref cz, .null, .null, .null, .null, .int 0]))] s.heap := hP.app hR.1.1
    refine va_get hx hb hts in_X11 hown hK.1 hP 0 (fs := [.int d0, .int d1, .ref cz, .null, .null, .null, .null, .int 0]) rfl rfl 0 (by decide) (hts _ q729) (fun _ hh => hh) (v := .int d0) rfl dX7_part_5 ?_
    refine lv_goto (tgt := 15) hx hb dX7_part_8 (by decide) ?_
    obtain rfl := Option.some.inj h
    exact W.iret hx hb hr (fun t ht hW => ⟨_, rfl, rfl, ht⟩) (fun _ hq => by cases hq) dX7_part_15
abbrev rm_X7_part_Ch : Room := { frames := 1, cells := 0, slots := 0, locals := 12 }
def F_X7_part_Ch (N : Nat) (d0 : Int32) (d1 : Int32) (x1 : Int32) : Option (Int32) :=
  (if x1 = 0 then
  some d0
  else
  some d1)
set_option maxHeartbeats 4000000 in
theorem met_X7_part_Ch (l : Launch) (D : va_G) (cA : Nat → ClassId) (q : Nat) (cz : Nat) (d0 : Int32) (d1 : Int32) (N : Nat) (x1 : Int32)  (out : Int32) (h : F_X7_part_Ch N d0 d1 x1 = some out) : Met l yX7_part (ws_ yX7_part cX7_part 2 (some .int)) rm_X7_part_Ch (ga_PR D cA (ga_rm D [(q, .inr (12, [.int d0, .int d1, .ref cz, .null, .null, .null, .null, .int 0]))]) [] [.ref q, .int x1]) (vp_Si (fun r => out = r)) 0 0 ga_F := by
  refine Met.ofW (cc := cX7_part) (maxL := 2) (ret := (some .int)) (by decide) rfl ?_
  intro p e s m args below meth c s₁ B hml hv
  obtain ⟨rfl, hP, hK, hR⟩ := hv
  have C : ga_cx p m c meth s _ RX7 cX7_part 2 (some .int) := ga_cx_of B hml
  have C0 := C
  obtain ⟨hx, hb, hr, hlocks, hml, hown, hts⟩ := C0
  have hl := lv_entry ([.ref q, .int x1]) (n := 2) (Nat.le_of_ble_eq_true rfl)
  rw [lg_entry_eq]
  generalize (lg_sl ([.ref q, .int x1]) ++ List.replicate (2 - (lg_sl ([.ref q, .int x1])).length) Slot.unset).toArray = ls at hl ⊢
  have hl : lv_has ls 2 [(0, .ref q), (1, .int x1)] := hl
  rw [F_X7_part_Ch] at h
  refine lv_iload_n hx hb dX7_part_0 rfl (lv_at hl 1 rfl) ?_
  refine lv_if_ne (tgt := 11) hx hb dX7_part_1 (by decide) (fun c_1 => ?_) (fun c_1 => ?_)
  · replace h := ga_iff c_1 h
    refine lv_aload_n hx hb dX7_part_11 rfl (lv_at hl 0 rfl) ?_
    have hP : va_P D ga_cl [(q, .inr (12, [.int d0, .int d1, .ref cz, .null, .null, .null, .null, .int 0]))] s.heap := hP.app hR.1.1
    refine va_get hx hb hts in_X10 hown hK.1 hP 0 (fs := [.int d0, .int d1, .ref cz, .null, .null, .null, .null, .int 0]) rfl rfl 1 (by decide) (hts _ q730) (fun _ hh => hh) (v := .int d1) rfl dX7_part_12 ?_
    obtain rfl := Option.some.inj h
    exact W.iret hx hb hr (fun t ht hW => ⟨_, rfl, rfl, ht⟩) (fun _ hq => by cases hq) dX7_part_15
  · replace h := ga_ift c_1 h
    refine lv_aload_n hx hb dX7_part_4 rfl (lv_at hl 0 rfl) ?_
    have hP : va_P D ga_cl [(q, .inr (12, [.int d0, .int d1, .ref cz, .null, .null, .null, .null, .int 0]))] s.heap := hP.app hR.1.1
    refine va_get hx hb hts in_X10 hown hK.1 hP 0 (fs := [.int d0, .int d1, .ref cz, .null, .null, .null, .null, .int 0]) rfl rfl 0 (by decide) (hts _ q729) (fun _ hh => hh) (v := .int d0) rfl dX7_part_5 ?_
    refine lv_goto (tgt := 15) hx hb dX7_part_8 (by decide) ?_
    obtain rfl := Option.some.inj h
    exact W.iret hx hb hr (fun t ht hW => ⟨_, rfl, rfl, ht⟩) (fun _ hq => by cases hq) dX7_part_15
abbrev rm_X7_part_Ce : Room := { frames := 1, cells := 0, slots := 0, locals := 12 }
def F_X7_part_Ce (N : Nat) (d0 : Int32) (d1 : Int32) (x1 : Int32) : Option (Int32) :=
  (if x1 = 0 then
  some d0
  else
  some d1)
set_option maxHeartbeats 4000000 in
theorem met_X7_part_Ce (l : Launch) (D : va_G) (cA : Nat → ClassId) (q : Nat) (d0 : Int32) (d1 : Int32) (N : Nat) (x1 : Int32)  (out : Int32) (h : F_X7_part_Ce N d0 d1 x1 = some out) : Met l yX7_part (ws_ yX7_part cX7_part 2 (some .int)) rm_X7_part_Ce (ga_PR D cA (ga_rm D [(q, .inr (10, [.int d0, .int d1, .null, .null, .null, .null, .null, .int 0]))]) [] [.ref q, .int x1]) (vp_Si (fun r => out = r)) 0 0 ga_F := by
  refine Met.ofW (cc := cX7_part) (maxL := 2) (ret := (some .int)) (by decide) rfl ?_
  intro p e s m args below meth c s₁ B hml hv
  obtain ⟨rfl, hP, hK, hR⟩ := hv
  have C : ga_cx p m c meth s _ RX7 cX7_part 2 (some .int) := ga_cx_of B hml
  have C0 := C
  obtain ⟨hx, hb, hr, hlocks, hml, hown, hts⟩ := C0
  have hl := lv_entry ([.ref q, .int x1]) (n := 2) (Nat.le_of_ble_eq_true rfl)
  rw [lg_entry_eq]
  generalize (lg_sl ([.ref q, .int x1]) ++ List.replicate (2 - (lg_sl ([.ref q, .int x1])).length) Slot.unset).toArray = ls at hl ⊢
  have hl : lv_has ls 2 [(0, .ref q), (1, .int x1)] := hl
  rw [F_X7_part_Ce] at h
  refine lv_iload_n hx hb dX7_part_0 rfl (lv_at hl 1 rfl) ?_
  refine lv_if_ne (tgt := 11) hx hb dX7_part_1 (by decide) (fun c_1 => ?_) (fun c_1 => ?_)
  · replace h := ga_iff c_1 h
    refine lv_aload_n hx hb dX7_part_11 rfl (lv_at hl 0 rfl) ?_
    have hP : va_P D ga_cl [(q, .inr (10, [.int d0, .int d1, .null, .null, .null, .null, .null, .int 0]))] s.heap := hP.app hR.1.1
    refine va_get hx hb hts in_X8 hown hK.1 hP 0 (fs := [.int d0, .int d1, .null, .null, .null, .null, .null, .int 0]) rfl rfl 1 (by decide) (hts _ q730) (fun _ hh => hh) (v := .int d1) rfl dX7_part_12 ?_
    obtain rfl := Option.some.inj h
    exact W.iret hx hb hr (fun t ht hW => ⟨_, rfl, rfl, ht⟩) (fun _ hq => by cases hq) dX7_part_15
  · replace h := ga_ift c_1 h
    refine lv_aload_n hx hb dX7_part_4 rfl (lv_at hl 0 rfl) ?_
    have hP : va_P D ga_cl [(q, .inr (10, [.int d0, .int d1, .null, .null, .null, .null, .null, .int 0]))] s.heap := hP.app hR.1.1
    refine va_get hx hb hts in_X8 hown hK.1 hP 0 (fs := [.int d0, .int d1, .null, .null, .null, .null, .null, .int 0]) rfl rfl 0 (by decide) (hts _ q729) (fun _ hh => hh) (v := .int d0) rfl dX7_part_5 ?_
    refine lv_goto (tgt := 15) hx hb dX7_part_8 (by decide) ?_
    obtain rfl := Option.some.inj h
    exact W.iret hx hb hr (fun t ht hW => ⟨_, rfl, rfl, ht⟩) (fun _ hq => by cases hq) dX7_part_15
abbrev rm_X7_part_Wa : Room := { frames := 1, cells := 0, slots := 0, locals := 12 }
def F_X7_part_Wa (N : Nat) (d0 : Int32) (d1 : Int32) (x1 : Int32) : Option (Int32) :=
  (if x1 = 0 then
  some d0
  else
  some d1)
set_option maxHeartbeats 4000000 in
theorem met_X7_part_Wa (l : Launch) (D : va_G) (cA : Nat → ClassId) (q : Nat) (d0 : Int32) (d1 : Int32) (N : Nat) (x1 : Int32)  (out : Int32) (h : F_X7_part_Wa N d0 d1 x1 = some out) : Met l yX7_part (ws_ yX7_part cX7_part 2 (some .int)) rm_X7_part_Wa (ga_PR D cA (ga_rm D [(q, .inr (11, [.int d0, .int d1, .null, .null, .null, .null, .null, .int 0]))]) [] [.ref q, .int x1]) (vp_Si (fun r => out = r)) 0 0 ga_F := by
  refine Met.ofW (cc := cX7_part) (maxL := 2) (ret := (some .int)) (by decide) rfl ?_
  intro p e s m args below meth c s₁ B hml hv
  obtain ⟨rfl, hP, hK, hR⟩ := hv
  have C : ga_cx p m c meth s _ RX7 cX7_part 2 (some .int) := ga_cx_of B hml
  have C0 := C
  obtain ⟨hx, hb, hr, hlocks, hml, hown, hts⟩ := C0
  have hl := lv_entry ([.ref q, .int x1]) (n := 2) (Nat.le_of_ble_eq_true rfl)
  rw [lg_entry_eq]
  generalize (lg_sl ([.ref q, .int x1]) ++ List.replicate (2 - (lg_sl ([.ref q, .int x1])).length) Slot.unset).toArray = ls at hl ⊢
  have hl : lv_has ls 2 [(0, .ref q), (1, .int x1)] := hl
  rw [F_X7_part_Wa] at h
  refine lv_iload_n hx hb dX7_part_0 rfl (lv_at hl 1 rfl) ?_
  refine lv_if_ne (tgt := 11) hx hb dX7_part_1 (by decide) (fun c_1 => ?_) (fun c_1 => ?_)
  · replace h := ga_iff c_1 h
    refine lv_aload_n hx hb dX7_part_11 rfl (lv_at hl 0 rfl) ?_
    have hP : va_P D ga_cl [(q, .inr (11, [.int d0, .int d1, .null, .null, .null, .null, .null, .int 0]))] s.heap := hP.app hR.1.1
    refine va_get hx hb hts in_X9 hown hK.1 hP 0 (fs := [.int d0, .int d1, .null, .null, .null, .null, .null, .int 0]) rfl rfl 1 (by decide) (hts _ q730) (fun _ hh => hh) (v := .int d1) rfl dX7_part_12 ?_
    obtain rfl := Option.some.inj h
    exact W.iret hx hb hr (fun t ht hW => ⟨_, rfl, rfl, ht⟩) (fun _ hq => by cases hq) dX7_part_15
  · replace h := ga_ift c_1 h
    refine lv_aload_n hx hb dX7_part_4 rfl (lv_at hl 0 rfl) ?_
    have hP : va_P D ga_cl [(q, .inr (11, [.int d0, .int d1, .null, .null, .null, .null, .null, .int 0]))] s.heap := hP.app hR.1.1
    refine va_get hx hb hts in_X9 hown hK.1 hP 0 (fs := [.int d0, .int d1, .null, .null, .null, .null, .null, .int 0]) rfl rfl 0 (by decide) (hts _ q729) (fun _ hh => hh) (v := .int d0) rfl dX7_part_5 ?_
    refine lv_goto (tgt := 15) hx hb dX7_part_8 (by decide) ?_
    obtain rfl := Option.some.inj h
    exact W.iret hx hb hr (fun t ht hW => ⟨_, rfl, rfl, ht⟩) (fun _ hq => by cases hq) dX7_part_15
abbrev rm_X7_part_Cez : Room := { frames := 1, cells := 0, slots := 0, locals := 12 }
def F_X7_part_Cez (N : Nat) (d0 : Int32) (d1 : Int32) (x1 : Int32) : Option (Int32) :=
  (if x1 = 0 then
  some d0
  else
  some d1)
set_option maxHeartbeats 4000000 in
theorem met_X7_part_Cez (l : Launch) (D : va_G) (cA : Nat → ClassId) (q : Nat) (cz : Nat) (d0 : Int32) (d1 : Int32) (N : Nat) (x1 : Int32)  (out : Int32) (h : F_X7_part_Cez N d0 d1 x1 = some out) : Met l yX7_part (ws_ yX7_part cX7_part 2 (some .int)) rm_X7_part_Cez (ga_PR D cA (ga_rm D [(q, .inr (10, [.int d0, .int d1, .ref cz, .null, .null, .null, .null, .int 0]))]) [] [.ref q, .int x1]) (vp_Si (fun r => out = r)) 0 0 ga_F := by
  refine Met.ofW (cc := cX7_part) (maxL := 2) (ret := (some .int)) (by decide) rfl ?_
  intro p e s m args below meth c s₁ B hml hv
  obtain ⟨rfl, hP, hK, hR⟩ := hv
  have C : ga_cx p m c meth s _ RX7 cX7_part 2 (some .int) := ga_cx_of B hml
  have C0 := C
  obtain ⟨hx, hb, hr, hlocks, hml, hown, hts⟩ := C0
  have hl := lv_entry ([.ref q, .int x1]) (n := 2) (Nat.le_of_ble_eq_true rfl)
  rw [lg_entry_eq]
  generalize (lg_sl ([.ref q, .int x1]) ++ List.replicate (2 - (lg_sl ([.ref q, .int x1])).length) Slot.unset).toArray = ls at hl ⊢
  have hl : lv_has ls 2 [(0, .ref q), (1, .int x1)] := hl
  rw [F_X7_part_Cez] at h
  refine lv_iload_n hx hb dX7_part_0 rfl (lv_at hl 1 rfl) ?_
  refine lv_if_ne (tgt := 11) hx hb dX7_part_1 (by decide) (fun c_1 => ?_) (fun c_1 => ?_)
  · replace h := ga_iff c_1 h
    refine lv_aload_n hx hb dX7_part_11 rfl (lv_at hl 0 rfl) ?_
    have hP : va_P D ga_cl [(q, .inr (10, [.int d0, .int d1, .ref cz, .null, .null, .null, .null, .int 0]))] s.heap := hP.app hR.1.1
    refine va_get hx hb hts in_X8 hown hK.1 hP 0 (fs := [.int d0, .int d1, .ref cz, .null, .null, .null, .null, .int 0]) rfl rfl 1 (by decide) (hts _ q730) (fun _ hh => hh) (v := .int d1) rfl dX7_part_12 ?_
    obtain rfl := Option.some.inj h
    exact W.iret hx hb hr (fun t ht hW => ⟨_, rfl, rfl, ht⟩) (fun _ hq => by cases hq) dX7_part_15
  · replace h := ga_ift c_1 h
    refine lv_aload_n hx hb dX7_part_4 rfl (lv_at hl 0 rfl) ?_
    have hP : va_P D ga_cl [(q, .inr (10, [.int d0, .int d1, .ref cz, .null, .null, .null, .null, .int 0]))] s.heap := hP.app hR.1.1
    refine va_get hx hb hts in_X8 hown hK.1 hP 0 (fs := [.int d0, .int d1, .ref cz, .null, .null, .null, .null, .int 0]) rfl rfl 0 (by decide) (hts _ q729) (fun _ hh => hh) (v := .int d0) rfl dX7_part_5 ?_
    refine lv_goto (tgt := 15) hx hb dX7_part_8 (by decide) ?_
    obtain rfl := Option.some.inj h
    exact W.iret hx hb hr (fun t ht hW => ⟨_, rfl, rfl, ht⟩) (fun _ hq => by cases hq) dX7_part_15
abbrev rm_X1_levels_0 : Room := { frames := 1, cells := 0, slots := 0, locals := 12 }
def F_X1_levels_0 (N : Nat) (xl : Int32)  : Option (Int32) :=
  some 0
set_option maxHeartbeats 4000000 in
theorem met_X1_levels_0 (l : Launch) (D : va_G) (cA : Nat → ClassId) (x : Nat) (g : Nat) (xs : Value) (xi : Nat) (xr : Value) (xq : Value) (xl : Int32) (N : Nat)   (out : Int32) (h : F_X1_levels_0 N xl = some out) : Met l yX1_levels (ws_ yX1_levels cX1_levels 1 (some .int)) rm_X1_levels_0 (ga_P D cA [(x, .inr (1, [.ref g, xs, .null, .ref xi, .int xl, xr, xq]))] [.ref x]) (vp_Si (fun r => out = r)) 0 0 ga_F := by
  refine Met.ofW (cc := cX1_levels) (maxL := 1) (ret := (some .int)) (by decide) rfl ?_
  intro p e s m args below meth c s₁ B hml hv
  obtain ⟨rfl, hP, hK⟩ := hv
  have C : ga_cx p m c meth s _ RX1 cX1_levels 1 (some .int) := ga_cx_of B hml
  have C0 := C
  obtain ⟨hx, hb, hr, hlocks, hml, hown, hts⟩ := C0
  have hl := lv_entry ([.ref x]) (n := 1) (Nat.le_of_ble_eq_true rfl)
  rw [lg_entry_eq]
  generalize (lg_sl ([.ref x]) ++ List.replicate (1 - (lg_sl ([.ref x])).length) Slot.unset).toArray = ls at hl ⊢
  have hl : lv_has ls 1 [(0, .ref x)] := hl
  rw [F_X1_levels_0] at h
  refine lv_aload_n hx hb dX1_levels_0 rfl (lv_at hl 0 rfl) ?_
  refine va_get hx hb hts in_X1 hown hK.1 hP 0 (fs := [.ref g, xs, .null, .ref xi, .int xl, xr, xq]) rfl rfl 2 (by decide) (hts _ q352) (fun _ hh => hh) (v := .null) rfl dX1_levels_1 ?_
  refine lv_ifnonnullN hx hb dX1_levels_4 ?_
  refine lv_iconst (v := 0) hx hb dX1_levels_7 (by decide) ?_
  refine lv_goto (tgt := 18) hx hb dX1_levels_8 (by decide) ?_
  obtain rfl := Option.some.inj h
  exact W.iret hx hb hr (fun t ht hW => ⟨_, rfl, rfl, ht⟩) (fun _ hq => by cases hq) dX1_levels_18
abbrev rm_X1_levels_3 : Room := { frames := 4, cells := 0, slots := 0, locals := 84 }
def F_X1_levels_3 (N : Nat) (xl : Int32) (d0 : Int32) (d1 : Int32) (d2 : Int32) (d3 : Int32) (d4 : Int32) (d5 : Int32)  : Option (Int32) :=
  some 3
set_option maxHeartbeats 4000000 in
theorem met_X1_levels_3 (l : Launch) (D : va_G) (cA : Nat → ClassId) (x : Nat) (g : Nat) (xs : Value) (e0 : Nat) (xi : Nat) (xr : Value) (xq : Value) (e1 : Nat) (e2 : Nat) (xl : Int32) (d0 : Int32) (d1 : Int32) (d2 : Int32) (d3 : Int32) (d4 : Int32) (d5 : Int32) (N : Nat)   (out : Int32) (h : F_X1_levels_3 N xl d0 d1 d2 d3 d4 d5 = some out) : Met l yX1_levels (ws_ yX1_levels cX1_levels 1 (some .int)) rm_X1_levels_3 (ga_PR D cA (ga_rm D [(e0, .inr (13, [.int d0, .int d1, .ref e1, .null, .null, .null, .null, .int 0])), (e1, .inr (12, [.int d2, .int d3, .ref e2, .null, .null, .null, .null, .int 0])), (e2, .inr (10, [.int d4, .int d5, .null, .null, .null, .null, .null, .int 0]))]) [(x, .inr (1, [.ref g, xs, .ref e0, .ref xi, .int xl, xr, xq]))] [.ref x]) (vp_Si (fun r => out = r)) 0 0 ga_F := by
  refine Met.ofW (cc := cX1_levels) (maxL := 1) (ret := (some .int)) (by decide) rfl ?_
  intro p e s m args below meth c s₁ B hml hv
  obtain ⟨rfl, hP, hK, hR⟩ := hv
  have C : ga_cx p m c meth s _ RX1 cX1_levels 1 (some .int) := ga_cx_of B hml
  have C0 := C
  obtain ⟨hx, hb, hr, hlocks, hml, hown, hts⟩ := C0
  have hl := lv_entry ([.ref x]) (n := 1) (Nat.le_of_ble_eq_true rfl)
  rw [lg_entry_eq]
  generalize (lg_sl ([.ref x]) ++ List.replicate (1 - (lg_sl ([.ref x])).length) Slot.unset).toArray = ls at hl ⊢
  have hl : lv_has ls 1 [(0, .ref x)] := hl
  rw [F_X1_levels_3] at h
  refine lv_aload_n hx hb dX1_levels_0 rfl (lv_at hl 0 rfl) ?_
  refine va_get hx hb hts in_X1 hown hK.1 hP 0 (fs := [.ref g, xs, .ref e0, .ref xi, .int xl, xr, xq]) rfl rfl 2 (by decide) (hts _ q352) (fun _ hh => hh) (v := .ref e0) rfl dX1_levels_1 ?_
  refine lv_ifnonnull (tgt := 11) hx hb dX1_levels_4 (by decide) ?_
  refine lv_aload_n hx hb dX1_levels_11 rfl (lv_at hl 0 rfl) ?_
  refine va_get hx hb hts in_X1 hown hK.1 hP 0 (fs := [.ref g, xs, .ref e0, .ref xi, .int xl, xr, xq]) rfl rfl 2 (by decide) (hts _ q352) (fun _ hh => hh) (v := .ref e0) rfl dX1_levels_12 ?_
  have hP : va_P D ga_cl [(x, .inr (1, [.ref g, xs, .ref e0, .ref xi, .int xl, xr, xq])), (e0, .inr (13, [.int d0, .int d1, .ref e1, .null, .null, .null, .null, .int 0])), (e1, .inr (12, [.int d2, .int d3, .ref e2, .null, .null, .null, .null, .int 0])), (e2, .inr (10, [.int d4, .int d5, .null, .null, .null, .null, .null, .int 0]))] s.heap := hP.app hR.1.1
  refine vp_callSi (va_Run.run (va_runV (As := []) (rest := []) ⟨hx, hb, hml, hown, hts⟩ (met_X7_levels_3 l D cA e0 e1 e2 d0 d1 d2 d3 d4 d5 N 3 rfl) (⟨callB_of 0 hts (lw_meth q442) rfl rfl rfl (hts _ q92) (hts _ q435) (by decide +kernel) ⟨Nat.le_of_ble_eq_true rfl, Nat.le_of_ble_eq_true rfl⟩, hts _ q436, hts _ q440⟩) (ga_PRV ga_rmK (ga_rmS hR [0, 1, 2] rfl rfl (by decide) (fun _ h => False.elim h)) hK ga_P0 (va_recv hK.1 hP (ci := 13) (q0 := 1) rfl rfl)) rfl rfl hl.1 rfl (lv_room (Nat.le_of_ble_eq_true rfl)) dX1_levels_15 ⟨Nat.le_of_ble_eq_true rfl, Nat.le_of_ble_eq_true rfl⟩)) (fun z_3 w_4 => ?_)
  obtain rfl := w_4
  obtain rfl := Option.some.inj h
  exact W.iret hx hb hr (fun t ht hW => ⟨_, rfl, rfl, ht⟩) (fun _ hq => by cases hq) dX1_levels_18
abbrev rm_X1_levels_4 : Room := { frames := 4, cells := 0, slots := 0, locals := 84 }
def F_X1_levels_4 (N : Nat) (xl : Int32) (d0 : Int32) (d1 : Int32) (d2 : Int32) (d3 : Int32) (d4 : Int32) (d5 : Int32) (d6 : Int32) (d7 : Int32)  : Option (Int32) :=
  some 4
set_option maxHeartbeats 4000000 in
theorem met_X1_levels_4 (l : Launch) (D : va_G) (cA : Nat → ClassId) (x : Nat) (g : Nat) (xs : Value) (e0 : Nat) (xi : Nat) (xr : Value) (xq : Value) (e1 : Nat) (e2 : Nat) (e3 : Nat) (xl : Int32) (d0 : Int32) (d1 : Int32) (d2 : Int32) (d3 : Int32) (d4 : Int32) (d5 : Int32) (d6 : Int32) (d7 : Int32) (N : Nat)   (out : Int32) (h : F_X1_levels_4 N xl d0 d1 d2 d3 d4 d5 d6 d7 = some out) : Met l yX1_levels (ws_ yX1_levels cX1_levels 1 (some .int)) rm_X1_levels_4 (ga_PR D cA (ga_rm D [(e0, .inr (13, [.int d0, .int d1, .ref e1, .null, .null, .null, .null, .int 0])), (e1, .inr (12, [.int d2, .int d3, .ref e2, .null, .null, .null, .null, .int 0])), (e2, .inr (10, [.int d4, .int d5, .ref e3, .null, .null, .null, .null, .int 0])), (e3, .inr (11, [.int d6, .int d7, .null, .null, .null, .null, .null, .int 0]))]) [(x, .inr (1, [.ref g, xs, .ref e0, .ref xi, .int xl, xr, xq]))] [.ref x]) (vp_Si (fun r => out = r)) 0 0 ga_F := by
  refine Met.ofW (cc := cX1_levels) (maxL := 1) (ret := (some .int)) (by decide) rfl ?_
  intro p e s m args below meth c s₁ B hml hv
  obtain ⟨rfl, hP, hK, hR⟩ := hv
  have C : ga_cx p m c meth s _ RX1 cX1_levels 1 (some .int) := ga_cx_of B hml
  have C0 := C
  obtain ⟨hx, hb, hr, hlocks, hml, hown, hts⟩ := C0
  have hl := lv_entry ([.ref x]) (n := 1) (Nat.le_of_ble_eq_true rfl)
  rw [lg_entry_eq]
  generalize (lg_sl ([.ref x]) ++ List.replicate (1 - (lg_sl ([.ref x])).length) Slot.unset).toArray = ls at hl ⊢
  have hl : lv_has ls 1 [(0, .ref x)] := hl
  rw [F_X1_levels_4] at h
  refine lv_aload_n hx hb dX1_levels_0 rfl (lv_at hl 0 rfl) ?_
  refine va_get hx hb hts in_X1 hown hK.1 hP 0 (fs := [.ref g, xs, .ref e0, .ref xi, .int xl, xr, xq]) rfl rfl 2 (by decide) (hts _ q352) (fun _ hh => hh) (v := .ref e0) rfl dX1_levels_1 ?_
  refine lv_ifnonnull (tgt := 11) hx hb dX1_levels_4 (by decide) ?_
  refine lv_aload_n hx hb dX1_levels_11 rfl (lv_at hl 0 rfl) ?_
  refine va_get hx hb hts in_X1 hown hK.1 hP 0 (fs := [.ref g, xs, .ref e0, .ref xi, .int xl, xr, xq]) rfl rfl 2 (by decide) (hts _ q352) (fun _ hh => hh) (v := .ref e0) rfl dX1_levels_12 ?_
  have hP : va_P D ga_cl [(x, .inr (1, [.ref g, xs, .ref e0, .ref xi, .int xl, xr, xq])), (e0, .inr (13, [.int d0, .int d1, .ref e1, .null, .null, .null, .null, .int 0])), (e1, .inr (12, [.int d2, .int d3, .ref e2, .null, .null, .null, .null, .int 0])), (e2, .inr (10, [.int d4, .int d5, .ref e3, .null, .null, .null, .null, .int 0])), (e3, .inr (11, [.int d6, .int d7, .null, .null, .null, .null, .null, .int 0]))] s.heap := hP.app hR.1.1
  refine vp_callSi (va_Run.run (va_runV (As := []) (rest := []) ⟨hx, hb, hml, hown, hts⟩ (met_X7_levels_4 l D cA e0 e1 e2 e3 d0 d1 d2 d3 d4 d5 d6 d7 N 4 rfl) (⟨callB_of 0 hts (lw_meth q442) rfl rfl rfl (hts _ q92) (hts _ q435) (by decide +kernel) ⟨Nat.le_of_ble_eq_true rfl, Nat.le_of_ble_eq_true rfl⟩, hts _ q436, hts _ q440⟩) (ga_PRV ga_rmK (ga_rmS hR [0, 1, 2, 3] rfl rfl (by decide) (fun _ h => False.elim h)) hK ga_P0 (va_recv hK.1 hP (ci := 13) (q0 := 1) rfl rfl)) rfl rfl hl.1 rfl (lv_room (Nat.le_of_ble_eq_true rfl)) dX1_levels_15 ⟨Nat.le_of_ble_eq_true rfl, Nat.le_of_ble_eq_true rfl⟩)) (fun z_3 w_4 => ?_)
  obtain rfl := w_4
  obtain rfl := Option.some.inj h
  exact W.iret hx hb hr (fun t ht hW => ⟨_, rfl, rfl, ht⟩) (fun _ hq => by cases hq) dX1_levels_18
abbrev rm_X1_report_0 : Room := { frames := 7, cells := 2, slots := 12, locals := 120 }
def F_X1_report_0 (N : Nat) (xl : Int32) (x1 : Int32) (x2 : Int32) : Option ((Int32 × Unit) ⊕ Nat) :=
  ((F_X1_inRange N x1 0 (-1)).bind fun r_6 =>
  ((F_X1_checkFound N r_6).bind fun r_11 => ga_sw r_11 (fun v_20 =>
  ((F_X1_inRange N x2 0 1).bind fun r_22 =>
  ((F_X1_checkArgument N r_22).bind fun r_27 => ga_sw r_27 (fun v_36 =>
  none) (fun u_32 =>
  some (.inr u_32))))) (fun u_16 =>
  some (.inr u_16))))
set_option maxHeartbeats 4000000 in
theorem met_X1_report_0 (l : Launch) (D : va_G) (cA : Nat → ClassId) (A : Nat → Prop) (x : Nat) (g : Nat) (xs : Value) (xi : Nat) (xr : Value) (xq : Value) (zs : Nat → Nat) (xl : Int32) (N : Nat) (x1 : Int32) (x2 : Int32)  (hstk : l.stackTraces = false) (out : (Int32 × Unit) ⊕ Nat) (h : F_X1_report_0 N xl x1 x2 = some out) : vx_Met l yX1_report (ws_ yX1_report cX1_report 3 (some .int)) rm_X1_report_0 (ga_X D cA zs A [(x, .inr (1, [.ref g, xs, .null, .ref xi, .int xl, xr, xq]))] [.ref x, .int x1, .int x2]) (va_Qi (fun (r : Int32) (u : Unit) => ∃ v, out = .inl v ∧ (v.1 = r) ∧ v.2 = u) (fun (u : Unit) (t : State) => va_P D ga_cl [(x, .inr (1, [.ref g, xs, .null, .ref xi, .int xl, xr, xq]))] t.heap ∧ ga_K D cA t ∧ va_D A [(x, .inr (1, [.ref g, xs, .null, .ref xi, .int xl, xr, xq]))]) A) (vx_X (fun (u : Nat) => out = .inr u) (fun (E : String) (q9 : Nat) (u : Nat) (t : State) => E = ga_en u ∧ va_P D ga_cl [(x, .inr (1, [.ref g, xs, .null, .ref xi, .int xl, xr, xq]))] t.heap ∧ va_D A [(x, .inr (1, [.ref g, xs, .null, .ref xi, .int xl, xr, xq]))]) A) 2 12 A := by
  refine vx_ofW (cc := cX1_report) (maxL := 3) (ret := (some .int)) (by decide) rfl ?_
  intro p e s m args below meth c s₁ B hml htab hv
  have hX : ga_cx2 c l := ⟨htab, hstk⟩
  obtain ⟨rfl, hP, hK, hD, hA, hST⟩ := hv
  have hS : va_S A s.heap s.heap [] := va_S.rf
  have C : ga_cx p m c meth s _ RX1 cX1_report 3 (some .int) := ga_cx_of B hml
  have C0 := C
  obtain ⟨hx, hb, hr, hlocks, hml, hown, hts⟩ := C0
  have hl := lv_entry ([.ref x, .int x1, .int x2]) (n := 3) (Nat.le_of_ble_eq_true rfl)
  rw [lg_entry_eq]
  generalize (lg_sl ([.ref x, .int x1, .int x2]) ++ List.replicate (3 - (lg_sl ([.ref x, .int x1, .int x2])).length) Slot.unset).toArray = ls at hl ⊢
  have hl : lv_has ls 3 [(0, .ref x), (1, .int x1), (2, .int x2)] := hl
  rw [F_X1_report_0] at h
  refine lv_iload_n hx hb dX1_report_0 rfl (lv_at hl 1 rfl) ?_
  refine lv_iconst (v := 0) hx hb dX1_report_1 (by decide) ?_
  refine lv_aload_n hx hb dX1_report_2 rfl (lv_at hl 0 rfl) ?_
  refine vp_callSi (va_Run.run (va_runV (As := []) (rest := [.int 0, .int x1]) ⟨hx, hb, hml, hown, hts⟩ (met_X1_levels_0 l D cA x g xs xi xr xq xl N 0 rfl) (cwV 0 hts (lw_V q1103 q432 q433 q67 q434) rfl rfl rfl (by decide +kernel) ⟨Nat.le_of_ble_eq_true rfl, Nat.le_of_ble_eq_true rfl⟩) (ga_PV hK (hP.sub (ws' := [(x, .inr (1, [.ref g, xs, .null, .ref xi, .int xl, xr, xq]))]) [0] rfl) (va_recv hK.1 hP (ci := 1) (q0 := 0) rfl rfl)) rfl rfl hl.1 rfl (lv_room (Nat.le_of_ble_eq_true rfl)) dX1_report_3 ⟨Nat.le_of_ble_eq_true rfl, Nat.le_of_ble_eq_true rfl⟩)) (fun z_3 w_4 => ?_)
  obtain rfl := w_4
  refine lv_iconst (v := 1) hx hb dX1_report_6 (by decide) ?_
  refine lv_isub hx hb dX1_report_7 ?_
  refine W.eq (g2 := F0 m 8 ls [.int (-1), .int 0, .int x1]) rfl ?_
  obtain ⟨r_6, e_7, h⟩ := ga_gb h
  refine vp_callSi (va_Run.run (va_runS (As := [.int x1, .int 0, .int (-1)]) (rest := []) ⟨hx, hb, hml, hown, hts⟩ (met_X1_inRange l D cA N x1 0 (-1) r_6 e_7) (va_cwS 3 hts (lw_S q487 q488 q67 q489) rfl rfl rfl (by decide +kernel) ⟨Nat.le_of_ble_eq_true rfl, Nat.le_of_ble_eq_true rfl⟩) (ga_PS hK ga_P0) rfl rfl hl.1 rfl (lv_room (Nat.le_of_ble_eq_true rfl)) dX1_report_8 ⟨Nat.le_of_ble_eq_true rfl, Nat.le_of_ble_eq_true rfl⟩)) (fun z_8 w_9 => ?_)
  obtain ⟨rfl, b_10⟩ := w_9
  obtain ⟨r_11, e_12, h⟩ := ga_gb h
  have hFc := va_free (wc := []) hD hS hA [] rfl
  refine vx_callv (vx_runS (As := [.int r_6]) (rest := []) ⟨hx, hb, hml, hown, hts⟩ (met_X1_checkFound l D cA (va_A [] s.heap.size) zs N r_6 hX.2 r_11 e_12) (va_cwS 1 hts (lw_S q964 q965 q67 q966) rfl rfl rfl (by decide +kernel) ⟨Nat.le_of_ble_eq_true rfl, Nat.le_of_ble_eq_true rfl⟩) (ga_XS hK ga_P0 (hD.sub (ws' := []) [] (by decide) rfl).self (fun _ hq => Or.inr hq) (hST.at hS hFc)) rfl rfl hl.1 rfl (lv_room (Nat.le_of_ble_eq_true rfl)) dX1_report_11 ⟨Nat.le_of_ble_eq_true rfl, Nat.le_of_ble_eq_true rfl⟩) hS (fun q _ hq => hFc q hq) hFc (fun q _ hq => hFc q hq) (fun E_18 ce q_19 u_16 t H_17 locs ht _ w_14 hB _ hk hS hce hcv hcl => ?_) (fun u_16 t H_15 locs ht _ w_14 hB _ hk hS => ?_)
  · replace h := ga_swr w_14 h
    obtain ⟨eE, hP1, hD1⟩ := hB
    rw [ht] at hP1
    obtain ⟨hP, hD⟩ := va_join (wr := [(x, .inr (1, [.ref g, xs, .null, .ref xi, .int xl, xr, xq]))]) (w1 := []) hP hD [] [0] rfl rfl (by decide) (by decide) hk hFc hP1 hD1
    have hP : va_P D ga_cl [(x, .inr (1, [.ref g, xs, .null, .ref xi, .int xl, xr, xq]))] H_17 := hP
    have hD : va_D A [(x, .inr (1, [.ref g, xs, .null, .ref xi, .int xl, xr, xq]))] := hD
    have hP9 := hP.sub (ws' := [(x, .inr (1, [.ref g, xs, .null, .ref xi, .int xl, xr, xq]))]) [0] rfl
    have hD9 := hD.sub (ws' := [(x, .inr (1, [.ref g, xs, .null, .ref xi, .int xl, xr, xq]))]) [0] (by decide) rfl
    obtain rfl := Option.some.inj h
    exact vx_out (fun x hx9 => (hX.1 x hx9).elim) hlocks hce hcv hcl (fun t ht _ => ⟨u_16, rfl, ⟨eE, by rw [ht]; exact hP9, hD9⟩, hS.F ht⟩) hS.2.2 (by decide) (by decide)
  · obtain ⟨v_20, ev_20, hv9⟩ := w_14
    replace h := ga_swl ev_20 h
    obtain rfl := hv9
    obtain ⟨hP1, -, hD1⟩ := hB
    rw [ht] at hP1
    obtain ⟨hP, hD⟩ := va_join (wr := [(x, .inr (1, [.ref g, xs, .null, .ref xi, .int xl, xr, xq]))]) (w1 := []) hP hD [] [0] rfl rfl (by decide) (by decide) hk hFc hP1 hD1
    have hP : va_P D ga_cl [(x, .inr (1, [.ref g, xs, .null, .ref xi, .int xl, xr, xq]))] H_15 := hP
    have hD : va_D A [(x, .inr (1, [.ref g, xs, .null, .ref xi, .int xl, xr, xq]))] := hD
    refine W.cs (cells' := 1) (slots' := 6) rfl rfl ?_
    refine lv_iload_n hx hb dX1_report_14 rfl (lv_at hl 2 rfl) ?_
    refine lv_iconst (v := 0) hx hb dX1_report_15 (by decide) ?_
    refine lv_iconst (v := 1) hx hb dX1_report_16 (by decide) ?_
    obtain ⟨r_22, e_23, h⟩ := ga_gb h
    refine vp_callSi (va_Run.run (va_runS (As := [.int x2, .int 0, .int 1]) (rest := []) ⟨hx, hb, hml, hown, hts⟩ (met_X1_inRange l D cA N x2 0 1 r_22 e_23) (va_cwS 3 hts (lw_S q487 q488 q67 q489) rfl rfl rfl (by decide +kernel) ⟨Nat.le_of_ble_eq_true rfl, Nat.le_of_ble_eq_true rfl⟩) (ga_PS hK ga_P0) rfl rfl hl.1 rfl (lv_room (Nat.le_of_ble_eq_true rfl)) dX1_report_17 ⟨Nat.le_of_ble_eq_true rfl, Nat.le_of_ble_eq_true rfl⟩)) (fun z_24 w_25 => ?_)
    obtain ⟨rfl, b_26⟩ := w_25
    obtain ⟨r_27, e_28, h⟩ := ga_gb h
    have hFc := va_free (wc := []) hD hS hA [] rfl
    refine vx_callv (vx_runS (As := [.int r_22]) (rest := []) ⟨hx, hb, hml, hown, hts⟩ (met_X1_checkArgument l D cA (va_A [] H_15.size) zs N r_22 hX.2 r_27 e_28) (va_cwS 1 hts (lw_S q490 q491 q67 q492) rfl rfl rfl (by decide +kernel) ⟨Nat.le_of_ble_eq_true rfl, Nat.le_of_ble_eq_true rfl⟩) (ga_XS hK ga_P0 (hD.sub (ws' := []) [] (by decide) rfl).self (fun _ hq => Or.inr hq) (hST.at hS hFc)) rfl rfl hl.1 rfl (lv_room (Nat.le_of_ble_eq_true rfl)) dX1_report_20 ⟨Nat.le_of_ble_eq_true rfl, Nat.le_of_ble_eq_true rfl⟩) hS (fun q _ hq => hFc q hq) hFc (fun q _ hq => hFc q hq) (fun E_34 ce q_35 u_32 t H_33 locs ht _ w_30 hB _ hk hS hce hcv hcl => ?_) (fun u_32 t H_31 locs ht _ w_30 hB _ hk hS => ?_)
    · replace h := ga_swr w_30 h
      obtain ⟨eE, hP1, hD1⟩ := hB
      rw [ht] at hP1
      obtain ⟨hP, hD⟩ := va_join (wr := [(x, .inr (1, [.ref g, xs, .null, .ref xi, .int xl, xr, xq]))]) (w1 := []) hP hD [] [0] rfl rfl (by decide) (by decide) hk hFc hP1 hD1
      have hP : va_P D ga_cl [(x, .inr (1, [.ref g, xs, .null, .ref xi, .int xl, xr, xq]))] H_33 := hP
      have hD : va_D A [(x, .inr (1, [.ref g, xs, .null, .ref xi, .int xl, xr, xq]))] := hD
      have hP9 := hP.sub (ws' := [(x, .inr (1, [.ref g, xs, .null, .ref xi, .int xl, xr, xq]))]) [0] rfl
      have hD9 := hD.sub (ws' := [(x, .inr (1, [.ref g, xs, .null, .ref xi, .int xl, xr, xq]))]) [0] (by decide) rfl
      obtain rfl := Option.some.inj h
      exact vx_out (fun x hx9 => (hX.1 x hx9).elim) hlocks hce hcv hcl (fun t ht _ => ⟨u_32, rfl, ⟨eE, by rw [ht]; exact hP9, hD9⟩, hS.F ht⟩) hS.2.2 (by decide) (by decide)
    · obtain ⟨v_36, ev_36, hv9⟩ := w_30
      replace h := ga_swl ev_36 h
      obtain rfl := hv9
      obtain ⟨hP1, -, hD1⟩ := hB
      rw [ht] at hP1
      obtain ⟨hP, hD⟩ := va_join (wr := [(x, .inr (1, [.ref g, xs, .null, .ref xi, .int xl, xr, xq]))]) (w1 := []) hP hD [] [0] rfl rfl (by decide) (by decide) hk hFc hP1 hD1
      have hP : va_P D ga_cl [(x, .inr (1, [.ref g, xs, .null, .ref xi, .int xl, xr, xq]))] H_31 := hP
      have hD : va_D A [(x, .inr (1, [.ref g, xs, .null, .ref xi, .int xl, xr, xq]))] := hD
      refine W.cs (cells' := 2) (slots' := 12) rfl rfl ?_
      refine lv_aload_n hx hb dX1_report_23 rfl (lv_at hl 0 rfl) ?_
      refine va_get hx hb hts in_X1 hown hK.1 hP 0 (fs := [.ref g, xs, .null, .ref xi, .int xl, xr, xq]) rfl rfl 2 (by decide) (hts _ q352) (fun _ hh => hh) (v := .null) rfl dX1_report_24 ?_
      refine lv_iload_n hx hb dX1_report_27 rfl (lv_at hl 1 rfl) ?_
      cases h
abbrev rm_X1_report_3_0 : Room := { frames := 7, cells := 2, slots := 12, locals := 120 }
def F_X1_report_3_0 (N : Nat) (xl : Int32) (d0 : Int32) (d1 : Int32) (d2 : Int32) (d3 : Int32) (d4 : Int32) (d5 : Int32) (x2 : Int32) : Option ((Int32 × Unit) ⊕ Nat) :=
  ((F_X1_inRange N 0 0 2).bind fun r_6 =>
  ((F_X1_checkFound N r_6).bind fun r_11 => ga_sw r_11 (fun v_20 =>
  ((F_X1_inRange N x2 0 1).bind fun r_22 =>
  ((F_X1_checkArgument N r_22).bind fun r_27 => ga_sw r_27 (fun v_36 =>
  ((F_X7_part_Ro N d0 d1 x2).bind fun r_42 =>
  some (.inl (r_42, ())))) (fun u_32 =>
  some (.inr u_32))))) (fun u_16 =>
  some (.inr u_16))))
set_option maxHeartbeats 4000000 in
theorem met_X1_report_3_0 (l : Launch) (D : va_G) (cA : Nat → ClassId) (A : Nat → Prop) (x : Nat) (g : Nat) (xs : Value) (e0 : Nat) (xi : Nat) (xr : Value) (xq : Value) (e1 : Nat) (e2 : Nat) (zs : Nat → Nat) (xl : Int32) (d0 : Int32) (d1 : Int32) (d2 : Int32) (d3 : Int32) (d4 : Int32) (d5 : Int32) (N : Nat) (x2 : Int32)  (hstk : l.stackTraces = false) (out : (Int32 × Unit) ⊕ Nat) (h : F_X1_report_3_0 N xl d0 d1 d2 d3 d4 d5 x2 = some out) : vx_Met l yX1_report (ws_ yX1_report cX1_report 3 (some .int)) rm_X1_report_3_0 (ga_XR D cA zs A (ga_rm D [(e0, .inr (13, [.int d0, .int d1, .ref e1, .null, .null, .null, .null, .int 0])), (e1, .inr (12, [.int d2, .int d3, .ref e2, .null, .null, .null, .null, .int 0])), (e2, .inr (10, [.int d4, .int d5, .null, .null, .null, .null, .null, .int 0]))]) [(x, .inr (1, [.ref g, xs, .ref e0, .ref xi, .int xl, xr, xq]))] [.ref x, .int 0, .int x2]) (va_Qi (fun (r : Int32) (u : Unit) => ∃ v, out = .inl v ∧ (v.1 = r) ∧ v.2 = u) (fun (u : Unit) (t : State) => va_P D ga_cl [(x, .inr (1, [.ref g, xs, .ref e0, .ref xi, .int xl, xr, xq]))] t.heap ∧ ga_K D cA t ∧ va_D A [(x, .inr (1, [.ref g, xs, .ref e0, .ref xi, .int xl, xr, xq]))]) A) (vx_X (fun (u : Nat) => out = .inr u) (fun (E : String) (q9 : Nat) (u : Nat) (t : State) => E = ga_en u ∧ va_P D ga_cl [(x, .inr (1, [.ref g, xs, .ref e0, .ref xi, .int xl, xr, xq]))] t.heap ∧ va_D A [(x, .inr (1, [.ref g, xs, .ref e0, .ref xi, .int xl, xr, xq]))]) A) 2 12 A := by
  refine vx_ofW (cc := cX1_report) (maxL := 3) (ret := (some .int)) (by decide) rfl ?_
  intro p e s m args below meth c s₁ B hml htab hv
  have hX : ga_cx2 c l := ⟨htab, hstk⟩
  obtain ⟨rfl, hP, hK, hD, hA, hST, hR⟩ := hv
  have hS : va_S A s.heap s.heap [] := va_S.rf
  have C : ga_cx p m c meth s _ RX1 cX1_report 3 (some .int) := ga_cx_of B hml
  have C0 := C
  obtain ⟨hx, hb, hr, hlocks, hml, hown, hts⟩ := C0
  have hl := lv_entry ([.ref x, .int 0, .int x2]) (n := 3) (Nat.le_of_ble_eq_true rfl)
  rw [lg_entry_eq]
  generalize (lg_sl ([.ref x, .int 0, .int x2]) ++ List.replicate (3 - (lg_sl ([.ref x, .int 0, .int x2])).length) Slot.unset).toArray = ls at hl ⊢
  have hl : lv_has ls 3 [(0, .ref x), (1, .int 0), (2, .int x2)] := hl
  rw [F_X1_report_3_0] at h
  refine lv_iload_n hx hb dX1_report_0 rfl (lv_at hl 1 rfl) ?_
  refine lv_iconst (v := 0) hx hb dX1_report_1 (by decide) ?_
  refine lv_aload_n hx hb dX1_report_2 rfl (lv_at hl 0 rfl) ?_
  refine vp_callSi (va_Run.run (va_runV (As := []) (rest := [.int 0, .int 0]) ⟨hx, hb, hml, hown, hts⟩ (met_X1_levels_3 l D cA x g xs e0 xi xr xq e1 e2 xl d0 d1 d2 d3 d4 d5 N 3 rfl) (cwV 0 hts (lw_V q1103 q432 q433 q67 q434) rfl rfl rfl (by decide +kernel) ⟨Nat.le_of_ble_eq_true rfl, Nat.le_of_ble_eq_true rfl⟩) (ga_PRV ga_rmK (ga_rmS (ga_rmK.at (B := A) hR hS (fun _ h => h)) [0, 1, 2] rfl rfl (by decide) (fun _ h => False.elim h)) hK (hP.sub (ws' := [(x, .inr (1, [.ref g, xs, .ref e0, .ref xi, .int xl, xr, xq]))]) [0] rfl) (va_recv hK.1 hP (ci := 1) (q0 := 0) rfl rfl)) rfl rfl hl.1 rfl (lv_room (Nat.le_of_ble_eq_true rfl)) dX1_report_3 ⟨Nat.le_of_ble_eq_true rfl, Nat.le_of_ble_eq_true rfl⟩)) (fun z_3 w_4 => ?_)
  obtain rfl := w_4
  refine lv_iconst (v := 1) hx hb dX1_report_6 (by decide) ?_
  refine lv_isub hx hb dX1_report_7 ?_
  refine W.eq (g2 := F0 m 8 ls [.int 2, .int 0, .int 0]) rfl ?_
  obtain ⟨r_6, e_7, h⟩ := ga_gb h
  refine vp_callSi (va_Run.run (va_runS (As := [.int 0, .int 0, .int 2]) (rest := []) ⟨hx, hb, hml, hown, hts⟩ (met_X1_inRange l D cA N 0 0 2 r_6 e_7) (va_cwS 3 hts (lw_S q487 q488 q67 q489) rfl rfl rfl (by decide +kernel) ⟨Nat.le_of_ble_eq_true rfl, Nat.le_of_ble_eq_true rfl⟩) (ga_PS hK ga_P0) rfl rfl hl.1 rfl (lv_room (Nat.le_of_ble_eq_true rfl)) dX1_report_8 ⟨Nat.le_of_ble_eq_true rfl, Nat.le_of_ble_eq_true rfl⟩)) (fun z_8 w_9 => ?_)
  obtain ⟨rfl, b_10⟩ := w_9
  obtain ⟨r_11, e_12, h⟩ := ga_gb h
  have hFc := va_free (wc := []) hD hS hA [] rfl
  refine vx_callv (vx_runS (As := [.int r_6]) (rest := []) ⟨hx, hb, hml, hown, hts⟩ (met_X1_checkFound l D cA (va_A [] s.heap.size) zs N r_6 hX.2 r_11 e_12) (va_cwS 1 hts (lw_S q964 q965 q67 q966) rfl rfl rfl (by decide +kernel) ⟨Nat.le_of_ble_eq_true rfl, Nat.le_of_ble_eq_true rfl⟩) (ga_XS hK ga_P0 (hD.sub (ws' := []) [] (by decide) rfl).self (fun _ hq => Or.inr hq) (hST.at hS hFc)) rfl rfl hl.1 rfl (lv_room (Nat.le_of_ble_eq_true rfl)) dX1_report_11 ⟨Nat.le_of_ble_eq_true rfl, Nat.le_of_ble_eq_true rfl⟩) hS (fun q _ hq => hFc q hq) hFc (fun q _ hq => hFc q hq) (fun E_18 ce q_19 u_16 t H_17 locs ht _ w_14 hB _ hk hS hce hcv hcl => ?_) (fun u_16 t H_15 locs ht _ w_14 hB _ hk hS => ?_)
  · replace h := ga_swr w_14 h
    obtain ⟨eE, hP1, hD1⟩ := hB
    rw [ht] at hP1
    obtain ⟨hP, hD⟩ := va_join (wr := [(x, .inr (1, [.ref g, xs, .ref e0, .ref xi, .int xl, xr, xq]))]) (w1 := []) hP hD [] [0] rfl rfl (by decide) (by decide) hk hFc hP1 hD1
    have hP : va_P D ga_cl [(x, .inr (1, [.ref g, xs, .ref e0, .ref xi, .int xl, xr, xq]))] H_17 := hP
    have hD : va_D A [(x, .inr (1, [.ref g, xs, .ref e0, .ref xi, .int xl, xr, xq]))] := hD
    have hP9 := hP.sub (ws' := [(x, .inr (1, [.ref g, xs, .ref e0, .ref xi, .int xl, xr, xq]))]) [0] rfl
    have hD9 := hD.sub (ws' := [(x, .inr (1, [.ref g, xs, .ref e0, .ref xi, .int xl, xr, xq]))]) [0] (by decide) rfl
    obtain rfl := Option.some.inj h
    exact vx_out (fun x hx9 => (hX.1 x hx9).elim) hlocks hce hcv hcl (fun t ht _ => ⟨u_16, rfl, ⟨eE, by rw [ht]; exact hP9, hD9⟩, hS.F ht⟩) hS.2.2 (by decide) (by decide)
  · obtain ⟨v_20, ev_20, hv9⟩ := w_14
    replace h := ga_swl ev_20 h
    obtain rfl := hv9
    obtain ⟨hP1, -, hD1⟩ := hB
    rw [ht] at hP1
    obtain ⟨hP, hD⟩ := va_join (wr := [(x, .inr (1, [.ref g, xs, .ref e0, .ref xi, .int xl, xr, xq]))]) (w1 := []) hP hD [] [0] rfl rfl (by decide) (by decide) hk hFc hP1 hD1
    have hP : va_P D ga_cl [(x, .inr (1, [.ref g, xs, .ref e0, .ref xi, .int xl, xr, xq]))] H_15 := hP
    have hD : va_D A [(x, .inr (1, [.ref g, xs, .ref e0, .ref xi, .int xl, xr, xq]))] := hD
    refine W.cs (cells' := 1) (slots' := 6) rfl rfl ?_
    refine lv_iload_n hx hb dX1_report_14 rfl (lv_at hl 2 rfl) ?_
    refine lv_iconst (v := 0) hx hb dX1_report_15 (by decide) ?_
    refine lv_iconst (v := 1) hx hb dX1_report_16 (by decide) ?_
    obtain ⟨r_22, e_23, h⟩ := ga_gb h
    refine vp_callSi (va_Run.run (va_runS (As := [.int x2, .int 0, .int 1]) (rest := []) ⟨hx, hb, hml, hown, hts⟩ (met_X1_inRange l D cA N x2 0 1 r_22 e_23) (va_cwS 3 hts (lw_S q487 q488 q67 q489) rfl rfl rfl (by decide +kernel) ⟨Nat.le_of_ble_eq_true rfl, Nat.le_of_ble_eq_true rfl⟩) (ga_PS hK ga_P0) rfl rfl hl.1 rfl (lv_room (Nat.le_of_ble_eq_true rfl)) dX1_report_17 ⟨Nat.le_of_ble_eq_true rfl, Nat.le_of_ble_eq_true rfl⟩)) (fun z_24 w_25 => ?_)
    obtain ⟨rfl, b_26⟩ := w_25
    obtain ⟨r_27, e_28, h⟩ := ga_gb h
    have hFc := va_free (wc := []) hD hS hA [] rfl
    refine vx_callv (vx_runS (As := [.int r_22]) (rest := []) ⟨hx, hb, hml, hown, hts⟩ (met_X1_checkArgument l D cA (va_A [] H_15.size) zs N r_22 hX.2 r_27 e_28) (va_cwS 1 hts (lw_S q490 q491 q67 q492) rfl rfl rfl (by decide +kernel) ⟨Nat.le_of_ble_eq_true rfl, Nat.le_of_ble_eq_true rfl⟩) (ga_XS hK ga_P0 (hD.sub (ws' := []) [] (by decide) rfl).self (fun _ hq => Or.inr hq) (hST.at hS hFc)) rfl rfl hl.1 rfl (lv_room (Nat.le_of_ble_eq_true rfl)) dX1_report_20 ⟨Nat.le_of_ble_eq_true rfl, Nat.le_of_ble_eq_true rfl⟩) hS (fun q _ hq => hFc q hq) hFc (fun q _ hq => hFc q hq) (fun E_34 ce q_35 u_32 t H_33 locs ht _ w_30 hB _ hk hS hce hcv hcl => ?_) (fun u_32 t H_31 locs ht _ w_30 hB _ hk hS => ?_)
    · replace h := ga_swr w_30 h
      obtain ⟨eE, hP1, hD1⟩ := hB
      rw [ht] at hP1
      obtain ⟨hP, hD⟩ := va_join (wr := [(x, .inr (1, [.ref g, xs, .ref e0, .ref xi, .int xl, xr, xq]))]) (w1 := []) hP hD [] [0] rfl rfl (by decide) (by decide) hk hFc hP1 hD1
      have hP : va_P D ga_cl [(x, .inr (1, [.ref g, xs, .ref e0, .ref xi, .int xl, xr, xq]))] H_33 := hP
      have hD : va_D A [(x, .inr (1, [.ref g, xs, .ref e0, .ref xi, .int xl, xr, xq]))] := hD
      have hP9 := hP.sub (ws' := [(x, .inr (1, [.ref g, xs, .ref e0, .ref xi, .int xl, xr, xq]))]) [0] rfl
      have hD9 := hD.sub (ws' := [(x, .inr (1, [.ref g, xs, .ref e0, .ref xi, .int xl, xr, xq]))]) [0] (by decide) rfl
      obtain rfl := Option.some.inj h
      exact vx_out (fun x hx9 => (hX.1 x hx9).elim) hlocks hce hcv hcl (fun t ht _ => ⟨u_32, rfl, ⟨eE, by rw [ht]; exact hP9, hD9⟩, hS.F ht⟩) hS.2.2 (by decide) (by decide)
    · obtain ⟨v_36, ev_36, hv9⟩ := w_30
      replace h := ga_swl ev_36 h
      obtain rfl := hv9
      obtain ⟨hP1, -, hD1⟩ := hB
      rw [ht] at hP1
      obtain ⟨hP, hD⟩ := va_join (wr := [(x, .inr (1, [.ref g, xs, .ref e0, .ref xi, .int xl, xr, xq]))]) (w1 := []) hP hD [] [0] rfl rfl (by decide) (by decide) hk hFc hP1 hD1
      have hP : va_P D ga_cl [(x, .inr (1, [.ref g, xs, .ref e0, .ref xi, .int xl, xr, xq]))] H_31 := hP
      have hD : va_D A [(x, .inr (1, [.ref g, xs, .ref e0, .ref xi, .int xl, xr, xq]))] := hD
      refine W.cs (cells' := 2) (slots' := 12) rfl rfl ?_
      refine lv_aload_n hx hb dX1_report_23 rfl (lv_at hl 0 rfl) ?_
      refine va_get hx hb hts in_X1 hown hK.1 hP 0 (fs := [.ref g, xs, .ref e0, .ref xi, .int xl, xr, xq]) rfl rfl 2 (by decide) (hts _ q352) (fun _ hh => hh) (v := .ref e0) rfl dX1_report_24 ?_
      refine lv_iload_n hx hb dX1_report_27 rfl (lv_at hl 1 rfl) ?_
      have hP : va_P D ga_cl [(x, .inr (1, [.ref g, xs, .ref e0, .ref xi, .int xl, xr, xq])), (e0, .inr (13, [.int d0, .int d1, .ref e1, .null, .null, .null, .null, .int 0])), (e1, .inr (12, [.int d2, .int d3, .ref e2, .null, .null, .null, .null, .int 0])), (e2, .inr (10, [.int d4, .int d5, .null, .null, .null, .null, .null, .int 0]))] H_31 := hP.app (ga_rmK.at (B := A) hR hS (fun _ h => h)).1.1
      refine va_csr (va_Run.run (va_runV (As := [.int 0]) (rest := []) ⟨hx, hb, hml, hown, hts⟩ (met_X7_at_3_0 l D cA e0 e1 e2 d0 d1 d2 d3 d4 d5 N () rfl) (⟨callB_of 1 hts (lw_meth q450) rfl rfl rfl (hts _ q92) (hts _ q1104) (by decide +kernel) ⟨Nat.le_of_ble_eq_true rfl, Nat.le_of_ble_eq_true rfl⟩, hts _ q444, hts _ q448⟩) (ga_PRV ga_rmK (ga_rmS (ga_rmK.at (B := A) hR hS (fun _ h => h)) [0, 1, 2] rfl rfl (by decide) (fun _ h => False.elim h)) hK ga_P0 (va_recv hK.1 hP (ci := 13) (q0 := 1) rfl rfl)) rfl rfl hl.1 rfl (lv_room (Nat.le_of_ble_eq_true rfl)) dX1_report_28 ⟨Nat.le_of_ble_eq_true rfl, Nat.le_of_ble_eq_true rfl⟩)) (fun _ _ => ?_)
      refine lv_iload_n hx hb dX1_report_31 rfl (lv_at hl 2 rfl) ?_
      obtain ⟨r_42, e_43, h⟩ := ga_gb h
      refine vp_callSi (va_Run.run (va_runV (As := [.int x2]) (rest := []) ⟨hx, hb, hml, hown, hts⟩ (met_X7_part_Ro l D cA e0 e1 d0 d1 N x2 r_42 e_43) (⟨callB_of 1 hts (lw_meth q1112) rfl rfl rfl (hts _ q92) (hts _ q1105) (by decide +kernel) ⟨Nat.le_of_ble_eq_true rfl, Nat.le_of_ble_eq_true rfl⟩, hts _ q1106, hts _ q1110⟩) (ga_PRV ga_rmK (ga_rmS (ga_rmK.at (B := A) hR hS (fun _ h => h)) [0] rfl rfl (by decide) (fun _ h => False.elim h)) hK ga_P0 (va_recv hK.1 hP (ci := 13) (q0 := 1) rfl rfl)) rfl rfl hl.1 rfl (lv_room (Nat.le_of_ble_eq_true rfl)) dX1_report_32 ⟨Nat.le_of_ble_eq_true rfl, Nat.le_of_ble_eq_true rfl⟩)) (fun z_44 w_45 => ?_)
      obtain rfl := w_45
      have hP9 := hP.sub (ws' := [(x, .inr (1, [.ref g, xs, .ref e0, .ref xi, .int xl, xr, xq]))]) [0] rfl
      have hD9 := hD.sub (ws' := [(x, .inr (1, [.ref g, xs, .ref e0, .ref xi, .int xl, xr, xq]))]) [0] (by decide) rfl
      obtain rfl := Option.some.inj h
      refine vx_ret ?_
      exact W.iret hx hb hr (fun t ht hW => ⟨⟨_, (), rfl, ⟨_, rfl, rfl, rfl⟩, ⟨by rw [ht]; exact hP9, hK.warm hW, hD9⟩⟩, hS.F ht⟩) hS.2.2 dX1_report_35
abbrev rm_X1_report_3_1 : Room := { frames := 7, cells := 2, slots := 12, locals := 120 }
def F_X1_report_3_1 (N : Nat) (xl : Int32) (d0 : Int32) (d1 : Int32) (d2 : Int32) (d3 : Int32) (d4 : Int32) (d5 : Int32) (x2 : Int32) : Option ((Int32 × Unit) ⊕ Nat) :=
  ((F_X1_inRange N 1 0 2).bind fun r_6 =>
  ((F_X1_checkFound N r_6).bind fun r_11 => ga_sw r_11 (fun v_20 =>
  ((F_X1_inRange N x2 0 1).bind fun r_22 =>
  ((F_X1_checkArgument N r_22).bind fun r_27 => ga_sw r_27 (fun v_36 =>
  ((F_X7_part_Ch N d2 d3 x2).bind fun r_42 =>
  some (.inl (r_42, ())))) (fun u_32 =>
  some (.inr u_32))))) (fun u_16 =>
  some (.inr u_16))))
set_option maxHeartbeats 4000000 in
theorem met_X1_report_3_1 (l : Launch) (D : va_G) (cA : Nat → ClassId) (A : Nat → Prop) (x : Nat) (g : Nat) (xs : Value) (e0 : Nat) (xi : Nat) (xr : Value) (xq : Value) (e1 : Nat) (e2 : Nat) (zs : Nat → Nat) (xl : Int32) (d0 : Int32) (d1 : Int32) (d2 : Int32) (d3 : Int32) (d4 : Int32) (d5 : Int32) (N : Nat) (x2 : Int32)  (hstk : l.stackTraces = false) (out : (Int32 × Unit) ⊕ Nat) (h : F_X1_report_3_1 N xl d0 d1 d2 d3 d4 d5 x2 = some out) : vx_Met l yX1_report (ws_ yX1_report cX1_report 3 (some .int)) rm_X1_report_3_1 (ga_XR D cA zs A (ga_rm D [(e0, .inr (13, [.int d0, .int d1, .ref e1, .null, .null, .null, .null, .int 0])), (e1, .inr (12, [.int d2, .int d3, .ref e2, .null, .null, .null, .null, .int 0])), (e2, .inr (10, [.int d4, .int d5, .null, .null, .null, .null, .null, .int 0]))]) [(x, .inr (1, [.ref g, xs, .ref e0, .ref xi, .int xl, xr, xq]))] [.ref x, .int 1, .int x2]) (va_Qi (fun (r : Int32) (u : Unit) => ∃ v, out = .inl v ∧ (v.1 = r) ∧ v.2 = u) (fun (u : Unit) (t : State) => va_P D ga_cl [(x, .inr (1, [.ref g, xs, .ref e0, .ref xi, .int xl, xr, xq]))] t.heap ∧ ga_K D cA t ∧ va_D A [(x, .inr (1, [.ref g, xs, .ref e0, .ref xi, .int xl, xr, xq]))]) A) (vx_X (fun (u : Nat) => out = .inr u) (fun (E : String) (q9 : Nat) (u : Nat) (t : State) => E = ga_en u ∧ va_P D ga_cl [(x, .inr (1, [.ref g, xs, .ref e0, .ref xi, .int xl, xr, xq]))] t.heap ∧ va_D A [(x, .inr (1, [.ref g, xs, .ref e0, .ref xi, .int xl, xr, xq]))]) A) 2 12 A := by
  refine vx_ofW (cc := cX1_report) (maxL := 3) (ret := (some .int)) (by decide) rfl ?_
  intro p e s m args below meth c s₁ B hml htab hv
  have hX : ga_cx2 c l := ⟨htab, hstk⟩
  obtain ⟨rfl, hP, hK, hD, hA, hST, hR⟩ := hv
  have hS : va_S A s.heap s.heap [] := va_S.rf
  have C : ga_cx p m c meth s _ RX1 cX1_report 3 (some .int) := ga_cx_of B hml
  have C0 := C
  obtain ⟨hx, hb, hr, hlocks, hml, hown, hts⟩ := C0
  have hl := lv_entry ([.ref x, .int 1, .int x2]) (n := 3) (Nat.le_of_ble_eq_true rfl)
  rw [lg_entry_eq]
  generalize (lg_sl ([.ref x, .int 1, .int x2]) ++ List.replicate (3 - (lg_sl ([.ref x, .int 1, .int x2])).length) Slot.unset).toArray = ls at hl ⊢
  have hl : lv_has ls 3 [(0, .ref x), (1, .int 1), (2, .int x2)] := hl
  rw [F_X1_report_3_1] at h
  refine lv_iload_n hx hb dX1_report_0 rfl (lv_at hl 1 rfl) ?_
  refine lv_iconst (v := 0) hx hb dX1_report_1 (by decide) ?_
  refine lv_aload_n hx hb dX1_report_2 rfl (lv_at hl 0 rfl) ?_
  refine vp_callSi (va_Run.run (va_runV (As := []) (rest := [.int 0, .int 1]) ⟨hx, hb, hml, hown, hts⟩ (met_X1_levels_3 l D cA x g xs e0 xi xr xq e1 e2 xl d0 d1 d2 d3 d4 d5 N 3 rfl) (cwV 0 hts (lw_V q1103 q432 q433 q67 q434) rfl rfl rfl (by decide +kernel) ⟨Nat.le_of_ble_eq_true rfl, Nat.le_of_ble_eq_true rfl⟩) (ga_PRV ga_rmK (ga_rmS (ga_rmK.at (B := A) hR hS (fun _ h => h)) [0, 1, 2] rfl rfl (by decide) (fun _ h => False.elim h)) hK (hP.sub (ws' := [(x, .inr (1, [.ref g, xs, .ref e0, .ref xi, .int xl, xr, xq]))]) [0] rfl) (va_recv hK.1 hP (ci := 1) (q0 := 0) rfl rfl)) rfl rfl hl.1 rfl (lv_room (Nat.le_of_ble_eq_true rfl)) dX1_report_3 ⟨Nat.le_of_ble_eq_true rfl, Nat.le_of_ble_eq_true rfl⟩)) (fun z_3 w_4 => ?_)
  obtain rfl := w_4
  refine lv_iconst (v := 1) hx hb dX1_report_6 (by decide) ?_
  refine lv_isub hx hb dX1_report_7 ?_
  refine W.eq (g2 := F0 m 8 ls [.int 2, .int 0, .int 1]) rfl ?_
  obtain ⟨r_6, e_7, h⟩ := ga_gb h
  refine vp_callSi (va_Run.run (va_runS (As := [.int 1, .int 0, .int 2]) (rest := []) ⟨hx, hb, hml, hown, hts⟩ (met_X1_inRange l D cA N 1 0 2 r_6 e_7) (va_cwS 3 hts (lw_S q487 q488 q67 q489) rfl rfl rfl (by decide +kernel) ⟨Nat.le_of_ble_eq_true rfl, Nat.le_of_ble_eq_true rfl⟩) (ga_PS hK ga_P0) rfl rfl hl.1 rfl (lv_room (Nat.le_of_ble_eq_true rfl)) dX1_report_8 ⟨Nat.le_of_ble_eq_true rfl, Nat.le_of_ble_eq_true rfl⟩)) (fun z_8 w_9 => ?_)
  obtain ⟨rfl, b_10⟩ := w_9
  obtain ⟨r_11, e_12, h⟩ := ga_gb h
  have hFc := va_free (wc := []) hD hS hA [] rfl
  refine vx_callv (vx_runS (As := [.int r_6]) (rest := []) ⟨hx, hb, hml, hown, hts⟩ (met_X1_checkFound l D cA (va_A [] s.heap.size) zs N r_6 hX.2 r_11 e_12) (va_cwS 1 hts (lw_S q964 q965 q67 q966) rfl rfl rfl (by decide +kernel) ⟨Nat.le_of_ble_eq_true rfl, Nat.le_of_ble_eq_true rfl⟩) (ga_XS hK ga_P0 (hD.sub (ws' := []) [] (by decide) rfl).self (fun _ hq => Or.inr hq) (hST.at hS hFc)) rfl rfl hl.1 rfl (lv_room (Nat.le_of_ble_eq_true rfl)) dX1_report_11 ⟨Nat.le_of_ble_eq_true rfl, Nat.le_of_ble_eq_true rfl⟩) hS (fun q _ hq => hFc q hq) hFc (fun q _ hq => hFc q hq) (fun E_18 ce q_19 u_16 t H_17 locs ht _ w_14 hB _ hk hS hce hcv hcl => ?_) (fun u_16 t H_15 locs ht _ w_14 hB _ hk hS => ?_)
  · replace h := ga_swr w_14 h
    obtain ⟨eE, hP1, hD1⟩ := hB
    rw [ht] at hP1
    obtain ⟨hP, hD⟩ := va_join (wr := [(x, .inr (1, [.ref g, xs, .ref e0, .ref xi, .int xl, xr, xq]))]) (w1 := []) hP hD [] [0] rfl rfl (by decide) (by decide) hk hFc hP1 hD1
    have hP : va_P D ga_cl [(x, .inr (1, [.ref g, xs, .ref e0, .ref xi, .int xl, xr, xq]))] H_17 := hP
    have hD : va_D A [(x, .inr (1, [.ref g, xs, .ref e0, .ref xi, .int xl, xr, xq]))] := hD
    have hP9 := hP.sub (ws' := [(x, .inr (1, [.ref g, xs, .ref e0, .ref xi, .int xl, xr, xq]))]) [0] rfl
    have hD9 := hD.sub (ws' := [(x, .inr (1, [.ref g, xs, .ref e0, .ref xi, .int xl, xr, xq]))]) [0] (by decide) rfl
    obtain rfl := Option.some.inj h
    exact vx_out (fun x hx9 => (hX.1 x hx9).elim) hlocks hce hcv hcl (fun t ht _ => ⟨u_16, rfl, ⟨eE, by rw [ht]; exact hP9, hD9⟩, hS.F ht⟩) hS.2.2 (by decide) (by decide)
  · obtain ⟨v_20, ev_20, hv9⟩ := w_14
    replace h := ga_swl ev_20 h
    obtain rfl := hv9
    obtain ⟨hP1, -, hD1⟩ := hB
    rw [ht] at hP1
    obtain ⟨hP, hD⟩ := va_join (wr := [(x, .inr (1, [.ref g, xs, .ref e0, .ref xi, .int xl, xr, xq]))]) (w1 := []) hP hD [] [0] rfl rfl (by decide) (by decide) hk hFc hP1 hD1
    have hP : va_P D ga_cl [(x, .inr (1, [.ref g, xs, .ref e0, .ref xi, .int xl, xr, xq]))] H_15 := hP
    have hD : va_D A [(x, .inr (1, [.ref g, xs, .ref e0, .ref xi, .int xl, xr, xq]))] := hD
    refine W.cs (cells' := 1) (slots' := 6) rfl rfl ?_
    refine lv_iload_n hx hb dX1_report_14 rfl (lv_at hl 2 rfl) ?_
    refine lv_iconst (v := 0) hx hb dX1_report_15 (by decide) ?_
    refine lv_iconst (v := 1) hx hb dX1_report_16 (by decide) ?_
    obtain ⟨r_22, e_23, h⟩ := ga_gb h
    refine vp_callSi (va_Run.run (va_runS (As := [.int x2, .int 0, .int 1]) (rest := []) ⟨hx, hb, hml, hown, hts⟩ (met_X1_inRange l D cA N x2 0 1 r_22 e_23) (va_cwS 3 hts (lw_S q487 q488 q67 q489) rfl rfl rfl (by decide +kernel) ⟨Nat.le_of_ble_eq_true rfl, Nat.le_of_ble_eq_true rfl⟩) (ga_PS hK ga_P0) rfl rfl hl.1 rfl (lv_room (Nat.le_of_ble_eq_true rfl)) dX1_report_17 ⟨Nat.le_of_ble_eq_true rfl, Nat.le_of_ble_eq_true rfl⟩)) (fun z_24 w_25 => ?_)
    obtain ⟨rfl, b_26⟩ := w_25
    obtain ⟨r_27, e_28, h⟩ := ga_gb h
    have hFc := va_free (wc := []) hD hS hA [] rfl
    refine vx_callv (vx_runS (As := [.int r_22]) (rest := []) ⟨hx, hb, hml, hown, hts⟩ (met_X1_checkArgument l D cA (va_A [] H_15.size) zs N r_22 hX.2 r_27 e_28) (va_cwS 1 hts (lw_S q490 q491 q67 q492) rfl rfl rfl (by decide +kernel) ⟨Nat.le_of_ble_eq_true rfl, Nat.le_of_ble_eq_true rfl⟩) (ga_XS hK ga_P0 (hD.sub (ws' := []) [] (by decide) rfl).self (fun _ hq => Or.inr hq) (hST.at hS hFc)) rfl rfl hl.1 rfl (lv_room (Nat.le_of_ble_eq_true rfl)) dX1_report_20 ⟨Nat.le_of_ble_eq_true rfl, Nat.le_of_ble_eq_true rfl⟩) hS (fun q _ hq => hFc q hq) hFc (fun q _ hq => hFc q hq) (fun E_34 ce q_35 u_32 t H_33 locs ht _ w_30 hB _ hk hS hce hcv hcl => ?_) (fun u_32 t H_31 locs ht _ w_30 hB _ hk hS => ?_)
    · replace h := ga_swr w_30 h
      obtain ⟨eE, hP1, hD1⟩ := hB
      rw [ht] at hP1
      obtain ⟨hP, hD⟩ := va_join (wr := [(x, .inr (1, [.ref g, xs, .ref e0, .ref xi, .int xl, xr, xq]))]) (w1 := []) hP hD [] [0] rfl rfl (by decide) (by decide) hk hFc hP1 hD1
      have hP : va_P D ga_cl [(x, .inr (1, [.ref g, xs, .ref e0, .ref xi, .int xl, xr, xq]))] H_33 := hP
      have hD : va_D A [(x, .inr (1, [.ref g, xs, .ref e0, .ref xi, .int xl, xr, xq]))] := hD
      have hP9 := hP.sub (ws' := [(x, .inr (1, [.ref g, xs, .ref e0, .ref xi, .int xl, xr, xq]))]) [0] rfl
      have hD9 := hD.sub (ws' := [(x, .inr (1, [.ref g, xs, .ref e0, .ref xi, .int xl, xr, xq]))]) [0] (by decide) rfl
      obtain rfl := Option.some.inj h
      exact vx_out (fun x hx9 => (hX.1 x hx9).elim) hlocks hce hcv hcl (fun t ht _ => ⟨u_32, rfl, ⟨eE, by rw [ht]; exact hP9, hD9⟩, hS.F ht⟩) hS.2.2 (by decide) (by decide)
    · obtain ⟨v_36, ev_36, hv9⟩ := w_30
      replace h := ga_swl ev_36 h
      obtain rfl := hv9
      obtain ⟨hP1, -, hD1⟩ := hB
      rw [ht] at hP1
      obtain ⟨hP, hD⟩ := va_join (wr := [(x, .inr (1, [.ref g, xs, .ref e0, .ref xi, .int xl, xr, xq]))]) (w1 := []) hP hD [] [0] rfl rfl (by decide) (by decide) hk hFc hP1 hD1
      have hP : va_P D ga_cl [(x, .inr (1, [.ref g, xs, .ref e0, .ref xi, .int xl, xr, xq]))] H_31 := hP
      have hD : va_D A [(x, .inr (1, [.ref g, xs, .ref e0, .ref xi, .int xl, xr, xq]))] := hD
      refine W.cs (cells' := 2) (slots' := 12) rfl rfl ?_
      refine lv_aload_n hx hb dX1_report_23 rfl (lv_at hl 0 rfl) ?_
      refine va_get hx hb hts in_X1 hown hK.1 hP 0 (fs := [.ref g, xs, .ref e0, .ref xi, .int xl, xr, xq]) rfl rfl 2 (by decide) (hts _ q352) (fun _ hh => hh) (v := .ref e0) rfl dX1_report_24 ?_
      refine lv_iload_n hx hb dX1_report_27 rfl (lv_at hl 1 rfl) ?_
      have hP : va_P D ga_cl [(x, .inr (1, [.ref g, xs, .ref e0, .ref xi, .int xl, xr, xq])), (e0, .inr (13, [.int d0, .int d1, .ref e1, .null, .null, .null, .null, .int 0])), (e1, .inr (12, [.int d2, .int d3, .ref e2, .null, .null, .null, .null, .int 0])), (e2, .inr (10, [.int d4, .int d5, .null, .null, .null, .null, .null, .int 0]))] H_31 := hP.app (ga_rmK.at (B := A) hR hS (fun _ h => h)).1.1
      refine va_csr (va_Run.run (va_runV (As := [.int 1]) (rest := []) ⟨hx, hb, hml, hown, hts⟩ (met_X7_at_3_1 l D cA e0 e1 e2 d0 d1 d2 d3 d4 d5 N () rfl) (⟨callB_of 1 hts (lw_meth q450) rfl rfl rfl (hts _ q92) (hts _ q1104) (by decide +kernel) ⟨Nat.le_of_ble_eq_true rfl, Nat.le_of_ble_eq_true rfl⟩, hts _ q444, hts _ q448⟩) (ga_PRV ga_rmK (ga_rmS (ga_rmK.at (B := A) hR hS (fun _ h => h)) [0, 1, 2] rfl rfl (by decide) (fun _ h => False.elim h)) hK ga_P0 (va_recv hK.1 hP (ci := 13) (q0 := 1) rfl rfl)) rfl rfl hl.1 rfl (lv_room (Nat.le_of_ble_eq_true rfl)) dX1_report_28 ⟨Nat.le_of_ble_eq_true rfl, Nat.le_of_ble_eq_true rfl⟩)) (fun _ _ => ?_)
      refine lv_iload_n hx hb dX1_report_31 rfl (lv_at hl 2 rfl) ?_
      obtain ⟨r_42, e_43, h⟩ := ga_gb h
      refine vp_callSi (va_Run.run (va_runV (As := [.int x2]) (rest := []) ⟨hx, hb, hml, hown, hts⟩ (met_X7_part_Ch l D cA e1 e2 d2 d3 N x2 r_42 e_43) (⟨callB_of 1 hts (lw_meth q1112) rfl rfl rfl (hts _ q92) (hts _ q1105) (by decide +kernel) ⟨Nat.le_of_ble_eq_true rfl, Nat.le_of_ble_eq_true rfl⟩, hts _ q1106, hts _ q1109⟩) (ga_PRV ga_rmK (ga_rmS (ga_rmK.at (B := A) hR hS (fun _ h => h)) [1] rfl rfl (by decide) (fun _ h => False.elim h)) hK ga_P0 (va_recv hK.1 hP (ci := 12) (q0 := 2) rfl rfl)) rfl rfl hl.1 rfl (lv_room (Nat.le_of_ble_eq_true rfl)) dX1_report_32 ⟨Nat.le_of_ble_eq_true rfl, Nat.le_of_ble_eq_true rfl⟩)) (fun z_44 w_45 => ?_)
      obtain rfl := w_45
      have hP9 := hP.sub (ws' := [(x, .inr (1, [.ref g, xs, .ref e0, .ref xi, .int xl, xr, xq]))]) [0] rfl
      have hD9 := hD.sub (ws' := [(x, .inr (1, [.ref g, xs, .ref e0, .ref xi, .int xl, xr, xq]))]) [0] (by decide) rfl
      obtain rfl := Option.some.inj h
      refine vx_ret ?_
      exact W.iret hx hb hr (fun t ht hW => ⟨⟨_, (), rfl, ⟨_, rfl, rfl, rfl⟩, ⟨by rw [ht]; exact hP9, hK.warm hW, hD9⟩⟩, hS.F ht⟩) hS.2.2 dX1_report_35
abbrev rm_X1_report_3_2 : Room := { frames := 7, cells := 2, slots := 12, locals := 120 }
def F_X1_report_3_2 (N : Nat) (xl : Int32) (d0 : Int32) (d1 : Int32) (d2 : Int32) (d3 : Int32) (d4 : Int32) (d5 : Int32) (x2 : Int32) : Option ((Int32 × Unit) ⊕ Nat) :=
  ((F_X1_inRange N 2 0 2).bind fun r_6 =>
  ((F_X1_checkFound N r_6).bind fun r_11 => ga_sw r_11 (fun v_20 =>
  ((F_X1_inRange N x2 0 1).bind fun r_22 =>
  ((F_X1_checkArgument N r_22).bind fun r_27 => ga_sw r_27 (fun v_36 =>
  ((F_X7_part_Ce N d4 d5 x2).bind fun r_42 =>
  some (.inl (r_42, ())))) (fun u_32 =>
  some (.inr u_32))))) (fun u_16 =>
  some (.inr u_16))))
set_option maxHeartbeats 4000000 in
theorem met_X1_report_3_2 (l : Launch) (D : va_G) (cA : Nat → ClassId) (A : Nat → Prop) (x : Nat) (g : Nat) (xs : Value) (e0 : Nat) (xi : Nat) (xr : Value) (xq : Value) (e1 : Nat) (e2 : Nat) (zs : Nat → Nat) (xl : Int32) (d0 : Int32) (d1 : Int32) (d2 : Int32) (d3 : Int32) (d4 : Int32) (d5 : Int32) (N : Nat) (x2 : Int32)  (hstk : l.stackTraces = false) (out : (Int32 × Unit) ⊕ Nat) (h : F_X1_report_3_2 N xl d0 d1 d2 d3 d4 d5 x2 = some out) : vx_Met l yX1_report (ws_ yX1_report cX1_report 3 (some .int)) rm_X1_report_3_2 (ga_XR D cA zs A (ga_rm D [(e0, .inr (13, [.int d0, .int d1, .ref e1, .null, .null, .null, .null, .int 0])), (e1, .inr (12, [.int d2, .int d3, .ref e2, .null, .null, .null, .null, .int 0])), (e2, .inr (10, [.int d4, .int d5, .null, .null, .null, .null, .null, .int 0]))]) [(x, .inr (1, [.ref g, xs, .ref e0, .ref xi, .int xl, xr, xq]))] [.ref x, .int 2, .int x2]) (va_Qi (fun (r : Int32) (u : Unit) => ∃ v, out = .inl v ∧ (v.1 = r) ∧ v.2 = u) (fun (u : Unit) (t : State) => va_P D ga_cl [(x, .inr (1, [.ref g, xs, .ref e0, .ref xi, .int xl, xr, xq]))] t.heap ∧ ga_K D cA t ∧ va_D A [(x, .inr (1, [.ref g, xs, .ref e0, .ref xi, .int xl, xr, xq]))]) A) (vx_X (fun (u : Nat) => out = .inr u) (fun (E : String) (q9 : Nat) (u : Nat) (t : State) => E = ga_en u ∧ va_P D ga_cl [(x, .inr (1, [.ref g, xs, .ref e0, .ref xi, .int xl, xr, xq]))] t.heap ∧ va_D A [(x, .inr (1, [.ref g, xs, .ref e0, .ref xi, .int xl, xr, xq]))]) A) 2 12 A := by
  refine vx_ofW (cc := cX1_report) (maxL := 3) (ret := (some .int)) (by decide) rfl ?_
  intro p e s m args below meth c s₁ B hml htab hv
  have hX : ga_cx2 c l := ⟨htab, hstk⟩
  obtain ⟨rfl, hP, hK, hD, hA, hST, hR⟩ := hv
  have hS : va_S A s.heap s.heap [] := va_S.rf
  have C : ga_cx p m c meth s _ RX1 cX1_report 3 (some .int) := ga_cx_of B hml
  have C0 := C
  obtain ⟨hx, hb, hr, hlocks, hml, hown, hts⟩ := C0
  have hl := lv_entry ([.ref x, .int 2, .int x2]) (n := 3) (Nat.le_of_ble_eq_true rfl)
  rw [lg_entry_eq]
  generalize (lg_sl ([.ref x, .int 2, .int x2]) ++ List.replicate (3 - (lg_sl ([.ref x, .int 2, .int x2])).length) Slot.unset).toArray = ls at hl ⊢
  have hl : lv_has ls 3 [(0, .ref x), (1, .int 2), (2, .int x2)] := hl
  rw [F_X1_report_3_2] at h
  refine lv_iload_n hx hb dX1_report_0 rfl (lv_at hl 1 rfl) ?_
  refine lv_iconst (v := 0) hx hb dX1_report_1 (by decide) ?_
  refine lv_aload_n hx hb dX1_report_2 rfl (lv_at hl 0 rfl) ?_
  refine vp_callSi (va_Run.run (va_runV (As := []) (rest := [.int 0, .int 2]) ⟨hx, hb, hml, hown, hts⟩ (met_X1_levels_3 l D cA x g xs e0 xi xr xq e1 e2 xl d0 d1 d2 d3 d4 d5 N 3 rfl) (cwV 0 hts (lw_V q1103 q432 q433 q67 q434) rfl rfl rfl (by decide +kernel) ⟨Nat.le_of_ble_eq_true rfl, Nat.le_of_ble_eq_true rfl⟩) (ga_PRV ga_rmK (ga_rmS (ga_rmK.at (B := A) hR hS (fun _ h => h)) [0, 1, 2] rfl rfl (by decide) (fun _ h => False.elim h)) hK (hP.sub (ws' := [(x, .inr (1, [.ref g, xs, .ref e0, .ref xi, .int xl, xr, xq]))]) [0] rfl) (va_recv hK.1 hP (ci := 1) (q0 := 0) rfl rfl)) rfl rfl hl.1 rfl (lv_room (Nat.le_of_ble_eq_true rfl)) dX1_report_3 ⟨Nat.le_of_ble_eq_true rfl, Nat.le_of_ble_eq_true rfl⟩)) (fun z_3 w_4 => ?_)
  obtain rfl := w_4
  refine lv_iconst (v := 1) hx hb dX1_report_6 (by decide) ?_
  refine lv_isub hx hb dX1_report_7 ?_
  refine W.eq (g2 := F0 m 8 ls [.int 2, .int 0, .int 2]) rfl ?_
  obtain ⟨r_6, e_7, h⟩ := ga_gb h
  refine vp_callSi (va_Run.run (va_runS (As := [.int 2, .int 0, .int 2]) (rest := []) ⟨hx, hb, hml, hown, hts⟩ (met_X1_inRange l D cA N 2 0 2 r_6 e_7) (va_cwS 3 hts (lw_S q487 q488 q67 q489) rfl rfl rfl (by decide +kernel) ⟨Nat.le_of_ble_eq_true rfl, Nat.le_of_ble_eq_true rfl⟩) (ga_PS hK ga_P0) rfl rfl hl.1 rfl (lv_room (Nat.le_of_ble_eq_true rfl)) dX1_report_8 ⟨Nat.le_of_ble_eq_true rfl, Nat.le_of_ble_eq_true rfl⟩)) (fun z_8 w_9 => ?_)
  obtain ⟨rfl, b_10⟩ := w_9
  obtain ⟨r_11, e_12, h⟩ := ga_gb h
  have hFc := va_free (wc := []) hD hS hA [] rfl
  refine vx_callv (vx_runS (As := [.int r_6]) (rest := []) ⟨hx, hb, hml, hown, hts⟩ (met_X1_checkFound l D cA (va_A [] s.heap.size) zs N r_6 hX.2 r_11 e_12) (va_cwS 1 hts (lw_S q964 q965 q67 q966) rfl rfl rfl (by decide +kernel) ⟨Nat.le_of_ble_eq_true rfl, Nat.le_of_ble_eq_true rfl⟩) (ga_XS hK ga_P0 (hD.sub (ws' := []) [] (by decide) rfl).self (fun _ hq => Or.inr hq) (hST.at hS hFc)) rfl rfl hl.1 rfl (lv_room (Nat.le_of_ble_eq_true rfl)) dX1_report_11 ⟨Nat.le_of_ble_eq_true rfl, Nat.le_of_ble_eq_true rfl⟩) hS (fun q _ hq => hFc q hq) hFc (fun q _ hq => hFc q hq) (fun E_18 ce q_19 u_16 t H_17 locs ht _ w_14 hB _ hk hS hce hcv hcl => ?_) (fun u_16 t H_15 locs ht _ w_14 hB _ hk hS => ?_)
  · replace h := ga_swr w_14 h
    obtain ⟨eE, hP1, hD1⟩ := hB
    rw [ht] at hP1
    obtain ⟨hP, hD⟩ := va_join (wr := [(x, .inr (1, [.ref g, xs, .ref e0, .ref xi, .int xl, xr, xq]))]) (w1 := []) hP hD [] [0] rfl rfl (by decide) (by decide) hk hFc hP1 hD1
    have hP : va_P D ga_cl [(x, .inr (1, [.ref g, xs, .ref e0, .ref xi, .int xl, xr, xq]))] H_17 := hP
    have hD : va_D A [(x, .inr (1, [.ref g, xs, .ref e0, .ref xi, .int xl, xr, xq]))] := hD
    have hP9 := hP.sub (ws' := [(x, .inr (1, [.ref g, xs, .ref e0, .ref xi, .int xl, xr, xq]))]) [0] rfl
    have hD9 := hD.sub (ws' := [(x, .inr (1, [.ref g, xs, .ref e0, .ref xi, .int xl, xr, xq]))]) [0] (by decide) rfl
    obtain rfl := Option.some.inj h
    exact vx_out (fun x hx9 => (hX.1 x hx9).elim) hlocks hce hcv hcl (fun t ht _ => ⟨u_16, rfl, ⟨eE, by rw [ht]; exact hP9, hD9⟩, hS.F ht⟩) hS.2.2 (by decide) (by decide)
  · obtain ⟨v_20, ev_20, hv9⟩ := w_14
    replace h := ga_swl ev_20 h
    obtain rfl := hv9
    obtain ⟨hP1, -, hD1⟩ := hB
    rw [ht] at hP1
    obtain ⟨hP, hD⟩ := va_join (wr := [(x, .inr (1, [.ref g, xs, .ref e0, .ref xi, .int xl, xr, xq]))]) (w1 := []) hP hD [] [0] rfl rfl (by decide) (by decide) hk hFc hP1 hD1
    have hP : va_P D ga_cl [(x, .inr (1, [.ref g, xs, .ref e0, .ref xi, .int xl, xr, xq]))] H_15 := hP
    have hD : va_D A [(x, .inr (1, [.ref g, xs, .ref e0, .ref xi, .int xl, xr, xq]))] := hD
    refine W.cs (cells' := 1) (slots' := 6) rfl rfl ?_
    refine lv_iload_n hx hb dX1_report_14 rfl (lv_at hl 2 rfl) ?_
    refine lv_iconst (v := 0) hx hb dX1_report_15 (by decide) ?_
    refine lv_iconst (v := 1) hx hb dX1_report_16 (by decide) ?_
    obtain ⟨r_22, e_23, h⟩ := ga_gb h
    refine vp_callSi (va_Run.run (va_runS (As := [.int x2, .int 0, .int 1]) (rest := []) ⟨hx, hb, hml, hown, hts⟩ (met_X1_inRange l D cA N x2 0 1 r_22 e_23) (va_cwS 3 hts (lw_S q487 q488 q67 q489) rfl rfl rfl (by decide +kernel) ⟨Nat.le_of_ble_eq_true rfl, Nat.le_of_ble_eq_true rfl⟩) (ga_PS hK ga_P0) rfl rfl hl.1 rfl (lv_room (Nat.le_of_ble_eq_true rfl)) dX1_report_17 ⟨Nat.le_of_ble_eq_true rfl, Nat.le_of_ble_eq_true rfl⟩)) (fun z_24 w_25 => ?_)
    obtain ⟨rfl, b_26⟩ := w_25
    obtain ⟨r_27, e_28, h⟩ := ga_gb h
    have hFc := va_free (wc := []) hD hS hA [] rfl
    refine vx_callv (vx_runS (As := [.int r_22]) (rest := []) ⟨hx, hb, hml, hown, hts⟩ (met_X1_checkArgument l D cA (va_A [] H_15.size) zs N r_22 hX.2 r_27 e_28) (va_cwS 1 hts (lw_S q490 q491 q67 q492) rfl rfl rfl (by decide +kernel) ⟨Nat.le_of_ble_eq_true rfl, Nat.le_of_ble_eq_true rfl⟩) (ga_XS hK ga_P0 (hD.sub (ws' := []) [] (by decide) rfl).self (fun _ hq => Or.inr hq) (hST.at hS hFc)) rfl rfl hl.1 rfl (lv_room (Nat.le_of_ble_eq_true rfl)) dX1_report_20 ⟨Nat.le_of_ble_eq_true rfl, Nat.le_of_ble_eq_true rfl⟩) hS (fun q _ hq => hFc q hq) hFc (fun q _ hq => hFc q hq) (fun E_34 ce q_35 u_32 t H_33 locs ht _ w_30 hB _ hk hS hce hcv hcl => ?_) (fun u_32 t H_31 locs ht _ w_30 hB _ hk hS => ?_)
    · replace h := ga_swr w_30 h
      obtain ⟨eE, hP1, hD1⟩ := hB
      rw [ht] at hP1
      obtain ⟨hP, hD⟩ := va_join (wr := [(x, .inr (1, [.ref g, xs, .ref e0, .ref xi, .int xl, xr, xq]))]) (w1 := []) hP hD [] [0] rfl rfl (by decide) (by decide) hk hFc hP1 hD1
      have hP : va_P D ga_cl [(x, .inr (1, [.ref g, xs, .ref e0, .ref xi, .int xl, xr, xq]))] H_33 := hP
      have hD : va_D A [(x, .inr (1, [.ref g, xs, .ref e0, .ref xi, .int xl, xr, xq]))] := hD
      have hP9 := hP.sub (ws' := [(x, .inr (1, [.ref g, xs, .ref e0, .ref xi, .int xl, xr, xq]))]) [0] rfl
      have hD9 := hD.sub (ws' := [(x, .inr (1, [.ref g, xs, .ref e0, .ref xi, .int xl, xr, xq]))]) [0] (by decide) rfl
      obtain rfl := Option.some.inj h
      exact vx_out (fun x hx9 => (hX.1 x hx9).elim) hlocks hce hcv hcl (fun t ht _ => ⟨u_32, rfl, ⟨eE, by rw [ht]; exact hP9, hD9⟩, hS.F ht⟩) hS.2.2 (by decide) (by decide)
    · obtain ⟨v_36, ev_36, hv9⟩ := w_30
      replace h := ga_swl ev_36 h
      obtain rfl := hv9
      obtain ⟨hP1, -, hD1⟩ := hB
      rw [ht] at hP1
      obtain ⟨hP, hD⟩ := va_join (wr := [(x, .inr (1, [.ref g, xs, .ref e0, .ref xi, .int xl, xr, xq]))]) (w1 := []) hP hD [] [0] rfl rfl (by decide) (by decide) hk hFc hP1 hD1
      have hP : va_P D ga_cl [(x, .inr (1, [.ref g, xs, .ref e0, .ref xi, .int xl, xr, xq]))] H_31 := hP
      have hD : va_D A [(x, .inr (1, [.ref g, xs, .ref e0, .ref xi, .int xl, xr, xq]))] := hD
      refine W.cs (cells' := 2) (slots' := 12) rfl rfl ?_
      refine lv_aload_n hx hb dX1_report_23 rfl (lv_at hl 0 rfl) ?_
      refine va_get hx hb hts in_X1 hown hK.1 hP 0 (fs := [.ref g, xs, .ref e0, .ref xi, .int xl, xr, xq]) rfl rfl 2 (by decide) (hts _ q352) (fun _ hh => hh) (v := .ref e0) rfl dX1_report_24 ?_
      refine lv_iload_n hx hb dX1_report_27 rfl (lv_at hl 1 rfl) ?_
      have hP : va_P D ga_cl [(x, .inr (1, [.ref g, xs, .ref e0, .ref xi, .int xl, xr, xq])), (e0, .inr (13, [.int d0, .int d1, .ref e1, .null, .null, .null, .null, .int 0])), (e1, .inr (12, [.int d2, .int d3, .ref e2, .null, .null, .null, .null, .int 0])), (e2, .inr (10, [.int d4, .int d5, .null, .null, .null, .null, .null, .int 0]))] H_31 := hP.app (ga_rmK.at (B := A) hR hS (fun _ h => h)).1.1
      refine va_csr (va_Run.run (va_runV (As := [.int 2]) (rest := []) ⟨hx, hb, hml, hown, hts⟩ (met_X7_at_3_2 l D cA e0 e1 e2 d0 d1 d2 d3 d4 d5 N () rfl) (⟨callB_of 1 hts (lw_meth q450) rfl rfl rfl (hts _ q92) (hts _ q1104) (by decide +kernel) ⟨Nat.le_of_ble_eq_true rfl, Nat.le_of_ble_eq_true rfl⟩, hts _ q444, hts _ q448⟩) (ga_PRV ga_rmK (ga_rmS (ga_rmK.at (B := A) hR hS (fun _ h => h)) [0, 1, 2] rfl rfl (by decide) (fun _ h => False.elim h)) hK ga_P0 (va_recv hK.1 hP (ci := 13) (q0 := 1) rfl rfl)) rfl rfl hl.1 rfl (lv_room (Nat.le_of_ble_eq_true rfl)) dX1_report_28 ⟨Nat.le_of_ble_eq_true rfl, Nat.le_of_ble_eq_true rfl⟩)) (fun _ _ => ?_)
      refine lv_iload_n hx hb dX1_report_31 rfl (lv_at hl 2 rfl) ?_
      obtain ⟨r_42, e_43, h⟩ := ga_gb h
      refine vp_callSi (va_Run.run (va_runV (As := [.int x2]) (rest := []) ⟨hx, hb, hml, hown, hts⟩ (met_X7_part_Ce l D cA e2 d4 d5 N x2 r_42 e_43) (⟨callB_of 1 hts (lw_meth q1112) rfl rfl rfl (hts _ q92) (hts _ q1105) (by decide +kernel) ⟨Nat.le_of_ble_eq_true rfl, Nat.le_of_ble_eq_true rfl⟩, hts _ q1106, hts _ q1108⟩) (ga_PRV ga_rmK (ga_rmS (ga_rmK.at (B := A) hR hS (fun _ h => h)) [2] rfl rfl (by decide) (fun _ h => False.elim h)) hK ga_P0 (va_recv hK.1 hP (ci := 10) (q0 := 3) rfl rfl)) rfl rfl hl.1 rfl (lv_room (Nat.le_of_ble_eq_true rfl)) dX1_report_32 ⟨Nat.le_of_ble_eq_true rfl, Nat.le_of_ble_eq_true rfl⟩)) (fun z_44 w_45 => ?_)
      obtain rfl := w_45
      have hP9 := hP.sub (ws' := [(x, .inr (1, [.ref g, xs, .ref e0, .ref xi, .int xl, xr, xq]))]) [0] rfl
      have hD9 := hD.sub (ws' := [(x, .inr (1, [.ref g, xs, .ref e0, .ref xi, .int xl, xr, xq]))]) [0] (by decide) rfl
      obtain rfl := Option.some.inj h
      refine vx_ret ?_
      exact W.iret hx hb hr (fun t ht hW => ⟨⟨_, (), rfl, ⟨_, rfl, rfl, rfl⟩, ⟨by rw [ht]; exact hP9, hK.warm hW, hD9⟩⟩, hS.F ht⟩) hS.2.2 dX1_report_35
abbrev rm_X1_report_3_o : Room := { frames := 7, cells := 2, slots := 12, locals := 120 }
def F_X1_report_3_o (N : Nat) (xl : Int32) (d0 : Int32) (d1 : Int32) (d2 : Int32) (d3 : Int32) (d4 : Int32) (d5 : Int32) (x1 : Int32) (x2 : Int32) : Option ((Int32 × Unit) ⊕ Nat) :=
  ((F_X1_inRange N x1 0 2).bind fun r_6 =>
  ((F_X1_checkFound N r_6).bind fun r_11 => ga_sw r_11 (fun v_20 =>
  ((F_X1_inRange N x2 0 1).bind fun r_22 =>
  ((F_X1_checkArgument N r_22).bind fun r_27 => ga_sw r_27 (fun v_36 =>
  none) (fun u_32 =>
  some (.inr u_32))))) (fun u_16 =>
  some (.inr u_16))))
set_option maxHeartbeats 4000000 in
theorem met_X1_report_3_o (l : Launch) (D : va_G) (cA : Nat → ClassId) (A : Nat → Prop) (x : Nat) (g : Nat) (xs : Value) (e0 : Nat) (xi : Nat) (xr : Value) (xq : Value) (e1 : Nat) (e2 : Nat) (zs : Nat → Nat) (xl : Int32) (d0 : Int32) (d1 : Int32) (d2 : Int32) (d3 : Int32) (d4 : Int32) (d5 : Int32) (N : Nat) (x1 : Int32) (x2 : Int32)  (hstk : l.stackTraces = false) (out : (Int32 × Unit) ⊕ Nat) (h : F_X1_report_3_o N xl d0 d1 d2 d3 d4 d5 x1 x2 = some out) : vx_Met l yX1_report (ws_ yX1_report cX1_report 3 (some .int)) rm_X1_report_3_o (ga_XR D cA zs A (ga_rm D [(e0, .inr (13, [.int d0, .int d1, .ref e1, .null, .null, .null, .null, .int 0])), (e1, .inr (12, [.int d2, .int d3, .ref e2, .null, .null, .null, .null, .int 0])), (e2, .inr (10, [.int d4, .int d5, .null, .null, .null, .null, .null, .int 0]))]) [(x, .inr (1, [.ref g, xs, .ref e0, .ref xi, .int xl, xr, xq]))] [.ref x, .int x1, .int x2]) (va_Qi (fun (r : Int32) (u : Unit) => ∃ v, out = .inl v ∧ (v.1 = r) ∧ v.2 = u) (fun (u : Unit) (t : State) => va_P D ga_cl [(x, .inr (1, [.ref g, xs, .ref e0, .ref xi, .int xl, xr, xq]))] t.heap ∧ ga_K D cA t ∧ va_D A [(x, .inr (1, [.ref g, xs, .ref e0, .ref xi, .int xl, xr, xq]))]) A) (vx_X (fun (u : Nat) => out = .inr u) (fun (E : String) (q9 : Nat) (u : Nat) (t : State) => E = ga_en u ∧ va_P D ga_cl [(x, .inr (1, [.ref g, xs, .ref e0, .ref xi, .int xl, xr, xq]))] t.heap ∧ va_D A [(x, .inr (1, [.ref g, xs, .ref e0, .ref xi, .int xl, xr, xq]))]) A) 2 12 A := by
  refine vx_ofW (cc := cX1_report) (maxL := 3) (ret := (some .int)) (by decide) rfl ?_
  intro p e s m args below meth c s₁ B hml htab hv
  have hX : ga_cx2 c l := ⟨htab, hstk⟩
  obtain ⟨rfl, hP, hK, hD, hA, hST, hR⟩ := hv
  have hS : va_S A s.heap s.heap [] := va_S.rf
  have C : ga_cx p m c meth s _ RX1 cX1_report 3 (some .int) := ga_cx_of B hml
  have C0 := C
  obtain ⟨hx, hb, hr, hlocks, hml, hown, hts⟩ := C0
  have hl := lv_entry ([.ref x, .int x1, .int x2]) (n := 3) (Nat.le_of_ble_eq_true rfl)
  rw [lg_entry_eq]
  generalize (lg_sl ([.ref x, .int x1, .int x2]) ++ List.replicate (3 - (lg_sl ([.ref x, .int x1, .int x2])).length) Slot.unset).toArray = ls at hl ⊢
  have hl : lv_has ls 3 [(0, .ref x), (1, .int x1), (2, .int x2)] := hl
  rw [F_X1_report_3_o] at h
  refine lv_iload_n hx hb dX1_report_0 rfl (lv_at hl 1 rfl) ?_
  refine lv_iconst (v := 0) hx hb dX1_report_1 (by decide) ?_
  refine lv_aload_n hx hb dX1_report_2 rfl (lv_at hl 0 rfl) ?_
  refine vp_callSi (va_Run.run (va_runV (As := []) (rest := [.int 0, .int x1]) ⟨hx, hb, hml, hown, hts⟩ (met_X1_levels_3 l D cA x g xs e0 xi xr xq e1 e2 xl d0 d1 d2 d3 d4 d5 N 3 rfl) (cwV 0 hts (lw_V q1103 q432 q433 q67 q434) rfl rfl rfl (by decide +kernel) ⟨Nat.le_of_ble_eq_true rfl, Nat.le_of_ble_eq_true rfl⟩) (ga_PRV ga_rmK (ga_rmS (ga_rmK.at (B := A) hR hS (fun _ h => h)) [0, 1, 2] rfl rfl (by decide) (fun _ h => False.elim h)) hK (hP.sub (ws' := [(x, .inr (1, [.ref g, xs, .ref e0, .ref xi, .int xl, xr, xq]))]) [0] rfl) (va_recv hK.1 hP (ci := 1) (q0 := 0) rfl rfl)) rfl rfl hl.1 rfl (lv_room (Nat.le_of_ble_eq_true rfl)) dX1_report_3 ⟨Nat.le_of_ble_eq_true rfl, Nat.le_of_ble_eq_true rfl⟩)) (fun z_3 w_4 => ?_)
  obtain rfl := w_4
  refine lv_iconst (v := 1) hx hb dX1_report_6 (by decide) ?_
  refine lv_isub hx hb dX1_report_7 ?_
  refine W.eq (g2 := F0 m 8 ls [.int 2, .int 0, .int x1]) rfl ?_
  obtain ⟨r_6, e_7, h⟩ := ga_gb h
  refine vp_callSi (va_Run.run (va_runS (As := [.int x1, .int 0, .int 2]) (rest := []) ⟨hx, hb, hml, hown, hts⟩ (met_X1_inRange l D cA N x1 0 2 r_6 e_7) (va_cwS 3 hts (lw_S q487 q488 q67 q489) rfl rfl rfl (by decide +kernel) ⟨Nat.le_of_ble_eq_true rfl, Nat.le_of_ble_eq_true rfl⟩) (ga_PS hK ga_P0) rfl rfl hl.1 rfl (lv_room (Nat.le_of_ble_eq_true rfl)) dX1_report_8 ⟨Nat.le_of_ble_eq_true rfl, Nat.le_of_ble_eq_true rfl⟩)) (fun z_8 w_9 => ?_)
  obtain ⟨rfl, b_10⟩ := w_9
  obtain ⟨r_11, e_12, h⟩ := ga_gb h
  have hFc := va_free (wc := []) hD hS hA [] rfl
  refine vx_callv (vx_runS (As := [.int r_6]) (rest := []) ⟨hx, hb, hml, hown, hts⟩ (met_X1_checkFound l D cA (va_A [] s.heap.size) zs N r_6 hX.2 r_11 e_12) (va_cwS 1 hts (lw_S q964 q965 q67 q966) rfl rfl rfl (by decide +kernel) ⟨Nat.le_of_ble_eq_true rfl, Nat.le_of_ble_eq_true rfl⟩) (ga_XS hK ga_P0 (hD.sub (ws' := []) [] (by decide) rfl).self (fun _ hq => Or.inr hq) (hST.at hS hFc)) rfl rfl hl.1 rfl (lv_room (Nat.le_of_ble_eq_true rfl)) dX1_report_11 ⟨Nat.le_of_ble_eq_true rfl, Nat.le_of_ble_eq_true rfl⟩) hS (fun q _ hq => hFc q hq) hFc (fun q _ hq => hFc q hq) (fun E_18 ce q_19 u_16 t H_17 locs ht _ w_14 hB _ hk hS hce hcv hcl => ?_) (fun u_16 t H_15 locs ht _ w_14 hB _ hk hS => ?_)
  · replace h := ga_swr w_14 h
    obtain ⟨eE, hP1, hD1⟩ := hB
    rw [ht] at hP1
    obtain ⟨hP, hD⟩ := va_join (wr := [(x, .inr (1, [.ref g, xs, .ref e0, .ref xi, .int xl, xr, xq]))]) (w1 := []) hP hD [] [0] rfl rfl (by decide) (by decide) hk hFc hP1 hD1
    have hP : va_P D ga_cl [(x, .inr (1, [.ref g, xs, .ref e0, .ref xi, .int xl, xr, xq]))] H_17 := hP
    have hD : va_D A [(x, .inr (1, [.ref g, xs, .ref e0, .ref xi, .int xl, xr, xq]))] := hD
    have hP9 := hP.sub (ws' := [(x, .inr (1, [.ref g, xs, .ref e0, .ref xi, .int xl, xr, xq]))]) [0] rfl
    have hD9 := hD.sub (ws' := [(x, .inr (1, [.ref g, xs, .ref e0, .ref xi, .int xl, xr, xq]))]) [0] (by decide) rfl
    obtain rfl := Option.some.inj h
    exact vx_out (fun x hx9 => (hX.1 x hx9).elim) hlocks hce hcv hcl (fun t ht _ => ⟨u_16, rfl, ⟨eE, by rw [ht]; exact hP9, hD9⟩, hS.F ht⟩) hS.2.2 (by decide) (by decide)
  · obtain ⟨v_20, ev_20, hv9⟩ := w_14
    replace h := ga_swl ev_20 h
    obtain rfl := hv9
    obtain ⟨hP1, -, hD1⟩ := hB
    rw [ht] at hP1
    obtain ⟨hP, hD⟩ := va_join (wr := [(x, .inr (1, [.ref g, xs, .ref e0, .ref xi, .int xl, xr, xq]))]) (w1 := []) hP hD [] [0] rfl rfl (by decide) (by decide) hk hFc hP1 hD1
    have hP : va_P D ga_cl [(x, .inr (1, [.ref g, xs, .ref e0, .ref xi, .int xl, xr, xq]))] H_15 := hP
    have hD : va_D A [(x, .inr (1, [.ref g, xs, .ref e0, .ref xi, .int xl, xr, xq]))] := hD
    refine W.cs (cells' := 1) (slots' := 6) rfl rfl ?_
    refine lv_iload_n hx hb dX1_report_14 rfl (lv_at hl 2 rfl) ?_
    refine lv_iconst (v := 0) hx hb dX1_report_15 (by decide) ?_
    refine lv_iconst (v := 1) hx hb dX1_report_16 (by decide) ?_
    obtain ⟨r_22, e_23, h⟩ := ga_gb h
    refine vp_callSi (va_Run.run (va_runS (As := [.int x2, .int 0, .int 1]) (rest := []) ⟨hx, hb, hml, hown, hts⟩ (met_X1_inRange l D cA N x2 0 1 r_22 e_23) (va_cwS 3 hts (lw_S q487 q488 q67 q489) rfl rfl rfl (by decide +kernel) ⟨Nat.le_of_ble_eq_true rfl, Nat.le_of_ble_eq_true rfl⟩) (ga_PS hK ga_P0) rfl rfl hl.1 rfl (lv_room (Nat.le_of_ble_eq_true rfl)) dX1_report_17 ⟨Nat.le_of_ble_eq_true rfl, Nat.le_of_ble_eq_true rfl⟩)) (fun z_24 w_25 => ?_)
    obtain ⟨rfl, b_26⟩ := w_25
    obtain ⟨r_27, e_28, h⟩ := ga_gb h
    have hFc := va_free (wc := []) hD hS hA [] rfl
    refine vx_callv (vx_runS (As := [.int r_22]) (rest := []) ⟨hx, hb, hml, hown, hts⟩ (met_X1_checkArgument l D cA (va_A [] H_15.size) zs N r_22 hX.2 r_27 e_28) (va_cwS 1 hts (lw_S q490 q491 q67 q492) rfl rfl rfl (by decide +kernel) ⟨Nat.le_of_ble_eq_true rfl, Nat.le_of_ble_eq_true rfl⟩) (ga_XS hK ga_P0 (hD.sub (ws' := []) [] (by decide) rfl).self (fun _ hq => Or.inr hq) (hST.at hS hFc)) rfl rfl hl.1 rfl (lv_room (Nat.le_of_ble_eq_true rfl)) dX1_report_20 ⟨Nat.le_of_ble_eq_true rfl, Nat.le_of_ble_eq_true rfl⟩) hS (fun q _ hq => hFc q hq) hFc (fun q _ hq => hFc q hq) (fun E_34 ce q_35 u_32 t H_33 locs ht _ w_30 hB _ hk hS hce hcv hcl => ?_) (fun u_32 t H_31 locs ht _ w_30 hB _ hk hS => ?_)
    · replace h := ga_swr w_30 h
      obtain ⟨eE, hP1, hD1⟩ := hB
      rw [ht] at hP1
      obtain ⟨hP, hD⟩ := va_join (wr := [(x, .inr (1, [.ref g, xs, .ref e0, .ref xi, .int xl, xr, xq]))]) (w1 := []) hP hD [] [0] rfl rfl (by decide) (by decide) hk hFc hP1 hD1
      have hP : va_P D ga_cl [(x, .inr (1, [.ref g, xs, .ref e0, .ref xi, .int xl, xr, xq]))] H_33 := hP
      have hD : va_D A [(x, .inr (1, [.ref g, xs, .ref e0, .ref xi, .int xl, xr, xq]))] := hD
      have hP9 := hP.sub (ws' := [(x, .inr (1, [.ref g, xs, .ref e0, .ref xi, .int xl, xr, xq]))]) [0] rfl
      have hD9 := hD.sub (ws' := [(x, .inr (1, [.ref g, xs, .ref e0, .ref xi, .int xl, xr, xq]))]) [0] (by decide) rfl
      obtain rfl := Option.some.inj h
      exact vx_out (fun x hx9 => (hX.1 x hx9).elim) hlocks hce hcv hcl (fun t ht _ => ⟨u_32, rfl, ⟨eE, by rw [ht]; exact hP9, hD9⟩, hS.F ht⟩) hS.2.2 (by decide) (by decide)
    · obtain ⟨v_36, ev_36, hv9⟩ := w_30
      replace h := ga_swl ev_36 h
      obtain rfl := hv9
      obtain ⟨hP1, -, hD1⟩ := hB
      rw [ht] at hP1
      obtain ⟨hP, hD⟩ := va_join (wr := [(x, .inr (1, [.ref g, xs, .ref e0, .ref xi, .int xl, xr, xq]))]) (w1 := []) hP hD [] [0] rfl rfl (by decide) (by decide) hk hFc hP1 hD1
      have hP : va_P D ga_cl [(x, .inr (1, [.ref g, xs, .ref e0, .ref xi, .int xl, xr, xq]))] H_31 := hP
      have hD : va_D A [(x, .inr (1, [.ref g, xs, .ref e0, .ref xi, .int xl, xr, xq]))] := hD
      refine W.cs (cells' := 2) (slots' := 12) rfl rfl ?_
      refine lv_aload_n hx hb dX1_report_23 rfl (lv_at hl 0 rfl) ?_
      refine va_get hx hb hts in_X1 hown hK.1 hP 0 (fs := [.ref g, xs, .ref e0, .ref xi, .int xl, xr, xq]) rfl rfl 2 (by decide) (hts _ q352) (fun _ hh => hh) (v := .ref e0) rfl dX1_report_24 ?_
      refine lv_iload_n hx hb dX1_report_27 rfl (lv_at hl 1 rfl) ?_
      cases h
def F_X1_report_3 (N : Nat) (xl : Int32) (d0 : Int32) (d1 : Int32) (d2 : Int32) (d3 : Int32) (d4 : Int32) (d5 : Int32) (x1 : Int32) (x2 : Int32) : Option ((Int32 × Unit) ⊕ Nat) :=
  (if x1 = 0 then F_X1_report_3_0 N xl d0 d1 d2 d3 d4 d5 x2 else (if x1 = 1 then F_X1_report_3_1 N xl d0 d1 d2 d3 d4 d5 x2 else (if x1 = 2 then F_X1_report_3_2 N xl d0 d1 d2 d3 d4 d5 x2 else F_X1_report_3_o N xl d0 d1 d2 d3 d4 d5 x1 x2)))
theorem met_X1_report_3 (l : Launch) (D : va_G) (cA : Nat → ClassId) (A : Nat → Prop) (x : Nat) (g : Nat) (xs : Value) (e0 : Nat) (xi : Nat) (xr : Value) (xq : Value) (e1 : Nat) (e2 : Nat) (zs : Nat → Nat) (xl : Int32) (d0 : Int32) (d1 : Int32) (d2 : Int32) (d3 : Int32) (d4 : Int32) (d5 : Int32) (N : Nat) (x1 : Int32) (x2 : Int32)  (hstk : l.stackTraces = false) (out : (Int32 × Unit) ⊕ Nat) (h : F_X1_report_3 N xl d0 d1 d2 d3 d4 d5 x1 x2 = some out) : vx_Met l yX1_report (ws_ yX1_report cX1_report 3 (some .int)) rm_X1_report_3_o (ga_XR D cA zs A (ga_rm D [(e0, .inr (13, [.int d0, .int d1, .ref e1, .null, .null, .null, .null, .int 0])), (e1, .inr (12, [.int d2, .int d3, .ref e2, .null, .null, .null, .null, .int 0])), (e2, .inr (10, [.int d4, .int d5, .null, .null, .null, .null, .null, .int 0]))]) [(x, .inr (1, [.ref g, xs, .ref e0, .ref xi, .int xl, xr, xq]))] [.ref x, .int x1, .int x2]) (va_Qi (fun (r : Int32) (u : Unit) => ∃ v, out = .inl v ∧ (v.1 = r) ∧ v.2 = u) (fun (u : Unit) (t : State) => va_P D ga_cl [(x, .inr (1, [.ref g, xs, .ref e0, .ref xi, .int xl, xr, xq]))] t.heap ∧ ga_K D cA t ∧ va_D A [(x, .inr (1, [.ref g, xs, .ref e0, .ref xi, .int xl, xr, xq]))]) A) (vx_X (fun (u : Nat) => out = .inr u) (fun (E : String) (q9 : Nat) (u : Nat) (t : State) => E = ga_en u ∧ va_P D ga_cl [(x, .inr (1, [.ref g, xs, .ref e0, .ref xi, .int xl, xr, xq]))] t.heap ∧ va_D A [(x, .inr (1, [.ref g, xs, .ref e0, .ref xi, .int xl, xr, xq]))]) A) 2 12 A := by
  unfold F_X1_report_3 at h
  by_cases c_0 : x1 = 0
  · replace h := ga_if1 c_0 h
    subst c_0
    exact met_X1_report_3_0 l D cA A x g xs e0 xi xr xq e1 e2 zs xl d0 d1 d2 d3 d4 d5 N x2 hstk out h
  · replace h := ga_if0 c_0 h
    by_cases c_1 : x1 = 1
    · replace h := ga_if1 c_1 h
      subst c_1
      exact met_X1_report_3_1 l D cA A x g xs e0 xi xr xq e1 e2 zs xl d0 d1 d2 d3 d4 d5 N x2 hstk out h
    · replace h := ga_if0 c_1 h
      by_cases c_2 : x1 = 2
      · replace h := ga_if1 c_2 h
        subst c_2
        exact met_X1_report_3_2 l D cA A x g xs e0 xi xr xq e1 e2 zs xl d0 d1 d2 d3 d4 d5 N x2 hstk out h
      · replace h := ga_if0 c_2 h
        exact met_X1_report_3_o l D cA A x g xs e0 xi xr xq e1 e2 zs xl d0 d1 d2 d3 d4 d5 N x1 x2 hstk out h
abbrev rm_X1_report_4_0 : Room := { frames := 7, cells := 2, slots := 12, locals := 120 }
def F_X1_report_4_0 (N : Nat) (xl : Int32) (d0 : Int32) (d1 : Int32) (d2 : Int32) (d3 : Int32) (d4 : Int32) (d5 : Int32) (d6 : Int32) (d7 : Int32) (x2 : Int32) : Option ((Int32 × Unit) ⊕ Nat) :=
  ((F_X1_inRange N 0 0 3).bind fun r_6 =>
  ((F_X1_checkFound N r_6).bind fun r_11 => ga_sw r_11 (fun v_20 =>
  ((F_X1_inRange N x2 0 1).bind fun r_22 =>
  ((F_X1_checkArgument N r_22).bind fun r_27 => ga_sw r_27 (fun v_36 =>
  ((F_X7_part_Ro N d0 d1 x2).bind fun r_42 =>
  some (.inl (r_42, ())))) (fun u_32 =>
  some (.inr u_32))))) (fun u_16 =>
  some (.inr u_16))))
set_option maxHeartbeats 4000000 in
theorem met_X1_report_4_0 (l : Launch) (D : va_G) (cA : Nat → ClassId) (A : Nat → Prop) (x : Nat) (g : Nat) (xs : Value) (e0 : Nat) (xi : Nat) (xr : Value) (xq : Value) (e1 : Nat) (e2 : Nat) (e3 : Nat) (zs : Nat → Nat) (xl : Int32) (d0 : Int32) (d1 : Int32) (d2 : Int32) (d3 : Int32) (d4 : Int32) (d5 : Int32) (d6 : Int32) (d7 : Int32) (N : Nat) (x2 : Int32)  (hstk : l.stackTraces = false) (out : (Int32 × Unit) ⊕ Nat) (h : F_X1_report_4_0 N xl d0 d1 d2 d3 d4 d5 d6 d7 x2 = some out) : vx_Met l yX1_report (ws_ yX1_report cX1_report 3 (some .int)) rm_X1_report_4_0 (ga_XR D cA zs A (ga_rm D [(e0, .inr (13, [.int d0, .int d1, .ref e1, .null, .null, .null, .null, .int 0])), (e1, .inr (12, [.int d2, .int d3, .ref e2, .null, .null, .null, .null, .int 0])), (e2, .inr (10, [.int d4, .int d5, .ref e3, .null, .null, .null, .null, .int 0])), (e3, .inr (11, [.int d6, .int d7, .null, .null, .null, .null, .null, .int 0]))]) [(x, .inr (1, [.ref g, xs, .ref e0, .ref xi, .int xl, xr, xq]))] [.ref x, .int 0, .int x2]) (va_Qi (fun (r : Int32) (u : Unit) => ∃ v, out = .inl v ∧ (v.1 = r) ∧ v.2 = u) (fun (u : Unit) (t : State) => va_P D ga_cl [(x, .inr (1, [.ref g, xs, .ref e0, .ref xi, .int xl, xr, xq]))] t.heap ∧ ga_K D cA t ∧ va_D A [(x, .inr (1, [.ref g, xs, .ref e0, .ref xi, .int xl, xr, xq]))]) A) (vx_X (fun (u : Nat) => out = .inr u) (fun (E : String) (q9 : Nat) (u : Nat) (t : State) => E = ga_en u ∧ va_P D ga_cl [(x, .inr (1, [.ref g, xs, .ref e0, .ref xi, .int xl, xr, xq]))] t.heap ∧ va_D A [(x, .inr (1, [.ref g, xs, .ref e0, .ref xi, .int xl, xr, xq]))]) A) 2 12 A := by
  refine vx_ofW (cc := cX1_report) (maxL := 3) (ret := (some .int)) (by decide) rfl ?_
  intro p e s m args below meth c s₁ B hml htab hv
  have hX : ga_cx2 c l := ⟨htab, hstk⟩
  obtain ⟨rfl, hP, hK, hD, hA, hST, hR⟩ := hv
  have hS : va_S A s.heap s.heap [] := va_S.rf
  have C : ga_cx p m c meth s _ RX1 cX1_report 3 (some .int) := ga_cx_of B hml
  have C0 := C
  obtain ⟨hx, hb, hr, hlocks, hml, hown, hts⟩ := C0
  have hl := lv_entry ([.ref x, .int 0, .int x2]) (n := 3) (Nat.le_of_ble_eq_true rfl)
  rw [lg_entry_eq]
  generalize (lg_sl ([.ref x, .int 0, .int x2]) ++ List.replicate (3 - (lg_sl ([.ref x, .int 0, .int x2])).length) Slot.unset).toArray = ls at hl ⊢
  have hl : lv_has ls 3 [(0, .ref x), (1, .int 0), (2, .int x2)] := hl
  rw [F_X1_report_4_0] at h
  refine lv_iload_n hx hb dX1_report_0 rfl (lv_at hl 1 rfl) ?_
  refine lv_iconst (v := 0) hx hb dX1_report_1 (by decide) ?_
  refine lv_aload_n hx hb dX1_report_2 rfl (lv_at hl 0 rfl) ?_
  refine vp_callSi (va_Run.run (va_runV (As := []) (rest := [.int 0, .int 0]) ⟨hx, hb, hml, hown, hts⟩ (met_X1_levels_4 l D cA x g xs e0 xi xr xq e1 e2 e3 xl d0 d1 d2 d3 d4 d5 d6 d7 N 4 rfl) (cwV 0 hts (lw_V q1103 q432 q433 q67 q434) rfl rfl rfl (by decide +kernel) ⟨Nat.le_of_ble_eq_true rfl, Nat.le_of_ble_eq_true rfl⟩) (ga_PRV ga_rmK (ga_rmS (ga_rmK.at (B := A) hR hS (fun _ h => h)) [0, 1, 2, 3] rfl rfl (by decide) (fun _ h => False.elim h)) hK (hP.sub (ws' := [(x, .inr (1, [.ref g, xs, .ref e0, .ref xi, .int xl, xr, xq]))]) [0] rfl) (va_recv hK.1 hP (ci := 1) (q0 := 0) rfl rfl)) rfl rfl hl.1 rfl (lv_room (Nat.le_of_ble_eq_true rfl)) dX1_report_3 ⟨Nat.le_of_ble_eq_true rfl, Nat.le_of_ble_eq_true rfl⟩)) (fun z_3 w_4 => ?_)
  obtain rfl := w_4
  refine lv_iconst (v := 1) hx hb dX1_report_6 (by decide) ?_
  refine lv_isub hx hb dX1_report_7 ?_
  refine W.eq (g2 := F0 m 8 ls [.int 3, .int 0, .int 0]) rfl ?_
  obtain ⟨r_6, e_7, h⟩ := ga_gb h
  refine vp_callSi (va_Run.run (va_runS (As := [.int 0, .int 0, .int 3]) (rest := []) ⟨hx, hb, hml, hown, hts⟩ (met_X1_inRange l D cA N 0 0 3 r_6 e_7) (va_cwS 3 hts (lw_S q487 q488 q67 q489) rfl rfl rfl (by decide +kernel) ⟨Nat.le_of_ble_eq_true rfl, Nat.le_of_ble_eq_true rfl⟩) (ga_PS hK ga_P0) rfl rfl hl.1 rfl (lv_room (Nat.le_of_ble_eq_true rfl)) dX1_report_8 ⟨Nat.le_of_ble_eq_true rfl, Nat.le_of_ble_eq_true rfl⟩)) (fun z_8 w_9 => ?_)
  obtain ⟨rfl, b_10⟩ := w_9
  obtain ⟨r_11, e_12, h⟩ := ga_gb h
  have hFc := va_free (wc := []) hD hS hA [] rfl
  refine vx_callv (vx_runS (As := [.int r_6]) (rest := []) ⟨hx, hb, hml, hown, hts⟩ (met_X1_checkFound l D cA (va_A [] s.heap.size) zs N r_6 hX.2 r_11 e_12) (va_cwS 1 hts (lw_S q964 q965 q67 q966) rfl rfl rfl (by decide +kernel) ⟨Nat.le_of_ble_eq_true rfl, Nat.le_of_ble_eq_true rfl⟩) (ga_XS hK ga_P0 (hD.sub (ws' := []) [] (by decide) rfl).self (fun _ hq => Or.inr hq) (hST.at hS hFc)) rfl rfl hl.1 rfl (lv_room (Nat.le_of_ble_eq_true rfl)) dX1_report_11 ⟨Nat.le_of_ble_eq_true rfl, Nat.le_of_ble_eq_true rfl⟩) hS (fun q _ hq => hFc q hq) hFc (fun q _ hq => hFc q hq) (fun E_18 ce q_19 u_16 t H_17 locs ht _ w_14 hB _ hk hS hce hcv hcl => ?_) (fun u_16 t H_15 locs ht _ w_14 hB _ hk hS => ?_)
  · replace h := ga_swr w_14 h
    obtain ⟨eE, hP1, hD1⟩ := hB
    rw [ht] at hP1
    obtain ⟨hP, hD⟩ := va_join (wr := [(x, .inr (1, [.ref g, xs, .ref e0, .ref xi, .int xl, xr, xq]))]) (w1 := []) hP hD [] [0] rfl rfl (by decide) (by decide) hk hFc hP1 hD1
    have hP : va_P D ga_cl [(x, .inr (1, [.ref g, xs, .ref e0, .ref xi, .int xl, xr, xq]))] H_17 := hP
    have hD : va_D A [(x, .inr (1, [.ref g, xs, .ref e0, .ref xi, .int xl, xr, xq]))] := hD
    have hP9 := hP.sub (ws' := [(x, .inr (1, [.ref g, xs, .ref e0, .ref xi, .int xl, xr, xq]))]) [0] rfl
    have hD9 := hD.sub (ws' := [(x, .inr (1, [.ref g, xs, .ref e0, .ref xi, .int xl, xr, xq]))]) [0] (by decide) rfl
    obtain rfl := Option.some.inj h
    exact vx_out (fun x hx9 => (hX.1 x hx9).elim) hlocks hce hcv hcl (fun t ht _ => ⟨u_16, rfl, ⟨eE, by rw [ht]; exact hP9, hD9⟩, hS.F ht⟩) hS.2.2 (by decide) (by decide)
  · obtain ⟨v_20, ev_20, hv9⟩ := w_14
    replace h := ga_swl ev_20 h
    obtain rfl := hv9
    obtain ⟨hP1, -, hD1⟩ := hB
    rw [ht] at hP1
    obtain ⟨hP, hD⟩ := va_join (wr := [(x, .inr (1, [.ref g, xs, .ref e0, .ref xi, .int xl, xr, xq]))]) (w1 := []) hP hD [] [0] rfl rfl (by decide) (by decide) hk hFc hP1 hD1
    have hP : va_P D ga_cl [(x, .inr (1, [.ref g, xs, .ref e0, .ref xi, .int xl, xr, xq]))] H_15 := hP
    have hD : va_D A [(x, .inr (1, [.ref g, xs, .ref e0, .ref xi, .int xl, xr, xq]))] := hD
    refine W.cs (cells' := 1) (slots' := 6) rfl rfl ?_
    refine lv_iload_n hx hb dX1_report_14 rfl (lv_at hl 2 rfl) ?_
    refine lv_iconst (v := 0) hx hb dX1_report_15 (by decide) ?_
    refine lv_iconst (v := 1) hx hb dX1_report_16 (by decide) ?_
    obtain ⟨r_22, e_23, h⟩ := ga_gb h
    refine vp_callSi (va_Run.run (va_runS (As := [.int x2, .int 0, .int 1]) (rest := []) ⟨hx, hb, hml, hown, hts⟩ (met_X1_inRange l D cA N x2 0 1 r_22 e_23) (va_cwS 3 hts (lw_S q487 q488 q67 q489) rfl rfl rfl (by decide +kernel) ⟨Nat.le_of_ble_eq_true rfl, Nat.le_of_ble_eq_true rfl⟩) (ga_PS hK ga_P0) rfl rfl hl.1 rfl (lv_room (Nat.le_of_ble_eq_true rfl)) dX1_report_17 ⟨Nat.le_of_ble_eq_true rfl, Nat.le_of_ble_eq_true rfl⟩)) (fun z_24 w_25 => ?_)
    obtain ⟨rfl, b_26⟩ := w_25
    obtain ⟨r_27, e_28, h⟩ := ga_gb h
    have hFc := va_free (wc := []) hD hS hA [] rfl
    refine vx_callv (vx_runS (As := [.int r_22]) (rest := []) ⟨hx, hb, hml, hown, hts⟩ (met_X1_checkArgument l D cA (va_A [] H_15.size) zs N r_22 hX.2 r_27 e_28) (va_cwS 1 hts (lw_S q490 q491 q67 q492) rfl rfl rfl (by decide +kernel) ⟨Nat.le_of_ble_eq_true rfl, Nat.le_of_ble_eq_true rfl⟩) (ga_XS hK ga_P0 (hD.sub (ws' := []) [] (by decide) rfl).self (fun _ hq => Or.inr hq) (hST.at hS hFc)) rfl rfl hl.1 rfl (lv_room (Nat.le_of_ble_eq_true rfl)) dX1_report_20 ⟨Nat.le_of_ble_eq_true rfl, Nat.le_of_ble_eq_true rfl⟩) hS (fun q _ hq => hFc q hq) hFc (fun q _ hq => hFc q hq) (fun E_34 ce q_35 u_32 t H_33 locs ht _ w_30 hB _ hk hS hce hcv hcl => ?_) (fun u_32 t H_31 locs ht _ w_30 hB _ hk hS => ?_)
    · replace h := ga_swr w_30 h
      obtain ⟨eE, hP1, hD1⟩ := hB
      rw [ht] at hP1
      obtain ⟨hP, hD⟩ := va_join (wr := [(x, .inr (1, [.ref g, xs, .ref e0, .ref xi, .int xl, xr, xq]))]) (w1 := []) hP hD [] [0] rfl rfl (by decide) (by decide) hk hFc hP1 hD1
      have hP : va_P D ga_cl [(x, .inr (1, [.ref g, xs, .ref e0, .ref xi, .int xl, xr, xq]))] H_33 := hP
      have hD : va_D A [(x, .inr (1, [.ref g, xs, .ref e0, .ref xi, .int xl, xr, xq]))] := hD
      have hP9 := hP.sub (ws' := [(x, .inr (1, [.ref g, xs, .ref e0, .ref xi, .int xl, xr, xq]))]) [0] rfl
      have hD9 := hD.sub (ws' := [(x, .inr (1, [.ref g, xs, .ref e0, .ref xi, .int xl, xr, xq]))]) [0] (by decide) rfl
      obtain rfl := Option.some.inj h
      exact vx_out (fun x hx9 => (hX.1 x hx9).elim) hlocks hce hcv hcl (fun t ht _ => ⟨u_32, rfl, ⟨eE, by rw [ht]; exact hP9, hD9⟩, hS.F ht⟩) hS.2.2 (by decide) (by decide)
    · obtain ⟨v_36, ev_36, hv9⟩ := w_30
      replace h := ga_swl ev_36 h
      obtain rfl := hv9
      obtain ⟨hP1, -, hD1⟩ := hB
      rw [ht] at hP1
      obtain ⟨hP, hD⟩ := va_join (wr := [(x, .inr (1, [.ref g, xs, .ref e0, .ref xi, .int xl, xr, xq]))]) (w1 := []) hP hD [] [0] rfl rfl (by decide) (by decide) hk hFc hP1 hD1
      have hP : va_P D ga_cl [(x, .inr (1, [.ref g, xs, .ref e0, .ref xi, .int xl, xr, xq]))] H_31 := hP
      have hD : va_D A [(x, .inr (1, [.ref g, xs, .ref e0, .ref xi, .int xl, xr, xq]))] := hD
      refine W.cs (cells' := 2) (slots' := 12) rfl rfl ?_
      refine lv_aload_n hx hb dX1_report_23 rfl (lv_at hl 0 rfl) ?_
      refine va_get hx hb hts in_X1 hown hK.1 hP 0 (fs := [.ref g, xs, .ref e0, .ref xi, .int xl, xr, xq]) rfl rfl 2 (by decide) (hts _ q352) (fun _ hh => hh) (v := .ref e0) rfl dX1_report_24 ?_
      refine lv_iload_n hx hb dX1_report_27 rfl (lv_at hl 1 rfl) ?_
      have hP : va_P D ga_cl [(x, .inr (1, [.ref g, xs, .ref e0, .ref xi, .int xl, xr, xq])), (e0, .inr (13, [.int d0, .int d1, .ref e1, .null, .null, .null, .null, .int 0])), (e1, .inr (12, [.int d2, .int d3, .ref e2, .null, .null, .null, .null, .int 0])), (e2, .inr (10, [.int d4, .int d5, .ref e3, .null, .null, .null, .null, .int 0])), (e3, .inr (11, [.int d6, .int d7, .null, .null, .null, .null, .null, .int 0]))] H_31 := hP.app (ga_rmK.at (B := A) hR hS (fun _ h => h)).1.1
      refine va_csr (va_Run.run (va_runV (As := [.int 0]) (rest := []) ⟨hx, hb, hml, hown, hts⟩ (met_X7_at_4_0 l D cA e0 e1 e2 e3 d0 d1 d2 d3 d4 d5 d6 d7 N () rfl) (⟨callB_of 1 hts (lw_meth q450) rfl rfl rfl (hts _ q92) (hts _ q1104) (by decide +kernel) ⟨Nat.le_of_ble_eq_true rfl, Nat.le_of_ble_eq_true rfl⟩, hts _ q444, hts _ q448⟩) (ga_PRV ga_rmK (ga_rmS (ga_rmK.at (B := A) hR hS (fun _ h => h)) [0, 1, 2, 3] rfl rfl (by decide) (fun _ h => False.elim h)) hK ga_P0 (va_recv hK.1 hP (ci := 13) (q0 := 1) rfl rfl)) rfl rfl hl.1 rfl (lv_room (Nat.le_of_ble_eq_true rfl)) dX1_report_28 ⟨Nat.le_of_ble_eq_true rfl, Nat.le_of_ble_eq_true rfl⟩)) (fun _ _ => ?_)
      refine lv_iload_n hx hb dX1_report_31 rfl (lv_at hl 2 rfl) ?_
      obtain ⟨r_42, e_43, h⟩ := ga_gb h
      refine vp_callSi (va_Run.run (va_runV (As := [.int x2]) (rest := []) ⟨hx, hb, hml, hown, hts⟩ (met_X7_part_Ro l D cA e0 e1 d0 d1 N x2 r_42 e_43) (⟨callB_of 1 hts (lw_meth q1112) rfl rfl rfl (hts _ q92) (hts _ q1105) (by decide +kernel) ⟨Nat.le_of_ble_eq_true rfl, Nat.le_of_ble_eq_true rfl⟩, hts _ q1106, hts _ q1110⟩) (ga_PRV ga_rmK (ga_rmS (ga_rmK.at (B := A) hR hS (fun _ h => h)) [0] rfl rfl (by decide) (fun _ h => False.elim h)) hK ga_P0 (va_recv hK.1 hP (ci := 13) (q0 := 1) rfl rfl)) rfl rfl hl.1 rfl (lv_room (Nat.le_of_ble_eq_true rfl)) dX1_report_32 ⟨Nat.le_of_ble_eq_true rfl, Nat.le_of_ble_eq_true rfl⟩)) (fun z_44 w_45 => ?_)
      obtain rfl := w_45
      have hP9 := hP.sub (ws' := [(x, .inr (1, [.ref g, xs, .ref e0, .ref xi, .int xl, xr, xq]))]) [0] rfl
      have hD9 := hD.sub (ws' := [(x, .inr (1, [.ref g, xs, .ref e0, .ref xi, .int xl, xr, xq]))]) [0] (by decide) rfl
      obtain rfl := Option.some.inj h
      refine vx_ret ?_
      exact W.iret hx hb hr (fun t ht hW => ⟨⟨_, (), rfl, ⟨_, rfl, rfl, rfl⟩, ⟨by rw [ht]; exact hP9, hK.warm hW, hD9⟩⟩, hS.F ht⟩) hS.2.2 dX1_report_35
abbrev rm_X1_report_4_1 : Room := { frames := 7, cells := 2, slots := 12, locals := 120 }
def F_X1_report_4_1 (N : Nat) (xl : Int32) (d0 : Int32) (d1 : Int32) (d2 : Int32) (d3 : Int32) (d4 : Int32) (d5 : Int32) (d6 : Int32) (d7 : Int32) (x2 : Int32) : Option ((Int32 × Unit) ⊕ Nat) :=
  ((F_X1_inRange N 1 0 3).bind fun r_6 =>
  ((F_X1_checkFound N r_6).bind fun r_11 => ga_sw r_11 (fun v_20 =>
  ((F_X1_inRange N x2 0 1).bind fun r_22 =>
  ((F_X1_checkArgument N r_22).bind fun r_27 => ga_sw r_27 (fun v_36 =>
  ((F_X7_part_Ch N d2 d3 x2).bind fun r_42 =>
  some (.inl (r_42, ())))) (fun u_32 =>
  some (.inr u_32))))) (fun u_16 =>
  some (.inr u_16))))
set_option maxHeartbeats 4000000 in
theorem met_X1_report_4_1 (l : Launch) (D : va_G) (cA : Nat → ClassId) (A : Nat → Prop) (x : Nat) (g : Nat) (xs : Value) (e0 : Nat) (xi : Nat) (xr : Value) (xq : Value) (e1 : Nat) (e2 : Nat) (e3 : Nat) (zs : Nat → Nat) (xl : Int32) (d0 : Int32) (d1 : Int32) (d2 : Int32) (d3 : Int32) (d4 : Int32) (d5 : Int32) (d6 : Int32) (d7 : Int32) (N : Nat) (x2 : Int32)  (hstk : l.stackTraces = false) (out : (Int32 × Unit) ⊕ Nat) (h : F_X1_report_4_1 N xl d0 d1 d2 d3 d4 d5 d6 d7 x2 = some out) : vx_Met l yX1_report (ws_ yX1_report cX1_report 3 (some .int)) rm_X1_report_4_1 (ga_XR D cA zs A (ga_rm D [(e0, .inr (13, [.int d0, .int d1, .ref e1, .null, .null, .null, .null, .int 0])), (e1, .inr (12, [.int d2, .int d3, .ref e2, .null, .null, .null, .null, .int 0])), (e2, .inr (10, [.int d4, .int d5, .ref e3, .null, .null, .null, .null, .int 0])), (e3, .inr (11, [.int d6, .int d7, .null, .null, .null, .null, .null, .int 0]))]) [(x, .inr (1, [.ref g, xs, .ref e0, .ref xi, .int xl, xr, xq]))] [.ref x, .int 1, .int x2]) (va_Qi (fun (r : Int32) (u : Unit) => ∃ v, out = .inl v ∧ (v.1 = r) ∧ v.2 = u) (fun (u : Unit) (t : State) => va_P D ga_cl [(x, .inr (1, [.ref g, xs, .ref e0, .ref xi, .int xl, xr, xq]))] t.heap ∧ ga_K D cA t ∧ va_D A [(x, .inr (1, [.ref g, xs, .ref e0, .ref xi, .int xl, xr, xq]))]) A) (vx_X (fun (u : Nat) => out = .inr u) (fun (E : String) (q9 : Nat) (u : Nat) (t : State) => E = ga_en u ∧ va_P D ga_cl [(x, .inr (1, [.ref g, xs, .ref e0, .ref xi, .int xl, xr, xq]))] t.heap ∧ va_D A [(x, .inr (1, [.ref g, xs, .ref e0, .ref xi, .int xl, xr, xq]))]) A) 2 12 A := by
  refine vx_ofW (cc := cX1_report) (maxL := 3) (ret := (some .int)) (by decide) rfl ?_
  intro p e s m args below meth c s₁ B hml htab hv
  have hX : ga_cx2 c l := ⟨htab, hstk⟩
  obtain ⟨rfl, hP, hK, hD, hA, hST, hR⟩ := hv
  have hS : va_S A s.heap s.heap [] := va_S.rf
  have C : ga_cx p m c meth s _ RX1 cX1_report 3 (some .int) := ga_cx_of B hml
  have C0 := C
  obtain ⟨hx, hb, hr, hlocks, hml, hown, hts⟩ := C0
  have hl := lv_entry ([.ref x, .int 1, .int x2]) (n := 3) (Nat.le_of_ble_eq_true rfl)
  rw [lg_entry_eq]
  generalize (lg_sl ([.ref x, .int 1, .int x2]) ++ List.replicate (3 - (lg_sl ([.ref x, .int 1, .int x2])).length) Slot.unset).toArray = ls at hl ⊢
  have hl : lv_has ls 3 [(0, .ref x), (1, .int 1), (2, .int x2)] := hl
  rw [F_X1_report_4_1] at h
  refine lv_iload_n hx hb dX1_report_0 rfl (lv_at hl 1 rfl) ?_
  refine lv_iconst (v := 0) hx hb dX1_report_1 (by decide) ?_
  refine lv_aload_n hx hb dX1_report_2 rfl (lv_at hl 0 rfl) ?_
  refine vp_callSi (va_Run.run (va_runV (As := []) (rest := [.int 0, .int 1]) ⟨hx, hb, hml, hown, hts⟩ (met_X1_levels_4 l D cA x g xs e0 xi xr xq e1 e2 e3 xl d0 d1 d2 d3 d4 d5 d6 d7 N 4 rfl) (cwV 0 hts (lw_V q1103 q432 q433 q67 q434) rfl rfl rfl (by decide +kernel) ⟨Nat.le_of_ble_eq_true rfl, Nat.le_of_ble_eq_true rfl⟩) (ga_PRV ga_rmK (ga_rmS (ga_rmK.at (B := A) hR hS (fun _ h => h)) [0, 1, 2, 3] rfl rfl (by decide) (fun _ h => False.elim h)) hK (hP.sub (ws' := [(x, .inr (1, [.ref g, xs, .ref e0, .ref xi, .int xl, xr, xq]))]) [0] rfl) (va_recv hK.1 hP (ci := 1) (q0 := 0) rfl rfl)) rfl rfl hl.1 rfl (lv_room (Nat.le_of_ble_eq_true rfl)) dX1_report_3 ⟨Nat.le_of_ble_eq_true rfl, Nat.le_of_ble_eq_true rfl⟩)) (fun z_3 w_4 => ?_)
  obtain rfl := w_4
  refine lv_iconst (v := 1) hx hb dX1_report_6 (by decide) ?_
  refine lv_isub hx hb dX1_report_7 ?_
  refine W.eq (g2 := F0 m 8 ls [.int 3, .int 0, .int 1]) rfl ?_
  obtain ⟨r_6, e_7, h⟩ := ga_gb h
  refine vp_callSi (va_Run.run (va_runS (As := [.int 1, .int 0, .int 3]) (rest := []) ⟨hx, hb, hml, hown, hts⟩ (met_X1_inRange l D cA N 1 0 3 r_6 e_7) (va_cwS 3 hts (lw_S q487 q488 q67 q489) rfl rfl rfl (by decide +kernel) ⟨Nat.le_of_ble_eq_true rfl, Nat.le_of_ble_eq_true rfl⟩) (ga_PS hK ga_P0) rfl rfl hl.1 rfl (lv_room (Nat.le_of_ble_eq_true rfl)) dX1_report_8 ⟨Nat.le_of_ble_eq_true rfl, Nat.le_of_ble_eq_true rfl⟩)) (fun z_8 w_9 => ?_)
  obtain ⟨rfl, b_10⟩ := w_9
  obtain ⟨r_11, e_12, h⟩ := ga_gb h
  have hFc := va_free (wc := []) hD hS hA [] rfl
  refine vx_callv (vx_runS (As := [.int r_6]) (rest := []) ⟨hx, hb, hml, hown, hts⟩ (met_X1_checkFound l D cA (va_A [] s.heap.size) zs N r_6 hX.2 r_11 e_12) (va_cwS 1 hts (lw_S q964 q965 q67 q966) rfl rfl rfl (by decide +kernel) ⟨Nat.le_of_ble_eq_true rfl, Nat.le_of_ble_eq_true rfl⟩) (ga_XS hK ga_P0 (hD.sub (ws' := []) [] (by decide) rfl).self (fun _ hq => Or.inr hq) (hST.at hS hFc)) rfl rfl hl.1 rfl (lv_room (Nat.le_of_ble_eq_true rfl)) dX1_report_11 ⟨Nat.le_of_ble_eq_true rfl, Nat.le_of_ble_eq_true rfl⟩) hS (fun q _ hq => hFc q hq) hFc (fun q _ hq => hFc q hq) (fun E_18 ce q_19 u_16 t H_17 locs ht _ w_14 hB _ hk hS hce hcv hcl => ?_) (fun u_16 t H_15 locs ht _ w_14 hB _ hk hS => ?_)
  · replace h := ga_swr w_14 h
    obtain ⟨eE, hP1, hD1⟩ := hB
    rw [ht] at hP1
    obtain ⟨hP, hD⟩ := va_join (wr := [(x, .inr (1, [.ref g, xs, .ref e0, .ref xi, .int xl, xr, xq]))]) (w1 := []) hP hD [] [0] rfl rfl (by decide) (by decide) hk hFc hP1 hD1
    have hP : va_P D ga_cl [(x, .inr (1, [.ref g, xs, .ref e0, .ref xi, .int xl, xr, xq]))] H_17 := hP
    have hD : va_D A [(x, .inr (1, [.ref g, xs, .ref e0, .ref xi, .int xl, xr, xq]))] := hD
    have hP9 := hP.sub (ws' := [(x, .inr (1, [.ref g, xs, .ref e0, .ref xi, .int xl, xr, xq]))]) [0] rfl
    have hD9 := hD.sub (ws' := [(x, .inr (1, [.ref g, xs, .ref e0, .ref xi, .int xl, xr, xq]))]) [0] (by decide) rfl
    obtain rfl := Option.some.inj h
    exact vx_out (fun x hx9 => (hX.1 x hx9).elim) hlocks hce hcv hcl (fun t ht _ => ⟨u_16, rfl, ⟨eE, by rw [ht]; exact hP9, hD9⟩, hS.F ht⟩) hS.2.2 (by decide) (by decide)
  · obtain ⟨v_20, ev_20, hv9⟩ := w_14
    replace h := ga_swl ev_20 h
    obtain rfl := hv9
    obtain ⟨hP1, -, hD1⟩ := hB
    rw [ht] at hP1
    obtain ⟨hP, hD⟩ := va_join (wr := [(x, .inr (1, [.ref g, xs, .ref e0, .ref xi, .int xl, xr, xq]))]) (w1 := []) hP hD [] [0] rfl rfl (by decide) (by decide) hk hFc hP1 hD1
    have hP : va_P D ga_cl [(x, .inr (1, [.ref g, xs, .ref e0, .ref xi, .int xl, xr, xq]))] H_15 := hP
    have hD : va_D A [(x, .inr (1, [.ref g, xs, .ref e0, .ref xi, .int xl, xr, xq]))] := hD
    refine W.cs (cells' := 1) (slots' := 6) rfl rfl ?_
    refine lv_iload_n hx hb dX1_report_14 rfl (lv_at hl 2 rfl) ?_
    refine lv_iconst (v := 0) hx hb dX1_report_15 (by decide) ?_
    refine lv_iconst (v := 1) hx hb dX1_report_16 (by decide) ?_
    obtain ⟨r_22, e_23, h⟩ := ga_gb h
    refine vp_callSi (va_Run.run (va_runS (As := [.int x2, .int 0, .int 1]) (rest := []) ⟨hx, hb, hml, hown, hts⟩ (met_X1_inRange l D cA N x2 0 1 r_22 e_23) (va_cwS 3 hts (lw_S q487 q488 q67 q489) rfl rfl rfl (by decide +kernel) ⟨Nat.le_of_ble_eq_true rfl, Nat.le_of_ble_eq_true rfl⟩) (ga_PS hK ga_P0) rfl rfl hl.1 rfl (lv_room (Nat.le_of_ble_eq_true rfl)) dX1_report_17 ⟨Nat.le_of_ble_eq_true rfl, Nat.le_of_ble_eq_true rfl⟩)) (fun z_24 w_25 => ?_)
    obtain ⟨rfl, b_26⟩ := w_25
    obtain ⟨r_27, e_28, h⟩ := ga_gb h
    have hFc := va_free (wc := []) hD hS hA [] rfl
    refine vx_callv (vx_runS (As := [.int r_22]) (rest := []) ⟨hx, hb, hml, hown, hts⟩ (met_X1_checkArgument l D cA (va_A [] H_15.size) zs N r_22 hX.2 r_27 e_28) (va_cwS 1 hts (lw_S q490 q491 q67 q492) rfl rfl rfl (by decide +kernel) ⟨Nat.le_of_ble_eq_true rfl, Nat.le_of_ble_eq_true rfl⟩) (ga_XS hK ga_P0 (hD.sub (ws' := []) [] (by decide) rfl).self (fun _ hq => Or.inr hq) (hST.at hS hFc)) rfl rfl hl.1 rfl (lv_room (Nat.le_of_ble_eq_true rfl)) dX1_report_20 ⟨Nat.le_of_ble_eq_true rfl, Nat.le_of_ble_eq_true rfl⟩) hS (fun q _ hq => hFc q hq) hFc (fun q _ hq => hFc q hq) (fun E_34 ce q_35 u_32 t H_33 locs ht _ w_30 hB _ hk hS hce hcv hcl => ?_) (fun u_32 t H_31 locs ht _ w_30 hB _ hk hS => ?_)
    · replace h := ga_swr w_30 h
      obtain ⟨eE, hP1, hD1⟩ := hB
      rw [ht] at hP1
      obtain ⟨hP, hD⟩ := va_join (wr := [(x, .inr (1, [.ref g, xs, .ref e0, .ref xi, .int xl, xr, xq]))]) (w1 := []) hP hD [] [0] rfl rfl (by decide) (by decide) hk hFc hP1 hD1
      have hP : va_P D ga_cl [(x, .inr (1, [.ref g, xs, .ref e0, .ref xi, .int xl, xr, xq]))] H_33 := hP
      have hD : va_D A [(x, .inr (1, [.ref g, xs, .ref e0, .ref xi, .int xl, xr, xq]))] := hD
      have hP9 := hP.sub (ws' := [(x, .inr (1, [.ref g, xs, .ref e0, .ref xi, .int xl, xr, xq]))]) [0] rfl
      have hD9 := hD.sub (ws' := [(x, .inr (1, [.ref g, xs, .ref e0, .ref xi, .int xl, xr, xq]))]) [0] (by decide) rfl
      obtain rfl := Option.some.inj h
      exact vx_out (fun x hx9 => (hX.1 x hx9).elim) hlocks hce hcv hcl (fun t ht _ => ⟨u_32, rfl, ⟨eE, by rw [ht]; exact hP9, hD9⟩, hS.F ht⟩) hS.2.2 (by decide) (by decide)
    · obtain ⟨v_36, ev_36, hv9⟩ := w_30
      replace h := ga_swl ev_36 h
      obtain rfl := hv9
      obtain ⟨hP1, -, hD1⟩ := hB
      rw [ht] at hP1
      obtain ⟨hP, hD⟩ := va_join (wr := [(x, .inr (1, [.ref g, xs, .ref e0, .ref xi, .int xl, xr, xq]))]) (w1 := []) hP hD [] [0] rfl rfl (by decide) (by decide) hk hFc hP1 hD1
      have hP : va_P D ga_cl [(x, .inr (1, [.ref g, xs, .ref e0, .ref xi, .int xl, xr, xq]))] H_31 := hP
      have hD : va_D A [(x, .inr (1, [.ref g, xs, .ref e0, .ref xi, .int xl, xr, xq]))] := hD
      refine W.cs (cells' := 2) (slots' := 12) rfl rfl ?_
      refine lv_aload_n hx hb dX1_report_23 rfl (lv_at hl 0 rfl) ?_
      refine va_get hx hb hts in_X1 hown hK.1 hP 0 (fs := [.ref g, xs, .ref e0, .ref xi, .int xl, xr, xq]) rfl rfl 2 (by decide) (hts _ q352) (fun _ hh => hh) (v := .ref e0) rfl dX1_report_24 ?_
      refine lv_iload_n hx hb dX1_report_27 rfl (lv_at hl 1 rfl) ?_
      have hP : va_P D ga_cl [(x, .inr (1, [.ref g, xs, .ref e0, .ref xi, .int xl, xr, xq])), (e0, .inr (13, [.int d0, .int d1, .ref e1, .null, .null, .null, .null, .int 0])), (e1, .inr (12, [.int d2, .int d3, .ref e2, .null, .null, .null, .null, .int 0])), (e2, .inr (10, [.int d4, .int d5, .ref e3, .null, .null, .null, .null, .int 0])), (e3, .inr (11, [.int d6, .int d7, .null, .null, .null, .null, .null, .int 0]))] H_31 := hP.app (ga_rmK.at (B := A) hR hS (fun _ h => h)).1.1
      refine va_csr (va_Run.run (va_runV (As := [.int 1]) (rest := []) ⟨hx, hb, hml, hown, hts⟩ (met_X7_at_4_1 l D cA e0 e1 e2 e3 d0 d1 d2 d3 d4 d5 d6 d7 N () rfl) (⟨callB_of 1 hts (lw_meth q450) rfl rfl rfl (hts _ q92) (hts _ q1104) (by decide +kernel) ⟨Nat.le_of_ble_eq_true rfl, Nat.le_of_ble_eq_true rfl⟩, hts _ q444, hts _ q448⟩) (ga_PRV ga_rmK (ga_rmS (ga_rmK.at (B := A) hR hS (fun _ h => h)) [0, 1, 2, 3] rfl rfl (by decide) (fun _ h => False.elim h)) hK ga_P0 (va_recv hK.1 hP (ci := 13) (q0 := 1) rfl rfl)) rfl rfl hl.1 rfl (lv_room (Nat.le_of_ble_eq_true rfl)) dX1_report_28 ⟨Nat.le_of_ble_eq_true rfl, Nat.le_of_ble_eq_true rfl⟩)) (fun _ _ => ?_)
      refine lv_iload_n hx hb dX1_report_31 rfl (lv_at hl 2 rfl) ?_
      obtain ⟨r_42, e_43, h⟩ := ga_gb h
      refine vp_callSi (va_Run.run (va_runV (As := [.int x2]) (rest := []) ⟨hx, hb, hml, hown, hts⟩ (met_X7_part_Ch l D cA e1 e2 d2 d3 N x2 r_42 e_43) (⟨callB_of 1 hts (lw_meth q1112) rfl rfl rfl (hts _ q92) (hts _ q1105) (by decide +kernel) ⟨Nat.le_of_ble_eq_true rfl, Nat.le_of_ble_eq_true rfl⟩, hts _ q1106, hts _ q1109⟩) (ga_PRV ga_rmK (ga_rmS (ga_rmK.at (B := A) hR hS (fun _ h => h)) [1] rfl rfl (by decide) (fun _ h => False.elim h)) hK ga_P0 (va_recv hK.1 hP (ci := 12) (q0 := 2) rfl rfl)) rfl rfl hl.1 rfl (lv_room (Nat.le_of_ble_eq_true rfl)) dX1_report_32 ⟨Nat.le_of_ble_eq_true rfl, Nat.le_of_ble_eq_true rfl⟩)) (fun z_44 w_45 => ?_)
      obtain rfl := w_45
      have hP9 := hP.sub (ws' := [(x, .inr (1, [.ref g, xs, .ref e0, .ref xi, .int xl, xr, xq]))]) [0] rfl
      have hD9 := hD.sub (ws' := [(x, .inr (1, [.ref g, xs, .ref e0, .ref xi, .int xl, xr, xq]))]) [0] (by decide) rfl
      obtain rfl := Option.some.inj h
      refine vx_ret ?_
      exact W.iret hx hb hr (fun t ht hW => ⟨⟨_, (), rfl, ⟨_, rfl, rfl, rfl⟩, ⟨by rw [ht]; exact hP9, hK.warm hW, hD9⟩⟩, hS.F ht⟩) hS.2.2 dX1_report_35
abbrev rm_X1_report_4_2 : Room := { frames := 7, cells := 2, slots := 12, locals := 120 }
def F_X1_report_4_2 (N : Nat) (xl : Int32) (d0 : Int32) (d1 : Int32) (d2 : Int32) (d3 : Int32) (d4 : Int32) (d5 : Int32) (d6 : Int32) (d7 : Int32) (x2 : Int32) : Option ((Int32 × Unit) ⊕ Nat) :=
  ((F_X1_inRange N 2 0 3).bind fun r_6 =>
  ((F_X1_checkFound N r_6).bind fun r_11 => ga_sw r_11 (fun v_20 =>
  ((F_X1_inRange N x2 0 1).bind fun r_22 =>
  ((F_X1_checkArgument N r_22).bind fun r_27 => ga_sw r_27 (fun v_36 =>
  ((F_X7_part_Cez N d4 d5 x2).bind fun r_42 =>
  some (.inl (r_42, ())))) (fun u_32 =>
  some (.inr u_32))))) (fun u_16 =>
  some (.inr u_16))))
set_option maxHeartbeats 4000000 in
theorem met_X1_report_4_2 (l : Launch) (D : va_G) (cA : Nat → ClassId) (A : Nat → Prop) (x : Nat) (g : Nat) (xs : Value) (e0 : Nat) (xi : Nat) (xr : Value) (xq : Value) (e1 : Nat) (e2 : Nat) (e3 : Nat) (zs : Nat → Nat) (xl : Int32) (d0 : Int32) (d1 : Int32) (d2 : Int32) (d3 : Int32) (d4 : Int32) (d5 : Int32) (d6 : Int32) (d7 : Int32) (N : Nat) (x2 : Int32)  (hstk : l.stackTraces = false) (out : (Int32 × Unit) ⊕ Nat) (h : F_X1_report_4_2 N xl d0 d1 d2 d3 d4 d5 d6 d7 x2 = some out) : vx_Met l yX1_report (ws_ yX1_report cX1_report 3 (some .int)) rm_X1_report_4_2 (ga_XR D cA zs A (ga_rm D [(e0, .inr (13, [.int d0, .int d1, .ref e1, .null, .null, .null, .null, .int 0])), (e1, .inr (12, [.int d2, .int d3, .ref e2, .null, .null, .null, .null, .int 0])), (e2, .inr (10, [.int d4, .int d5, .ref e3, .null, .null, .null, .null, .int 0])), (e3, .inr (11, [.int d6, .int d7, .null, .null, .null, .null, .null, .int 0]))]) [(x, .inr (1, [.ref g, xs, .ref e0, .ref xi, .int xl, xr, xq]))] [.ref x, .int 2, .int x2]) (va_Qi (fun (r : Int32) (u : Unit) => ∃ v, out = .inl v ∧ (v.1 = r) ∧ v.2 = u) (fun (u : Unit) (t : State) => va_P D ga_cl [(x, .inr (1, [.ref g, xs, .ref e0, .ref xi, .int xl, xr, xq]))] t.heap ∧ ga_K D cA t ∧ va_D A [(x, .inr (1, [.ref g, xs, .ref e0, .ref xi, .int xl, xr, xq]))]) A) (vx_X (fun (u : Nat) => out = .inr u) (fun (E : String) (q9 : Nat) (u : Nat) (t : State) => E = ga_en u ∧ va_P D ga_cl [(x, .inr (1, [.ref g, xs, .ref e0, .ref xi, .int xl, xr, xq]))] t.heap ∧ va_D A [(x, .inr (1, [.ref g, xs, .ref e0, .ref xi, .int xl, xr, xq]))]) A) 2 12 A := by
  refine vx_ofW (cc := cX1_report) (maxL := 3) (ret := (some .int)) (by decide) rfl ?_
  intro p e s m args below meth c s₁ B hml htab hv
  have hX : ga_cx2 c l := ⟨htab, hstk⟩
  obtain ⟨rfl, hP, hK, hD, hA, hST, hR⟩ := hv
  have hS : va_S A s.heap s.heap [] := va_S.rf
  have C : ga_cx p m c meth s _ RX1 cX1_report 3 (some .int) := ga_cx_of B hml
  have C0 := C
  obtain ⟨hx, hb, hr, hlocks, hml, hown, hts⟩ := C0
  have hl := lv_entry ([.ref x, .int 2, .int x2]) (n := 3) (Nat.le_of_ble_eq_true rfl)
  rw [lg_entry_eq]
  generalize (lg_sl ([.ref x, .int 2, .int x2]) ++ List.replicate (3 - (lg_sl ([.ref x, .int 2, .int x2])).length) Slot.unset).toArray = ls at hl ⊢
  have hl : lv_has ls 3 [(0, .ref x), (1, .int 2), (2, .int x2)] := hl
  rw [F_X1_report_4_2] at h
  refine lv_iload_n hx hb dX1_report_0 rfl (lv_at hl 1 rfl) ?_
  refine lv_iconst (v := 0) hx hb dX1_report_1 (by decide) ?_
  refine lv_aload_n hx hb dX1_report_2 rfl (lv_at hl 0 rfl) ?_
  refine vp_callSi (va_Run.run (va_runV (As := []) (rest := [.int 0, .int 2]) ⟨hx, hb, hml, hown, hts⟩ (met_X1_levels_4 l D cA x g xs e0 xi xr xq e1 e2 e3 xl d0 d1 d2 d3 d4 d5 d6 d7 N 4 rfl) (cwV 0 hts (lw_V q1103 q432 q433 q67 q434) rfl rfl rfl (by decide +kernel) ⟨Nat.le_of_ble_eq_true rfl, Nat.le_of_ble_eq_true rfl⟩) (ga_PRV ga_rmK (ga_rmS (ga_rmK.at (B := A) hR hS (fun _ h => h)) [0, 1, 2, 3] rfl rfl (by decide) (fun _ h => False.elim h)) hK (hP.sub (ws' := [(x, .inr (1, [.ref g, xs, .ref e0, .ref xi, .int xl, xr, xq]))]) [0] rfl) (va_recv hK.1 hP (ci := 1) (q0 := 0) rfl rfl)) rfl rfl hl.1 rfl (lv_room (Nat.le_of_ble_eq_true rfl)) dX1_report_3 ⟨Nat.le_of_ble_eq_true rfl, Nat.le_of_ble_eq_true rfl⟩)) (fun z_3 w_4 => ?_)
  obtain rfl := w_4
  refine lv_iconst (v := 1) hx hb dX1_report_6 (by decide) ?_
  refine lv_isub hx hb dX1_report_7 ?_
  refine W.eq (g2 := F0 m 8 ls [.int 3, .int 0, .int 2]) rfl ?_
  obtain ⟨r_6, e_7, h⟩ := ga_gb h
  refine vp_callSi (va_Run.run (va_runS (As := [.int 2, .int 0, .int 3]) (rest := []) ⟨hx, hb, hml, hown, hts⟩ (met_X1_inRange l D cA N 2 0 3 r_6 e_7) (va_cwS 3 hts (lw_S q487 q488 q67 q489) rfl rfl rfl (by decide +kernel) ⟨Nat.le_of_ble_eq_true rfl, Nat.le_of_ble_eq_true rfl⟩) (ga_PS hK ga_P0) rfl rfl hl.1 rfl (lv_room (Nat.le_of_ble_eq_true rfl)) dX1_report_8 ⟨Nat.le_of_ble_eq_true rfl, Nat.le_of_ble_eq_true rfl⟩)) (fun z_8 w_9 => ?_)
  obtain ⟨rfl, b_10⟩ := w_9
  obtain ⟨r_11, e_12, h⟩ := ga_gb h
  have hFc := va_free (wc := []) hD hS hA [] rfl
  refine vx_callv (vx_runS (As := [.int r_6]) (rest := []) ⟨hx, hb, hml, hown, hts⟩ (met_X1_checkFound l D cA (va_A [] s.heap.size) zs N r_6 hX.2 r_11 e_12) (va_cwS 1 hts (lw_S q964 q965 q67 q966) rfl rfl rfl (by decide +kernel) ⟨Nat.le_of_ble_eq_true rfl, Nat.le_of_ble_eq_true rfl⟩) (ga_XS hK ga_P0 (hD.sub (ws' := []) [] (by decide) rfl).self (fun _ hq => Or.inr hq) (hST.at hS hFc)) rfl rfl hl.1 rfl (lv_room (Nat.le_of_ble_eq_true rfl)) dX1_report_11 ⟨Nat.le_of_ble_eq_true rfl, Nat.le_of_ble_eq_true rfl⟩) hS (fun q _ hq => hFc q hq) hFc (fun q _ hq => hFc q hq) (fun E_18 ce q_19 u_16 t H_17 locs ht _ w_14 hB _ hk hS hce hcv hcl => ?_) (fun u_16 t H_15 locs ht _ w_14 hB _ hk hS => ?_)
  · replace h := ga_swr w_14 h
    obtain ⟨eE, hP1, hD1⟩ := hB
    rw [ht] at hP1
    obtain ⟨hP, hD⟩ := va_join (wr := [(x, .inr (1, [.ref g, xs, .ref e0, .ref xi, .int xl, xr, xq]))]) (w1 := []) hP hD [] [0] rfl rfl (by decide) (by decide) hk hFc hP1 hD1
    have hP : va_P D ga_cl [(x, .inr (1, [.ref g, xs, .ref e0, .ref xi, .int xl, xr, xq]))] H_17 := hP
    have hD : va_D A [(x, .inr (1, [.ref g, xs, .ref e0, .ref xi, .int xl, xr, xq]))] := hD
    have hP9 := hP.sub (ws' := [(x, .inr (1, [.ref g, xs, .ref e0, .ref xi, .int xl, xr, xq]))]) [0] rfl
    have hD9 := hD.sub (ws' := [(x, .inr (1, [.ref g, xs, .ref e0, .ref xi, .int xl, xr, xq]))]) [0] (by decide) rfl
    obtain rfl := Option.some.inj h
    exact vx_out (fun x hx9 => (hX.1 x hx9).elim) hlocks hce hcv hcl (fun t ht _ => ⟨u_16, rfl, ⟨eE, by rw [ht]; exact hP9, hD9⟩, hS.F ht⟩) hS.2.2 (by decide) (by decide)
  · obtain ⟨v_20, ev_20, hv9⟩ := w_14
    replace h := ga_swl ev_20 h
    obtain rfl := hv9
    obtain ⟨hP1, -, hD1⟩ := hB
    rw [ht] at hP1
    obtain ⟨hP, hD⟩ := va_join (wr := [(x, .inr (1, [.ref g, xs, .ref e0, .ref xi, .int xl, xr, xq]))]) (w1 := []) hP hD [] [0] rfl rfl (by decide) (by decide) hk hFc hP1 hD1
    have hP : va_P D ga_cl [(x, .inr (1, [.ref g, xs, .ref e0, .ref xi, .int xl, xr, xq]))] H_15 := hP
    have hD : va_D A [(x, .inr (1, [.ref g, xs, .ref e0, .ref xi, .int xl, xr, xq]))] := hD
    refine W.cs (cells' := 1) (slots' := 6) rfl rfl ?_
    refine lv_iload_n hx hb dX1_report_14 rfl (lv_at hl 2 rfl) ?_
    refine lv_iconst (v := 0) hx hb dX1_report_15 (by decide) ?_
    refine lv_iconst (v := 1) hx hb dX1_report_16 (by decide) ?_
    obtain ⟨r_22, e_23, h⟩ := ga_gb h
    refine vp_callSi (va_Run.run (va_runS (As := [.int x2, .int 0, .int 1]) (rest := []) ⟨hx, hb, hml, hown, hts⟩ (met_X1_inRange l D cA N x2 0 1 r_22 e_23) (va_cwS 3 hts (lw_S q487 q488 q67 q489) rfl rfl rfl (by decide +kernel) ⟨Nat.le_of_ble_eq_true rfl, Nat.le_of_ble_eq_true rfl⟩) (ga_PS hK ga_P0) rfl rfl hl.1 rfl (lv_room (Nat.le_of_ble_eq_true rfl)) dX1_report_17 ⟨Nat.le_of_ble_eq_true rfl, Nat.le_of_ble_eq_true rfl⟩)) (fun z_24 w_25 => ?_)
    obtain ⟨rfl, b_26⟩ := w_25
    obtain ⟨r_27, e_28, h⟩ := ga_gb h
    have hFc := va_free (wc := []) hD hS hA [] rfl
    refine vx_callv (vx_runS (As := [.int r_22]) (rest := []) ⟨hx, hb, hml, hown, hts⟩ (met_X1_checkArgument l D cA (va_A [] H_15.size) zs N r_22 hX.2 r_27 e_28) (va_cwS 1 hts (lw_S q490 q491 q67 q492) rfl rfl rfl (by decide +kernel) ⟨Nat.le_of_ble_eq_true rfl, Nat.le_of_ble_eq_true rfl⟩) (ga_XS hK ga_P0 (hD.sub (ws' := []) [] (by decide) rfl).self (fun _ hq => Or.inr hq) (hST.at hS hFc)) rfl rfl hl.1 rfl (lv_room (Nat.le_of_ble_eq_true rfl)) dX1_report_20 ⟨Nat.le_of_ble_eq_true rfl, Nat.le_of_ble_eq_true rfl⟩) hS (fun q _ hq => hFc q hq) hFc (fun q _ hq => hFc q hq) (fun E_34 ce q_35 u_32 t H_33 locs ht _ w_30 hB _ hk hS hce hcv hcl => ?_) (fun u_32 t H_31 locs ht _ w_30 hB _ hk hS => ?_)
    · replace h := ga_swr w_30 h
      obtain ⟨eE, hP1, hD1⟩ := hB
      rw [ht] at hP1
      obtain ⟨hP, hD⟩ := va_join (wr := [(x, .inr (1, [.ref g, xs, .ref e0, .ref xi, .int xl, xr, xq]))]) (w1 := []) hP hD [] [0] rfl rfl (by decide) (by decide) hk hFc hP1 hD1
      have hP : va_P D ga_cl [(x, .inr (1, [.ref g, xs, .ref e0, .ref xi, .int xl, xr, xq]))] H_33 := hP
      have hD : va_D A [(x, .inr (1, [.ref g, xs, .ref e0, .ref xi, .int xl, xr, xq]))] := hD
      have hP9 := hP.sub (ws' := [(x, .inr (1, [.ref g, xs, .ref e0, .ref xi, .int xl, xr, xq]))]) [0] rfl
      have hD9 := hD.sub (ws' := [(x, .inr (1, [.ref g, xs, .ref e0, .ref xi, .int xl, xr, xq]))]) [0] (by decide) rfl
      obtain rfl := Option.some.inj h
      exact vx_out (fun x hx9 => (hX.1 x hx9).elim) hlocks hce hcv hcl (fun t ht _ => ⟨u_32, rfl, ⟨eE, by rw [ht]; exact hP9, hD9⟩, hS.F ht⟩) hS.2.2 (by decide) (by decide)
    · obtain ⟨v_36, ev_36, hv9⟩ := w_30
      replace h := ga_swl ev_36 h
      obtain rfl := hv9
      obtain ⟨hP1, -, hD1⟩ := hB
      rw [ht] at hP1
      obtain ⟨hP, hD⟩ := va_join (wr := [(x, .inr (1, [.ref g, xs, .ref e0, .ref xi, .int xl, xr, xq]))]) (w1 := []) hP hD [] [0] rfl rfl (by decide) (by decide) hk hFc hP1 hD1
      have hP : va_P D ga_cl [(x, .inr (1, [.ref g, xs, .ref e0, .ref xi, .int xl, xr, xq]))] H_31 := hP
      have hD : va_D A [(x, .inr (1, [.ref g, xs, .ref e0, .ref xi, .int xl, xr, xq]))] := hD
      refine W.cs (cells' := 2) (slots' := 12) rfl rfl ?_
      refine lv_aload_n hx hb dX1_report_23 rfl (lv_at hl 0 rfl) ?_
      refine va_get hx hb hts in_X1 hown hK.1 hP 0 (fs := [.ref g, xs, .ref e0, .ref xi, .int xl, xr, xq]) rfl rfl 2 (by decide) (hts _ q352) (fun _ hh => hh) (v := .ref e0) rfl dX1_report_24 ?_
      refine lv_iload_n hx hb dX1_report_27 rfl (lv_at hl 1 rfl) ?_
      have hP : va_P D ga_cl [(x, .inr (1, [.ref g, xs, .ref e0, .ref xi, .int xl, xr, xq])), (e0, .inr (13, [.int d0, .int d1, .ref e1, .null, .null, .null, .null, .int 0])), (e1, .inr (12, [.int d2, .int d3, .ref e2, .null, .null, .null, .null, .int 0])), (e2, .inr (10, [.int d4, .int d5, .ref e3, .null, .null, .null, .null, .int 0])), (e3, .inr (11, [.int d6, .int d7, .null, .null, .null, .null, .null, .int 0]))] H_31 := hP.app (ga_rmK.at (B := A) hR hS (fun _ h => h)).1.1
      refine va_csr (va_Run.run (va_runV (As := [.int 2]) (rest := []) ⟨hx, hb, hml, hown, hts⟩ (met_X7_at_4_2 l D cA e0 e1 e2 e3 d0 d1 d2 d3 d4 d5 d6 d7 N () rfl) (⟨callB_of 1 hts (lw_meth q450) rfl rfl rfl (hts _ q92) (hts _ q1104) (by decide +kernel) ⟨Nat.le_of_ble_eq_true rfl, Nat.le_of_ble_eq_true rfl⟩, hts _ q444, hts _ q448⟩) (ga_PRV ga_rmK (ga_rmS (ga_rmK.at (B := A) hR hS (fun _ h => h)) [0, 1, 2, 3] rfl rfl (by decide) (fun _ h => False.elim h)) hK ga_P0 (va_recv hK.1 hP (ci := 13) (q0 := 1) rfl rfl)) rfl rfl hl.1 rfl (lv_room (Nat.le_of_ble_eq_true rfl)) dX1_report_28 ⟨Nat.le_of_ble_eq_true rfl, Nat.le_of_ble_eq_true rfl⟩)) (fun _ _ => ?_)
      refine lv_iload_n hx hb dX1_report_31 rfl (lv_at hl 2 rfl) ?_
      obtain ⟨r_42, e_43, h⟩ := ga_gb h
      refine vp_callSi (va_Run.run (va_runV (As := [.int x2]) (rest := []) ⟨hx, hb, hml, hown, hts⟩ (met_X7_part_Cez l D cA e2 e3 d4 d5 N x2 r_42 e_43) (⟨callB_of 1 hts (lw_meth q1112) rfl rfl rfl (hts _ q92) (hts _ q1105) (by decide +kernel) ⟨Nat.le_of_ble_eq_true rfl, Nat.le_of_ble_eq_true rfl⟩, hts _ q1106, hts _ q1108⟩) (ga_PRV ga_rmK (ga_rmS (ga_rmK.at (B := A) hR hS (fun _ h => h)) [2] rfl rfl (by decide) (fun _ h => False.elim h)) hK ga_P0 (va_recv hK.1 hP (ci := 10) (q0 := 3) rfl rfl)) rfl rfl hl.1 rfl (lv_room (Nat.le_of_ble_eq_true rfl)) dX1_report_32 ⟨Nat.le_of_ble_eq_true rfl, Nat.le_of_ble_eq_true rfl⟩)) (fun z_44 w_45 => ?_)
      obtain rfl := w_45
      have hP9 := hP.sub (ws' := [(x, .inr (1, [.ref g, xs, .ref e0, .ref xi, .int xl, xr, xq]))]) [0] rfl
      have hD9 := hD.sub (ws' := [(x, .inr (1, [.ref g, xs, .ref e0, .ref xi, .int xl, xr, xq]))]) [0] (by decide) rfl
      obtain rfl := Option.some.inj h
      refine vx_ret ?_
      exact W.iret hx hb hr (fun t ht hW => ⟨⟨_, (), rfl, ⟨_, rfl, rfl, rfl⟩, ⟨by rw [ht]; exact hP9, hK.warm hW, hD9⟩⟩, hS.F ht⟩) hS.2.2 dX1_report_35
abbrev rm_X1_report_4_3 : Room := { frames := 7, cells := 2, slots := 12, locals := 120 }
def F_X1_report_4_3 (N : Nat) (xl : Int32) (d0 : Int32) (d1 : Int32) (d2 : Int32) (d3 : Int32) (d4 : Int32) (d5 : Int32) (d6 : Int32) (d7 : Int32) (x2 : Int32) : Option ((Int32 × Unit) ⊕ Nat) :=
  ((F_X1_inRange N 3 0 3).bind fun r_6 =>
  ((F_X1_checkFound N r_6).bind fun r_11 => ga_sw r_11 (fun v_20 =>
  ((F_X1_inRange N x2 0 1).bind fun r_22 =>
  ((F_X1_checkArgument N r_22).bind fun r_27 => ga_sw r_27 (fun v_36 =>
  ((F_X7_part_Wa N d6 d7 x2).bind fun r_42 =>
  some (.inl (r_42, ())))) (fun u_32 =>
  some (.inr u_32))))) (fun u_16 =>
  some (.inr u_16))))
set_option maxHeartbeats 4000000 in
theorem met_X1_report_4_3 (l : Launch) (D : va_G) (cA : Nat → ClassId) (A : Nat → Prop) (x : Nat) (g : Nat) (xs : Value) (e0 : Nat) (xi : Nat) (xr : Value) (xq : Value) (e1 : Nat) (e2 : Nat) (e3 : Nat) (zs : Nat → Nat) (xl : Int32) (d0 : Int32) (d1 : Int32) (d2 : Int32) (d3 : Int32) (d4 : Int32) (d5 : Int32) (d6 : Int32) (d7 : Int32) (N : Nat) (x2 : Int32)  (hstk : l.stackTraces = false) (out : (Int32 × Unit) ⊕ Nat) (h : F_X1_report_4_3 N xl d0 d1 d2 d3 d4 d5 d6 d7 x2 = some out) : vx_Met l yX1_report (ws_ yX1_report cX1_report 3 (some .int)) rm_X1_report_4_3 (ga_XR D cA zs A (ga_rm D [(e0, .inr (13, [.int d0, .int d1, .ref e1, .null, .null, .null, .null, .int 0])), (e1, .inr (12, [.int d2, .int d3, .ref e2, .null, .null, .null, .null, .int 0])), (e2, .inr (10, [.int d4, .int d5, .ref e3, .null, .null, .null, .null, .int 0])), (e3, .inr (11, [.int d6, .int d7, .null, .null, .null, .null, .null, .int 0]))]) [(x, .inr (1, [.ref g, xs, .ref e0, .ref xi, .int xl, xr, xq]))] [.ref x, .int 3, .int x2]) (va_Qi (fun (r : Int32) (u : Unit) => ∃ v, out = .inl v ∧ (v.1 = r) ∧ v.2 = u) (fun (u : Unit) (t : State) => va_P D ga_cl [(x, .inr (1, [.ref g, xs, .ref e0, .ref xi, .int xl, xr, xq]))] t.heap ∧ ga_K D cA t ∧ va_D A [(x, .inr (1, [.ref g, xs, .ref e0, .ref xi, .int xl, xr, xq]))]) A) (vx_X (fun (u : Nat) => out = .inr u) (fun (E : String) (q9 : Nat) (u : Nat) (t : State) => E = ga_en u ∧ va_P D ga_cl [(x, .inr (1, [.ref g, xs, .ref e0, .ref xi, .int xl, xr, xq]))] t.heap ∧ va_D A [(x, .inr (1, [.ref g, xs, .ref e0, .ref xi, .int xl, xr, xq]))]) A) 2 12 A := by
  refine vx_ofW (cc := cX1_report) (maxL := 3) (ret := (some .int)) (by decide) rfl ?_
  intro p e s m args below meth c s₁ B hml htab hv
  have hX : ga_cx2 c l := ⟨htab, hstk⟩
  obtain ⟨rfl, hP, hK, hD, hA, hST, hR⟩ := hv
  have hS : va_S A s.heap s.heap [] := va_S.rf
  have C : ga_cx p m c meth s _ RX1 cX1_report 3 (some .int) := ga_cx_of B hml
  have C0 := C
  obtain ⟨hx, hb, hr, hlocks, hml, hown, hts⟩ := C0
  have hl := lv_entry ([.ref x, .int 3, .int x2]) (n := 3) (Nat.le_of_ble_eq_true rfl)
  rw [lg_entry_eq]
  generalize (lg_sl ([.ref x, .int 3, .int x2]) ++ List.replicate (3 - (lg_sl ([.ref x, .int 3, .int x2])).length) Slot.unset).toArray = ls at hl ⊢
  have hl : lv_has ls 3 [(0, .ref x), (1, .int 3), (2, .int x2)] := hl
  rw [F_X1_report_4_3] at h
  refine lv_iload_n hx hb dX1_report_0 rfl (lv_at hl 1 rfl) ?_
  refine lv_iconst (v := 0) hx hb dX1_report_1 (by decide) ?_
  refine lv_aload_n hx hb dX1_report_2 rfl (lv_at hl 0 rfl) ?_
  refine vp_callSi (va_Run.run (va_runV (As := []) (rest := [.int 0, .int 3]) ⟨hx, hb, hml, hown, hts⟩ (met_X1_levels_4 l D cA x g xs e0 xi xr xq e1 e2 e3 xl d0 d1 d2 d3 d4 d5 d6 d7 N 4 rfl) (cwV 0 hts (lw_V q1103 q432 q433 q67 q434) rfl rfl rfl (by decide +kernel) ⟨Nat.le_of_ble_eq_true rfl, Nat.le_of_ble_eq_true rfl⟩) (ga_PRV ga_rmK (ga_rmS (ga_rmK.at (B := A) hR hS (fun _ h => h)) [0, 1, 2, 3] rfl rfl (by decide) (fun _ h => False.elim h)) hK (hP.sub (ws' := [(x, .inr (1, [.ref g, xs, .ref e0, .ref xi, .int xl, xr, xq]))]) [0] rfl) (va_recv hK.1 hP (ci := 1) (q0 := 0) rfl rfl)) rfl rfl hl.1 rfl (lv_room (Nat.le_of_ble_eq_true rfl)) dX1_report_3 ⟨Nat.le_of_ble_eq_true rfl, Nat.le_of_ble_eq_true rfl⟩)) (fun z_3 w_4 => ?_)
  obtain rfl := w_4
  refine lv_iconst (v := 1) hx hb dX1_report_6 (by decide) ?_
  refine lv_isub hx hb dX1_report_7 ?_
  refine W.eq (g2 := F0 m 8 ls [.int 3, .int 0, .int 3]) rfl ?_
  obtain ⟨r_6, e_7, h⟩ := ga_gb h
  refine vp_callSi (va_Run.run (va_runS (As := [.int 3, .int 0, .int 3]) (rest := []) ⟨hx, hb, hml, hown, hts⟩ (met_X1_inRange l D cA N 3 0 3 r_6 e_7) (va_cwS 3 hts (lw_S q487 q488 q67 q489) rfl rfl rfl (by decide +kernel) ⟨Nat.le_of_ble_eq_true rfl, Nat.le_of_ble_eq_true rfl⟩) (ga_PS hK ga_P0) rfl rfl hl.1 rfl (lv_room (Nat.le_of_ble_eq_true rfl)) dX1_report_8 ⟨Nat.le_of_ble_eq_true rfl, Nat.le_of_ble_eq_true rfl⟩)) (fun z_8 w_9 => ?_)
  obtain ⟨rfl, b_10⟩ := w_9
  obtain ⟨r_11, e_12, h⟩ := ga_gb h
  have hFc := va_free (wc := []) hD hS hA [] rfl
  refine vx_callv (vx_runS (As := [.int r_6]) (rest := []) ⟨hx, hb, hml, hown, hts⟩ (met_X1_checkFound l D cA (va_A [] s.heap.size) zs N r_6 hX.2 r_11 e_12) (va_cwS 1 hts (lw_S q964 q965 q67 q966) rfl rfl rfl (by decide +kernel) ⟨Nat.le_of_ble_eq_true rfl, Nat.le_of_ble_eq_true rfl⟩) (ga_XS hK ga_P0 (hD.sub (ws' := []) [] (by decide) rfl).self (fun _ hq => Or.inr hq) (hST.at hS hFc)) rfl rfl hl.1 rfl (lv_room (Nat.le_of_ble_eq_true rfl)) dX1_report_11 ⟨Nat.le_of_ble_eq_true rfl, Nat.le_of_ble_eq_true rfl⟩) hS (fun q _ hq => hFc q hq) hFc (fun q _ hq => hFc q hq) (fun E_18 ce q_19 u_16 t H_17 locs ht _ w_14 hB _ hk hS hce hcv hcl => ?_) (fun u_16 t H_15 locs ht _ w_14 hB _ hk hS => ?_)
  · replace h := ga_swr w_14 h
    obtain ⟨eE, hP1, hD1⟩ := hB
    rw [ht] at hP1
    obtain ⟨hP, hD⟩ := va_join (wr := [(x, .inr (1, [.ref g, xs, .ref e0, .ref xi, .int xl, xr, xq]))]) (w1 := []) hP hD [] [0] rfl rfl (by decide) (by decide) hk hFc hP1 hD1
    have hP : va_P D ga_cl [(x, .inr (1, [.ref g, xs, .ref e0, .ref xi, .int xl, xr, xq]))] H_17 := hP
    have hD : va_D A [(x, .inr (1, [.ref g, xs, .ref e0, .ref xi, .int xl, xr, xq]))] := hD
    have hP9 := hP.sub (ws' := [(x, .inr (1, [.ref g, xs, .ref e0, .ref xi, .int xl, xr, xq]))]) [0] rfl
    have hD9 := hD.sub (ws' := [(x, .inr (1, [.ref g, xs, .ref e0, .ref xi, .int xl, xr, xq]))]) [0] (by decide) rfl
    obtain rfl := Option.some.inj h
    exact vx_out (fun x hx9 => (hX.1 x hx9).elim) hlocks hce hcv hcl (fun t ht _ => ⟨u_16, rfl, ⟨eE, by rw [ht]; exact hP9, hD9⟩, hS.F ht⟩) hS.2.2 (by decide) (by decide)
  · obtain ⟨v_20, ev_20, hv9⟩ := w_14
    replace h := ga_swl ev_20 h
    obtain rfl := hv9
    obtain ⟨hP1, -, hD1⟩ := hB
    rw [ht] at hP1
    obtain ⟨hP, hD⟩ := va_join (wr := [(x, .inr (1, [.ref g, xs, .ref e0, .ref xi, .int xl, xr, xq]))]) (w1 := []) hP hD [] [0] rfl rfl (by decide) (by decide) hk hFc hP1 hD1
    have hP : va_P D ga_cl [(x, .inr (1, [.ref g, xs, .ref e0, .ref xi, .int xl, xr, xq]))] H_15 := hP
    have hD : va_D A [(x, .inr (1, [.ref g, xs, .ref e0, .ref xi, .int xl, xr, xq]))] := hD
    refine W.cs (cells' := 1) (slots' := 6) rfl rfl ?_
    refine lv_iload_n hx hb dX1_report_14 rfl (lv_at hl 2 rfl) ?_
    refine lv_iconst (v := 0) hx hb dX1_report_15 (by decide) ?_
    refine lv_iconst (v := 1) hx hb dX1_report_16 (by decide) ?_
    obtain ⟨r_22, e_23, h⟩ := ga_gb h
    refine vp_callSi (va_Run.run (va_runS (As := [.int x2, .int 0, .int 1]) (rest := []) ⟨hx, hb, hml, hown, hts⟩ (met_X1_inRange l D cA N x2 0 1 r_22 e_23) (va_cwS 3 hts (lw_S q487 q488 q67 q489) rfl rfl rfl (by decide +kernel) ⟨Nat.le_of_ble_eq_true rfl, Nat.le_of_ble_eq_true rfl⟩) (ga_PS hK ga_P0) rfl rfl hl.1 rfl (lv_room (Nat.le_of_ble_eq_true rfl)) dX1_report_17 ⟨Nat.le_of_ble_eq_true rfl, Nat.le_of_ble_eq_true rfl⟩)) (fun z_24 w_25 => ?_)
    obtain ⟨rfl, b_26⟩ := w_25
    obtain ⟨r_27, e_28, h⟩ := ga_gb h
    have hFc := va_free (wc := []) hD hS hA [] rfl
    refine vx_callv (vx_runS (As := [.int r_22]) (rest := []) ⟨hx, hb, hml, hown, hts⟩ (met_X1_checkArgument l D cA (va_A [] H_15.size) zs N r_22 hX.2 r_27 e_28) (va_cwS 1 hts (lw_S q490 q491 q67 q492) rfl rfl rfl (by decide +kernel) ⟨Nat.le_of_ble_eq_true rfl, Nat.le_of_ble_eq_true rfl⟩) (ga_XS hK ga_P0 (hD.sub (ws' := []) [] (by decide) rfl).self (fun _ hq => Or.inr hq) (hST.at hS hFc)) rfl rfl hl.1 rfl (lv_room (Nat.le_of_ble_eq_true rfl)) dX1_report_20 ⟨Nat.le_of_ble_eq_true rfl, Nat.le_of_ble_eq_true rfl⟩) hS (fun q _ hq => hFc q hq) hFc (fun q _ hq => hFc q hq) (fun E_34 ce q_35 u_32 t H_33 locs ht _ w_30 hB _ hk hS hce hcv hcl => ?_) (fun u_32 t H_31 locs ht _ w_30 hB _ hk hS => ?_)
    · replace h := ga_swr w_30 h
      obtain ⟨eE, hP1, hD1⟩ := hB
      rw [ht] at hP1
      obtain ⟨hP, hD⟩ := va_join (wr := [(x, .inr (1, [.ref g, xs, .ref e0, .ref xi, .int xl, xr, xq]))]) (w1 := []) hP hD [] [0] rfl rfl (by decide) (by decide) hk hFc hP1 hD1
      have hP : va_P D ga_cl [(x, .inr (1, [.ref g, xs, .ref e0, .ref xi, .int xl, xr, xq]))] H_33 := hP
      have hD : va_D A [(x, .inr (1, [.ref g, xs, .ref e0, .ref xi, .int xl, xr, xq]))] := hD
      have hP9 := hP.sub (ws' := [(x, .inr (1, [.ref g, xs, .ref e0, .ref xi, .int xl, xr, xq]))]) [0] rfl
      have hD9 := hD.sub (ws' := [(x, .inr (1, [.ref g, xs, .ref e0, .ref xi, .int xl, xr, xq]))]) [0] (by decide) rfl
      obtain rfl := Option.some.inj h
      exact vx_out (fun x hx9 => (hX.1 x hx9).elim) hlocks hce hcv hcl (fun t ht _ => ⟨u_32, rfl, ⟨eE, by rw [ht]; exact hP9, hD9⟩, hS.F ht⟩) hS.2.2 (by decide) (by decide)
    · obtain ⟨v_36, ev_36, hv9⟩ := w_30
      replace h := ga_swl ev_36 h
      obtain rfl := hv9
      obtain ⟨hP1, -, hD1⟩ := hB
      rw [ht] at hP1
      obtain ⟨hP, hD⟩ := va_join (wr := [(x, .inr (1, [.ref g, xs, .ref e0, .ref xi, .int xl, xr, xq]))]) (w1 := []) hP hD [] [0] rfl rfl (by decide) (by decide) hk hFc hP1 hD1
      have hP : va_P D ga_cl [(x, .inr (1, [.ref g, xs, .ref e0, .ref xi, .int xl, xr, xq]))] H_31 := hP
      have hD : va_D A [(x, .inr (1, [.ref g, xs, .ref e0, .ref xi, .int xl, xr, xq]))] := hD
      refine W.cs (cells' := 2) (slots' := 12) rfl rfl ?_
      refine lv_aload_n hx hb dX1_report_23 rfl (lv_at hl 0 rfl) ?_
      refine va_get hx hb hts in_X1 hown hK.1 hP 0 (fs := [.ref g, xs, .ref e0, .ref xi, .int xl, xr, xq]) rfl rfl 2 (by decide) (hts _ q352) (fun _ hh => hh) (v := .ref e0) rfl dX1_report_24 ?_
      refine lv_iload_n hx hb dX1_report_27 rfl (lv_at hl 1 rfl) ?_
      have hP : va_P D ga_cl [(x, .inr (1, [.ref g, xs, .ref e0, .ref xi, .int xl, xr, xq])), (e0, .inr (13, [.int d0, .int d1, .ref e1, .null, .null, .null, .null, .int 0])), (e1, .inr (12, [.int d2, .int d3, .ref e2, .null, .null, .null, .null, .int 0])), (e2, .inr (10, [.int d4, .int d5, .ref e3, .null, .null, .null, .null, .int 0])), (e3, .inr (11, [.int d6, .int d7, .null, .null, .null, .null, .null, .int 0]))] H_31 := hP.app (ga_rmK.at (B := A) hR hS (fun _ h => h)).1.1
      refine va_csr (va_Run.run (va_runV (As := [.int 3]) (rest := []) ⟨hx, hb, hml, hown, hts⟩ (met_X7_at_4_3 l D cA e0 e1 e2 e3 d0 d1 d2 d3 d4 d5 d6 d7 N () rfl) (⟨callB_of 1 hts (lw_meth q450) rfl rfl rfl (hts _ q92) (hts _ q1104) (by decide +kernel) ⟨Nat.le_of_ble_eq_true rfl, Nat.le_of_ble_eq_true rfl⟩, hts _ q444, hts _ q448⟩) (ga_PRV ga_rmK (ga_rmS (ga_rmK.at (B := A) hR hS (fun _ h => h)) [0, 1, 2, 3] rfl rfl (by decide) (fun _ h => False.elim h)) hK ga_P0 (va_recv hK.1 hP (ci := 13) (q0 := 1) rfl rfl)) rfl rfl hl.1 rfl (lv_room (Nat.le_of_ble_eq_true rfl)) dX1_report_28 ⟨Nat.le_of_ble_eq_true rfl, Nat.le_of_ble_eq_true rfl⟩)) (fun _ _ => ?_)
      refine lv_iload_n hx hb dX1_report_31 rfl (lv_at hl 2 rfl) ?_
      obtain ⟨r_42, e_43, h⟩ := ga_gb h
      refine vp_callSi (va_Run.run (va_runV (As := [.int x2]) (rest := []) ⟨hx, hb, hml, hown, hts⟩ (met_X7_part_Wa l D cA e3 d6 d7 N x2 r_42 e_43) (⟨callB_of 1 hts (lw_meth q1112) rfl rfl rfl (hts _ q92) (hts _ q1105) (by decide +kernel) ⟨Nat.le_of_ble_eq_true rfl, Nat.le_of_ble_eq_true rfl⟩, hts _ q1106, hts _ q1111⟩) (ga_PRV ga_rmK (ga_rmS (ga_rmK.at (B := A) hR hS (fun _ h => h)) [3] rfl rfl (by decide) (fun _ h => False.elim h)) hK ga_P0 (va_recv hK.1 hP (ci := 11) (q0 := 4) rfl rfl)) rfl rfl hl.1 rfl (lv_room (Nat.le_of_ble_eq_true rfl)) dX1_report_32 ⟨Nat.le_of_ble_eq_true rfl, Nat.le_of_ble_eq_true rfl⟩)) (fun z_44 w_45 => ?_)
      obtain rfl := w_45
      have hP9 := hP.sub (ws' := [(x, .inr (1, [.ref g, xs, .ref e0, .ref xi, .int xl, xr, xq]))]) [0] rfl
      have hD9 := hD.sub (ws' := [(x, .inr (1, [.ref g, xs, .ref e0, .ref xi, .int xl, xr, xq]))]) [0] (by decide) rfl
      obtain rfl := Option.some.inj h
      refine vx_ret ?_
      exact W.iret hx hb hr (fun t ht hW => ⟨⟨_, (), rfl, ⟨_, rfl, rfl, rfl⟩, ⟨by rw [ht]; exact hP9, hK.warm hW, hD9⟩⟩, hS.F ht⟩) hS.2.2 dX1_report_35
abbrev rm_X1_report_4_o : Room := { frames := 7, cells := 2, slots := 12, locals := 120 }
def F_X1_report_4_o (N : Nat) (xl : Int32) (d0 : Int32) (d1 : Int32) (d2 : Int32) (d3 : Int32) (d4 : Int32) (d5 : Int32) (d6 : Int32) (d7 : Int32) (x1 : Int32) (x2 : Int32) : Option ((Int32 × Unit) ⊕ Nat) :=
  ((F_X1_inRange N x1 0 3).bind fun r_6 =>
  ((F_X1_checkFound N r_6).bind fun r_11 => ga_sw r_11 (fun v_20 =>
  ((F_X1_inRange N x2 0 1).bind fun r_22 =>
  ((F_X1_checkArgument N r_22).bind fun r_27 => ga_sw r_27 (fun v_36 =>
  none) (fun u_32 =>
  some (.inr u_32))))) (fun u_16 =>
  some (.inr u_16))))
set_option maxHeartbeats 4000000 in
theorem met_X1_report_4_o (l : Launch) (D : va_G) (cA : Nat → ClassId) (A : Nat → Prop) (x : Nat) (g : Nat) (xs : Value) (e0 : Nat) (xi : Nat) (xr : Value) (xq : Value) (e1 : Nat) (e2 : Nat) (e3 : Nat) (zs : Nat → Nat) (xl : Int32) (d0 : Int32) (d1 : Int32) (d2 : Int32) (d3 : Int32) (d4 : Int32) (d5 : Int32) (d6 : Int32) (d7 : Int32) (N : Nat) (x1 : Int32) (x2 : Int32)  (hstk : l.stackTraces = false) (out : (Int32 × Unit) ⊕ Nat) (h : F_X1_report_4_o N xl d0 d1 d2 d3 d4 d5 d6 d7 x1 x2 = some out) : vx_Met l yX1_report (ws_ yX1_report cX1_report 3 (some .int)) rm_X1_report_4_o (ga_XR D cA zs A (ga_rm D [(e0, .inr (13, [.int d0, .int d1, .ref e1, .null, .null, .null, .null, .int 0])), (e1, .inr (12, [.int d2, .int d3, .ref e2, .null, .null, .null, .null, .int 0])), (e2, .inr (10, [.int d4, .int d5, .ref e3, .null, .null, .null, .null, .int 0])), (e3, .inr (11, [.int d6, .int d7, .null, .null, .null, .null, .null, .int 0]))]) [(x, .inr (1, [.ref g, xs, .ref e0, .ref xi, .int xl, xr, xq]))] [.ref x, .int x1, .int x2]) (va_Qi (fun (r : Int32) (u : Unit) => ∃ v, out = .inl v ∧ (v.1 = r) ∧ v.2 = u) (fun (u : Unit) (t : State) => va_P D ga_cl [(x, .inr (1, [.ref g, xs, .ref e0, .ref xi, .int xl, xr, xq]))] t.heap ∧ ga_K D cA t ∧ va_D A [(x, .inr (1, [.ref g, xs, .ref e0, .ref xi, .int xl, xr, xq]))]) A) (vx_X (fun (u : Nat) => out = .inr u) (fun (E : String) (q9 : Nat) (u : Nat) (t : State) => E = ga_en u ∧ va_P D ga_cl [(x, .inr (1, [.ref g, xs, .ref e0, .ref xi, .int xl, xr, xq]))] t.heap ∧ va_D A [(x, .inr (1, [.ref g, xs, .ref e0, .ref xi, .int xl, xr, xq]))]) A) 2 12 A := by
  refine vx_ofW (cc := cX1_report) (maxL := 3) (ret := (some .int)) (by decide) rfl ?_
  intro p e s m args below meth c s₁ B hml htab hv
  have hX : ga_cx2 c l := ⟨htab, hstk⟩
  obtain ⟨rfl, hP, hK, hD, hA, hST, hR⟩ := hv
  have hS : va_S A s.heap s.heap [] := va_S.rf
  have C : ga_cx p m c meth s _ RX1 cX1_report 3 (some .int) := ga_cx_of B hml
  have C0 := C
  obtain ⟨hx, hb, hr, hlocks, hml, hown, hts⟩ := C0
  have hl := lv_entry ([.ref x, .int x1, .int x2]) (n := 3) (Nat.le_of_ble_eq_true rfl)
  rw [lg_entry_eq]
  generalize (lg_sl ([.ref x, .int x1, .int x2]) ++ List.replicate (3 - (lg_sl ([.ref x, .int x1, .int x2])).length) Slot.unset).toArray = ls at hl ⊢
  have hl : lv_has ls 3 [(0, .ref x), (1, .int x1), (2, .int x2)] := hl
  rw [F_X1_report_4_o] at h
  refine lv_iload_n hx hb dX1_report_0 rfl (lv_at hl 1 rfl) ?_
  refine lv_iconst (v := 0) hx hb dX1_report_1 (by decide) ?_
  refine lv_aload_n hx hb dX1_report_2 rfl (lv_at hl 0 rfl) ?_
  refine vp_callSi (va_Run.run (va_runV (As := []) (rest := [.int 0, .int x1]) ⟨hx, hb, hml, hown, hts⟩ (met_X1_levels_4 l D cA x g xs e0 xi xr xq e1 e2 e3 xl d0 d1 d2 d3 d4 d5 d6 d7 N 4 rfl) (cwV 0 hts (lw_V q1103 q432 q433 q67 q434) rfl rfl rfl (by decide +kernel) ⟨Nat.le_of_ble_eq_true rfl, Nat.le_of_ble_eq_true rfl⟩) (ga_PRV ga_rmK (ga_rmS (ga_rmK.at (B := A) hR hS (fun _ h => h)) [0, 1, 2, 3] rfl rfl (by decide) (fun _ h => False.elim h)) hK (hP.sub (ws' := [(x, .inr (1, [.ref g, xs, .ref e0, .ref xi, .int xl, xr, xq]))]) [0] rfl) (va_recv hK.1 hP (ci := 1) (q0 := 0) rfl rfl)) rfl rfl hl.1 rfl (lv_room (Nat.le_of_ble_eq_true rfl)) dX1_report_3 ⟨Nat.le_of_ble_eq_true rfl, Nat.le_of_ble_eq_true rfl⟩)) (fun z_3 w_4 => ?_)
  obtain rfl := w_4
  refine lv_iconst (v := 1) hx hb dX1_report_6 (by decide) ?_
  refine lv_isub hx hb dX1_report_7 ?_
  refine W.eq (g2 := F0 m 8 ls [.int 3, .int 0, .int x1]) rfl ?_
  obtain ⟨r_6, e_7, h⟩ := ga_gb h
  refine vp_callSi (va_Run.run (va_runS (As := [.int x1, .int 0, .int 3]) (rest := []) ⟨hx, hb, hml, hown, hts⟩ (met_X1_inRange l D cA N x1 0 3 r_6 e_7) (va_cwS 3 hts (lw_S q487 q488 q67 q489) rfl rfl rfl (by decide +kernel) ⟨Nat.le_of_ble_eq_true rfl, Nat.le_of_ble_eq_true rfl⟩) (ga_PS hK ga_P0) rfl rfl hl.1 rfl (lv_room (Nat.le_of_ble_eq_true rfl)) dX1_report_8 ⟨Nat.le_of_ble_eq_true rfl, Nat.le_of_ble_eq_true rfl⟩)) (fun z_8 w_9 => ?_)
  obtain ⟨rfl, b_10⟩ := w_9
  obtain ⟨r_11, e_12, h⟩ := ga_gb h
  have hFc := va_free (wc := []) hD hS hA [] rfl
  refine vx_callv (vx_runS (As := [.int r_6]) (rest := []) ⟨hx, hb, hml, hown, hts⟩ (met_X1_checkFound l D cA (va_A [] s.heap.size) zs N r_6 hX.2 r_11 e_12) (va_cwS 1 hts (lw_S q964 q965 q67 q966) rfl rfl rfl (by decide +kernel) ⟨Nat.le_of_ble_eq_true rfl, Nat.le_of_ble_eq_true rfl⟩) (ga_XS hK ga_P0 (hD.sub (ws' := []) [] (by decide) rfl).self (fun _ hq => Or.inr hq) (hST.at hS hFc)) rfl rfl hl.1 rfl (lv_room (Nat.le_of_ble_eq_true rfl)) dX1_report_11 ⟨Nat.le_of_ble_eq_true rfl, Nat.le_of_ble_eq_true rfl⟩) hS (fun q _ hq => hFc q hq) hFc (fun q _ hq => hFc q hq) (fun E_18 ce q_19 u_16 t H_17 locs ht _ w_14 hB _ hk hS hce hcv hcl => ?_) (fun u_16 t H_15 locs ht _ w_14 hB _ hk hS => ?_)
  · replace h := ga_swr w_14 h
    obtain ⟨eE, hP1, hD1⟩ := hB
    rw [ht] at hP1
    obtain ⟨hP, hD⟩ := va_join (wr := [(x, .inr (1, [.ref g, xs, .ref e0, .ref xi, .int xl, xr, xq]))]) (w1 := []) hP hD [] [0] rfl rfl (by decide) (by decide) hk hFc hP1 hD1
    have hP : va_P D ga_cl [(x, .inr (1, [.ref g, xs, .ref e0, .ref xi, .int xl, xr, xq]))] H_17 := hP
    have hD : va_D A [(x, .inr (1, [.ref g, xs, .ref e0, .ref xi, .int xl, xr, xq]))] := hD
    have hP9 := hP.sub (ws' := [(x, .inr (1, [.ref g, xs, .ref e0, .ref xi, .int xl, xr, xq]))]) [0] rfl
    have hD9 := hD.sub (ws' := [(x, .inr (1, [.ref g, xs, .ref e0, .ref xi, .int xl, xr, xq]))]) [0] (by decide) rfl
    obtain rfl := Option.some.inj h
    exact vx_out (fun x hx9 => (hX.1 x hx9).elim) hlocks hce hcv hcl (fun t ht _ => ⟨u_16, rfl, ⟨eE, by rw [ht]; exact hP9, hD9⟩, hS.F ht⟩) hS.2.2 (by decide) (by decide)
  · obtain ⟨v_20, ev_20, hv9⟩ := w_14
    replace h := ga_swl ev_20 h
    obtain rfl := hv9
    obtain ⟨hP1, -, hD1⟩ := hB
    rw [ht] at hP1
    obtain ⟨hP, hD⟩ := va_join (wr := [(x, .inr (1, [.ref g, xs, .ref e0, .ref xi, .int xl, xr, xq]))]) (w1 := []) hP hD [] [0] rfl rfl (by decide) (by decide) hk hFc hP1 hD1
    have hP : va_P D ga_cl [(x, .inr (1, [.ref g, xs, .ref e0, .ref xi, .int xl, xr, xq]))] H_15 := hP
    have hD : va_D A [(x, .inr (1, [.ref g, xs, .ref e0, .ref xi, .int xl, xr, xq]))] := hD
    refine W.cs (cells' := 1) (slots' := 6) rfl rfl ?_
    refine lv_iload_n hx hb dX1_report_14 rfl (lv_at hl 2 rfl) ?_
    refine lv_iconst (v := 0) hx hb dX1_report_15 (by decide) ?_
    refine lv_iconst (v := 1) hx hb dX1_report_16 (by decide) ?_
    obtain ⟨r_22, e_23, h⟩ := ga_gb h
    refine vp_callSi (va_Run.run (va_runS (As := [.int x2, .int 0, .int 1]) (rest := []) ⟨hx, hb, hml, hown, hts⟩ (met_X1_inRange l D cA N x2 0 1 r_22 e_23) (va_cwS 3 hts (lw_S q487 q488 q67 q489) rfl rfl rfl (by decide +kernel) ⟨Nat.le_of_ble_eq_true rfl, Nat.le_of_ble_eq_true rfl⟩) (ga_PS hK ga_P0) rfl rfl hl.1 rfl (lv_room (Nat.le_of_ble_eq_true rfl)) dX1_report_17 ⟨Nat.le_of_ble_eq_true rfl, Nat.le_of_ble_eq_true rfl⟩)) (fun z_24 w_25 => ?_)
    obtain ⟨rfl, b_26⟩ := w_25
    obtain ⟨r_27, e_28, h⟩ := ga_gb h
    have hFc := va_free (wc := []) hD hS hA [] rfl
    refine vx_callv (vx_runS (As := [.int r_22]) (rest := []) ⟨hx, hb, hml, hown, hts⟩ (met_X1_checkArgument l D cA (va_A [] H_15.size) zs N r_22 hX.2 r_27 e_28) (va_cwS 1 hts (lw_S q490 q491 q67 q492) rfl rfl rfl (by decide +kernel) ⟨Nat.le_of_ble_eq_true rfl, Nat.le_of_ble_eq_true rfl⟩) (ga_XS hK ga_P0 (hD.sub (ws' := []) [] (by decide) rfl).self (fun _ hq => Or.inr hq) (hST.at hS hFc)) rfl rfl hl.1 rfl (lv_room (Nat.le_of_ble_eq_true rfl)) dX1_report_20 ⟨Nat.le_of_ble_eq_true rfl, Nat.le_of_ble_eq_true rfl⟩) hS (fun q _ hq => hFc q hq) hFc (fun q _ hq => hFc q hq) (fun E_34 ce q_35 u_32 t H_33 locs ht _ w_30 hB _ hk hS hce hcv hcl => ?_) (fun u_32 t H_31 locs ht _ w_30 hB _ hk hS => ?_)
    · replace h := ga_swr w_30 h
      obtain ⟨eE, hP1, hD1⟩ := hB
      rw [ht] at hP1
      obtain ⟨hP, hD⟩ := va_join (wr := [(x, .inr (1, [.ref g, xs, .ref e0, .ref xi, .int xl, xr, xq]))]) (w1 := []) hP hD [] [0] rfl rfl (by decide) (by decide) hk hFc hP1 hD1
      have hP : va_P D ga_cl [(x, .inr (1, [.ref g, xs, .ref e0, .ref xi, .int xl, xr, xq]))] H_33 := hP
      have hD : va_D A [(x, .inr (1, [.ref g, xs, .ref e0, .ref xi, .int xl, xr, xq]))] := hD
      have hP9 := hP.sub (ws' := [(x, .inr (1, [.ref g, xs, .ref e0, .ref xi, .int xl, xr, xq]))]) [0] rfl
      have hD9 := hD.sub (ws' := [(x, .inr (1, [.ref g, xs, .ref e0, .ref xi, .int xl, xr, xq]))]) [0] (by decide) rfl
      obtain rfl := Option.some.inj h
      exact vx_out (fun x hx9 => (hX.1 x hx9).elim) hlocks hce hcv hcl (fun t ht _ => ⟨u_32, rfl, ⟨eE, by rw [ht]; exact hP9, hD9⟩, hS.F ht⟩) hS.2.2 (by decide) (by decide)
    · obtain ⟨v_36, ev_36, hv9⟩ := w_30
      replace h := ga_swl ev_36 h
      obtain rfl := hv9
      obtain ⟨hP1, -, hD1⟩ := hB
      rw [ht] at hP1
      obtain ⟨hP, hD⟩ := va_join (wr := [(x, .inr (1, [.ref g, xs, .ref e0, .ref xi, .int xl, xr, xq]))]) (w1 := []) hP hD [] [0] rfl rfl (by decide) (by decide) hk hFc hP1 hD1
      have hP : va_P D ga_cl [(x, .inr (1, [.ref g, xs, .ref e0, .ref xi, .int xl, xr, xq]))] H_31 := hP
      have hD : va_D A [(x, .inr (1, [.ref g, xs, .ref e0, .ref xi, .int xl, xr, xq]))] := hD
      refine W.cs (cells' := 2) (slots' := 12) rfl rfl ?_
      refine lv_aload_n hx hb dX1_report_23 rfl (lv_at hl 0 rfl) ?_
      refine va_get hx hb hts in_X1 hown hK.1 hP 0 (fs := [.ref g, xs, .ref e0, .ref xi, .int xl, xr, xq]) rfl rfl 2 (by decide) (hts _ q352) (fun _ hh => hh) (v := .ref e0) rfl dX1_report_24 ?_
      refine lv_iload_n hx hb dX1_report_27 rfl (lv_at hl 1 rfl) ?_
      cases h
def F_X1_report_4 (N : Nat) (xl : Int32) (d0 : Int32) (d1 : Int32) (d2 : Int32) (d3 : Int32) (d4 : Int32) (d5 : Int32) (d6 : Int32) (d7 : Int32) (x1 : Int32) (x2 : Int32) : Option ((Int32 × Unit) ⊕ Nat) :=
  (if x1 = 0 then F_X1_report_4_0 N xl d0 d1 d2 d3 d4 d5 d6 d7 x2 else (if x1 = 1 then F_X1_report_4_1 N xl d0 d1 d2 d3 d4 d5 d6 d7 x2 else (if x1 = 2 then F_X1_report_4_2 N xl d0 d1 d2 d3 d4 d5 d6 d7 x2 else (if x1 = 3 then F_X1_report_4_3 N xl d0 d1 d2 d3 d4 d5 d6 d7 x2 else F_X1_report_4_o N xl d0 d1 d2 d3 d4 d5 d6 d7 x1 x2))))
theorem met_X1_report_4 (l : Launch) (D : va_G) (cA : Nat → ClassId) (A : Nat → Prop) (x : Nat) (g : Nat) (xs : Value) (e0 : Nat) (xi : Nat) (xr : Value) (xq : Value) (e1 : Nat) (e2 : Nat) (e3 : Nat) (zs : Nat → Nat) (xl : Int32) (d0 : Int32) (d1 : Int32) (d2 : Int32) (d3 : Int32) (d4 : Int32) (d5 : Int32) (d6 : Int32) (d7 : Int32) (N : Nat) (x1 : Int32) (x2 : Int32)  (hstk : l.stackTraces = false) (out : (Int32 × Unit) ⊕ Nat) (h : F_X1_report_4 N xl d0 d1 d2 d3 d4 d5 d6 d7 x1 x2 = some out) : vx_Met l yX1_report (ws_ yX1_report cX1_report 3 (some .int)) rm_X1_report_4_o (ga_XR D cA zs A (ga_rm D [(e0, .inr (13, [.int d0, .int d1, .ref e1, .null, .null, .null, .null, .int 0])), (e1, .inr (12, [.int d2, .int d3, .ref e2, .null, .null, .null, .null, .int 0])), (e2, .inr (10, [.int d4, .int d5, .ref e3, .null, .null, .null, .null, .int 0])), (e3, .inr (11, [.int d6, .int d7, .null, .null, .null, .null, .null, .int 0]))]) [(x, .inr (1, [.ref g, xs, .ref e0, .ref xi, .int xl, xr, xq]))] [.ref x, .int x1, .int x2]) (va_Qi (fun (r : Int32) (u : Unit) => ∃ v, out = .inl v ∧ (v.1 = r) ∧ v.2 = u) (fun (u : Unit) (t : State) => va_P D ga_cl [(x, .inr (1, [.ref g, xs, .ref e0, .ref xi, .int xl, xr, xq]))] t.heap ∧ ga_K D cA t ∧ va_D A [(x, .inr (1, [.ref g, xs, .ref e0, .ref xi, .int xl, xr, xq]))]) A) (vx_X (fun (u : Nat) => out = .inr u) (fun (E : String) (q9 : Nat) (u : Nat) (t : State) => E = ga_en u ∧ va_P D ga_cl [(x, .inr (1, [.ref g, xs, .ref e0, .ref xi, .int xl, xr, xq]))] t.heap ∧ va_D A [(x, .inr (1, [.ref g, xs, .ref e0, .ref xi, .int xl, xr, xq]))]) A) 2 12 A := by
  unfold F_X1_report_4 at h
  by_cases c_0 : x1 = 0
  · replace h := ga_if1 c_0 h
    subst c_0
    exact met_X1_report_4_0 l D cA A x g xs e0 xi xr xq e1 e2 e3 zs xl d0 d1 d2 d3 d4 d5 d6 d7 N x2 hstk out h
  · replace h := ga_if0 c_0 h
    by_cases c_1 : x1 = 1
    · replace h := ga_if1 c_1 h
      subst c_1
      exact met_X1_report_4_1 l D cA A x g xs e0 xi xr xq e1 e2 e3 zs xl d0 d1 d2 d3 d4 d5 d6 d7 N x2 hstk out h
    · replace h := ga_if0 c_1 h
      by_cases c_2 : x1 = 2
      · replace h := ga_if1 c_2 h
        subst c_2
        exact met_X1_report_4_2 l D cA A x g xs e0 xi xr xq e1 e2 e3 zs xl d0 d1 d2 d3 d4 d5 d6 d7 N x2 hstk out h
      · replace h := ga_if0 c_2 h
        by_cases c_3 : x1 = 3
        · replace h := ga_if1 c_3 h
          subst c_3
          exact met_X1_report_4_3 l D cA A x g xs e0 xi xr xq e1 e2 e3 zs xl d0 d1 d2 d3 d4 d5 d6 d7 N x2 hstk out h
        · replace h := ga_if0 c_3 h
          exact met_X1_report_4_o l D cA A x g xs e0 xi xr xq e1 e2 e3 zs xl d0 d1 d2 d3 d4 d5 d6 d7 N x1 x2 hstk out h
