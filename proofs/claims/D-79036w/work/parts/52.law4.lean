abbrev rm_X0_report_0 : Room := { frames := 8, cells := 2, slots := 12, locals := 142 }
def F_X0_report_0 (N : Nat) (xl : Int32) (oF : Nat → Int64) (x1 : Int32) (x2 : Int32) : Option (Int32 × ((Nat → Int64))) :=
  ((F_X1_report_0 N xl x1 x2).bind fun r_1 => ga_sw r_1 (fun v_10 =>
  some (0, (vp_updL oF (ix 0) v_10.1.toInt64))) (fun u_6 =>
  (if u_6 = 1 then
  some (2, oF)
  else
  (if u_6 = 4 then
  some (1, oF)
  else
  none))))
set_option maxHeartbeats 4000000 in
theorem met_X0_report_0 (l : Launch) (D : va_G) (cA : Nat → ClassId) (A : Nat → Prop) (x : Nat) (g : Nat) (xs : Value) (xi : Nat) (xr : Value) (xq : Value) (o : Nat) (zs : Nat → Nat) (xl : Int32) (oF : Nat → Int64) (N : Nat) (x1 : Int32) (x2 : Int32)  (hstk : l.stackTraces = false) (out : Int32 × ((Nat → Int64))) (h : F_X0_report_0 N xl oF x1 x2 = some out) : Met l yX0_report (wsW_ yX0_report cX0_report 5 (some .int) [(0, 10, 13, 52), (0, 10, 17, 13)]) rm_X0_report_0 (ga_X D cA zs A [(x, .inr (1, [.ref g, xs, .null, .ref xi, .int xl, xr, xq])), (o, .inl (cA 1, 1, .inr (.inl oF)))] [.ref x, .int x1, .int x2, .ref o]) (va_Qi (fun (r : Int32) (u : (Nat → Int64)) => (out.1 = r) ∧ out.2 = u) (fun (u : (Nat → Int64)) (t : State) => va_P D ga_cl [(x, .inr (1, [.ref g, xs, .null, .ref xi, .int xl, xr, xq])), (o, .inl (cA 1, 1, .inr (.inl u)))] t.heap ∧ ga_K D cA t ∧ va_D A [(x, .inr (1, [.ref g, xs, .null, .ref xi, .int xl, xr, xq])), (o, .inl (cA 1, 1, .inr (.inl u)))]) A) 2 12 A := by
  refine va_MetW (cc := cX0_report) (maxL := 5) (ret := (some .int)) (hh := [(0, 10, 13, 52), (0, 10, 17, 13)]) (by decide) rfl ?_
  intro p e s m args below meth c s₁ B hml hv
  have hX : c.exceptionTable.toList = tableOf [(0, 10, 13, 52), (0, 10, 17, 13)] ∧ l.stackTraces = false := ⟨vx_table (x := yX0_report) B (atoms_spec (ws := (wsW_ yX0_report cX0_report 5 (some .int) [(0, 10, 13, 52), (0, 10, 17, 13)])) B.pre _ List.mem_cons_self), hstk⟩
  obtain ⟨rfl, hP, hK, hD, hA, hST⟩ := hv
  have hS : va_S A s.heap s.heap [] := va_S.rf
  have C : ga_cx p m c meth s _ RX0 cX0_report 5 (some .int) := ga_cxW_of B hml
  have C0 := C
  obtain ⟨hx, hb, hr, hlocks, hml, hown, hts⟩ := C0
  have hl := lv_entry ([.ref x, .int x1, .int x2, .ref o]) (n := 5) (Nat.le_of_ble_eq_true rfl)
  rw [lg_entry_eq]
  generalize (lg_sl ([.ref x, .int x1, .int x2, .ref o]) ++ List.replicate (5 - (lg_sl ([.ref x, .int x1, .int x2, .ref o])).length) Slot.unset).toArray = ls at hl ⊢
  have hl : lv_has ls 5 [(0, .ref x), (1, .int x1), (2, .int x2), (3, .ref o)] := hl
  rw [F_X0_report_0] at h
  refine lv_aload_n hx hb dX0_report_0 rfl (lv_at hl 3 rfl) ?_
  refine lv_iconst (v := 0) hx hb dX0_report_1 (by decide) ?_
  refine lv_aload_n hx hb dX0_report_2 rfl (lv_at hl 0 rfl) ?_
  refine lv_iload_n hx hb dX0_report_3 rfl (lv_at hl 1 rfl) ?_
  refine lv_iload_n hx hb dX0_report_4 rfl (lv_at hl 2 rfl) ?_
  obtain ⟨r_1, e_2, h⟩ := ga_gb h
  have hFc := va_free (wc := [(x, .inr (1, [.ref g, xs, .null, .ref xi, .int xl, xr, xq]))]) hD hS hA [0] rfl
  refine vx_calli (vx_runV (As := [.int x1, .int x2]) (rest := [.int 0, .ref o]) ⟨hx, hb, hml, hown, hts⟩ (met_X1_report_0 l D cA (va_A [(x, .inr (1, [.ref g, xs, .null, .ref xi, .int xl, xr, xq]))] s.heap.size) x g xs xi xr xq zs xl N x1 x2 hX.2 r_1 e_2) (cwV 2 hts (lw_V q1099 q1100 q1101 q67 q1102) rfl rfl rfl (by decide +kernel) ⟨Nat.le_of_ble_eq_true rfl, Nat.le_of_ble_eq_true rfl⟩) (ga_XV hK (hP.sub (ws' := [(x, .inr (1, [.ref g, xs, .null, .ref xi, .int xl, xr, xq]))]) [0] rfl) (hD.sub (ws' := [(x, .inr (1, [.ref g, xs, .null, .ref xi, .int xl, xr, xq]))]) [0] (by decide) rfl).self (fun _ hq => Or.inr hq) (hST.at hS hFc) (va_recv hK.1 hP (ci := 1) (q0 := 0) rfl rfl)) rfl rfl hl.1 rfl (lv_room (Nat.le_of_ble_eq_true rfl)) dX0_report_5 ⟨Nat.le_of_ble_eq_true rfl, Nat.le_of_ble_eq_true rfl⟩) hS (fun q _ hq => hFc q hq) hFc (fun q _ hq => hFc q hq) (fun E_8 ce q_9 u_6 t H_7 locs ht _ w_4 hB _ hk hS hce hcv hcl => ?_) (fun z_3 u_6 t H_5 locs ht _ w_4 hB _ hk hS => ?_)
  · replace h := ga_swr w_4 h
    obtain ⟨eE, hP1, hD1⟩ := hB
    rw [ht] at hP1
    obtain ⟨hP, hD⟩ := va_join (wr := [(o, .inl (cA 1, 1, .inr (.inl oF)))]) (w1 := [(x, .inr (1, [.ref g, xs, .null, .ref xi, .int xl, xr, xq]))]) hP hD [0] [1] rfl rfl (by decide) (by decide) hk hFc hP1 hD1
    have hP : va_P D ga_cl [(o, .inl (cA 1, 1, .inr (.inl oF))), (x, .inr (1, [.ref g, xs, .null, .ref xi, .int xl, xr, xq]))] H_7 := hP
    have hD : va_D A [(o, .inl (cA 1, 1, .inr (.inl oF))), (x, .inr (1, [.ref g, xs, .null, .ref xi, .int xl, xr, xq]))] := hD
    by_cases c_11 : u_6 = 1
    · replace h := ga_ift c_11 h
      have eE : E_8 = "java/lang/IllegalArgumentException" := by rw [eE, c_11]; rfl
      subst eE
      refine vx_catch (name := "java/lang/IllegalArgumentException") hown [⟨0, 10, 13, 52⟩] ⟨0, 10, 17, 13⟩ [] (by rw [hX.1]; rfl) ((List.forall_mem_cons.mpr ⟨Or.inr ⟨by decide, "java/util/NoSuchElementException", hts _ q958, ga_ncu hST (by decide +kernel)⟩, (fun _ hz => nomatch hz)⟩)) (by decide) (by decide) (hts _ q479) (ga_nu hK q495 rfl) hce hcv hcl ?_
      refine lv_astore (lv' := [(4, .ref q_9), (0, .ref x), (1, .int x1), (2, .int x2), (3, .ref o)]) hx hb dX0_report_17 hl (by decide) rfl (fun ls hl => ?_)
      refine lv_iconst (v := 2) hx hb dX0_report_19 (by decide) ?_
      have hP9 := hP.sub (ws' := [(x, .inr (1, [.ref g, xs, .null, .ref xi, .int xl, xr, xq])), (o, .inl (cA 1, 1, .inr (.inl oF)))]) [1, 0] rfl
      have hD9 := hD.sub (ws' := [(x, .inr (1, [.ref g, xs, .null, .ref xi, .int xl, xr, xq])), (o, .inl (cA 1, 1, .inr (.inl oF)))]) [1, 0] (by decide) rfl
      obtain rfl := Option.some.inj h
      exact W.iret hx hb hr (fun t ht hW => ⟨⟨_, oF, rfl, ⟨rfl, rfl⟩, ⟨by rw [ht]; exact hP9, hK.warm hW, hD9⟩⟩, hS.F ht⟩) hS.2.2 dX0_report_20
    · replace h := ga_iff c_11 h
      by_cases c_12 : u_6 = 4
      · replace h := ga_ift c_12 h
        have eE : E_8 = "java/util/NoSuchElementException" := by rw [eE, c_12]; rfl
        subst eE
        refine vx_catch (name := "java/util/NoSuchElementException") hown [] ⟨0, 10, 13, 52⟩ [⟨0, 10, 17, 13⟩] (by rw [hX.1]; rfl) ((fun _ hz => nomatch hz)) (by decide) (by decide) (hts _ q958) (ga_nu hK q969 rfl) hce hcv hcl ?_
        refine lv_astore (lv' := [(4, .ref q_9), (0, .ref x), (1, .int x1), (2, .int x2), (3, .ref o)]) hx hb dX0_report_13 hl (by decide) rfl (fun ls hl => ?_)
        refine lv_iconst (v := 1) hx hb dX0_report_15 (by decide) ?_
        have hP9 := hP.sub (ws' := [(x, .inr (1, [.ref g, xs, .null, .ref xi, .int xl, xr, xq])), (o, .inl (cA 1, 1, .inr (.inl oF)))]) [1, 0] rfl
        have hD9 := hD.sub (ws' := [(x, .inr (1, [.ref g, xs, .null, .ref xi, .int xl, xr, xq])), (o, .inl (cA 1, 1, .inr (.inl oF)))]) [1, 0] (by decide) rfl
        obtain rfl := Option.some.inj h
        exact W.iret hx hb hr (fun t ht hW => ⟨⟨_, oF, rfl, ⟨rfl, rfl⟩, ⟨by rw [ht]; exact hP9, hK.warm hW, hD9⟩⟩, hS.F ht⟩) hS.2.2 dX0_report_16
      · replace h := ga_iff c_12 h
        cases h
  · obtain ⟨v_10, ev_10, hv9⟩ := w_4
    replace h := ga_swl ev_10 h
    obtain ⟨rfl, rfl⟩ := hv9
    obtain ⟨hP1, -, hD1⟩ := hB
    rw [ht] at hP1
    obtain ⟨hP, hD⟩ := va_join (wr := [(o, .inl (cA 1, 1, .inr (.inl oF)))]) (w1 := [(x, .inr (1, [.ref g, xs, .null, .ref xi, .int xl, xr, xq]))]) hP hD [0] [1] rfl rfl (by decide) (by decide) hk hFc hP1 hD1
    have hP : va_P D ga_cl [(o, .inl (cA 1, 1, .inr (.inl oF))), (x, .inr (1, [.ref g, xs, .null, .ref xi, .int xl, xr, xq]))] H_5 := hP
    have hD : va_D A [(o, .inl (cA 1, 1, .inr (.inl oF))), (x, .inr (1, [.ref g, xs, .null, .ref xi, .int xl, xr, xq]))] := hD
    refine W.cs (cells' := 2) (slots' := 12) rfl rfl ?_
    refine lv_i2l (v := v_10.1.toInt64) hx hb dX0_report_8 rfl ?_
    refine va_last hx hb hK.1 hP hD hS 0 1 (f := oF) rfl rfl (ga_in (by decide)) dX0_report_9 (fun H_14 locs hP hD hS => ?_)
    have hP : va_P D ga_cl [(o, .inl (cA 1, 1, .inr (.inl (vp_updL oF (ix 0) v_10.1.toInt64)))), (x, .inr (1, [.ref g, xs, .null, .ref xi, .int xl, xr, xq]))] H_14 := hP
    have hD : va_D A [(o, .inl (cA 1, 1, .inr (.inl (vp_updL oF (ix 0) v_10.1.toInt64)))), (x, .inr (1, [.ref g, xs, .null, .ref xi, .int xl, xr, xq]))] := hD
    refine lv_goto (tgt := 21) hx hb dX0_report_10 (by decide) ?_
    refine lv_iconst (v := 0) hx hb dX0_report_21 (by decide) ?_
    have hP9 := hP.sub (ws' := [(x, .inr (1, [.ref g, xs, .null, .ref xi, .int xl, xr, xq])), (o, .inl (cA 1, 1, .inr (.inl (vp_updL oF (ix 0) v_10.1.toInt64))))]) [1, 0] rfl
    have hD9 := hD.sub (ws' := [(x, .inr (1, [.ref g, xs, .null, .ref xi, .int xl, xr, xq])), (o, .inl (cA 1, 1, .inr (.inl (vp_updL oF (ix 0) v_10.1.toInt64))))]) [1, 0] (by decide) rfl
    obtain rfl := Option.some.inj h
    exact W.iret hx hb hr (fun t ht hW => ⟨⟨_, (vp_updL oF (ix 0) v_10.1.toInt64), rfl, ⟨rfl, rfl⟩, ⟨by rw [ht]; exact hP9, hK.warm hW, hD9⟩⟩, hS.F ht⟩) hS.2.2 dX0_report_22
abbrev rm_X0_report_3 : Room := { frames := 8, cells := 2, slots := 12, locals := 142 }
def F_X0_report_3 (N : Nat) (xl : Int32) (oF : Nat → Int64) (d0 : Int32) (d1 : Int32) (d2 : Int32) (d3 : Int32) (d4 : Int32) (d5 : Int32) (x1 : Int32) (x2 : Int32) : Option (Int32 × ((Nat → Int64))) :=
  ((F_X1_report_3 N xl d0 d1 d2 d3 d4 d5 x1 x2).bind fun r_1 => ga_sw r_1 (fun v_10 =>
  some (0, (vp_updL oF (ix 0) v_10.1.toInt64))) (fun u_6 =>
  (if u_6 = 1 then
  some (2, oF)
  else
  (if u_6 = 4 then
  some (1, oF)
  else
  none))))
set_option maxHeartbeats 4000000 in
theorem met_X0_report_3 (l : Launch) (D : va_G) (cA : Nat → ClassId) (A : Nat → Prop) (x : Nat) (g : Nat) (xs : Value) (e0 : Nat) (xi : Nat) (xr : Value) (xq : Value) (o : Nat) (e1 : Nat) (e2 : Nat) (zs : Nat → Nat) (xl : Int32) (oF : Nat → Int64) (d0 : Int32) (d1 : Int32) (d2 : Int32) (d3 : Int32) (d4 : Int32) (d5 : Int32) (N : Nat) (x1 : Int32) (x2 : Int32)  (hstk : l.stackTraces = false) (out : Int32 × ((Nat → Int64))) (h : F_X0_report_3 N xl oF d0 d1 d2 d3 d4 d5 x1 x2 = some out) : Met l yX0_report (wsW_ yX0_report cX0_report 5 (some .int) [(0, 10, 13, 52), (0, 10, 17, 13)]) rm_X0_report_3 (ga_XR D cA zs A (ga_rm D [(e0, .inr (13, [.int d0, .int d1, .ref e1, .null, .null, .null, .null, .int 0])), (e1, .inr (12, [.int d2, .int d3, .ref e2, .null, .null, .null, .null, .int 0])), (e2, .inr (10, [.int d4, .int d5, .null, .null, .null, .null, .null, .int 0]))]) [(x, .inr (1, [.ref g, xs, .ref e0, .ref xi, .int xl, xr, xq])), (o, .inl (cA 1, 1, .inr (.inl oF)))] [.ref x, .int x1, .int x2, .ref o]) (va_Qi (fun (r : Int32) (u : (Nat → Int64)) => (out.1 = r) ∧ out.2 = u) (fun (u : (Nat → Int64)) (t : State) => va_P D ga_cl [(x, .inr (1, [.ref g, xs, .ref e0, .ref xi, .int xl, xr, xq])), (o, .inl (cA 1, 1, .inr (.inl u)))] t.heap ∧ ga_K D cA t ∧ va_D A [(x, .inr (1, [.ref g, xs, .ref e0, .ref xi, .int xl, xr, xq])), (o, .inl (cA 1, 1, .inr (.inl u)))]) A) 2 12 A := by
  refine va_MetW (cc := cX0_report) (maxL := 5) (ret := (some .int)) (hh := [(0, 10, 13, 52), (0, 10, 17, 13)]) (by decide) rfl ?_
  intro p e s m args below meth c s₁ B hml hv
  have hX : c.exceptionTable.toList = tableOf [(0, 10, 13, 52), (0, 10, 17, 13)] ∧ l.stackTraces = false := ⟨vx_table (x := yX0_report) B (atoms_spec (ws := (wsW_ yX0_report cX0_report 5 (some .int) [(0, 10, 13, 52), (0, 10, 17, 13)])) B.pre _ List.mem_cons_self), hstk⟩
  obtain ⟨rfl, hP, hK, hD, hA, hST, hR⟩ := hv
  have hS : va_S A s.heap s.heap [] := va_S.rf
  have C : ga_cx p m c meth s _ RX0 cX0_report 5 (some .int) := ga_cxW_of B hml
  have C0 := C
  obtain ⟨hx, hb, hr, hlocks, hml, hown, hts⟩ := C0
  have hl := lv_entry ([.ref x, .int x1, .int x2, .ref o]) (n := 5) (Nat.le_of_ble_eq_true rfl)
  rw [lg_entry_eq]
  generalize (lg_sl ([.ref x, .int x1, .int x2, .ref o]) ++ List.replicate (5 - (lg_sl ([.ref x, .int x1, .int x2, .ref o])).length) Slot.unset).toArray = ls at hl ⊢
  have hl : lv_has ls 5 [(0, .ref x), (1, .int x1), (2, .int x2), (3, .ref o)] := hl
  rw [F_X0_report_3] at h
  refine lv_aload_n hx hb dX0_report_0 rfl (lv_at hl 3 rfl) ?_
  refine lv_iconst (v := 0) hx hb dX0_report_1 (by decide) ?_
  refine lv_aload_n hx hb dX0_report_2 rfl (lv_at hl 0 rfl) ?_
  refine lv_iload_n hx hb dX0_report_3 rfl (lv_at hl 1 rfl) ?_
  refine lv_iload_n hx hb dX0_report_4 rfl (lv_at hl 2 rfl) ?_
  obtain ⟨r_1, e_2, h⟩ := ga_gb h
  have hFc := va_free (wc := [(x, .inr (1, [.ref g, xs, .ref e0, .ref xi, .int xl, xr, xq]))]) hD hS hA [0] rfl
  refine vx_calli (vx_runV (As := [.int x1, .int x2]) (rest := [.int 0, .ref o]) ⟨hx, hb, hml, hown, hts⟩ (met_X1_report_3 l D cA (va_A [(x, .inr (1, [.ref g, xs, .ref e0, .ref xi, .int xl, xr, xq]))] s.heap.size) x g xs e0 xi xr xq e1 e2 zs xl d0 d1 d2 d3 d4 d5 N x1 x2 hX.2 r_1 e_2) (cwV 2 hts (lw_V q1099 q1100 q1101 q67 q1102) rfl rfl rfl (by decide +kernel) ⟨Nat.le_of_ble_eq_true rfl, Nat.le_of_ble_eq_true rfl⟩) (ga_XRV ga_rmK (ga_rmS (ga_rmK.at (B := A) hR hS (fun _ h => h)) [0, 1, 2] rfl rfl (by decide) hFc) hK (hP.sub (ws' := [(x, .inr (1, [.ref g, xs, .ref e0, .ref xi, .int xl, xr, xq]))]) [0] rfl) (hD.sub (ws' := [(x, .inr (1, [.ref g, xs, .ref e0, .ref xi, .int xl, xr, xq]))]) [0] (by decide) rfl).self (fun _ hq => Or.inr hq) (hST.at hS hFc) (va_recv hK.1 hP (ci := 1) (q0 := 0) rfl rfl)) rfl rfl hl.1 rfl (lv_room (Nat.le_of_ble_eq_true rfl)) dX0_report_5 ⟨Nat.le_of_ble_eq_true rfl, Nat.le_of_ble_eq_true rfl⟩) hS (fun q _ hq => hFc q hq) hFc (fun q _ hq => hFc q hq) (fun E_8 ce q_9 u_6 t H_7 locs ht _ w_4 hB _ hk hS hce hcv hcl => ?_) (fun z_3 u_6 t H_5 locs ht _ w_4 hB _ hk hS => ?_)
  · replace h := ga_swr w_4 h
    obtain ⟨eE, hP1, hD1⟩ := hB
    rw [ht] at hP1
    obtain ⟨hP, hD⟩ := va_join (wr := [(o, .inl (cA 1, 1, .inr (.inl oF)))]) (w1 := [(x, .inr (1, [.ref g, xs, .ref e0, .ref xi, .int xl, xr, xq]))]) hP hD [0] [1] rfl rfl (by decide) (by decide) hk hFc hP1 hD1
    have hP : va_P D ga_cl [(o, .inl (cA 1, 1, .inr (.inl oF))), (x, .inr (1, [.ref g, xs, .ref e0, .ref xi, .int xl, xr, xq]))] H_7 := hP
    have hD : va_D A [(o, .inl (cA 1, 1, .inr (.inl oF))), (x, .inr (1, [.ref g, xs, .ref e0, .ref xi, .int xl, xr, xq]))] := hD
    by_cases c_11 : u_6 = 1
    · replace h := ga_ift c_11 h
      have eE : E_8 = "java/lang/IllegalArgumentException" := by rw [eE, c_11]; rfl
      subst eE
      refine vx_catch (name := "java/lang/IllegalArgumentException") hown [⟨0, 10, 13, 52⟩] ⟨0, 10, 17, 13⟩ [] (by rw [hX.1]; rfl) ((List.forall_mem_cons.mpr ⟨Or.inr ⟨by decide, "java/util/NoSuchElementException", hts _ q958, ga_ncu hST (by decide +kernel)⟩, (fun _ hz => nomatch hz)⟩)) (by decide) (by decide) (hts _ q479) (ga_nu hK q495 rfl) hce hcv hcl ?_
      refine lv_astore (lv' := [(4, .ref q_9), (0, .ref x), (1, .int x1), (2, .int x2), (3, .ref o)]) hx hb dX0_report_17 hl (by decide) rfl (fun ls hl => ?_)
      refine lv_iconst (v := 2) hx hb dX0_report_19 (by decide) ?_
      have hP9 := hP.sub (ws' := [(x, .inr (1, [.ref g, xs, .ref e0, .ref xi, .int xl, xr, xq])), (o, .inl (cA 1, 1, .inr (.inl oF)))]) [1, 0] rfl
      have hD9 := hD.sub (ws' := [(x, .inr (1, [.ref g, xs, .ref e0, .ref xi, .int xl, xr, xq])), (o, .inl (cA 1, 1, .inr (.inl oF)))]) [1, 0] (by decide) rfl
      obtain rfl := Option.some.inj h
      exact W.iret hx hb hr (fun t ht hW => ⟨⟨_, oF, rfl, ⟨rfl, rfl⟩, ⟨by rw [ht]; exact hP9, hK.warm hW, hD9⟩⟩, hS.F ht⟩) hS.2.2 dX0_report_20
    · replace h := ga_iff c_11 h
      by_cases c_12 : u_6 = 4
      · replace h := ga_ift c_12 h
        have eE : E_8 = "java/util/NoSuchElementException" := by rw [eE, c_12]; rfl
        subst eE
        refine vx_catch (name := "java/util/NoSuchElementException") hown [] ⟨0, 10, 13, 52⟩ [⟨0, 10, 17, 13⟩] (by rw [hX.1]; rfl) ((fun _ hz => nomatch hz)) (by decide) (by decide) (hts _ q958) (ga_nu hK q969 rfl) hce hcv hcl ?_
        refine lv_astore (lv' := [(4, .ref q_9), (0, .ref x), (1, .int x1), (2, .int x2), (3, .ref o)]) hx hb dX0_report_13 hl (by decide) rfl (fun ls hl => ?_)
        refine lv_iconst (v := 1) hx hb dX0_report_15 (by decide) ?_
        have hP9 := hP.sub (ws' := [(x, .inr (1, [.ref g, xs, .ref e0, .ref xi, .int xl, xr, xq])), (o, .inl (cA 1, 1, .inr (.inl oF)))]) [1, 0] rfl
        have hD9 := hD.sub (ws' := [(x, .inr (1, [.ref g, xs, .ref e0, .ref xi, .int xl, xr, xq])), (o, .inl (cA 1, 1, .inr (.inl oF)))]) [1, 0] (by decide) rfl
        obtain rfl := Option.some.inj h
        exact W.iret hx hb hr (fun t ht hW => ⟨⟨_, oF, rfl, ⟨rfl, rfl⟩, ⟨by rw [ht]; exact hP9, hK.warm hW, hD9⟩⟩, hS.F ht⟩) hS.2.2 dX0_report_16
      · replace h := ga_iff c_12 h
        cases h
  · obtain ⟨v_10, ev_10, hv9⟩ := w_4
    replace h := ga_swl ev_10 h
    obtain ⟨rfl, rfl⟩ := hv9
    obtain ⟨hP1, -, hD1⟩ := hB
    rw [ht] at hP1
    obtain ⟨hP, hD⟩ := va_join (wr := [(o, .inl (cA 1, 1, .inr (.inl oF)))]) (w1 := [(x, .inr (1, [.ref g, xs, .ref e0, .ref xi, .int xl, xr, xq]))]) hP hD [0] [1] rfl rfl (by decide) (by decide) hk hFc hP1 hD1
    have hP : va_P D ga_cl [(o, .inl (cA 1, 1, .inr (.inl oF))), (x, .inr (1, [.ref g, xs, .ref e0, .ref xi, .int xl, xr, xq]))] H_5 := hP
    have hD : va_D A [(o, .inl (cA 1, 1, .inr (.inl oF))), (x, .inr (1, [.ref g, xs, .ref e0, .ref xi, .int xl, xr, xq]))] := hD
    refine W.cs (cells' := 2) (slots' := 12) rfl rfl ?_
    refine lv_i2l (v := v_10.1.toInt64) hx hb dX0_report_8 rfl ?_
    refine va_last hx hb hK.1 hP hD hS 0 1 (f := oF) rfl rfl (ga_in (by decide)) dX0_report_9 (fun H_14 locs hP hD hS => ?_)
    have hP : va_P D ga_cl [(o, .inl (cA 1, 1, .inr (.inl (vp_updL oF (ix 0) v_10.1.toInt64)))), (x, .inr (1, [.ref g, xs, .ref e0, .ref xi, .int xl, xr, xq]))] H_14 := hP
    have hD : va_D A [(o, .inl (cA 1, 1, .inr (.inl (vp_updL oF (ix 0) v_10.1.toInt64)))), (x, .inr (1, [.ref g, xs, .ref e0, .ref xi, .int xl, xr, xq]))] := hD
    refine lv_goto (tgt := 21) hx hb dX0_report_10 (by decide) ?_
    refine lv_iconst (v := 0) hx hb dX0_report_21 (by decide) ?_
    have hP9 := hP.sub (ws' := [(x, .inr (1, [.ref g, xs, .ref e0, .ref xi, .int xl, xr, xq])), (o, .inl (cA 1, 1, .inr (.inl (vp_updL oF (ix 0) v_10.1.toInt64))))]) [1, 0] rfl
    have hD9 := hD.sub (ws' := [(x, .inr (1, [.ref g, xs, .ref e0, .ref xi, .int xl, xr, xq])), (o, .inl (cA 1, 1, .inr (.inl (vp_updL oF (ix 0) v_10.1.toInt64))))]) [1, 0] (by decide) rfl
    obtain rfl := Option.some.inj h
    exact W.iret hx hb hr (fun t ht hW => ⟨⟨_, (vp_updL oF (ix 0) v_10.1.toInt64), rfl, ⟨rfl, rfl⟩, ⟨by rw [ht]; exact hP9, hK.warm hW, hD9⟩⟩, hS.F ht⟩) hS.2.2 dX0_report_22
abbrev rm_X0_report_4 : Room := { frames := 8, cells := 2, slots := 12, locals := 142 }
def F_X0_report_4 (N : Nat) (xl : Int32) (oF : Nat → Int64) (d0 : Int32) (d1 : Int32) (d2 : Int32) (d3 : Int32) (d4 : Int32) (d5 : Int32) (d6 : Int32) (d7 : Int32) (x1 : Int32) (x2 : Int32) : Option (Int32 × ((Nat → Int64))) :=
  ((F_X1_report_4 N xl d0 d1 d2 d3 d4 d5 d6 d7 x1 x2).bind fun r_1 => ga_sw r_1 (fun v_10 =>
  some (0, (vp_updL oF (ix 0) v_10.1.toInt64))) (fun u_6 =>
  (if u_6 = 1 then
  some (2, oF)
  else
  (if u_6 = 4 then
  some (1, oF)
  else
  none))))
set_option maxHeartbeats 4000000 in
theorem met_X0_report_4 (l : Launch) (D : va_G) (cA : Nat → ClassId) (A : Nat → Prop) (x : Nat) (g : Nat) (xs : Value) (e0 : Nat) (xi : Nat) (xr : Value) (xq : Value) (o : Nat) (e1 : Nat) (e2 : Nat) (e3 : Nat) (zs : Nat → Nat) (xl : Int32) (oF : Nat → Int64) (d0 : Int32) (d1 : Int32) (d2 : Int32) (d3 : Int32) (d4 : Int32) (d5 : Int32) (d6 : Int32) (d7 : Int32) (N : Nat) (x1 : Int32) (x2 : Int32)  (hstk : l.stackTraces = false) (out : Int32 × ((Nat → Int64))) (h : F_X0_report_4 N xl oF d0 d1 d2 d3 d4 d5 d6 d7 x1 x2 = some out) : Met l yX0_report (wsW_ yX0_report cX0_report 5 (some .int) [(0, 10, 13, 52), (0, 10, 17, 13)]) rm_X0_report_4 (ga_XR D cA zs A (ga_rm D [(e0, .inr (13, [.int d0, .int d1, .ref e1, .null, .null, .null, .null, .int 0])), (e1, .inr (12, [.int d2, .int d3, .ref e2, .null, .null, .null, .null, .int 0])), (e2, .inr (10, [.int d4, .int d5, .ref e3, .null, .null, .null, .null, .int 0])), (e3, .inr (11, [.int d6, .int d7, .null, .null, .null, .null, .null, .int 0]))]) [(x, .inr (1, [.ref g, xs, .ref e0, .ref xi, .int xl, xr, xq])), (o, .inl (cA 1, 1, .inr (.inl oF)))] [.ref x, .int x1, .int x2, .ref o]) (va_Qi (fun (r : Int32) (u : (Nat → Int64)) => (out.1 = r) ∧ out.2 = u) (fun (u : (Nat → Int64)) (t : State) => va_P D ga_cl [(x, .inr (1, [.ref g, xs, .ref e0, .ref xi, .int xl, xr, xq])), (o, .inl (cA 1, 1, .inr (.inl u)))] t.heap ∧ ga_K D cA t ∧ va_D A [(x, .inr (1, [.ref g, xs, .ref e0, .ref xi, .int xl, xr, xq])), (o, .inl (cA 1, 1, .inr (.inl u)))]) A) 2 12 A := by
  refine va_MetW (cc := cX0_report) (maxL := 5) (ret := (some .int)) (hh := [(0, 10, 13, 52), (0, 10, 17, 13)]) (by decide) rfl ?_
  intro p e s m args below meth c s₁ B hml hv
  have hX : c.exceptionTable.toList = tableOf [(0, 10, 13, 52), (0, 10, 17, 13)] ∧ l.stackTraces = false := ⟨vx_table (x := yX0_report) B (atoms_spec (ws := (wsW_ yX0_report cX0_report 5 (some .int) [(0, 10, 13, 52), (0, 10, 17, 13)])) B.pre _ List.mem_cons_self), hstk⟩
  obtain ⟨rfl, hP, hK, hD, hA, hST, hR⟩ := hv
  have hS : va_S A s.heap s.heap [] := va_S.rf
  have C : ga_cx p m c meth s _ RX0 cX0_report 5 (some .int) := ga_cxW_of B hml
  have C0 := C
  obtain ⟨hx, hb, hr, hlocks, hml, hown, hts⟩ := C0
  have hl := lv_entry ([.ref x, .int x1, .int x2, .ref o]) (n := 5) (Nat.le_of_ble_eq_true rfl)
  rw [lg_entry_eq]
  generalize (lg_sl ([.ref x, .int x1, .int x2, .ref o]) ++ List.replicate (5 - (lg_sl ([.ref x, .int x1, .int x2, .ref o])).length) Slot.unset).toArray = ls at hl ⊢
  have hl : lv_has ls 5 [(0, .ref x), (1, .int x1), (2, .int x2), (3, .ref o)] := hl
  rw [F_X0_report_4] at h
  refine lv_aload_n hx hb dX0_report_0 rfl (lv_at hl 3 rfl) ?_
  refine lv_iconst (v := 0) hx hb dX0_report_1 (by decide) ?_
  refine lv_aload_n hx hb dX0_report_2 rfl (lv_at hl 0 rfl) ?_
  refine lv_iload_n hx hb dX0_report_3 rfl (lv_at hl 1 rfl) ?_
  refine lv_iload_n hx hb dX0_report_4 rfl (lv_at hl 2 rfl) ?_
  obtain ⟨r_1, e_2, h⟩ := ga_gb h
  have hFc := va_free (wc := [(x, .inr (1, [.ref g, xs, .ref e0, .ref xi, .int xl, xr, xq]))]) hD hS hA [0] rfl
  refine vx_calli (vx_runV (As := [.int x1, .int x2]) (rest := [.int 0, .ref o]) ⟨hx, hb, hml, hown, hts⟩ (met_X1_report_4 l D cA (va_A [(x, .inr (1, [.ref g, xs, .ref e0, .ref xi, .int xl, xr, xq]))] s.heap.size) x g xs e0 xi xr xq e1 e2 e3 zs xl d0 d1 d2 d3 d4 d5 d6 d7 N x1 x2 hX.2 r_1 e_2) (cwV 2 hts (lw_V q1099 q1100 q1101 q67 q1102) rfl rfl rfl (by decide +kernel) ⟨Nat.le_of_ble_eq_true rfl, Nat.le_of_ble_eq_true rfl⟩) (ga_XRV ga_rmK (ga_rmS (ga_rmK.at (B := A) hR hS (fun _ h => h)) [0, 1, 2, 3] rfl rfl (by decide) hFc) hK (hP.sub (ws' := [(x, .inr (1, [.ref g, xs, .ref e0, .ref xi, .int xl, xr, xq]))]) [0] rfl) (hD.sub (ws' := [(x, .inr (1, [.ref g, xs, .ref e0, .ref xi, .int xl, xr, xq]))]) [0] (by decide) rfl).self (fun _ hq => Or.inr hq) (hST.at hS hFc) (va_recv hK.1 hP (ci := 1) (q0 := 0) rfl rfl)) rfl rfl hl.1 rfl (lv_room (Nat.le_of_ble_eq_true rfl)) dX0_report_5 ⟨Nat.le_of_ble_eq_true rfl, Nat.le_of_ble_eq_true rfl⟩) hS (fun q _ hq => hFc q hq) hFc (fun q _ hq => hFc q hq) (fun E_8 ce q_9 u_6 t H_7 locs ht _ w_4 hB _ hk hS hce hcv hcl => ?_) (fun z_3 u_6 t H_5 locs ht _ w_4 hB _ hk hS => ?_)
  · replace h := ga_swr w_4 h
    obtain ⟨eE, hP1, hD1⟩ := hB
    rw [ht] at hP1
    obtain ⟨hP, hD⟩ := va_join (wr := [(o, .inl (cA 1, 1, .inr (.inl oF)))]) (w1 := [(x, .inr (1, [.ref g, xs, .ref e0, .ref xi, .int xl, xr, xq]))]) hP hD [0] [1] rfl rfl (by decide) (by decide) hk hFc hP1 hD1
    have hP : va_P D ga_cl [(o, .inl (cA 1, 1, .inr (.inl oF))), (x, .inr (1, [.ref g, xs, .ref e0, .ref xi, .int xl, xr, xq]))] H_7 := hP
    have hD : va_D A [(o, .inl (cA 1, 1, .inr (.inl oF))), (x, .inr (1, [.ref g, xs, .ref e0, .ref xi, .int xl, xr, xq]))] := hD
    by_cases c_11 : u_6 = 1
    · replace h := ga_ift c_11 h
      have eE : E_8 = "java/lang/IllegalArgumentException" := by rw [eE, c_11]; rfl
      subst eE
      refine vx_catch (name := "java/lang/IllegalArgumentException") hown [⟨0, 10, 13, 52⟩] ⟨0, 10, 17, 13⟩ [] (by rw [hX.1]; rfl) ((List.forall_mem_cons.mpr ⟨Or.inr ⟨by decide, "java/util/NoSuchElementException", hts _ q958, ga_ncu hST (by decide +kernel)⟩, (fun _ hz => nomatch hz)⟩)) (by decide) (by decide) (hts _ q479) (ga_nu hK q495 rfl) hce hcv hcl ?_
      refine lv_astore (lv' := [(4, .ref q_9), (0, .ref x), (1, .int x1), (2, .int x2), (3, .ref o)]) hx hb dX0_report_17 hl (by decide) rfl (fun ls hl => ?_)
      refine lv_iconst (v := 2) hx hb dX0_report_19 (by decide) ?_
      have hP9 := hP.sub (ws' := [(x, .inr (1, [.ref g, xs, .ref e0, .ref xi, .int xl, xr, xq])), (o, .inl (cA 1, 1, .inr (.inl oF)))]) [1, 0] rfl
      have hD9 := hD.sub (ws' := [(x, .inr (1, [.ref g, xs, .ref e0, .ref xi, .int xl, xr, xq])), (o, .inl (cA 1, 1, .inr (.inl oF)))]) [1, 0] (by decide) rfl
      obtain rfl := Option.some.inj h
      exact W.iret hx hb hr (fun t ht hW => ⟨⟨_, oF, rfl, ⟨rfl, rfl⟩, ⟨by rw [ht]; exact hP9, hK.warm hW, hD9⟩⟩, hS.F ht⟩) hS.2.2 dX0_report_20
    · replace h := ga_iff c_11 h
      by_cases c_12 : u_6 = 4
      · replace h := ga_ift c_12 h
        have eE : E_8 = "java/util/NoSuchElementException" := by rw [eE, c_12]; rfl
        subst eE
        refine vx_catch (name := "java/util/NoSuchElementException") hown [] ⟨0, 10, 13, 52⟩ [⟨0, 10, 17, 13⟩] (by rw [hX.1]; rfl) ((fun _ hz => nomatch hz)) (by decide) (by decide) (hts _ q958) (ga_nu hK q969 rfl) hce hcv hcl ?_
        refine lv_astore (lv' := [(4, .ref q_9), (0, .ref x), (1, .int x1), (2, .int x2), (3, .ref o)]) hx hb dX0_report_13 hl (by decide) rfl (fun ls hl => ?_)
        refine lv_iconst (v := 1) hx hb dX0_report_15 (by decide) ?_
        have hP9 := hP.sub (ws' := [(x, .inr (1, [.ref g, xs, .ref e0, .ref xi, .int xl, xr, xq])), (o, .inl (cA 1, 1, .inr (.inl oF)))]) [1, 0] rfl
        have hD9 := hD.sub (ws' := [(x, .inr (1, [.ref g, xs, .ref e0, .ref xi, .int xl, xr, xq])), (o, .inl (cA 1, 1, .inr (.inl oF)))]) [1, 0] (by decide) rfl
        obtain rfl := Option.some.inj h
        exact W.iret hx hb hr (fun t ht hW => ⟨⟨_, oF, rfl, ⟨rfl, rfl⟩, ⟨by rw [ht]; exact hP9, hK.warm hW, hD9⟩⟩, hS.F ht⟩) hS.2.2 dX0_report_16
      · replace h := ga_iff c_12 h
        cases h
  · obtain ⟨v_10, ev_10, hv9⟩ := w_4
    replace h := ga_swl ev_10 h
    obtain ⟨rfl, rfl⟩ := hv9
    obtain ⟨hP1, -, hD1⟩ := hB
    rw [ht] at hP1
    obtain ⟨hP, hD⟩ := va_join (wr := [(o, .inl (cA 1, 1, .inr (.inl oF)))]) (w1 := [(x, .inr (1, [.ref g, xs, .ref e0, .ref xi, .int xl, xr, xq]))]) hP hD [0] [1] rfl rfl (by decide) (by decide) hk hFc hP1 hD1
    have hP : va_P D ga_cl [(o, .inl (cA 1, 1, .inr (.inl oF))), (x, .inr (1, [.ref g, xs, .ref e0, .ref xi, .int xl, xr, xq]))] H_5 := hP
    have hD : va_D A [(o, .inl (cA 1, 1, .inr (.inl oF))), (x, .inr (1, [.ref g, xs, .ref e0, .ref xi, .int xl, xr, xq]))] := hD
    refine W.cs (cells' := 2) (slots' := 12) rfl rfl ?_
    refine lv_i2l (v := v_10.1.toInt64) hx hb dX0_report_8 rfl ?_
    refine va_last hx hb hK.1 hP hD hS 0 1 (f := oF) rfl rfl (ga_in (by decide)) dX0_report_9 (fun H_14 locs hP hD hS => ?_)
    have hP : va_P D ga_cl [(o, .inl (cA 1, 1, .inr (.inl (vp_updL oF (ix 0) v_10.1.toInt64)))), (x, .inr (1, [.ref g, xs, .ref e0, .ref xi, .int xl, xr, xq]))] H_14 := hP
    have hD : va_D A [(o, .inl (cA 1, 1, .inr (.inl (vp_updL oF (ix 0) v_10.1.toInt64)))), (x, .inr (1, [.ref g, xs, .ref e0, .ref xi, .int xl, xr, xq]))] := hD
    refine lv_goto (tgt := 21) hx hb dX0_report_10 (by decide) ?_
    refine lv_iconst (v := 0) hx hb dX0_report_21 (by decide) ?_
    have hP9 := hP.sub (ws' := [(x, .inr (1, [.ref g, xs, .ref e0, .ref xi, .int xl, xr, xq])), (o, .inl (cA 1, 1, .inr (.inl (vp_updL oF (ix 0) v_10.1.toInt64))))]) [1, 0] rfl
    have hD9 := hD.sub (ws' := [(x, .inr (1, [.ref g, xs, .ref e0, .ref xi, .int xl, xr, xq])), (o, .inl (cA 1, 1, .inr (.inl (vp_updL oF (ix 0) v_10.1.toInt64))))]) [1, 0] (by decide) rfl
    obtain rfl := Option.some.inj h
    exact W.iret hx hb hr (fun t ht hW => ⟨⟨_, (vp_updL oF (ix 0) v_10.1.toInt64), rfl, ⟨rfl, rfl⟩, ⟨by rw [ht]; exact hP9, hK.warm hW, hD9⟩⟩, hS.F ht⟩) hS.2.2 dX0_report_22
