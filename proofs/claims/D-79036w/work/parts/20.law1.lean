abbrev rm_X0_setRule : Room := { frames := 8, cells := 1, slots := 6, locals := 142 }
def F_X0_setRule (N : Nat) (xl : Int32) (gr : Int32) (oF : Nat → Int64) (x1 : Int32) : Option (Int32 × (Int32 × (Nat → Int64))) :=
  ((F_X1_setRule N xl gr x1).bind fun r_1 => ga_sw r_1 (fun v_10 =>
  some (0, (v_10.2, (vp_updL oF (ix 0) v_10.1.toInt64)))) (fun u_6 =>
  (if u_6 = 1 then
  some (1, (gr, oF))
  else
  none)))
set_option maxHeartbeats 4000000 in
theorem met_X0_setRule (l : Launch) (D : va_G) (cA : Nat → ClassId) (A : Nat → Prop) (x : Nat) (g : Nat) (xs : Value) (xp : Value) (xi : Nat) (xr : Value) (xq : Value) (sh : Nat) (al : Nat) (g_b : Nat) (g_t : Nat) (o : Nat) (zs : Nat → Nat) (xl : Int32) (gr : Int32) (oF : Nat → Int64) (N : Nat) (x1 : Int32)  (hstk : l.stackTraces = false) (out : Int32 × (Int32 × (Nat → Int64))) (h : F_X0_setRule N xl gr oF x1 = some out) : Met l yX0_setRule (wsW_ yX0_setRule cX0_setRule 4 (some .int) [(0, 9, 12, 13)]) rm_X0_setRule (ga_X D cA zs A [(x, .inr (1, [.ref g, xs, xp, .ref xi, .int xl, xr, xq])), (g, .inr (2, [.ref sh, .ref al, .int gr, .ref g_b, .ref g_t])), (o, .inl (cA 1, 1, .inr (.inl oF)))] [.ref x, .int x1, .ref o]) (va_Qi (fun (r : Int32) (u : Int32 × (Nat → Int64)) => (out.1 = r) ∧ out.2 = u) (fun (u : Int32 × (Nat → Int64)) (t : State) => va_P D ga_cl [(x, .inr (1, [.ref g, xs, xp, .ref xi, .int xl, xr, xq])), (g, .inr (2, [.ref sh, .ref al, .int u.1, .ref g_b, .ref g_t])), (o, .inl (cA 1, 1, .inr (.inl u.2)))] t.heap ∧ ga_K D cA t ∧ va_D A [(x, .inr (1, [.ref g, xs, xp, .ref xi, .int xl, xr, xq])), (g, .inr (2, [.ref sh, .ref al, .int u.1, .ref g_b, .ref g_t])), (o, .inl (cA 1, 1, .inr (.inl u.2)))]) A) 1 6 A := by
  refine va_MetW (cc := cX0_setRule) (maxL := 4) (ret := (some .int)) (hh := [(0, 9, 12, 13)]) (by decide) rfl ?_
  intro p e s m args below meth c s₁ B hml hv
  have hX : c.exceptionTable.toList = tableOf [(0, 9, 12, 13)] ∧ l.stackTraces = false := ⟨vx_table (x := yX0_setRule) B (atoms_spec (ws := (wsW_ yX0_setRule cX0_setRule 4 (some .int) [(0, 9, 12, 13)])) B.pre _ List.mem_cons_self), hstk⟩
  obtain ⟨rfl, hP, hK, hD, hA, hST⟩ := hv
  have hS : va_S A s.heap s.heap [] := va_S.rf
  have C : ga_cx p m c meth s _ RX0 cX0_setRule 4 (some .int) := ga_cxW_of B hml
  have C0 := C
  obtain ⟨hx, hb, hr, hlocks, hml, hown, hts⟩ := C0
  have hl := lv_entry ([.ref x, .int x1, .ref o]) (n := 4) (Nat.le_of_ble_eq_true rfl)
  rw [lg_entry_eq]
  generalize (lg_sl ([.ref x, .int x1, .ref o]) ++ List.replicate (4 - (lg_sl ([.ref x, .int x1, .ref o])).length) Slot.unset).toArray = ls at hl ⊢
  have hl : lv_has ls 4 [(0, .ref x), (1, .int x1), (2, .ref o)] := hl
  rw [F_X0_setRule] at h
  refine lv_aload_n hx hb dX0_setRule_0 rfl (lv_at hl 2 rfl) ?_
  refine lv_iconst (v := 0) hx hb dX0_setRule_1 (by decide) ?_
  refine lv_aload_n hx hb dX0_setRule_2 rfl (lv_at hl 0 rfl) ?_
  refine lv_iload_n hx hb dX0_setRule_3 rfl (lv_at hl 1 rfl) ?_
  obtain ⟨r_1, e_2, h⟩ := ga_gb h
  have hFc := va_free (wc := [(x, .inr (1, [.ref g, xs, xp, .ref xi, .int xl, xr, xq])), (g, .inr (2, [.ref sh, .ref al, .int gr, .ref g_b, .ref g_t]))]) hD hS hA [0, 1] rfl
  refine vx_calli (vx_runV (As := [.int x1]) (rest := [.int 0, .ref o]) ⟨hx, hb, hml, hown, hts⟩ (met_X1_setRule l D cA (va_A [(x, .inr (1, [.ref g, xs, xp, .ref xi, .int xl, xr, xq])), (g, .inr (2, [.ref sh, .ref al, .int gr, .ref g_b, .ref g_t]))] s.heap.size) x g xs xp xi xr xq sh al g_b g_t zs xl gr N x1 hX.2 r_1 e_2) (cwV 1 hts (lw_V q579 q580 q581 q67 q582) rfl rfl rfl (by decide +kernel) ⟨Nat.le_of_ble_eq_true rfl, Nat.le_of_ble_eq_true rfl⟩) (ga_XV hK (hP.sub (ws' := [(x, .inr (1, [.ref g, xs, xp, .ref xi, .int xl, xr, xq])), (g, .inr (2, [.ref sh, .ref al, .int gr, .ref g_b, .ref g_t]))]) [0, 1] rfl) (hD.sub (ws' := [(x, .inr (1, [.ref g, xs, xp, .ref xi, .int xl, xr, xq])), (g, .inr (2, [.ref sh, .ref al, .int gr, .ref g_b, .ref g_t]))]) [0, 1] (by decide) rfl).self (fun _ hq => Or.inr hq) (hST.at hS hFc) (va_recv hK.1 hP (ci := 1) (q0 := 0) rfl rfl)) rfl rfl hl.1 rfl (lv_room (Nat.le_of_ble_eq_true rfl)) dX0_setRule_4 ⟨Nat.le_of_ble_eq_true rfl, Nat.le_of_ble_eq_true rfl⟩) hS (fun q _ hq => hFc q hq) hFc (fun q _ hq => hFc q hq) (fun E_8 ce q_9 u_6 t H_7 locs ht _ w_4 hB _ hk hS hce hcv hcl => ?_) (fun z_3 u_6 t H_5 locs ht _ w_4 hB _ hk hS => ?_)
  · replace h := ga_swr w_4 h
    obtain ⟨eE, hP1, hD1⟩ := hB
    rw [ht] at hP1
    obtain ⟨hP, hD⟩ := va_join (wr := [(o, .inl (cA 1, 1, .inr (.inl oF)))]) (w1 := [(x, .inr (1, [.ref g, xs, xp, .ref xi, .int xl, xr, xq])), (g, .inr (2, [.ref sh, .ref al, .int gr, .ref g_b, .ref g_t]))]) hP hD [0, 1] [2] rfl rfl (by decide) (by decide) hk hFc hP1 hD1
    have hP : va_P D ga_cl [(o, .inl (cA 1, 1, .inr (.inl oF))), (x, .inr (1, [.ref g, xs, xp, .ref xi, .int xl, xr, xq])), (g, .inr (2, [.ref sh, .ref al, .int gr, .ref g_b, .ref g_t]))] H_7 := hP
    have hD : va_D A [(o, .inl (cA 1, 1, .inr (.inl oF))), (x, .inr (1, [.ref g, xs, xp, .ref xi, .int xl, xr, xq])), (g, .inr (2, [.ref sh, .ref al, .int gr, .ref g_b, .ref g_t]))] := hD
    by_cases c_11 : u_6 = 1
    · replace h := ga_ift c_11 h
      have eE : E_8 = "java/lang/IllegalArgumentException" := by rw [eE, c_11]; rfl
      subst eE
      refine vx_catch (name := "java/lang/IllegalArgumentException") hown [] ⟨0, 9, 12, 13⟩ [] (by rw [hX.1]; rfl) ((fun _ hz => nomatch hz)) (by decide) (by decide) (hts _ q479) (ga_nu hK q495 rfl) hce hcv hcl ?_
      refine lv_astore_n (lv' := [(3, .ref q_9), (0, .ref x), (1, .int x1), (2, .ref o)]) hx hb dX0_setRule_12 rfl hl (by decide) rfl (fun ls hl => ?_)
      refine lv_iconst (v := 1) hx hb dX0_setRule_13 (by decide) ?_
      have hP9 := hP.sub (ws' := [(x, .inr (1, [.ref g, xs, xp, .ref xi, .int xl, xr, xq])), (g, .inr (2, [.ref sh, .ref al, .int gr, .ref g_b, .ref g_t])), (o, .inl (cA 1, 1, .inr (.inl oF)))]) [1, 2, 0] rfl
      have hD9 := hD.sub (ws' := [(x, .inr (1, [.ref g, xs, xp, .ref xi, .int xl, xr, xq])), (g, .inr (2, [.ref sh, .ref al, .int gr, .ref g_b, .ref g_t])), (o, .inl (cA 1, 1, .inr (.inl oF)))]) [1, 2, 0] (by decide) rfl
      obtain rfl := Option.some.inj h
      exact W.iret hx hb hr (fun t ht hW => ⟨⟨_, (gr, oF), rfl, ⟨rfl, rfl⟩, ⟨by rw [ht]; exact hP9, hK.warm hW, hD9⟩⟩, hS.F ht⟩) hS.2.2 dX0_setRule_14
    · replace h := ga_iff c_11 h
      cases h
  · obtain ⟨v_10, ev_10, hv9⟩ := w_4
    replace h := ga_swl ev_10 h
    obtain ⟨rfl, rfl⟩ := hv9
    obtain ⟨hP1, -, hD1⟩ := hB
    rw [ht] at hP1
    obtain ⟨hP, hD⟩ := va_join (wr := [(o, .inl (cA 1, 1, .inr (.inl oF)))]) (w1 := [(x, .inr (1, [.ref g, xs, xp, .ref xi, .int xl, xr, xq])), (g, .inr (2, [.ref sh, .ref al, .int v_10.2, .ref g_b, .ref g_t]))]) hP hD [0, 1] [2] rfl rfl (by decide) (by decide) hk hFc hP1 hD1
    have hP : va_P D ga_cl [(o, .inl (cA 1, 1, .inr (.inl oF))), (x, .inr (1, [.ref g, xs, xp, .ref xi, .int xl, xr, xq])), (g, .inr (2, [.ref sh, .ref al, .int v_10.2, .ref g_b, .ref g_t]))] H_5 := hP
    have hD : va_D A [(o, .inl (cA 1, 1, .inr (.inl oF))), (x, .inr (1, [.ref g, xs, xp, .ref xi, .int xl, xr, xq])), (g, .inr (2, [.ref sh, .ref al, .int v_10.2, .ref g_b, .ref g_t]))] := hD
    refine W.cs (cells' := 1) (slots' := 6) rfl rfl ?_
    refine lv_i2l (v := v_10.1.toInt64) hx hb dX0_setRule_7 rfl ?_
    refine va_last hx hb hK.1 hP hD hS 0 1 (f := oF) rfl rfl (ga_in (by decide)) dX0_setRule_8 (fun H_13 locs hP hD hS => ?_)
    have hP : va_P D ga_cl [(o, .inl (cA 1, 1, .inr (.inl (vp_updL oF (ix 0) v_10.1.toInt64)))), (x, .inr (1, [.ref g, xs, xp, .ref xi, .int xl, xr, xq])), (g, .inr (2, [.ref sh, .ref al, .int v_10.2, .ref g_b, .ref g_t]))] H_13 := hP
    have hD : va_D A [(o, .inl (cA 1, 1, .inr (.inl (vp_updL oF (ix 0) v_10.1.toInt64)))), (x, .inr (1, [.ref g, xs, xp, .ref xi, .int xl, xr, xq])), (g, .inr (2, [.ref sh, .ref al, .int v_10.2, .ref g_b, .ref g_t]))] := hD
    refine lv_goto (tgt := 15) hx hb dX0_setRule_9 (by decide) ?_
    refine lv_iconst (v := 0) hx hb dX0_setRule_15 (by decide) ?_
    have hP9 := hP.sub (ws' := [(x, .inr (1, [.ref g, xs, xp, .ref xi, .int xl, xr, xq])), (g, .inr (2, [.ref sh, .ref al, .int v_10.2, .ref g_b, .ref g_t])), (o, .inl (cA 1, 1, .inr (.inl (vp_updL oF (ix 0) v_10.1.toInt64))))]) [1, 2, 0] rfl
    have hD9 := hD.sub (ws' := [(x, .inr (1, [.ref g, xs, xp, .ref xi, .int xl, xr, xq])), (g, .inr (2, [.ref sh, .ref al, .int v_10.2, .ref g_b, .ref g_t])), (o, .inl (cA 1, 1, .inr (.inl (vp_updL oF (ix 0) v_10.1.toInt64))))]) [1, 2, 0] (by decide) rfl
    obtain rfl := Option.some.inj h
    exact W.iret hx hb hr (fun t ht hW => ⟨⟨_, (v_10.2, (vp_updL oF (ix 0) v_10.1.toInt64)), rfl, ⟨rfl, rfl⟩, ⟨by rw [ht]; exact hP9, hK.warm hW, hD9⟩⟩, hS.F ht⟩) hS.2.2 dX0_setRule_16
abbrev rm_X0_setBonus : Room := { frames := 9, cells := 2, slots := 12, locals := 164 }
def F_X0_setBonus (N : Nat) (xl : Int32) (gr : Int32) (gB : Nat → Int32) (oF : Nat → Int64) (x1 : Int32) (x2 : Int32) : Option (Int32 × ((Nat → Int32) × (Nat → Int64))) :=
  ((F_X1_setBonus N xl gr gB x1 x2).bind fun r_1 => ga_sw r_1 (fun v_10 =>
  some (0, (v_10.2, (vp_updL oF (ix 0) v_10.1.toInt64)))) (fun u_6 =>
  (if u_6 = 1 then
  some (2, (gB, oF))
  else
  (if u_6 = 3 then
  some (1, (gB, oF))
  else
  none))))
set_option maxHeartbeats 4000000 in
theorem met_X0_setBonus (l : Launch) (D : va_G) (cA : Nat → ClassId) (A : Nat → Prop) (x : Nat) (g : Nat) (xs : Value) (xp : Value) (xi : Nat) (xr : Value) (xq : Value) (sh : Nat) (al : Nat) (g_b : Nat) (g_t : Nat) (o : Nat) (zs : Nat → Nat) (xl : Int32) (gr : Int32) (gB : Nat → Int32) (oF : Nat → Int64) (N : Nat) (x1 : Int32) (x2 : Int32)  (hstk : l.stackTraces = false) (out : Int32 × ((Nat → Int32) × (Nat → Int64))) (h : F_X0_setBonus N xl gr gB oF x1 x2 = some out) : Met l yX0_setBonus (wsW_ yX0_setBonus cX0_setBonus 5 (some .int) [(0, 10, 13, 23), (0, 10, 17, 13)]) rm_X0_setBonus (ga_X D cA zs A [(x, .inr (1, [.ref g, xs, xp, .ref xi, .int xl, xr, xq])), (g, .inr (2, [.ref sh, .ref al, .int gr, .ref g_b, .ref g_t])), (g_b, .inl (cA 0, 2, .inl gB)), (o, .inl (cA 1, 1, .inr (.inl oF)))] [.ref x, .int x1, .int x2, .ref o]) (va_Qi (fun (r : Int32) (u : (Nat → Int32) × (Nat → Int64)) => (out.1 = r) ∧ out.2 = u) (fun (u : (Nat → Int32) × (Nat → Int64)) (t : State) => va_P D ga_cl [(x, .inr (1, [.ref g, xs, xp, .ref xi, .int xl, xr, xq])), (g, .inr (2, [.ref sh, .ref al, .int gr, .ref g_b, .ref g_t])), (g_b, .inl (cA 0, 2, .inl u.1)), (o, .inl (cA 1, 1, .inr (.inl u.2)))] t.heap ∧ ga_K D cA t ∧ va_D A [(x, .inr (1, [.ref g, xs, xp, .ref xi, .int xl, xr, xq])), (g, .inr (2, [.ref sh, .ref al, .int gr, .ref g_b, .ref g_t])), (g_b, .inl (cA 0, 2, .inl u.1)), (o, .inl (cA 1, 1, .inr (.inl u.2)))]) A) 2 12 A := by
  refine va_MetW (cc := cX0_setBonus) (maxL := 5) (ret := (some .int)) (hh := [(0, 10, 13, 23), (0, 10, 17, 13)]) (by decide) rfl ?_
  intro p e s m args below meth c s₁ B hml hv
  have hX : c.exceptionTable.toList = tableOf [(0, 10, 13, 23), (0, 10, 17, 13)] ∧ l.stackTraces = false := ⟨vx_table (x := yX0_setBonus) B (atoms_spec (ws := (wsW_ yX0_setBonus cX0_setBonus 5 (some .int) [(0, 10, 13, 23), (0, 10, 17, 13)])) B.pre _ List.mem_cons_self), hstk⟩
  obtain ⟨rfl, hP, hK, hD, hA, hST⟩ := hv
  have hS : va_S A s.heap s.heap [] := va_S.rf
  have C : ga_cx p m c meth s _ RX0 cX0_setBonus 5 (some .int) := ga_cxW_of B hml
  have C0 := C
  obtain ⟨hx, hb, hr, hlocks, hml, hown, hts⟩ := C0
  have hl := lv_entry ([.ref x, .int x1, .int x2, .ref o]) (n := 5) (Nat.le_of_ble_eq_true rfl)
  rw [lg_entry_eq]
  generalize (lg_sl ([.ref x, .int x1, .int x2, .ref o]) ++ List.replicate (5 - (lg_sl ([.ref x, .int x1, .int x2, .ref o])).length) Slot.unset).toArray = ls at hl ⊢
  have hl : lv_has ls 5 [(0, .ref x), (1, .int x1), (2, .int x2), (3, .ref o)] := hl
  rw [F_X0_setBonus] at h
  refine lv_aload_n hx hb dX0_setBonus_0 rfl (lv_at hl 3 rfl) ?_
  refine lv_iconst (v := 0) hx hb dX0_setBonus_1 (by decide) ?_
  refine lv_aload_n hx hb dX0_setBonus_2 rfl (lv_at hl 0 rfl) ?_
  refine lv_iload_n hx hb dX0_setBonus_3 rfl (lv_at hl 1 rfl) ?_
  refine lv_iload_n hx hb dX0_setBonus_4 rfl (lv_at hl 2 rfl) ?_
  obtain ⟨r_1, e_2, h⟩ := ga_gb h
  have hFc := va_free (wc := [(x, .inr (1, [.ref g, xs, xp, .ref xi, .int xl, xr, xq])), (g, .inr (2, [.ref sh, .ref al, .int gr, .ref g_b, .ref g_t])), (g_b, .inl (cA 0, 2, .inl gB))]) hD hS hA [0, 1, 2] rfl
  refine vx_calli (vx_runV (As := [.int x1, .int x2]) (rest := [.int 0, .ref o]) ⟨hx, hb, hml, hown, hts⟩ (met_X1_setBonus l D cA (va_A [(x, .inr (1, [.ref g, xs, xp, .ref xi, .int xl, xr, xq])), (g, .inr (2, [.ref sh, .ref al, .int gr, .ref g_b, .ref g_t])), (g_b, .inl (cA 0, 2, .inl gB))] s.heap.size) x g xs xp xi xr xq sh al g_b g_t zs xl gr gB N x1 x2 hX.2 r_1 e_2) (cwV 2 hts (lw_V q618 q619 q620 q67 q621) rfl rfl rfl (by decide +kernel) ⟨Nat.le_of_ble_eq_true rfl, Nat.le_of_ble_eq_true rfl⟩) (ga_XV hK (hP.sub (ws' := [(x, .inr (1, [.ref g, xs, xp, .ref xi, .int xl, xr, xq])), (g, .inr (2, [.ref sh, .ref al, .int gr, .ref g_b, .ref g_t])), (g_b, .inl (cA 0, 2, .inl gB))]) [0, 1, 2] rfl) (hD.sub (ws' := [(x, .inr (1, [.ref g, xs, xp, .ref xi, .int xl, xr, xq])), (g, .inr (2, [.ref sh, .ref al, .int gr, .ref g_b, .ref g_t])), (g_b, .inl (cA 0, 2, .inl gB))]) [0, 1, 2] (by decide) rfl).self (fun _ hq => Or.inr hq) (hST.at hS hFc) (va_recv hK.1 hP (ci := 1) (q0 := 0) rfl rfl)) rfl rfl hl.1 rfl (lv_room (Nat.le_of_ble_eq_true rfl)) dX0_setBonus_5 ⟨Nat.le_of_ble_eq_true rfl, Nat.le_of_ble_eq_true rfl⟩) hS (fun q _ hq => hFc q hq) hFc (fun q _ hq => hFc q hq) (fun E_8 ce q_9 u_6 t H_7 locs ht _ w_4 hB _ hk hS hce hcv hcl => ?_) (fun z_3 u_6 t H_5 locs ht _ w_4 hB _ hk hS => ?_)
  · replace h := ga_swr w_4 h
    obtain ⟨eE, hP1, hD1⟩ := hB
    rw [ht] at hP1
    obtain ⟨hP, hD⟩ := va_join (wr := [(o, .inl (cA 1, 1, .inr (.inl oF)))]) (w1 := [(x, .inr (1, [.ref g, xs, xp, .ref xi, .int xl, xr, xq])), (g, .inr (2, [.ref sh, .ref al, .int gr, .ref g_b, .ref g_t])), (g_b, .inl (cA 0, 2, .inl gB))]) hP hD [0, 1, 2] [3] rfl rfl (by decide) (by decide) hk hFc hP1 hD1
    have hP : va_P D ga_cl [(o, .inl (cA 1, 1, .inr (.inl oF))), (x, .inr (1, [.ref g, xs, xp, .ref xi, .int xl, xr, xq])), (g, .inr (2, [.ref sh, .ref al, .int gr, .ref g_b, .ref g_t])), (g_b, .inl (cA 0, 2, .inl gB))] H_7 := hP
    have hD : va_D A [(o, .inl (cA 1, 1, .inr (.inl oF))), (x, .inr (1, [.ref g, xs, xp, .ref xi, .int xl, xr, xq])), (g, .inr (2, [.ref sh, .ref al, .int gr, .ref g_b, .ref g_t])), (g_b, .inl (cA 0, 2, .inl gB))] := hD
    by_cases c_11 : u_6 = 1
    · replace h := ga_ift c_11 h
      have eE : E_8 = "java/lang/IllegalArgumentException" := by rw [eE, c_11]; rfl
      subst eE
      refine vx_catch (name := "java/lang/IllegalArgumentException") hown [⟨0, 10, 13, 23⟩] ⟨0, 10, 17, 13⟩ [] (by rw [hX.1]; rfl) ((List.forall_mem_cons.mpr ⟨Or.inr ⟨by decide, "java/lang/IndexOutOfBoundsException", hts _ q586, ga_ncu hST (by decide +kernel)⟩, (fun _ hz => nomatch hz)⟩)) (by decide) (by decide) (hts _ q479) (ga_nu hK q495 rfl) hce hcv hcl ?_
      refine lv_astore (lv' := [(4, .ref q_9), (0, .ref x), (1, .int x1), (2, .int x2), (3, .ref o)]) hx hb dX0_setBonus_17 hl (by decide) rfl (fun ls hl => ?_)
      refine lv_iconst (v := 2) hx hb dX0_setBonus_19 (by decide) ?_
      have hP9 := hP.sub (ws' := [(x, .inr (1, [.ref g, xs, xp, .ref xi, .int xl, xr, xq])), (g, .inr (2, [.ref sh, .ref al, .int gr, .ref g_b, .ref g_t])), (g_b, .inl (cA 0, 2, .inl gB)), (o, .inl (cA 1, 1, .inr (.inl oF)))]) [1, 2, 3, 0] rfl
      have hD9 := hD.sub (ws' := [(x, .inr (1, [.ref g, xs, xp, .ref xi, .int xl, xr, xq])), (g, .inr (2, [.ref sh, .ref al, .int gr, .ref g_b, .ref g_t])), (g_b, .inl (cA 0, 2, .inl gB)), (o, .inl (cA 1, 1, .inr (.inl oF)))]) [1, 2, 3, 0] (by decide) rfl
      obtain rfl := Option.some.inj h
      exact W.iret hx hb hr (fun t ht hW => ⟨⟨_, (gB, oF), rfl, ⟨rfl, rfl⟩, ⟨by rw [ht]; exact hP9, hK.warm hW, hD9⟩⟩, hS.F ht⟩) hS.2.2 dX0_setBonus_20
    · replace h := ga_iff c_11 h
      by_cases c_12 : u_6 = 3
      · replace h := ga_ift c_12 h
        have eE : E_8 = "java/lang/IndexOutOfBoundsException" := by rw [eE, c_12]; rfl
        subst eE
        refine vx_catch (name := "java/lang/IndexOutOfBoundsException") hown [] ⟨0, 10, 13, 23⟩ [⟨0, 10, 17, 13⟩] (by rw [hX.1]; rfl) ((fun _ hz => nomatch hz)) (by decide) (by decide) (hts _ q586) (ga_nu hK q630 rfl) hce hcv hcl ?_
        refine lv_astore (lv' := [(4, .ref q_9), (0, .ref x), (1, .int x1), (2, .int x2), (3, .ref o)]) hx hb dX0_setBonus_13 hl (by decide) rfl (fun ls hl => ?_)
        refine lv_iconst (v := 1) hx hb dX0_setBonus_15 (by decide) ?_
        have hP9 := hP.sub (ws' := [(x, .inr (1, [.ref g, xs, xp, .ref xi, .int xl, xr, xq])), (g, .inr (2, [.ref sh, .ref al, .int gr, .ref g_b, .ref g_t])), (g_b, .inl (cA 0, 2, .inl gB)), (o, .inl (cA 1, 1, .inr (.inl oF)))]) [1, 2, 3, 0] rfl
        have hD9 := hD.sub (ws' := [(x, .inr (1, [.ref g, xs, xp, .ref xi, .int xl, xr, xq])), (g, .inr (2, [.ref sh, .ref al, .int gr, .ref g_b, .ref g_t])), (g_b, .inl (cA 0, 2, .inl gB)), (o, .inl (cA 1, 1, .inr (.inl oF)))]) [1, 2, 3, 0] (by decide) rfl
        obtain rfl := Option.some.inj h
        exact W.iret hx hb hr (fun t ht hW => ⟨⟨_, (gB, oF), rfl, ⟨rfl, rfl⟩, ⟨by rw [ht]; exact hP9, hK.warm hW, hD9⟩⟩, hS.F ht⟩) hS.2.2 dX0_setBonus_16
      · replace h := ga_iff c_12 h
        cases h
  · obtain ⟨v_10, ev_10, hv9⟩ := w_4
    replace h := ga_swl ev_10 h
    obtain ⟨rfl, rfl⟩ := hv9
    obtain ⟨hP1, -, hD1⟩ := hB
    rw [ht] at hP1
    obtain ⟨hP, hD⟩ := va_join (wr := [(o, .inl (cA 1, 1, .inr (.inl oF)))]) (w1 := [(x, .inr (1, [.ref g, xs, xp, .ref xi, .int xl, xr, xq])), (g, .inr (2, [.ref sh, .ref al, .int gr, .ref g_b, .ref g_t])), (g_b, .inl (cA 0, 2, .inl v_10.2))]) hP hD [0, 1, 2] [3] rfl rfl (by decide) (by decide) hk hFc hP1 hD1
    have hP : va_P D ga_cl [(o, .inl (cA 1, 1, .inr (.inl oF))), (x, .inr (1, [.ref g, xs, xp, .ref xi, .int xl, xr, xq])), (g, .inr (2, [.ref sh, .ref al, .int gr, .ref g_b, .ref g_t])), (g_b, .inl (cA 0, 2, .inl v_10.2))] H_5 := hP
    have hD : va_D A [(o, .inl (cA 1, 1, .inr (.inl oF))), (x, .inr (1, [.ref g, xs, xp, .ref xi, .int xl, xr, xq])), (g, .inr (2, [.ref sh, .ref al, .int gr, .ref g_b, .ref g_t])), (g_b, .inl (cA 0, 2, .inl v_10.2))] := hD
    refine W.cs (cells' := 2) (slots' := 12) rfl rfl ?_
    refine lv_i2l (v := v_10.1.toInt64) hx hb dX0_setBonus_8 rfl ?_
    refine va_last hx hb hK.1 hP hD hS 0 1 (f := oF) rfl rfl (ga_in (by decide)) dX0_setBonus_9 (fun H_14 locs hP hD hS => ?_)
    have hP : va_P D ga_cl [(o, .inl (cA 1, 1, .inr (.inl (vp_updL oF (ix 0) v_10.1.toInt64)))), (x, .inr (1, [.ref g, xs, xp, .ref xi, .int xl, xr, xq])), (g, .inr (2, [.ref sh, .ref al, .int gr, .ref g_b, .ref g_t])), (g_b, .inl (cA 0, 2, .inl v_10.2))] H_14 := hP
    have hD : va_D A [(o, .inl (cA 1, 1, .inr (.inl (vp_updL oF (ix 0) v_10.1.toInt64)))), (x, .inr (1, [.ref g, xs, xp, .ref xi, .int xl, xr, xq])), (g, .inr (2, [.ref sh, .ref al, .int gr, .ref g_b, .ref g_t])), (g_b, .inl (cA 0, 2, .inl v_10.2))] := hD
    refine lv_goto (tgt := 21) hx hb dX0_setBonus_10 (by decide) ?_
    refine lv_iconst (v := 0) hx hb dX0_setBonus_21 (by decide) ?_
    have hP9 := hP.sub (ws' := [(x, .inr (1, [.ref g, xs, xp, .ref xi, .int xl, xr, xq])), (g, .inr (2, [.ref sh, .ref al, .int gr, .ref g_b, .ref g_t])), (g_b, .inl (cA 0, 2, .inl v_10.2)), (o, .inl (cA 1, 1, .inr (.inl (vp_updL oF (ix 0) v_10.1.toInt64))))]) [1, 2, 3, 0] rfl
    have hD9 := hD.sub (ws' := [(x, .inr (1, [.ref g, xs, xp, .ref xi, .int xl, xr, xq])), (g, .inr (2, [.ref sh, .ref al, .int gr, .ref g_b, .ref g_t])), (g_b, .inl (cA 0, 2, .inl v_10.2)), (o, .inl (cA 1, 1, .inr (.inl (vp_updL oF (ix 0) v_10.1.toInt64))))]) [1, 2, 3, 0] (by decide) rfl
    obtain rfl := Option.some.inj h
    exact W.iret hx hb hr (fun t ht hW => ⟨⟨_, (v_10.2, (vp_updL oF (ix 0) v_10.1.toInt64)), rfl, ⟨rfl, rfl⟩, ⟨by rw [ht]; exact hP9, hK.warm hW, hD9⟩⟩, hS.F ht⟩) hS.2.2 dX0_setBonus_22
abbrev rm_X0_cell : Room := { frames := 8, cells := 2, slots := 12, locals := 143 }
def F_X0_cell (N : Nat) (xl : Int32) (gr : Int32) (lm : Int32) (lz : Int32) (ln : Nat) (zw : Int32) (zh : Int32) (zA : Int64) (zL : Int64) (zR : Int64) (zE : Int64) (oF : Nat → Int64) (np : Nat) (q1 : Nat → Int32) (q2 : Nat → Int32) (qN : Nat → Int32) (qW : Nat → Nat → Int32) (qP : Nat → Nat → Int32) (qR : Nat → Nat → Int32) (qV : Nat → Nat → Int32) (qB : Nat → Int64) (qS : Nat → Nat → Int64) (qA : Nat → Nat → Int64) (qG : Nat → Nat → Int64) (qC : Nat → Nat → Int32) (x1 : Int32) (x2 : Int32) : Option (Int32 × ((Nat → Int64))) :=
  ((F_X1_cell N xl gr lm lz ln zw zh zA zL zR zE np q1 q2 qN qW qP qR qV qB qS qA qG qC x1 x2).bind fun r_1 => ga_sw r_1 (fun v_10 =>
  some (0, (vp_updL oF (ix 0) v_10.1.toInt64))) (fun u_6 =>
  (if u_6 = 3 then
  some (1, oF)
  else
  none)))
set_option maxHeartbeats 4000000 in
theorem met_X0_cell (l : Launch) (D : va_G) (cA : Nat → ClassId) (A : Nat → Prop) (x : Nat) (g : Nat) (xs : Value) (xp : Value) (xi : Nat) (xr : Value) (xq : Value) (sh : Nat) (al : Nat) (g_b : Nat) (g_t : Nat) (ed : Nat) (lf : Nat → Option Nat) (o : Nat) (zs : Nat → Nat) (xl : Int32) (gr : Int32) (lm : Int32) (lz : Int32) (ln : Nat) (zw : Int32) (zh : Int32) (zA : Int64) (zL : Int64) (zR : Int64) (zE : Int64) (oF : Nat → Int64) (np : Nat) (q1 : Nat → Int32) (q2 : Nat → Int32) (qN : Nat → Int32) (qW : Nat → Nat → Int32) (qP : Nat → Nat → Int32) (qR : Nat → Nat → Int32) (qV : Nat → Nat → Int32) (qB : Nat → Int64) (qS : Nat → Nat → Int64) (qA : Nat → Nat → Int64) (qG : Nat → Nat → Int64) (qC : Nat → Nat → Int32) (N : Nat) (x1 : Int32) (x2 : Int32)  (hstk : l.stackTraces = false) (out : Int32 × ((Nat → Int64))) (h : F_X0_cell N xl gr lm lz ln zw zh zA zL zR zE oF np q1 q2 qN qW qP qR qV qB qS qA qG qC x1 x2 = some out) : Met l yX0_cell (wsW_ yX0_cell cX0_cell 5 (some .int) [(0, 10, 13, 23)]) rm_X0_cell (ga_XR D cA zs A (ga_po D cA lf np q1 q2 qN qW qP qR qV qB qS qA qG qC) [(x, .inr (1, [.ref g, xs, xp, .ref xi, .int xl, xr, xq])), (g, .inr (2, [.ref sh, .ref al, .int gr, .ref g_b, .ref g_t])), (al, .inr (6, [.int lm, .ref ed, .int lz])), (ed, .inl (cA 5, ln, .inr (.inr (.inr (.inr lf))))), (sh, .inr (4, [.int zw, .int zh, .long zA, .long zL, .long zR, .long zE])), (o, .inl (cA 1, 1, .inr (.inl oF)))] [.ref x, .int x1, .int x2, .ref o]) (va_Qi (fun (r : Int32) (u : (Nat → Int64)) => (out.1 = r) ∧ out.2 = u) (fun (u : (Nat → Int64)) (t : State) => va_P D ga_cl [(x, .inr (1, [.ref g, xs, xp, .ref xi, .int xl, xr, xq])), (g, .inr (2, [.ref sh, .ref al, .int gr, .ref g_b, .ref g_t])), (al, .inr (6, [.int lm, .ref ed, .int lz])), (ed, .inl (cA 5, ln, .inr (.inr (.inr (.inr lf))))), (sh, .inr (4, [.int zw, .int zh, .long zA, .long zL, .long zR, .long zE])), (o, .inl (cA 1, 1, .inr (.inl u)))] t.heap ∧ ga_K D cA t ∧ va_D A [(x, .inr (1, [.ref g, xs, xp, .ref xi, .int xl, xr, xq])), (g, .inr (2, [.ref sh, .ref al, .int gr, .ref g_b, .ref g_t])), (al, .inr (6, [.int lm, .ref ed, .int lz])), (ed, .inl (cA 5, ln, .inr (.inr (.inr (.inr lf))))), (sh, .inr (4, [.int zw, .int zh, .long zA, .long zL, .long zR, .long zE])), (o, .inl (cA 1, 1, .inr (.inl u)))]) A) 2 12 A := by
  refine va_MetW (cc := cX0_cell) (maxL := 5) (ret := (some .int)) (hh := [(0, 10, 13, 23)]) (by decide) rfl ?_
  intro p e s m args below meth c s₁ B hml hv
  have hX : c.exceptionTable.toList = tableOf [(0, 10, 13, 23)] ∧ l.stackTraces = false := ⟨vx_table (x := yX0_cell) B (atoms_spec (ws := (wsW_ yX0_cell cX0_cell 5 (some .int) [(0, 10, 13, 23)])) B.pre _ List.mem_cons_self), hstk⟩
  obtain ⟨rfl, hP, hK, hD, hA, hST, hR⟩ := hv
  have hS : va_S A s.heap s.heap [] := va_S.rf
  have C : ga_cx p m c meth s _ RX0 cX0_cell 5 (some .int) := ga_cxW_of B hml
  have C0 := C
  obtain ⟨hx, hb, hr, hlocks, hml, hown, hts⟩ := C0
  have hl := lv_entry ([.ref x, .int x1, .int x2, .ref o]) (n := 5) (Nat.le_of_ble_eq_true rfl)
  rw [lg_entry_eq]
  generalize (lg_sl ([.ref x, .int x1, .int x2, .ref o]) ++ List.replicate (5 - (lg_sl ([.ref x, .int x1, .int x2, .ref o])).length) Slot.unset).toArray = ls at hl ⊢
  have hl : lv_has ls 5 [(0, .ref x), (1, .int x1), (2, .int x2), (3, .ref o)] := hl
  rw [F_X0_cell] at h
  refine lv_aload_n hx hb dX0_cell_0 rfl (lv_at hl 3 rfl) ?_
  refine lv_iconst (v := 0) hx hb dX0_cell_1 (by decide) ?_
  refine lv_aload_n hx hb dX0_cell_2 rfl (lv_at hl 0 rfl) ?_
  refine lv_iload_n hx hb dX0_cell_3 rfl (lv_at hl 1 rfl) ?_
  refine lv_iload_n hx hb dX0_cell_4 rfl (lv_at hl 2 rfl) ?_
  obtain ⟨r_1, e_2, h⟩ := ga_gb h
  have hFc := va_free (wc := [(x, .inr (1, [.ref g, xs, xp, .ref xi, .int xl, xr, xq])), (g, .inr (2, [.ref sh, .ref al, .int gr, .ref g_b, .ref g_t])), (al, .inr (6, [.int lm, .ref ed, .int lz])), (ed, .inl (cA 5, ln, .inr (.inr (.inr (.inr lf))))), (sh, .inr (4, [.int zw, .int zh, .long zA, .long zL, .long zR, .long zE]))]) hD hS hA [0, 1, 2, 3, 4] rfl
  refine vx_calli (vx_runV (As := [.int x1, .int x2]) (rest := [.int 0, .ref o]) ⟨hx, hb, hml, hown, hts⟩ (met_X1_cell l D cA (va_A [(x, .inr (1, [.ref g, xs, xp, .ref xi, .int xl, xr, xq])), (g, .inr (2, [.ref sh, .ref al, .int gr, .ref g_b, .ref g_t])), (al, .inr (6, [.int lm, .ref ed, .int lz])), (ed, .inl (cA 5, ln, .inr (.inr (.inr (.inr lf))))), (sh, .inr (4, [.int zw, .int zh, .long zA, .long zL, .long zR, .long zE]))] s.heap.size) x g xs xp xi xr xq sh al g_b g_t ed lf zs xl gr lm lz ln zw zh zA zL zR zE np q1 q2 qN qW qP qR qV qB qS qA qG qC N x1 x2 hX.2 r_1 e_2) (cwV 2 hts (lw_V q894 q895 q896 q67 q897) rfl rfl rfl (by decide +kernel) ⟨Nat.le_of_ble_eq_true rfl, Nat.le_of_ble_eq_true rfl⟩) (ga_XRV ga_poK (ga_poK.at hR hS hFc) hK (hP.sub (ws' := [(x, .inr (1, [.ref g, xs, xp, .ref xi, .int xl, xr, xq])), (g, .inr (2, [.ref sh, .ref al, .int gr, .ref g_b, .ref g_t])), (al, .inr (6, [.int lm, .ref ed, .int lz])), (ed, .inl (cA 5, ln, .inr (.inr (.inr (.inr lf))))), (sh, .inr (4, [.int zw, .int zh, .long zA, .long zL, .long zR, .long zE]))]) [0, 1, 2, 3, 4] rfl) (hD.sub (ws' := [(x, .inr (1, [.ref g, xs, xp, .ref xi, .int xl, xr, xq])), (g, .inr (2, [.ref sh, .ref al, .int gr, .ref g_b, .ref g_t])), (al, .inr (6, [.int lm, .ref ed, .int lz])), (ed, .inl (cA 5, ln, .inr (.inr (.inr (.inr lf))))), (sh, .inr (4, [.int zw, .int zh, .long zA, .long zL, .long zR, .long zE]))]) [0, 1, 2, 3, 4] (by decide) rfl).self (fun _ hq => Or.inr hq) (hST.at hS hFc) (va_recv hK.1 hP (ci := 1) (q0 := 0) rfl rfl)) rfl rfl hl.1 rfl (lv_room (Nat.le_of_ble_eq_true rfl)) dX0_cell_5 ⟨Nat.le_of_ble_eq_true rfl, Nat.le_of_ble_eq_true rfl⟩) hS (fun q _ hq => hFc q hq) hFc (fun q _ hq => hFc q hq) (fun E_8 ce q_9 u_6 t H_7 locs ht _ w_4 hB _ hk hS hce hcv hcl => ?_) (fun z_3 u_6 t H_5 locs ht _ w_4 hB _ hk hS => ?_)
  · replace h := ga_swr w_4 h
    obtain ⟨eE, hP1, hD1⟩ := hB
    rw [ht] at hP1
    obtain ⟨hP, hD⟩ := va_join (wr := [(o, .inl (cA 1, 1, .inr (.inl oF)))]) (w1 := [(x, .inr (1, [.ref g, xs, xp, .ref xi, .int xl, xr, xq])), (g, .inr (2, [.ref sh, .ref al, .int gr, .ref g_b, .ref g_t])), (al, .inr (6, [.int lm, .ref ed, .int lz])), (ed, .inl (cA 5, ln, .inr (.inr (.inr (.inr lf))))), (sh, .inr (4, [.int zw, .int zh, .long zA, .long zL, .long zR, .long zE]))]) hP hD [0, 1, 2, 3, 4] [5] rfl rfl (by decide) (by decide) hk hFc hP1 hD1
    have hP : va_P D ga_cl [(o, .inl (cA 1, 1, .inr (.inl oF))), (x, .inr (1, [.ref g, xs, xp, .ref xi, .int xl, xr, xq])), (g, .inr (2, [.ref sh, .ref al, .int gr, .ref g_b, .ref g_t])), (al, .inr (6, [.int lm, .ref ed, .int lz])), (ed, .inl (cA 5, ln, .inr (.inr (.inr (.inr lf))))), (sh, .inr (4, [.int zw, .int zh, .long zA, .long zL, .long zR, .long zE]))] H_7 := hP
    have hD : va_D A [(o, .inl (cA 1, 1, .inr (.inl oF))), (x, .inr (1, [.ref g, xs, xp, .ref xi, .int xl, xr, xq])), (g, .inr (2, [.ref sh, .ref al, .int gr, .ref g_b, .ref g_t])), (al, .inr (6, [.int lm, .ref ed, .int lz])), (ed, .inl (cA 5, ln, .inr (.inr (.inr (.inr lf))))), (sh, .inr (4, [.int zw, .int zh, .long zA, .long zL, .long zR, .long zE]))] := hD
    by_cases c_11 : u_6 = 3
    · replace h := ga_ift c_11 h
      have eE : E_8 = "java/lang/IndexOutOfBoundsException" := by rw [eE, c_11]; rfl
      subst eE
      refine vx_catch (name := "java/lang/IndexOutOfBoundsException") hown [] ⟨0, 10, 13, 23⟩ [] (by rw [hX.1]; rfl) ((fun _ hz => nomatch hz)) (by decide) (by decide) (hts _ q586) (ga_nu hK q630 rfl) hce hcv hcl ?_
      refine lv_astore (lv' := [(4, .ref q_9), (0, .ref x), (1, .int x1), (2, .int x2), (3, .ref o)]) hx hb dX0_cell_13 hl (by decide) rfl (fun ls hl => ?_)
      refine lv_iconst (v := 1) hx hb dX0_cell_15 (by decide) ?_
      have hP9 := hP.sub (ws' := [(x, .inr (1, [.ref g, xs, xp, .ref xi, .int xl, xr, xq])), (g, .inr (2, [.ref sh, .ref al, .int gr, .ref g_b, .ref g_t])), (al, .inr (6, [.int lm, .ref ed, .int lz])), (ed, .inl (cA 5, ln, .inr (.inr (.inr (.inr lf))))), (sh, .inr (4, [.int zw, .int zh, .long zA, .long zL, .long zR, .long zE])), (o, .inl (cA 1, 1, .inr (.inl oF)))]) [1, 2, 3, 4, 5, 0] rfl
      have hD9 := hD.sub (ws' := [(x, .inr (1, [.ref g, xs, xp, .ref xi, .int xl, xr, xq])), (g, .inr (2, [.ref sh, .ref al, .int gr, .ref g_b, .ref g_t])), (al, .inr (6, [.int lm, .ref ed, .int lz])), (ed, .inl (cA 5, ln, .inr (.inr (.inr (.inr lf))))), (sh, .inr (4, [.int zw, .int zh, .long zA, .long zL, .long zR, .long zE])), (o, .inl (cA 1, 1, .inr (.inl oF)))]) [1, 2, 3, 4, 5, 0] (by decide) rfl
      obtain rfl := Option.some.inj h
      exact W.iret hx hb hr (fun t ht hW => ⟨⟨_, oF, rfl, ⟨rfl, rfl⟩, ⟨by rw [ht]; exact hP9, hK.warm hW, hD9⟩⟩, hS.F ht⟩) hS.2.2 dX0_cell_16
    · replace h := ga_iff c_11 h
      cases h
  · obtain ⟨v_10, ev_10, hv9⟩ := w_4
    replace h := ga_swl ev_10 h
    obtain ⟨rfl, rfl⟩ := hv9
    obtain ⟨hP1, -, hD1⟩ := hB
    rw [ht] at hP1
    obtain ⟨hP, hD⟩ := va_join (wr := [(o, .inl (cA 1, 1, .inr (.inl oF)))]) (w1 := [(x, .inr (1, [.ref g, xs, xp, .ref xi, .int xl, xr, xq])), (g, .inr (2, [.ref sh, .ref al, .int gr, .ref g_b, .ref g_t])), (al, .inr (6, [.int lm, .ref ed, .int lz])), (ed, .inl (cA 5, ln, .inr (.inr (.inr (.inr lf))))), (sh, .inr (4, [.int zw, .int zh, .long zA, .long zL, .long zR, .long zE]))]) hP hD [0, 1, 2, 3, 4] [5] rfl rfl (by decide) (by decide) hk hFc hP1 hD1
    have hP : va_P D ga_cl [(o, .inl (cA 1, 1, .inr (.inl oF))), (x, .inr (1, [.ref g, xs, xp, .ref xi, .int xl, xr, xq])), (g, .inr (2, [.ref sh, .ref al, .int gr, .ref g_b, .ref g_t])), (al, .inr (6, [.int lm, .ref ed, .int lz])), (ed, .inl (cA 5, ln, .inr (.inr (.inr (.inr lf))))), (sh, .inr (4, [.int zw, .int zh, .long zA, .long zL, .long zR, .long zE]))] H_5 := hP
    have hD : va_D A [(o, .inl (cA 1, 1, .inr (.inl oF))), (x, .inr (1, [.ref g, xs, xp, .ref xi, .int xl, xr, xq])), (g, .inr (2, [.ref sh, .ref al, .int gr, .ref g_b, .ref g_t])), (al, .inr (6, [.int lm, .ref ed, .int lz])), (ed, .inl (cA 5, ln, .inr (.inr (.inr (.inr lf))))), (sh, .inr (4, [.int zw, .int zh, .long zA, .long zL, .long zR, .long zE]))] := hD
    refine W.cs (cells' := 2) (slots' := 12) rfl rfl ?_
    refine lv_i2l (v := v_10.1.toInt64) hx hb dX0_cell_8 rfl ?_
    refine va_last hx hb hK.1 hP hD hS 0 1 (f := oF) rfl rfl (ga_in (by decide)) dX0_cell_9 (fun H_13 locs hP hD hS => ?_)
    have hP : va_P D ga_cl [(o, .inl (cA 1, 1, .inr (.inl (vp_updL oF (ix 0) v_10.1.toInt64)))), (x, .inr (1, [.ref g, xs, xp, .ref xi, .int xl, xr, xq])), (g, .inr (2, [.ref sh, .ref al, .int gr, .ref g_b, .ref g_t])), (al, .inr (6, [.int lm, .ref ed, .int lz])), (ed, .inl (cA 5, ln, .inr (.inr (.inr (.inr lf))))), (sh, .inr (4, [.int zw, .int zh, .long zA, .long zL, .long zR, .long zE]))] H_13 := hP
    have hD : va_D A [(o, .inl (cA 1, 1, .inr (.inl (vp_updL oF (ix 0) v_10.1.toInt64)))), (x, .inr (1, [.ref g, xs, xp, .ref xi, .int xl, xr, xq])), (g, .inr (2, [.ref sh, .ref al, .int gr, .ref g_b, .ref g_t])), (al, .inr (6, [.int lm, .ref ed, .int lz])), (ed, .inl (cA 5, ln, .inr (.inr (.inr (.inr lf))))), (sh, .inr (4, [.int zw, .int zh, .long zA, .long zL, .long zR, .long zE]))] := hD
    refine lv_goto (tgt := 17) hx hb dX0_cell_10 (by decide) ?_
    refine lv_iconst (v := 0) hx hb dX0_cell_17 (by decide) ?_
    have hP9 := hP.sub (ws' := [(x, .inr (1, [.ref g, xs, xp, .ref xi, .int xl, xr, xq])), (g, .inr (2, [.ref sh, .ref al, .int gr, .ref g_b, .ref g_t])), (al, .inr (6, [.int lm, .ref ed, .int lz])), (ed, .inl (cA 5, ln, .inr (.inr (.inr (.inr lf))))), (sh, .inr (4, [.int zw, .int zh, .long zA, .long zL, .long zR, .long zE])), (o, .inl (cA 1, 1, .inr (.inl (vp_updL oF (ix 0) v_10.1.toInt64))))]) [1, 2, 3, 4, 5, 0] rfl
    have hD9 := hD.sub (ws' := [(x, .inr (1, [.ref g, xs, xp, .ref xi, .int xl, xr, xq])), (g, .inr (2, [.ref sh, .ref al, .int gr, .ref g_b, .ref g_t])), (al, .inr (6, [.int lm, .ref ed, .int lz])), (ed, .inl (cA 5, ln, .inr (.inr (.inr (.inr lf))))), (sh, .inr (4, [.int zw, .int zh, .long zA, .long zL, .long zR, .long zE])), (o, .inl (cA 1, 1, .inr (.inl (vp_updL oF (ix 0) v_10.1.toInt64))))]) [1, 2, 3, 4, 5, 0] (by decide) rfl
    obtain rfl := Option.some.inj h
    exact W.iret hx hb hr (fun t ht hW => ⟨⟨_, (vp_updL oF (ix 0) v_10.1.toInt64), rfl, ⟨rfl, rfl⟩, ⟨by rw [ht]; exact hP9, hK.warm hW, hD9⟩⟩, hS.F ht⟩) hS.2.2 dX0_cell_18
abbrev rm_X0_since : Room := { frames := 9, cells := 2, slots := 12, locals := 164 }
def F_X0_since (N : Nat) (xl : Int32) (gr : Int32) (lm : Int32) (lz : Int32) (ln : Nat) (zw : Int32) (zh : Int32) (zA : Int64) (zL : Int64) (zR : Int64) (zE : Int64) (oF : Nat → Int64) (np : Nat) (q1 : Nat → Int32) (q2 : Nat → Int32) (qN : Nat → Int32) (qW : Nat → Nat → Int32) (qP : Nat → Nat → Int32) (qR : Nat → Nat → Int32) (qV : Nat → Nat → Int32) (qB : Nat → Int64) (qS : Nat → Nat → Int64) (qA : Nat → Nat → Int64) (qG : Nat → Nat → Int64) (qC : Nat → Nat → Int32) (x1 : Int32) (x2 : Int32) : Option (Int32 × ((Nat → Int64))) :=
  ((F_X1_since N xl gr lm lz ln zw zh zA zL zR zE np q1 q2 qN qW qP qR qV qB qS qA qG qC x1 x2).bind fun r_1 => ga_sw r_1 (fun v_10 =>
  some (0, (vp_updL oF (ix 0) v_10.1.toInt64))) (fun u_6 =>
  (if u_6 = 1 then
  some (2, oF)
  else
  (if u_6 = 3 then
  some (1, oF)
  else
  none))))
set_option maxHeartbeats 4000000 in
theorem met_X0_since (l : Launch) (D : va_G) (cA : Nat → ClassId) (A : Nat → Prop) (x : Nat) (g : Nat) (xs : Value) (xp : Value) (xi : Nat) (xr : Value) (xq : Value) (sh : Nat) (al : Nat) (g_b : Nat) (g_t : Nat) (ed : Nat) (lf : Nat → Option Nat) (o : Nat) (zs : Nat → Nat) (xl : Int32) (gr : Int32) (lm : Int32) (lz : Int32) (ln : Nat) (zw : Int32) (zh : Int32) (zA : Int64) (zL : Int64) (zR : Int64) (zE : Int64) (oF : Nat → Int64) (np : Nat) (q1 : Nat → Int32) (q2 : Nat → Int32) (qN : Nat → Int32) (qW : Nat → Nat → Int32) (qP : Nat → Nat → Int32) (qR : Nat → Nat → Int32) (qV : Nat → Nat → Int32) (qB : Nat → Int64) (qS : Nat → Nat → Int64) (qA : Nat → Nat → Int64) (qG : Nat → Nat → Int64) (qC : Nat → Nat → Int32) (N : Nat) (x1 : Int32) (x2 : Int32)  (hstk : l.stackTraces = false) (out : Int32 × ((Nat → Int64))) (h : F_X0_since N xl gr lm lz ln zw zh zA zL zR zE oF np q1 q2 qN qW qP qR qV qB qS qA qG qC x1 x2 = some out) : Met l yX0_since (wsW_ yX0_since cX0_since 5 (some .int) [(0, 10, 13, 23), (0, 10, 17, 13)]) rm_X0_since (ga_XR D cA zs A (ga_po D cA lf np q1 q2 qN qW qP qR qV qB qS qA qG qC) [(x, .inr (1, [.ref g, xs, xp, .ref xi, .int xl, xr, xq])), (g, .inr (2, [.ref sh, .ref al, .int gr, .ref g_b, .ref g_t])), (al, .inr (6, [.int lm, .ref ed, .int lz])), (ed, .inl (cA 5, ln, .inr (.inr (.inr (.inr lf))))), (sh, .inr (4, [.int zw, .int zh, .long zA, .long zL, .long zR, .long zE])), (o, .inl (cA 1, 1, .inr (.inl oF)))] [.ref x, .int x1, .int x2, .ref o]) (va_Qi (fun (r : Int32) (u : (Nat → Int64)) => (out.1 = r) ∧ out.2 = u) (fun (u : (Nat → Int64)) (t : State) => va_P D ga_cl [(x, .inr (1, [.ref g, xs, xp, .ref xi, .int xl, xr, xq])), (g, .inr (2, [.ref sh, .ref al, .int gr, .ref g_b, .ref g_t])), (al, .inr (6, [.int lm, .ref ed, .int lz])), (ed, .inl (cA 5, ln, .inr (.inr (.inr (.inr lf))))), (sh, .inr (4, [.int zw, .int zh, .long zA, .long zL, .long zR, .long zE])), (o, .inl (cA 1, 1, .inr (.inl u)))] t.heap ∧ ga_K D cA t ∧ va_D A [(x, .inr (1, [.ref g, xs, xp, .ref xi, .int xl, xr, xq])), (g, .inr (2, [.ref sh, .ref al, .int gr, .ref g_b, .ref g_t])), (al, .inr (6, [.int lm, .ref ed, .int lz])), (ed, .inl (cA 5, ln, .inr (.inr (.inr (.inr lf))))), (sh, .inr (4, [.int zw, .int zh, .long zA, .long zL, .long zR, .long zE])), (o, .inl (cA 1, 1, .inr (.inl u)))]) A) 2 12 A := by
  refine va_MetW (cc := cX0_since) (maxL := 5) (ret := (some .int)) (hh := [(0, 10, 13, 23), (0, 10, 17, 13)]) (by decide) rfl ?_
  intro p e s m args below meth c s₁ B hml hv
  have hX : c.exceptionTable.toList = tableOf [(0, 10, 13, 23), (0, 10, 17, 13)] ∧ l.stackTraces = false := ⟨vx_table (x := yX0_since) B (atoms_spec (ws := (wsW_ yX0_since cX0_since 5 (some .int) [(0, 10, 13, 23), (0, 10, 17, 13)])) B.pre _ List.mem_cons_self), hstk⟩
  obtain ⟨rfl, hP, hK, hD, hA, hST, hR⟩ := hv
  have hS : va_S A s.heap s.heap [] := va_S.rf
  have C : ga_cx p m c meth s _ RX0 cX0_since 5 (some .int) := ga_cxW_of B hml
  have C0 := C
  obtain ⟨hx, hb, hr, hlocks, hml, hown, hts⟩ := C0
  have hl := lv_entry ([.ref x, .int x1, .int x2, .ref o]) (n := 5) (Nat.le_of_ble_eq_true rfl)
  rw [lg_entry_eq]
  generalize (lg_sl ([.ref x, .int x1, .int x2, .ref o]) ++ List.replicate (5 - (lg_sl ([.ref x, .int x1, .int x2, .ref o])).length) Slot.unset).toArray = ls at hl ⊢
  have hl : lv_has ls 5 [(0, .ref x), (1, .int x1), (2, .int x2), (3, .ref o)] := hl
  rw [F_X0_since] at h
  refine lv_aload_n hx hb dX0_since_0 rfl (lv_at hl 3 rfl) ?_
  refine lv_iconst (v := 0) hx hb dX0_since_1 (by decide) ?_
  refine lv_aload_n hx hb dX0_since_2 rfl (lv_at hl 0 rfl) ?_
  refine lv_iload_n hx hb dX0_since_3 rfl (lv_at hl 1 rfl) ?_
  refine lv_iload_n hx hb dX0_since_4 rfl (lv_at hl 2 rfl) ?_
  obtain ⟨r_1, e_2, h⟩ := ga_gb h
  have hFc := va_free (wc := [(x, .inr (1, [.ref g, xs, xp, .ref xi, .int xl, xr, xq])), (g, .inr (2, [.ref sh, .ref al, .int gr, .ref g_b, .ref g_t])), (al, .inr (6, [.int lm, .ref ed, .int lz])), (ed, .inl (cA 5, ln, .inr (.inr (.inr (.inr lf))))), (sh, .inr (4, [.int zw, .int zh, .long zA, .long zL, .long zR, .long zE]))]) hD hS hA [0, 1, 2, 3, 4] rfl
  refine vx_calli (vx_runV (As := [.int x1, .int x2]) (rest := [.int 0, .ref o]) ⟨hx, hb, hml, hown, hts⟩ (met_X1_since l D cA (va_A [(x, .inr (1, [.ref g, xs, xp, .ref xi, .int xl, xr, xq])), (g, .inr (2, [.ref sh, .ref al, .int gr, .ref g_b, .ref g_t])), (al, .inr (6, [.int lm, .ref ed, .int lz])), (ed, .inl (cA 5, ln, .inr (.inr (.inr (.inr lf))))), (sh, .inr (4, [.int zw, .int zh, .long zA, .long zL, .long zR, .long zE]))] s.heap.size) x g xs xp xi xr xq sh al g_b g_t ed lf zs xl gr lm lz ln zw zh zA zL zR zE np q1 q2 qN qW qP qR qV qB qS qA qG qC N x1 x2 hX.2 r_1 e_2) (cwV 2 hts (lw_V q902 q903 q904 q67 q905) rfl rfl rfl (by decide +kernel) ⟨Nat.le_of_ble_eq_true rfl, Nat.le_of_ble_eq_true rfl⟩) (ga_XRV ga_poK (ga_poK.at hR hS hFc) hK (hP.sub (ws' := [(x, .inr (1, [.ref g, xs, xp, .ref xi, .int xl, xr, xq])), (g, .inr (2, [.ref sh, .ref al, .int gr, .ref g_b, .ref g_t])), (al, .inr (6, [.int lm, .ref ed, .int lz])), (ed, .inl (cA 5, ln, .inr (.inr (.inr (.inr lf))))), (sh, .inr (4, [.int zw, .int zh, .long zA, .long zL, .long zR, .long zE]))]) [0, 1, 2, 3, 4] rfl) (hD.sub (ws' := [(x, .inr (1, [.ref g, xs, xp, .ref xi, .int xl, xr, xq])), (g, .inr (2, [.ref sh, .ref al, .int gr, .ref g_b, .ref g_t])), (al, .inr (6, [.int lm, .ref ed, .int lz])), (ed, .inl (cA 5, ln, .inr (.inr (.inr (.inr lf))))), (sh, .inr (4, [.int zw, .int zh, .long zA, .long zL, .long zR, .long zE]))]) [0, 1, 2, 3, 4] (by decide) rfl).self (fun _ hq => Or.inr hq) (hST.at hS hFc) (va_recv hK.1 hP (ci := 1) (q0 := 0) rfl rfl)) rfl rfl hl.1 rfl (lv_room (Nat.le_of_ble_eq_true rfl)) dX0_since_5 ⟨Nat.le_of_ble_eq_true rfl, Nat.le_of_ble_eq_true rfl⟩) hS (fun q _ hq => hFc q hq) hFc (fun q _ hq => hFc q hq) (fun E_8 ce q_9 u_6 t H_7 locs ht _ w_4 hB _ hk hS hce hcv hcl => ?_) (fun z_3 u_6 t H_5 locs ht _ w_4 hB _ hk hS => ?_)
  · replace h := ga_swr w_4 h
    obtain ⟨eE, hP1, hD1⟩ := hB
    rw [ht] at hP1
    obtain ⟨hP, hD⟩ := va_join (wr := [(o, .inl (cA 1, 1, .inr (.inl oF)))]) (w1 := [(x, .inr (1, [.ref g, xs, xp, .ref xi, .int xl, xr, xq])), (g, .inr (2, [.ref sh, .ref al, .int gr, .ref g_b, .ref g_t])), (al, .inr (6, [.int lm, .ref ed, .int lz])), (ed, .inl (cA 5, ln, .inr (.inr (.inr (.inr lf))))), (sh, .inr (4, [.int zw, .int zh, .long zA, .long zL, .long zR, .long zE]))]) hP hD [0, 1, 2, 3, 4] [5] rfl rfl (by decide) (by decide) hk hFc hP1 hD1
    have hP : va_P D ga_cl [(o, .inl (cA 1, 1, .inr (.inl oF))), (x, .inr (1, [.ref g, xs, xp, .ref xi, .int xl, xr, xq])), (g, .inr (2, [.ref sh, .ref al, .int gr, .ref g_b, .ref g_t])), (al, .inr (6, [.int lm, .ref ed, .int lz])), (ed, .inl (cA 5, ln, .inr (.inr (.inr (.inr lf))))), (sh, .inr (4, [.int zw, .int zh, .long zA, .long zL, .long zR, .long zE]))] H_7 := hP
    have hD : va_D A [(o, .inl (cA 1, 1, .inr (.inl oF))), (x, .inr (1, [.ref g, xs, xp, .ref xi, .int xl, xr, xq])), (g, .inr (2, [.ref sh, .ref al, .int gr, .ref g_b, .ref g_t])), (al, .inr (6, [.int lm, .ref ed, .int lz])), (ed, .inl (cA 5, ln, .inr (.inr (.inr (.inr lf))))), (sh, .inr (4, [.int zw, .int zh, .long zA, .long zL, .long zR, .long zE]))] := hD
    by_cases c_11 : u_6 = 1
    · replace h := ga_ift c_11 h
      have eE : E_8 = "java/lang/IllegalArgumentException" := by rw [eE, c_11]; rfl
      subst eE
      refine vx_catch (name := "java/lang/IllegalArgumentException") hown [⟨0, 10, 13, 23⟩] ⟨0, 10, 17, 13⟩ [] (by rw [hX.1]; rfl) ((List.forall_mem_cons.mpr ⟨Or.inr ⟨by decide, "java/lang/IndexOutOfBoundsException", hts _ q586, ga_ncu hST (by decide +kernel)⟩, (fun _ hz => nomatch hz)⟩)) (by decide) (by decide) (hts _ q479) (ga_nu hK q495 rfl) hce hcv hcl ?_
      refine lv_astore (lv' := [(4, .ref q_9), (0, .ref x), (1, .int x1), (2, .int x2), (3, .ref o)]) hx hb dX0_since_17 hl (by decide) rfl (fun ls hl => ?_)
      refine lv_iconst (v := 2) hx hb dX0_since_19 (by decide) ?_
      have hP9 := hP.sub (ws' := [(x, .inr (1, [.ref g, xs, xp, .ref xi, .int xl, xr, xq])), (g, .inr (2, [.ref sh, .ref al, .int gr, .ref g_b, .ref g_t])), (al, .inr (6, [.int lm, .ref ed, .int lz])), (ed, .inl (cA 5, ln, .inr (.inr (.inr (.inr lf))))), (sh, .inr (4, [.int zw, .int zh, .long zA, .long zL, .long zR, .long zE])), (o, .inl (cA 1, 1, .inr (.inl oF)))]) [1, 2, 3, 4, 5, 0] rfl
      have hD9 := hD.sub (ws' := [(x, .inr (1, [.ref g, xs, xp, .ref xi, .int xl, xr, xq])), (g, .inr (2, [.ref sh, .ref al, .int gr, .ref g_b, .ref g_t])), (al, .inr (6, [.int lm, .ref ed, .int lz])), (ed, .inl (cA 5, ln, .inr (.inr (.inr (.inr lf))))), (sh, .inr (4, [.int zw, .int zh, .long zA, .long zL, .long zR, .long zE])), (o, .inl (cA 1, 1, .inr (.inl oF)))]) [1, 2, 3, 4, 5, 0] (by decide) rfl
      obtain rfl := Option.some.inj h
      exact W.iret hx hb hr (fun t ht hW => ⟨⟨_, oF, rfl, ⟨rfl, rfl⟩, ⟨by rw [ht]; exact hP9, hK.warm hW, hD9⟩⟩, hS.F ht⟩) hS.2.2 dX0_since_20
    · replace h := ga_iff c_11 h
      by_cases c_12 : u_6 = 3
      · replace h := ga_ift c_12 h
        have eE : E_8 = "java/lang/IndexOutOfBoundsException" := by rw [eE, c_12]; rfl
        subst eE
        refine vx_catch (name := "java/lang/IndexOutOfBoundsException") hown [] ⟨0, 10, 13, 23⟩ [⟨0, 10, 17, 13⟩] (by rw [hX.1]; rfl) ((fun _ hz => nomatch hz)) (by decide) (by decide) (hts _ q586) (ga_nu hK q630 rfl) hce hcv hcl ?_
        refine lv_astore (lv' := [(4, .ref q_9), (0, .ref x), (1, .int x1), (2, .int x2), (3, .ref o)]) hx hb dX0_since_13 hl (by decide) rfl (fun ls hl => ?_)
        refine lv_iconst (v := 1) hx hb dX0_since_15 (by decide) ?_
        have hP9 := hP.sub (ws' := [(x, .inr (1, [.ref g, xs, xp, .ref xi, .int xl, xr, xq])), (g, .inr (2, [.ref sh, .ref al, .int gr, .ref g_b, .ref g_t])), (al, .inr (6, [.int lm, .ref ed, .int lz])), (ed, .inl (cA 5, ln, .inr (.inr (.inr (.inr lf))))), (sh, .inr (4, [.int zw, .int zh, .long zA, .long zL, .long zR, .long zE])), (o, .inl (cA 1, 1, .inr (.inl oF)))]) [1, 2, 3, 4, 5, 0] rfl
        have hD9 := hD.sub (ws' := [(x, .inr (1, [.ref g, xs, xp, .ref xi, .int xl, xr, xq])), (g, .inr (2, [.ref sh, .ref al, .int gr, .ref g_b, .ref g_t])), (al, .inr (6, [.int lm, .ref ed, .int lz])), (ed, .inl (cA 5, ln, .inr (.inr (.inr (.inr lf))))), (sh, .inr (4, [.int zw, .int zh, .long zA, .long zL, .long zR, .long zE])), (o, .inl (cA 1, 1, .inr (.inl oF)))]) [1, 2, 3, 4, 5, 0] (by decide) rfl
        obtain rfl := Option.some.inj h
        exact W.iret hx hb hr (fun t ht hW => ⟨⟨_, oF, rfl, ⟨rfl, rfl⟩, ⟨by rw [ht]; exact hP9, hK.warm hW, hD9⟩⟩, hS.F ht⟩) hS.2.2 dX0_since_16
      · replace h := ga_iff c_12 h
        cases h
  · obtain ⟨v_10, ev_10, hv9⟩ := w_4
    replace h := ga_swl ev_10 h
    obtain ⟨rfl, rfl⟩ := hv9
    obtain ⟨hP1, -, hD1⟩ := hB
    rw [ht] at hP1
    obtain ⟨hP, hD⟩ := va_join (wr := [(o, .inl (cA 1, 1, .inr (.inl oF)))]) (w1 := [(x, .inr (1, [.ref g, xs, xp, .ref xi, .int xl, xr, xq])), (g, .inr (2, [.ref sh, .ref al, .int gr, .ref g_b, .ref g_t])), (al, .inr (6, [.int lm, .ref ed, .int lz])), (ed, .inl (cA 5, ln, .inr (.inr (.inr (.inr lf))))), (sh, .inr (4, [.int zw, .int zh, .long zA, .long zL, .long zR, .long zE]))]) hP hD [0, 1, 2, 3, 4] [5] rfl rfl (by decide) (by decide) hk hFc hP1 hD1
    have hP : va_P D ga_cl [(o, .inl (cA 1, 1, .inr (.inl oF))), (x, .inr (1, [.ref g, xs, xp, .ref xi, .int xl, xr, xq])), (g, .inr (2, [.ref sh, .ref al, .int gr, .ref g_b, .ref g_t])), (al, .inr (6, [.int lm, .ref ed, .int lz])), (ed, .inl (cA 5, ln, .inr (.inr (.inr (.inr lf))))), (sh, .inr (4, [.int zw, .int zh, .long zA, .long zL, .long zR, .long zE]))] H_5 := hP
    have hD : va_D A [(o, .inl (cA 1, 1, .inr (.inl oF))), (x, .inr (1, [.ref g, xs, xp, .ref xi, .int xl, xr, xq])), (g, .inr (2, [.ref sh, .ref al, .int gr, .ref g_b, .ref g_t])), (al, .inr (6, [.int lm, .ref ed, .int lz])), (ed, .inl (cA 5, ln, .inr (.inr (.inr (.inr lf))))), (sh, .inr (4, [.int zw, .int zh, .long zA, .long zL, .long zR, .long zE]))] := hD
    refine W.cs (cells' := 2) (slots' := 12) rfl rfl ?_
    refine lv_i2l (v := v_10.1.toInt64) hx hb dX0_since_8 rfl ?_
    refine va_last hx hb hK.1 hP hD hS 0 1 (f := oF) rfl rfl (ga_in (by decide)) dX0_since_9 (fun H_14 locs hP hD hS => ?_)
    have hP : va_P D ga_cl [(o, .inl (cA 1, 1, .inr (.inl (vp_updL oF (ix 0) v_10.1.toInt64)))), (x, .inr (1, [.ref g, xs, xp, .ref xi, .int xl, xr, xq])), (g, .inr (2, [.ref sh, .ref al, .int gr, .ref g_b, .ref g_t])), (al, .inr (6, [.int lm, .ref ed, .int lz])), (ed, .inl (cA 5, ln, .inr (.inr (.inr (.inr lf))))), (sh, .inr (4, [.int zw, .int zh, .long zA, .long zL, .long zR, .long zE]))] H_14 := hP
    have hD : va_D A [(o, .inl (cA 1, 1, .inr (.inl (vp_updL oF (ix 0) v_10.1.toInt64)))), (x, .inr (1, [.ref g, xs, xp, .ref xi, .int xl, xr, xq])), (g, .inr (2, [.ref sh, .ref al, .int gr, .ref g_b, .ref g_t])), (al, .inr (6, [.int lm, .ref ed, .int lz])), (ed, .inl (cA 5, ln, .inr (.inr (.inr (.inr lf))))), (sh, .inr (4, [.int zw, .int zh, .long zA, .long zL, .long zR, .long zE]))] := hD
    refine lv_goto (tgt := 21) hx hb dX0_since_10 (by decide) ?_
    refine lv_iconst (v := 0) hx hb dX0_since_21 (by decide) ?_
    have hP9 := hP.sub (ws' := [(x, .inr (1, [.ref g, xs, xp, .ref xi, .int xl, xr, xq])), (g, .inr (2, [.ref sh, .ref al, .int gr, .ref g_b, .ref g_t])), (al, .inr (6, [.int lm, .ref ed, .int lz])), (ed, .inl (cA 5, ln, .inr (.inr (.inr (.inr lf))))), (sh, .inr (4, [.int zw, .int zh, .long zA, .long zL, .long zR, .long zE])), (o, .inl (cA 1, 1, .inr (.inl (vp_updL oF (ix 0) v_10.1.toInt64))))]) [1, 2, 3, 4, 5, 0] rfl
    have hD9 := hD.sub (ws' := [(x, .inr (1, [.ref g, xs, xp, .ref xi, .int xl, xr, xq])), (g, .inr (2, [.ref sh, .ref al, .int gr, .ref g_b, .ref g_t])), (al, .inr (6, [.int lm, .ref ed, .int lz])), (ed, .inl (cA 5, ln, .inr (.inr (.inr (.inr lf))))), (sh, .inr (4, [.int zw, .int zh, .long zA, .long zL, .long zR, .long zE])), (o, .inl (cA 1, 1, .inr (.inl (vp_updL oF (ix 0) v_10.1.toInt64))))]) [1, 2, 3, 4, 5, 0] (by decide) rfl
    obtain rfl := Option.some.inj h
    exact W.iret hx hb hr (fun t ht hW => ⟨⟨_, (vp_updL oF (ix 0) v_10.1.toInt64), rfl, ⟨rfl, rfl⟩, ⟨by rw [ht]; exact hP9, hK.warm hW, hD9⟩⟩, hS.F ht⟩) hS.2.2 dX0_since_22
abbrev rm_X0_region : Room := { frames := 9, cells := 3, slots := 18, locals := 166 }
def F_X0_region (N : Nat) (xl : Int32) (gr : Int32) (lm : Int32) (lz : Int32) (ln : Nat) (zw : Int32) (zh : Int32) (zA : Int64) (zL : Int64) (zR : Int64) (zE : Int64) (oF : Nat → Int64) (np : Nat) (q1 : Nat → Int32) (q2 : Nat → Int32) (qN : Nat → Int32) (qW : Nat → Nat → Int32) (qP : Nat → Nat → Int32) (qR : Nat → Nat → Int32) (qV : Nat → Nat → Int32) (qB : Nat → Int64) (qS : Nat → Nat → Int64) (qA : Nat → Nat → Int64) (qG : Nat → Nat → Int64) (qC : Nat → Nat → Int32) (x1 : Int32) (x2 : Int32) : Option (Int32 × ((Nat → Int64))) :=
  ((F_X1_region N xl gr lm lz ln zw zh zA zL zR zE np q1 q2 qN qW qP qR qV qB qS qA qG qC x1 x2).bind fun r_1 => ga_sw r_1 (fun v_10 =>
  some (0, (vp_updL oF (ix 0) v_10.1))) (fun u_6 =>
  (if u_6 = 3 then
  some (1, oF)
  else
  (if u_6 = 4 then
  some (2, oF)
  else
  none))))
set_option maxHeartbeats 4000000 in
theorem met_X0_region (l : Launch) (D : va_G) (cA : Nat → ClassId) (A : Nat → Prop) (x : Nat) (g : Nat) (xs : Value) (xp : Value) (xi : Nat) (xr : Value) (xq : Value) (sh : Nat) (al : Nat) (g_b : Nat) (g_t : Nat) (ed : Nat) (lf : Nat → Option Nat) (o : Nat) (zs : Nat → Nat) (xl : Int32) (gr : Int32) (lm : Int32) (lz : Int32) (ln : Nat) (zw : Int32) (zh : Int32) (zA : Int64) (zL : Int64) (zR : Int64) (zE : Int64) (oF : Nat → Int64) (np : Nat) (q1 : Nat → Int32) (q2 : Nat → Int32) (qN : Nat → Int32) (qW : Nat → Nat → Int32) (qP : Nat → Nat → Int32) (qR : Nat → Nat → Int32) (qV : Nat → Nat → Int32) (qB : Nat → Int64) (qS : Nat → Nat → Int64) (qA : Nat → Nat → Int64) (qG : Nat → Nat → Int64) (qC : Nat → Nat → Int32) (N : Nat) (x1 : Int32) (x2 : Int32)  (hstk : l.stackTraces = false) (out : Int32 × ((Nat → Int64))) (h : F_X0_region N xl gr lm lz ln zw zh zA zL zR zE oF np q1 q2 qN qW qP qR qV qB qS qA qG qC x1 x2 = some out) : Met l yX0_region (wsW_ yX0_region cX0_region 5 (some .int) [(0, 9, 12, 23), (0, 9, 16, 52)]) rm_X0_region (ga_XR D cA zs A (ga_po D cA lf np q1 q2 qN qW qP qR qV qB qS qA qG qC) [(x, .inr (1, [.ref g, xs, xp, .ref xi, .int xl, xr, xq])), (g, .inr (2, [.ref sh, .ref al, .int gr, .ref g_b, .ref g_t])), (al, .inr (6, [.int lm, .ref ed, .int lz])), (ed, .inl (cA 5, ln, .inr (.inr (.inr (.inr lf))))), (sh, .inr (4, [.int zw, .int zh, .long zA, .long zL, .long zR, .long zE])), (o, .inl (cA 1, 1, .inr (.inl oF)))] [.ref x, .int x1, .int x2, .ref o]) (va_Qi (fun (r : Int32) (u : (Nat → Int64)) => (out.1 = r) ∧ out.2 = u) (fun (u : (Nat → Int64)) (t : State) => va_P D ga_cl [(x, .inr (1, [.ref g, xs, xp, .ref xi, .int xl, xr, xq])), (g, .inr (2, [.ref sh, .ref al, .int gr, .ref g_b, .ref g_t])), (al, .inr (6, [.int lm, .ref ed, .int lz])), (ed, .inl (cA 5, ln, .inr (.inr (.inr (.inr lf))))), (sh, .inr (4, [.int zw, .int zh, .long zA, .long zL, .long zR, .long zE])), (o, .inl (cA 1, 1, .inr (.inl u)))] t.heap ∧ ga_K D cA t ∧ va_D A [(x, .inr (1, [.ref g, xs, xp, .ref xi, .int xl, xr, xq])), (g, .inr (2, [.ref sh, .ref al, .int gr, .ref g_b, .ref g_t])), (al, .inr (6, [.int lm, .ref ed, .int lz])), (ed, .inl (cA 5, ln, .inr (.inr (.inr (.inr lf))))), (sh, .inr (4, [.int zw, .int zh, .long zA, .long zL, .long zR, .long zE])), (o, .inl (cA 1, 1, .inr (.inl u)))]) A) 3 18 A := by
  refine va_MetW (cc := cX0_region) (maxL := 5) (ret := (some .int)) (hh := [(0, 9, 12, 23), (0, 9, 16, 52)]) (by decide) rfl ?_
  intro p e s m args below meth c s₁ B hml hv
  have hX : c.exceptionTable.toList = tableOf [(0, 9, 12, 23), (0, 9, 16, 52)] ∧ l.stackTraces = false := ⟨vx_table (x := yX0_region) B (atoms_spec (ws := (wsW_ yX0_region cX0_region 5 (some .int) [(0, 9, 12, 23), (0, 9, 16, 52)])) B.pre _ List.mem_cons_self), hstk⟩
  obtain ⟨rfl, hP, hK, hD, hA, hST, hR⟩ := hv
  have hS : va_S A s.heap s.heap [] := va_S.rf
  have C : ga_cx p m c meth s _ RX0 cX0_region 5 (some .int) := ga_cxW_of B hml
  have C0 := C
  obtain ⟨hx, hb, hr, hlocks, hml, hown, hts⟩ := C0
  have hl := lv_entry ([.ref x, .int x1, .int x2, .ref o]) (n := 5) (Nat.le_of_ble_eq_true rfl)
  rw [lg_entry_eq]
  generalize (lg_sl ([.ref x, .int x1, .int x2, .ref o]) ++ List.replicate (5 - (lg_sl ([.ref x, .int x1, .int x2, .ref o])).length) Slot.unset).toArray = ls at hl ⊢
  have hl : lv_has ls 5 [(0, .ref x), (1, .int x1), (2, .int x2), (3, .ref o)] := hl
  rw [F_X0_region] at h
  refine lv_aload_n hx hb dX0_region_0 rfl (lv_at hl 3 rfl) ?_
  refine lv_iconst (v := 0) hx hb dX0_region_1 (by decide) ?_
  refine lv_aload_n hx hb dX0_region_2 rfl (lv_at hl 0 rfl) ?_
  refine lv_iload_n hx hb dX0_region_3 rfl (lv_at hl 1 rfl) ?_
  refine lv_iload_n hx hb dX0_region_4 rfl (lv_at hl 2 rfl) ?_
  obtain ⟨r_1, e_2, h⟩ := ga_gb h
  have hFc := va_free (wc := [(x, .inr (1, [.ref g, xs, xp, .ref xi, .int xl, xr, xq])), (g, .inr (2, [.ref sh, .ref al, .int gr, .ref g_b, .ref g_t])), (al, .inr (6, [.int lm, .ref ed, .int lz])), (ed, .inl (cA 5, ln, .inr (.inr (.inr (.inr lf))))), (sh, .inr (4, [.int zw, .int zh, .long zA, .long zL, .long zR, .long zE]))]) hD hS hA [0, 1, 2, 3, 4] rfl
  refine vx_calll (vx_runV (As := [.int x1, .int x2]) (rest := [.int 0, .ref o]) ⟨hx, hb, hml, hown, hts⟩ (met_X1_region l D cA (va_A [(x, .inr (1, [.ref g, xs, xp, .ref xi, .int xl, xr, xq])), (g, .inr (2, [.ref sh, .ref al, .int gr, .ref g_b, .ref g_t])), (al, .inr (6, [.int lm, .ref ed, .int lz])), (ed, .inl (cA 5, ln, .inr (.inr (.inr (.inr lf))))), (sh, .inr (4, [.int zw, .int zh, .long zA, .long zL, .long zR, .long zE]))] s.heap.size) x g xs xp xi xr xq sh al g_b g_t ed lf zs xl gr lm lz ln zw zh zA zL zR zE np q1 q2 qN qW qP qR qV qB qS qA qG qC N x1 x2 hX.2 r_1 e_2) (cwV 2 hts (lw_V q959 q960 q961 q67 q962) rfl rfl rfl (by decide +kernel) ⟨Nat.le_of_ble_eq_true rfl, Nat.le_of_ble_eq_true rfl⟩) (ga_XRV ga_poK (ga_poK.at hR hS hFc) hK (hP.sub (ws' := [(x, .inr (1, [.ref g, xs, xp, .ref xi, .int xl, xr, xq])), (g, .inr (2, [.ref sh, .ref al, .int gr, .ref g_b, .ref g_t])), (al, .inr (6, [.int lm, .ref ed, .int lz])), (ed, .inl (cA 5, ln, .inr (.inr (.inr (.inr lf))))), (sh, .inr (4, [.int zw, .int zh, .long zA, .long zL, .long zR, .long zE]))]) [0, 1, 2, 3, 4] rfl) (hD.sub (ws' := [(x, .inr (1, [.ref g, xs, xp, .ref xi, .int xl, xr, xq])), (g, .inr (2, [.ref sh, .ref al, .int gr, .ref g_b, .ref g_t])), (al, .inr (6, [.int lm, .ref ed, .int lz])), (ed, .inl (cA 5, ln, .inr (.inr (.inr (.inr lf))))), (sh, .inr (4, [.int zw, .int zh, .long zA, .long zL, .long zR, .long zE]))]) [0, 1, 2, 3, 4] (by decide) rfl).self (fun _ hq => Or.inr hq) (hST.at hS hFc) (va_recv hK.1 hP (ci := 1) (q0 := 0) rfl rfl)) rfl rfl hl.1 rfl (lv_room (Nat.le_of_ble_eq_true rfl)) dX0_region_5 ⟨Nat.le_of_ble_eq_true rfl, Nat.le_of_ble_eq_true rfl⟩) hS (fun q _ hq => hFc q hq) hFc (fun q _ hq => hFc q hq) (fun E_8 ce q_9 u_6 t H_7 locs ht _ w_4 hB _ hk hS hce hcv hcl => ?_) (fun z_3 u_6 t H_5 locs ht _ w_4 hB _ hk hS => ?_)
  · replace h := ga_swr w_4 h
    obtain ⟨eE, hP1, hD1⟩ := hB
    rw [ht] at hP1
    obtain ⟨hP, hD⟩ := va_join (wr := [(o, .inl (cA 1, 1, .inr (.inl oF)))]) (w1 := [(x, .inr (1, [.ref g, xs, xp, .ref xi, .int xl, xr, xq])), (g, .inr (2, [.ref sh, .ref al, .int gr, .ref g_b, .ref g_t])), (al, .inr (6, [.int lm, .ref ed, .int lz])), (ed, .inl (cA 5, ln, .inr (.inr (.inr (.inr lf))))), (sh, .inr (4, [.int zw, .int zh, .long zA, .long zL, .long zR, .long zE]))]) hP hD [0, 1, 2, 3, 4] [5] rfl rfl (by decide) (by decide) hk hFc hP1 hD1
    have hP : va_P D ga_cl [(o, .inl (cA 1, 1, .inr (.inl oF))), (x, .inr (1, [.ref g, xs, xp, .ref xi, .int xl, xr, xq])), (g, .inr (2, [.ref sh, .ref al, .int gr, .ref g_b, .ref g_t])), (al, .inr (6, [.int lm, .ref ed, .int lz])), (ed, .inl (cA 5, ln, .inr (.inr (.inr (.inr lf))))), (sh, .inr (4, [.int zw, .int zh, .long zA, .long zL, .long zR, .long zE]))] H_7 := hP
    have hD : va_D A [(o, .inl (cA 1, 1, .inr (.inl oF))), (x, .inr (1, [.ref g, xs, xp, .ref xi, .int xl, xr, xq])), (g, .inr (2, [.ref sh, .ref al, .int gr, .ref g_b, .ref g_t])), (al, .inr (6, [.int lm, .ref ed, .int lz])), (ed, .inl (cA 5, ln, .inr (.inr (.inr (.inr lf))))), (sh, .inr (4, [.int zw, .int zh, .long zA, .long zL, .long zR, .long zE]))] := hD
    by_cases c_11 : u_6 = 3
    · replace h := ga_ift c_11 h
      have eE : E_8 = "java/lang/IndexOutOfBoundsException" := by rw [eE, c_11]; rfl
      subst eE
      refine vx_catch (name := "java/lang/IndexOutOfBoundsException") hown [] ⟨0, 9, 12, 23⟩ [⟨0, 9, 16, 52⟩] (by rw [hX.1]; rfl) ((fun _ hz => nomatch hz)) (by decide) (by decide) (hts _ q586) (ga_nu hK q630 rfl) hce hcv hcl ?_
      refine lv_astore (lv' := [(4, .ref q_9), (0, .ref x), (1, .int x1), (2, .int x2), (3, .ref o)]) hx hb dX0_region_12 hl (by decide) rfl (fun ls hl => ?_)
      refine lv_iconst (v := 1) hx hb dX0_region_14 (by decide) ?_
      have hP9 := hP.sub (ws' := [(x, .inr (1, [.ref g, xs, xp, .ref xi, .int xl, xr, xq])), (g, .inr (2, [.ref sh, .ref al, .int gr, .ref g_b, .ref g_t])), (al, .inr (6, [.int lm, .ref ed, .int lz])), (ed, .inl (cA 5, ln, .inr (.inr (.inr (.inr lf))))), (sh, .inr (4, [.int zw, .int zh, .long zA, .long zL, .long zR, .long zE])), (o, .inl (cA 1, 1, .inr (.inl oF)))]) [1, 2, 3, 4, 5, 0] rfl
      have hD9 := hD.sub (ws' := [(x, .inr (1, [.ref g, xs, xp, .ref xi, .int xl, xr, xq])), (g, .inr (2, [.ref sh, .ref al, .int gr, .ref g_b, .ref g_t])), (al, .inr (6, [.int lm, .ref ed, .int lz])), (ed, .inl (cA 5, ln, .inr (.inr (.inr (.inr lf))))), (sh, .inr (4, [.int zw, .int zh, .long zA, .long zL, .long zR, .long zE])), (o, .inl (cA 1, 1, .inr (.inl oF)))]) [1, 2, 3, 4, 5, 0] (by decide) rfl
      obtain rfl := Option.some.inj h
      exact W.iret hx hb hr (fun t ht hW => ⟨⟨_, oF, rfl, ⟨rfl, rfl⟩, ⟨by rw [ht]; exact hP9, hK.warm hW, hD9⟩⟩, hS.F ht⟩) hS.2.2 dX0_region_15
    · replace h := ga_iff c_11 h
      by_cases c_12 : u_6 = 4
      · replace h := ga_ift c_12 h
        have eE : E_8 = "java/util/NoSuchElementException" := by rw [eE, c_12]; rfl
        subst eE
        refine vx_catch (name := "java/util/NoSuchElementException") hown [⟨0, 9, 12, 23⟩] ⟨0, 9, 16, 52⟩ [] (by rw [hX.1]; rfl) ((List.forall_mem_cons.mpr ⟨Or.inr ⟨by decide, "java/lang/IndexOutOfBoundsException", hts _ q586, ga_ncu hST (by decide +kernel)⟩, (fun _ hz => nomatch hz)⟩)) (by decide) (by decide) (hts _ q958) (ga_nu hK q969 rfl) hce hcv hcl ?_
        refine lv_astore (lv' := [(4, .ref q_9), (0, .ref x), (1, .int x1), (2, .int x2), (3, .ref o)]) hx hb dX0_region_16 hl (by decide) rfl (fun ls hl => ?_)
        refine lv_iconst (v := 2) hx hb dX0_region_18 (by decide) ?_
        have hP9 := hP.sub (ws' := [(x, .inr (1, [.ref g, xs, xp, .ref xi, .int xl, xr, xq])), (g, .inr (2, [.ref sh, .ref al, .int gr, .ref g_b, .ref g_t])), (al, .inr (6, [.int lm, .ref ed, .int lz])), (ed, .inl (cA 5, ln, .inr (.inr (.inr (.inr lf))))), (sh, .inr (4, [.int zw, .int zh, .long zA, .long zL, .long zR, .long zE])), (o, .inl (cA 1, 1, .inr (.inl oF)))]) [1, 2, 3, 4, 5, 0] rfl
        have hD9 := hD.sub (ws' := [(x, .inr (1, [.ref g, xs, xp, .ref xi, .int xl, xr, xq])), (g, .inr (2, [.ref sh, .ref al, .int gr, .ref g_b, .ref g_t])), (al, .inr (6, [.int lm, .ref ed, .int lz])), (ed, .inl (cA 5, ln, .inr (.inr (.inr (.inr lf))))), (sh, .inr (4, [.int zw, .int zh, .long zA, .long zL, .long zR, .long zE])), (o, .inl (cA 1, 1, .inr (.inl oF)))]) [1, 2, 3, 4, 5, 0] (by decide) rfl
        obtain rfl := Option.some.inj h
        exact W.iret hx hb hr (fun t ht hW => ⟨⟨_, oF, rfl, ⟨rfl, rfl⟩, ⟨by rw [ht]; exact hP9, hK.warm hW, hD9⟩⟩, hS.F ht⟩) hS.2.2 dX0_region_19
      · replace h := ga_iff c_12 h
        cases h
  · obtain ⟨v_10, ev_10, hv9⟩ := w_4
    replace h := ga_swl ev_10 h
    obtain ⟨rfl, rfl⟩ := hv9
    obtain ⟨hP1, -, hD1⟩ := hB
    rw [ht] at hP1
    obtain ⟨hP, hD⟩ := va_join (wr := [(o, .inl (cA 1, 1, .inr (.inl oF)))]) (w1 := [(x, .inr (1, [.ref g, xs, xp, .ref xi, .int xl, xr, xq])), (g, .inr (2, [.ref sh, .ref al, .int gr, .ref g_b, .ref g_t])), (al, .inr (6, [.int lm, .ref ed, .int lz])), (ed, .inl (cA 5, ln, .inr (.inr (.inr (.inr lf))))), (sh, .inr (4, [.int zw, .int zh, .long zA, .long zL, .long zR, .long zE]))]) hP hD [0, 1, 2, 3, 4] [5] rfl rfl (by decide) (by decide) hk hFc hP1 hD1
    have hP : va_P D ga_cl [(o, .inl (cA 1, 1, .inr (.inl oF))), (x, .inr (1, [.ref g, xs, xp, .ref xi, .int xl, xr, xq])), (g, .inr (2, [.ref sh, .ref al, .int gr, .ref g_b, .ref g_t])), (al, .inr (6, [.int lm, .ref ed, .int lz])), (ed, .inl (cA 5, ln, .inr (.inr (.inr (.inr lf))))), (sh, .inr (4, [.int zw, .int zh, .long zA, .long zL, .long zR, .long zE]))] H_5 := hP
    have hD : va_D A [(o, .inl (cA 1, 1, .inr (.inl oF))), (x, .inr (1, [.ref g, xs, xp, .ref xi, .int xl, xr, xq])), (g, .inr (2, [.ref sh, .ref al, .int gr, .ref g_b, .ref g_t])), (al, .inr (6, [.int lm, .ref ed, .int lz])), (ed, .inl (cA 5, ln, .inr (.inr (.inr (.inr lf))))), (sh, .inr (4, [.int zw, .int zh, .long zA, .long zL, .long zR, .long zE]))] := hD
    refine W.cs (cells' := 3) (slots' := 18) rfl rfl ?_
    refine va_last hx hb hK.1 hP hD hS 0 1 (f := oF) rfl rfl (ga_in (by decide)) dX0_region_8 (fun H_14 locs hP hD hS => ?_)
    have hP : va_P D ga_cl [(o, .inl (cA 1, 1, .inr (.inl (vp_updL oF (ix 0) v_10.1)))), (x, .inr (1, [.ref g, xs, xp, .ref xi, .int xl, xr, xq])), (g, .inr (2, [.ref sh, .ref al, .int gr, .ref g_b, .ref g_t])), (al, .inr (6, [.int lm, .ref ed, .int lz])), (ed, .inl (cA 5, ln, .inr (.inr (.inr (.inr lf))))), (sh, .inr (4, [.int zw, .int zh, .long zA, .long zL, .long zR, .long zE]))] H_14 := hP
    have hD : va_D A [(o, .inl (cA 1, 1, .inr (.inl (vp_updL oF (ix 0) v_10.1)))), (x, .inr (1, [.ref g, xs, xp, .ref xi, .int xl, xr, xq])), (g, .inr (2, [.ref sh, .ref al, .int gr, .ref g_b, .ref g_t])), (al, .inr (6, [.int lm, .ref ed, .int lz])), (ed, .inl (cA 5, ln, .inr (.inr (.inr (.inr lf))))), (sh, .inr (4, [.int zw, .int zh, .long zA, .long zL, .long zR, .long zE]))] := hD
    refine lv_goto (tgt := 20) hx hb dX0_region_9 (by decide) ?_
    refine lv_iconst (v := 0) hx hb dX0_region_20 (by decide) ?_
    have hP9 := hP.sub (ws' := [(x, .inr (1, [.ref g, xs, xp, .ref xi, .int xl, xr, xq])), (g, .inr (2, [.ref sh, .ref al, .int gr, .ref g_b, .ref g_t])), (al, .inr (6, [.int lm, .ref ed, .int lz])), (ed, .inl (cA 5, ln, .inr (.inr (.inr (.inr lf))))), (sh, .inr (4, [.int zw, .int zh, .long zA, .long zL, .long zR, .long zE])), (o, .inl (cA 1, 1, .inr (.inl (vp_updL oF (ix 0) v_10.1))))]) [1, 2, 3, 4, 5, 0] rfl
    have hD9 := hD.sub (ws' := [(x, .inr (1, [.ref g, xs, xp, .ref xi, .int xl, xr, xq])), (g, .inr (2, [.ref sh, .ref al, .int gr, .ref g_b, .ref g_t])), (al, .inr (6, [.int lm, .ref ed, .int lz])), (ed, .inl (cA 5, ln, .inr (.inr (.inr (.inr lf))))), (sh, .inr (4, [.int zw, .int zh, .long zA, .long zL, .long zR, .long zE])), (o, .inl (cA 1, 1, .inr (.inl (vp_updL oF (ix 0) v_10.1))))]) [1, 2, 3, 4, 5, 0] (by decide) rfl
    obtain rfl := Option.some.inj h
    exact W.iret hx hb hr (fun t ht hW => ⟨⟨_, (vp_updL oF (ix 0) v_10.1), rfl, ⟨rfl, rfl⟩, ⟨by rw [ht]; exact hP9, hK.warm hW, hD9⟩⟩, hS.F ht⟩) hS.2.2 dX0_region_21
abbrev rm_X0_cells : Room := { frames := 8, cells := 1, slots := 6, locals := 141 }
def F_X0_cells (N : Nat) (xl : Int32) (gr : Int32) (lm : Int32) (lz : Int32) (ln : Nat) (zw : Int32) (zh : Int32) (zA : Int64) (zL : Int64) (zR : Int64) (zE : Int64) (oF : Nat → Int64) (np : Nat) (q1 : Nat → Int32) (q2 : Nat → Int32) (qN : Nat → Int32) (qW : Nat → Nat → Int32) (qP : Nat → Nat → Int32) (qR : Nat → Nat → Int32) (qV : Nat → Nat → Int32) (qB : Nat → Int64) (qS : Nat → Nat → Int64) (qA : Nat → Nat → Int64) (qG : Nat → Nat → Int64) (qC : Nat → Nat → Int32) (x1 : Int32) : Option (Int32 × ((Nat → Int64))) :=
  ((F_X1_cells N xl gr lm lz ln zw zh zA zL zR zE np q1 q2 qN qW qP qR qV qB qS qA qG qC x1).bind fun r_1 => ga_sw r_1 (fun v_10 =>
  some (0, (vp_updL oF (ix 0) v_10.1))) (fun u_6 =>
  (if u_6 = 1 then
  some (1, oF)
  else
  none)))
set_option maxHeartbeats 4000000 in
theorem met_X0_cells (l : Launch) (D : va_G) (cA : Nat → ClassId) (A : Nat → Prop) (x : Nat) (g : Nat) (xs : Value) (xp : Value) (xi : Nat) (xr : Value) (xq : Value) (sh : Nat) (al : Nat) (g_b : Nat) (g_t : Nat) (ed : Nat) (lf : Nat → Option Nat) (o : Nat) (zs : Nat → Nat) (xl : Int32) (gr : Int32) (lm : Int32) (lz : Int32) (ln : Nat) (zw : Int32) (zh : Int32) (zA : Int64) (zL : Int64) (zR : Int64) (zE : Int64) (oF : Nat → Int64) (np : Nat) (q1 : Nat → Int32) (q2 : Nat → Int32) (qN : Nat → Int32) (qW : Nat → Nat → Int32) (qP : Nat → Nat → Int32) (qR : Nat → Nat → Int32) (qV : Nat → Nat → Int32) (qB : Nat → Int64) (qS : Nat → Nat → Int64) (qA : Nat → Nat → Int64) (qG : Nat → Nat → Int64) (qC : Nat → Nat → Int32) (N : Nat) (x1 : Int32)  (hstk : l.stackTraces = false) (out : Int32 × ((Nat → Int64))) (h : F_X0_cells N xl gr lm lz ln zw zh zA zL zR zE oF np q1 q2 qN qW qP qR qV qB qS qA qG qC x1 = some out) : Met l yX0_cells (wsW_ yX0_cells cX0_cells 4 (some .int) [(0, 8, 11, 13)]) rm_X0_cells (ga_XR D cA zs A (ga_po D cA lf np q1 q2 qN qW qP qR qV qB qS qA qG qC) [(x, .inr (1, [.ref g, xs, xp, .ref xi, .int xl, xr, xq])), (g, .inr (2, [.ref sh, .ref al, .int gr, .ref g_b, .ref g_t])), (al, .inr (6, [.int lm, .ref ed, .int lz])), (ed, .inl (cA 5, ln, .inr (.inr (.inr (.inr lf))))), (sh, .inr (4, [.int zw, .int zh, .long zA, .long zL, .long zR, .long zE])), (o, .inl (cA 1, 1, .inr (.inl oF)))] [.ref x, .int x1, .ref o]) (va_Qi (fun (r : Int32) (u : (Nat → Int64)) => (out.1 = r) ∧ out.2 = u) (fun (u : (Nat → Int64)) (t : State) => va_P D ga_cl [(x, .inr (1, [.ref g, xs, xp, .ref xi, .int xl, xr, xq])), (g, .inr (2, [.ref sh, .ref al, .int gr, .ref g_b, .ref g_t])), (al, .inr (6, [.int lm, .ref ed, .int lz])), (ed, .inl (cA 5, ln, .inr (.inr (.inr (.inr lf))))), (sh, .inr (4, [.int zw, .int zh, .long zA, .long zL, .long zR, .long zE])), (o, .inl (cA 1, 1, .inr (.inl u)))] t.heap ∧ ga_K D cA t ∧ va_D A [(x, .inr (1, [.ref g, xs, xp, .ref xi, .int xl, xr, xq])), (g, .inr (2, [.ref sh, .ref al, .int gr, .ref g_b, .ref g_t])), (al, .inr (6, [.int lm, .ref ed, .int lz])), (ed, .inl (cA 5, ln, .inr (.inr (.inr (.inr lf))))), (sh, .inr (4, [.int zw, .int zh, .long zA, .long zL, .long zR, .long zE])), (o, .inl (cA 1, 1, .inr (.inl u)))]) A) 1 6 A := by
  refine va_MetW (cc := cX0_cells) (maxL := 4) (ret := (some .int)) (hh := [(0, 8, 11, 13)]) (by decide) rfl ?_
  intro p e s m args below meth c s₁ B hml hv
  have hX : c.exceptionTable.toList = tableOf [(0, 8, 11, 13)] ∧ l.stackTraces = false := ⟨vx_table (x := yX0_cells) B (atoms_spec (ws := (wsW_ yX0_cells cX0_cells 4 (some .int) [(0, 8, 11, 13)])) B.pre _ List.mem_cons_self), hstk⟩
  obtain ⟨rfl, hP, hK, hD, hA, hST, hR⟩ := hv
  have hS : va_S A s.heap s.heap [] := va_S.rf
  have C : ga_cx p m c meth s _ RX0 cX0_cells 4 (some .int) := ga_cxW_of B hml
  have C0 := C
  obtain ⟨hx, hb, hr, hlocks, hml, hown, hts⟩ := C0
  have hl := lv_entry ([.ref x, .int x1, .ref o]) (n := 4) (Nat.le_of_ble_eq_true rfl)
  rw [lg_entry_eq]
  generalize (lg_sl ([.ref x, .int x1, .ref o]) ++ List.replicate (4 - (lg_sl ([.ref x, .int x1, .ref o])).length) Slot.unset).toArray = ls at hl ⊢
  have hl : lv_has ls 4 [(0, .ref x), (1, .int x1), (2, .ref o)] := hl
  rw [F_X0_cells] at h
  refine lv_aload_n hx hb dX0_cells_0 rfl (lv_at hl 2 rfl) ?_
  refine lv_iconst (v := 0) hx hb dX0_cells_1 (by decide) ?_
  refine lv_aload_n hx hb dX0_cells_2 rfl (lv_at hl 0 rfl) ?_
  refine lv_iload_n hx hb dX0_cells_3 rfl (lv_at hl 1 rfl) ?_
  obtain ⟨r_1, e_2, h⟩ := ga_gb h
  have hFc := va_free (wc := [(x, .inr (1, [.ref g, xs, xp, .ref xi, .int xl, xr, xq])), (g, .inr (2, [.ref sh, .ref al, .int gr, .ref g_b, .ref g_t])), (al, .inr (6, [.int lm, .ref ed, .int lz])), (ed, .inl (cA 5, ln, .inr (.inr (.inr (.inr lf))))), (sh, .inr (4, [.int zw, .int zh, .long zA, .long zL, .long zR, .long zE]))]) hD hS hA [0, 1, 2, 3, 4] rfl
  refine vx_calll (vx_runV (As := [.int x1]) (rest := [.int 0, .ref o]) ⟨hx, hb, hml, hown, hts⟩ (met_X1_cells l D cA (va_A [(x, .inr (1, [.ref g, xs, xp, .ref xi, .int xl, xr, xq])), (g, .inr (2, [.ref sh, .ref al, .int gr, .ref g_b, .ref g_t])), (al, .inr (6, [.int lm, .ref ed, .int lz])), (ed, .inl (cA 5, ln, .inr (.inr (.inr (.inr lf))))), (sh, .inr (4, [.int zw, .int zh, .long zA, .long zL, .long zR, .long zE]))] s.heap.size) x g xs xp xi xr xq sh al g_b g_t ed lf zs xl gr lm lz ln zw zh zA zL zR zE np q1 q2 qN qW qP qR qV qB qS qA qG qC N x1 hX.2 r_1 e_2) (cwV 1 hts (lw_V q985 q986 q987 q67 q988) rfl rfl rfl (by decide +kernel) ⟨Nat.le_of_ble_eq_true rfl, Nat.le_of_ble_eq_true rfl⟩) (ga_XRV ga_poK (ga_poK.at hR hS hFc) hK (hP.sub (ws' := [(x, .inr (1, [.ref g, xs, xp, .ref xi, .int xl, xr, xq])), (g, .inr (2, [.ref sh, .ref al, .int gr, .ref g_b, .ref g_t])), (al, .inr (6, [.int lm, .ref ed, .int lz])), (ed, .inl (cA 5, ln, .inr (.inr (.inr (.inr lf))))), (sh, .inr (4, [.int zw, .int zh, .long zA, .long zL, .long zR, .long zE]))]) [0, 1, 2, 3, 4] rfl) (hD.sub (ws' := [(x, .inr (1, [.ref g, xs, xp, .ref xi, .int xl, xr, xq])), (g, .inr (2, [.ref sh, .ref al, .int gr, .ref g_b, .ref g_t])), (al, .inr (6, [.int lm, .ref ed, .int lz])), (ed, .inl (cA 5, ln, .inr (.inr (.inr (.inr lf))))), (sh, .inr (4, [.int zw, .int zh, .long zA, .long zL, .long zR, .long zE]))]) [0, 1, 2, 3, 4] (by decide) rfl).self (fun _ hq => Or.inr hq) (hST.at hS hFc) (va_recv hK.1 hP (ci := 1) (q0 := 0) rfl rfl)) rfl rfl hl.1 rfl (lv_room (Nat.le_of_ble_eq_true rfl)) dX0_cells_4 ⟨Nat.le_of_ble_eq_true rfl, Nat.le_of_ble_eq_true rfl⟩) hS (fun q _ hq => hFc q hq) hFc (fun q _ hq => hFc q hq) (fun E_8 ce q_9 u_6 t H_7 locs ht _ w_4 hB _ hk hS hce hcv hcl => ?_) (fun z_3 u_6 t H_5 locs ht _ w_4 hB _ hk hS => ?_)
  · replace h := ga_swr w_4 h
    obtain ⟨eE, hP1, hD1⟩ := hB
    rw [ht] at hP1
    obtain ⟨hP, hD⟩ := va_join (wr := [(o, .inl (cA 1, 1, .inr (.inl oF)))]) (w1 := [(x, .inr (1, [.ref g, xs, xp, .ref xi, .int xl, xr, xq])), (g, .inr (2, [.ref sh, .ref al, .int gr, .ref g_b, .ref g_t])), (al, .inr (6, [.int lm, .ref ed, .int lz])), (ed, .inl (cA 5, ln, .inr (.inr (.inr (.inr lf))))), (sh, .inr (4, [.int zw, .int zh, .long zA, .long zL, .long zR, .long zE]))]) hP hD [0, 1, 2, 3, 4] [5] rfl rfl (by decide) (by decide) hk hFc hP1 hD1
    have hP : va_P D ga_cl [(o, .inl (cA 1, 1, .inr (.inl oF))), (x, .inr (1, [.ref g, xs, xp, .ref xi, .int xl, xr, xq])), (g, .inr (2, [.ref sh, .ref al, .int gr, .ref g_b, .ref g_t])), (al, .inr (6, [.int lm, .ref ed, .int lz])), (ed, .inl (cA 5, ln, .inr (.inr (.inr (.inr lf))))), (sh, .inr (4, [.int zw, .int zh, .long zA, .long zL, .long zR, .long zE]))] H_7 := hP
    have hD : va_D A [(o, .inl (cA 1, 1, .inr (.inl oF))), (x, .inr (1, [.ref g, xs, xp, .ref xi, .int xl, xr, xq])), (g, .inr (2, [.ref sh, .ref al, .int gr, .ref g_b, .ref g_t])), (al, .inr (6, [.int lm, .ref ed, .int lz])), (ed, .inl (cA 5, ln, .inr (.inr (.inr (.inr lf))))), (sh, .inr (4, [.int zw, .int zh, .long zA, .long zL, .long zR, .long zE]))] := hD
    by_cases c_11 : u_6 = 1
    · replace h := ga_ift c_11 h
      have eE : E_8 = "java/lang/IllegalArgumentException" := by rw [eE, c_11]; rfl
      subst eE
      refine vx_catch (name := "java/lang/IllegalArgumentException") hown [] ⟨0, 8, 11, 13⟩ [] (by rw [hX.1]; rfl) ((fun _ hz => nomatch hz)) (by decide) (by decide) (hts _ q479) (ga_nu hK q495 rfl) hce hcv hcl ?_
      refine lv_astore_n (lv' := [(3, .ref q_9), (0, .ref x), (1, .int x1), (2, .ref o)]) hx hb dX0_cells_11 rfl hl (by decide) rfl (fun ls hl => ?_)
      refine lv_iconst (v := 1) hx hb dX0_cells_12 (by decide) ?_
      have hP9 := hP.sub (ws' := [(x, .inr (1, [.ref g, xs, xp, .ref xi, .int xl, xr, xq])), (g, .inr (2, [.ref sh, .ref al, .int gr, .ref g_b, .ref g_t])), (al, .inr (6, [.int lm, .ref ed, .int lz])), (ed, .inl (cA 5, ln, .inr (.inr (.inr (.inr lf))))), (sh, .inr (4, [.int zw, .int zh, .long zA, .long zL, .long zR, .long zE])), (o, .inl (cA 1, 1, .inr (.inl oF)))]) [1, 2, 3, 4, 5, 0] rfl
      have hD9 := hD.sub (ws' := [(x, .inr (1, [.ref g, xs, xp, .ref xi, .int xl, xr, xq])), (g, .inr (2, [.ref sh, .ref al, .int gr, .ref g_b, .ref g_t])), (al, .inr (6, [.int lm, .ref ed, .int lz])), (ed, .inl (cA 5, ln, .inr (.inr (.inr (.inr lf))))), (sh, .inr (4, [.int zw, .int zh, .long zA, .long zL, .long zR, .long zE])), (o, .inl (cA 1, 1, .inr (.inl oF)))]) [1, 2, 3, 4, 5, 0] (by decide) rfl
      obtain rfl := Option.some.inj h
      exact W.iret hx hb hr (fun t ht hW => ⟨⟨_, oF, rfl, ⟨rfl, rfl⟩, ⟨by rw [ht]; exact hP9, hK.warm hW, hD9⟩⟩, hS.F ht⟩) hS.2.2 dX0_cells_13
    · replace h := ga_iff c_11 h
      cases h
  · obtain ⟨v_10, ev_10, hv9⟩ := w_4
    replace h := ga_swl ev_10 h
    obtain ⟨rfl, rfl⟩ := hv9
    obtain ⟨hP1, -, hD1⟩ := hB
    rw [ht] at hP1
    obtain ⟨hP, hD⟩ := va_join (wr := [(o, .inl (cA 1, 1, .inr (.inl oF)))]) (w1 := [(x, .inr (1, [.ref g, xs, xp, .ref xi, .int xl, xr, xq])), (g, .inr (2, [.ref sh, .ref al, .int gr, .ref g_b, .ref g_t])), (al, .inr (6, [.int lm, .ref ed, .int lz])), (ed, .inl (cA 5, ln, .inr (.inr (.inr (.inr lf))))), (sh, .inr (4, [.int zw, .int zh, .long zA, .long zL, .long zR, .long zE]))]) hP hD [0, 1, 2, 3, 4] [5] rfl rfl (by decide) (by decide) hk hFc hP1 hD1
    have hP : va_P D ga_cl [(o, .inl (cA 1, 1, .inr (.inl oF))), (x, .inr (1, [.ref g, xs, xp, .ref xi, .int xl, xr, xq])), (g, .inr (2, [.ref sh, .ref al, .int gr, .ref g_b, .ref g_t])), (al, .inr (6, [.int lm, .ref ed, .int lz])), (ed, .inl (cA 5, ln, .inr (.inr (.inr (.inr lf))))), (sh, .inr (4, [.int zw, .int zh, .long zA, .long zL, .long zR, .long zE]))] H_5 := hP
    have hD : va_D A [(o, .inl (cA 1, 1, .inr (.inl oF))), (x, .inr (1, [.ref g, xs, xp, .ref xi, .int xl, xr, xq])), (g, .inr (2, [.ref sh, .ref al, .int gr, .ref g_b, .ref g_t])), (al, .inr (6, [.int lm, .ref ed, .int lz])), (ed, .inl (cA 5, ln, .inr (.inr (.inr (.inr lf))))), (sh, .inr (4, [.int zw, .int zh, .long zA, .long zL, .long zR, .long zE]))] := hD
    refine W.cs (cells' := 1) (slots' := 6) rfl rfl ?_
    refine va_last hx hb hK.1 hP hD hS 0 1 (f := oF) rfl rfl (ga_in (by decide)) dX0_cells_7 (fun H_13 locs hP hD hS => ?_)
    have hP : va_P D ga_cl [(o, .inl (cA 1, 1, .inr (.inl (vp_updL oF (ix 0) v_10.1)))), (x, .inr (1, [.ref g, xs, xp, .ref xi, .int xl, xr, xq])), (g, .inr (2, [.ref sh, .ref al, .int gr, .ref g_b, .ref g_t])), (al, .inr (6, [.int lm, .ref ed, .int lz])), (ed, .inl (cA 5, ln, .inr (.inr (.inr (.inr lf))))), (sh, .inr (4, [.int zw, .int zh, .long zA, .long zL, .long zR, .long zE]))] H_13 := hP
    have hD : va_D A [(o, .inl (cA 1, 1, .inr (.inl (vp_updL oF (ix 0) v_10.1)))), (x, .inr (1, [.ref g, xs, xp, .ref xi, .int xl, xr, xq])), (g, .inr (2, [.ref sh, .ref al, .int gr, .ref g_b, .ref g_t])), (al, .inr (6, [.int lm, .ref ed, .int lz])), (ed, .inl (cA 5, ln, .inr (.inr (.inr (.inr lf))))), (sh, .inr (4, [.int zw, .int zh, .long zA, .long zL, .long zR, .long zE]))] := hD
    refine lv_goto (tgt := 14) hx hb dX0_cells_8 (by decide) ?_
    refine lv_iconst (v := 0) hx hb dX0_cells_14 (by decide) ?_
    have hP9 := hP.sub (ws' := [(x, .inr (1, [.ref g, xs, xp, .ref xi, .int xl, xr, xq])), (g, .inr (2, [.ref sh, .ref al, .int gr, .ref g_b, .ref g_t])), (al, .inr (6, [.int lm, .ref ed, .int lz])), (ed, .inl (cA 5, ln, .inr (.inr (.inr (.inr lf))))), (sh, .inr (4, [.int zw, .int zh, .long zA, .long zL, .long zR, .long zE])), (o, .inl (cA 1, 1, .inr (.inl (vp_updL oF (ix 0) v_10.1))))]) [1, 2, 3, 4, 5, 0] rfl
    have hD9 := hD.sub (ws' := [(x, .inr (1, [.ref g, xs, xp, .ref xi, .int xl, xr, xq])), (g, .inr (2, [.ref sh, .ref al, .int gr, .ref g_b, .ref g_t])), (al, .inr (6, [.int lm, .ref ed, .int lz])), (ed, .inl (cA 5, ln, .inr (.inr (.inr (.inr lf))))), (sh, .inr (4, [.int zw, .int zh, .long zA, .long zL, .long zR, .long zE])), (o, .inl (cA 1, 1, .inr (.inl (vp_updL oF (ix 0) v_10.1))))]) [1, 2, 3, 4, 5, 0] (by decide) rfl
    obtain rfl := Option.some.inj h
    exact W.iret hx hb hr (fun t ht hW => ⟨⟨_, (vp_updL oF (ix 0) v_10.1), rfl, ⟨rfl, rfl⟩, ⟨by rw [ht]; exact hP9, hK.warm hW, hD9⟩⟩, hS.F ht⟩) hS.2.2 dX0_cells_15
abbrev rm_X0_chain : Room := { frames := 9, cells := 2, slots := 12, locals := 164 }
def F_X0_chain (N : Nat) (xl : Int32) (gr : Int32) (lm : Int32) (lz : Int32) (ln : Nat) (zw : Int32) (zh : Int32) (zA : Int64) (zL : Int64) (zR : Int64) (zE : Int64) (oF : Nat → Int64) (np : Nat) (q1 : Nat → Int32) (q2 : Nat → Int32) (qN : Nat → Int32) (qW : Nat → Nat → Int32) (qP : Nat → Nat → Int32) (qR : Nat → Nat → Int32) (qV : Nat → Nat → Int32) (qB : Nat → Int64) (qS : Nat → Nat → Int64) (qA : Nat → Nat → Int64) (qG : Nat → Nat → Int64) (qC : Nat → Nat → Int32) (x1 : Int32) : Option (Int32 × ((Nat → Int64))) :=
  ((F_X1_chain N xl gr lm lz ln zw zh zA zL zR zE np q1 q2 qN qW qP qR qV qB qS qA qG qC x1).bind fun r_1 => ga_sw r_1 (fun v_10 =>
  some (0, (vp_updL oF (ix 0) v_10.1))) (fun u_6 =>
  (if u_6 = 3 then
  some (1, oF)
  else
  (if u_6 = 4 then
  some (2, oF)
  else
  none))))
set_option maxHeartbeats 4000000 in
theorem met_X0_chain (l : Launch) (D : va_G) (cA : Nat → ClassId) (A : Nat → Prop) (x : Nat) (g : Nat) (xs : Value) (xp : Value) (xi : Nat) (xr : Value) (xq : Value) (sh : Nat) (al : Nat) (g_b : Nat) (g_t : Nat) (ed : Nat) (lf : Nat → Option Nat) (o : Nat) (zs : Nat → Nat) (xl : Int32) (gr : Int32) (lm : Int32) (lz : Int32) (ln : Nat) (zw : Int32) (zh : Int32) (zA : Int64) (zL : Int64) (zR : Int64) (zE : Int64) (oF : Nat → Int64) (np : Nat) (q1 : Nat → Int32) (q2 : Nat → Int32) (qN : Nat → Int32) (qW : Nat → Nat → Int32) (qP : Nat → Nat → Int32) (qR : Nat → Nat → Int32) (qV : Nat → Nat → Int32) (qB : Nat → Int64) (qS : Nat → Nat → Int64) (qA : Nat → Nat → Int64) (qG : Nat → Nat → Int64) (qC : Nat → Nat → Int32) (N : Nat) (x1 : Int32)  (hstk : l.stackTraces = false) (out : Int32 × ((Nat → Int64))) (h : F_X0_chain N xl gr lm lz ln zw zh zA zL zR zE oF np q1 q2 qN qW qP qR qV qB qS qA qG qC x1 = some out) : Met l yX0_chain (wsW_ yX0_chain cX0_chain 4 (some .int) [(0, 8, 11, 23), (0, 8, 14, 52)]) rm_X0_chain (ga_XR D cA zs A (ga_po D cA lf np q1 q2 qN qW qP qR qV qB qS qA qG qC) [(x, .inr (1, [.ref g, xs, xp, .ref xi, .int xl, xr, xq])), (g, .inr (2, [.ref sh, .ref al, .int gr, .ref g_b, .ref g_t])), (al, .inr (6, [.int lm, .ref ed, .int lz])), (ed, .inl (cA 5, ln, .inr (.inr (.inr (.inr lf))))), (sh, .inr (4, [.int zw, .int zh, .long zA, .long zL, .long zR, .long zE])), (o, .inl (cA 1, 1, .inr (.inl oF)))] [.ref x, .int x1, .ref o]) (va_Qi (fun (r : Int32) (u : (Nat → Int64)) => (out.1 = r) ∧ out.2 = u) (fun (u : (Nat → Int64)) (t : State) => va_P D ga_cl [(x, .inr (1, [.ref g, xs, xp, .ref xi, .int xl, xr, xq])), (g, .inr (2, [.ref sh, .ref al, .int gr, .ref g_b, .ref g_t])), (al, .inr (6, [.int lm, .ref ed, .int lz])), (ed, .inl (cA 5, ln, .inr (.inr (.inr (.inr lf))))), (sh, .inr (4, [.int zw, .int zh, .long zA, .long zL, .long zR, .long zE])), (o, .inl (cA 1, 1, .inr (.inl u)))] t.heap ∧ ga_K D cA t ∧ va_D A [(x, .inr (1, [.ref g, xs, xp, .ref xi, .int xl, xr, xq])), (g, .inr (2, [.ref sh, .ref al, .int gr, .ref g_b, .ref g_t])), (al, .inr (6, [.int lm, .ref ed, .int lz])), (ed, .inl (cA 5, ln, .inr (.inr (.inr (.inr lf))))), (sh, .inr (4, [.int zw, .int zh, .long zA, .long zL, .long zR, .long zE])), (o, .inl (cA 1, 1, .inr (.inl u)))]) A) 2 12 A := by
  refine va_MetW (cc := cX0_chain) (maxL := 4) (ret := (some .int)) (hh := [(0, 8, 11, 23), (0, 8, 14, 52)]) (by decide) rfl ?_
  intro p e s m args below meth c s₁ B hml hv
  have hX : c.exceptionTable.toList = tableOf [(0, 8, 11, 23), (0, 8, 14, 52)] ∧ l.stackTraces = false := ⟨vx_table (x := yX0_chain) B (atoms_spec (ws := (wsW_ yX0_chain cX0_chain 4 (some .int) [(0, 8, 11, 23), (0, 8, 14, 52)])) B.pre _ List.mem_cons_self), hstk⟩
  obtain ⟨rfl, hP, hK, hD, hA, hST, hR⟩ := hv
  have hS : va_S A s.heap s.heap [] := va_S.rf
  have C : ga_cx p m c meth s _ RX0 cX0_chain 4 (some .int) := ga_cxW_of B hml
  have C0 := C
  obtain ⟨hx, hb, hr, hlocks, hml, hown, hts⟩ := C0
  have hl := lv_entry ([.ref x, .int x1, .ref o]) (n := 4) (Nat.le_of_ble_eq_true rfl)
  rw [lg_entry_eq]
  generalize (lg_sl ([.ref x, .int x1, .ref o]) ++ List.replicate (4 - (lg_sl ([.ref x, .int x1, .ref o])).length) Slot.unset).toArray = ls at hl ⊢
  have hl : lv_has ls 4 [(0, .ref x), (1, .int x1), (2, .ref o)] := hl
  rw [F_X0_chain] at h
  refine lv_aload_n hx hb dX0_chain_0 rfl (lv_at hl 2 rfl) ?_
  refine lv_iconst (v := 0) hx hb dX0_chain_1 (by decide) ?_
  refine lv_aload_n hx hb dX0_chain_2 rfl (lv_at hl 0 rfl) ?_
  refine lv_iload_n hx hb dX0_chain_3 rfl (lv_at hl 1 rfl) ?_
  obtain ⟨r_1, e_2, h⟩ := ga_gb h
  have hFc := va_free (wc := [(x, .inr (1, [.ref g, xs, xp, .ref xi, .int xl, xr, xq])), (g, .inr (2, [.ref sh, .ref al, .int gr, .ref g_b, .ref g_t])), (al, .inr (6, [.int lm, .ref ed, .int lz])), (ed, .inl (cA 5, ln, .inr (.inr (.inr (.inr lf))))), (sh, .inr (4, [.int zw, .int zh, .long zA, .long zL, .long zR, .long zE]))]) hD hS hA [0, 1, 2, 3, 4] rfl
  refine vx_calll (vx_runV (As := [.int x1]) (rest := [.int 0, .ref o]) ⟨hx, hb, hml, hown, hts⟩ (met_X1_chain l D cA (va_A [(x, .inr (1, [.ref g, xs, xp, .ref xi, .int xl, xr, xq])), (g, .inr (2, [.ref sh, .ref al, .int gr, .ref g_b, .ref g_t])), (al, .inr (6, [.int lm, .ref ed, .int lz])), (ed, .inl (cA 5, ln, .inr (.inr (.inr (.inr lf))))), (sh, .inr (4, [.int zw, .int zh, .long zA, .long zL, .long zR, .long zE]))] s.heap.size) x g xs xp xi xr xq sh al g_b g_t ed lf zs xl gr lm lz ln zw zh zA zL zR zE np q1 q2 qN qW qP qR qV qB qS qA qG qC N x1 hX.2 r_1 e_2) (cwV 1 hts (lw_V q993 q994 q995 q67 q996) rfl rfl rfl (by decide +kernel) ⟨Nat.le_of_ble_eq_true rfl, Nat.le_of_ble_eq_true rfl⟩) (ga_XRV ga_poK (ga_poK.at hR hS hFc) hK (hP.sub (ws' := [(x, .inr (1, [.ref g, xs, xp, .ref xi, .int xl, xr, xq])), (g, .inr (2, [.ref sh, .ref al, .int gr, .ref g_b, .ref g_t])), (al, .inr (6, [.int lm, .ref ed, .int lz])), (ed, .inl (cA 5, ln, .inr (.inr (.inr (.inr lf))))), (sh, .inr (4, [.int zw, .int zh, .long zA, .long zL, .long zR, .long zE]))]) [0, 1, 2, 3, 4] rfl) (hD.sub (ws' := [(x, .inr (1, [.ref g, xs, xp, .ref xi, .int xl, xr, xq])), (g, .inr (2, [.ref sh, .ref al, .int gr, .ref g_b, .ref g_t])), (al, .inr (6, [.int lm, .ref ed, .int lz])), (ed, .inl (cA 5, ln, .inr (.inr (.inr (.inr lf))))), (sh, .inr (4, [.int zw, .int zh, .long zA, .long zL, .long zR, .long zE]))]) [0, 1, 2, 3, 4] (by decide) rfl).self (fun _ hq => Or.inr hq) (hST.at hS hFc) (va_recv hK.1 hP (ci := 1) (q0 := 0) rfl rfl)) rfl rfl hl.1 rfl (lv_room (Nat.le_of_ble_eq_true rfl)) dX0_chain_4 ⟨Nat.le_of_ble_eq_true rfl, Nat.le_of_ble_eq_true rfl⟩) hS (fun q _ hq => hFc q hq) hFc (fun q _ hq => hFc q hq) (fun E_8 ce q_9 u_6 t H_7 locs ht _ w_4 hB _ hk hS hce hcv hcl => ?_) (fun z_3 u_6 t H_5 locs ht _ w_4 hB _ hk hS => ?_)
  · replace h := ga_swr w_4 h
    obtain ⟨eE, hP1, hD1⟩ := hB
    rw [ht] at hP1
    obtain ⟨hP, hD⟩ := va_join (wr := [(o, .inl (cA 1, 1, .inr (.inl oF)))]) (w1 := [(x, .inr (1, [.ref g, xs, xp, .ref xi, .int xl, xr, xq])), (g, .inr (2, [.ref sh, .ref al, .int gr, .ref g_b, .ref g_t])), (al, .inr (6, [.int lm, .ref ed, .int lz])), (ed, .inl (cA 5, ln, .inr (.inr (.inr (.inr lf))))), (sh, .inr (4, [.int zw, .int zh, .long zA, .long zL, .long zR, .long zE]))]) hP hD [0, 1, 2, 3, 4] [5] rfl rfl (by decide) (by decide) hk hFc hP1 hD1
    have hP : va_P D ga_cl [(o, .inl (cA 1, 1, .inr (.inl oF))), (x, .inr (1, [.ref g, xs, xp, .ref xi, .int xl, xr, xq])), (g, .inr (2, [.ref sh, .ref al, .int gr, .ref g_b, .ref g_t])), (al, .inr (6, [.int lm, .ref ed, .int lz])), (ed, .inl (cA 5, ln, .inr (.inr (.inr (.inr lf))))), (sh, .inr (4, [.int zw, .int zh, .long zA, .long zL, .long zR, .long zE]))] H_7 := hP
    have hD : va_D A [(o, .inl (cA 1, 1, .inr (.inl oF))), (x, .inr (1, [.ref g, xs, xp, .ref xi, .int xl, xr, xq])), (g, .inr (2, [.ref sh, .ref al, .int gr, .ref g_b, .ref g_t])), (al, .inr (6, [.int lm, .ref ed, .int lz])), (ed, .inl (cA 5, ln, .inr (.inr (.inr (.inr lf))))), (sh, .inr (4, [.int zw, .int zh, .long zA, .long zL, .long zR, .long zE]))] := hD
    by_cases c_11 : u_6 = 3
    · replace h := ga_ift c_11 h
      have eE : E_8 = "java/lang/IndexOutOfBoundsException" := by rw [eE, c_11]; rfl
      subst eE
      refine vx_catch (name := "java/lang/IndexOutOfBoundsException") hown [] ⟨0, 8, 11, 23⟩ [⟨0, 8, 14, 52⟩] (by rw [hX.1]; rfl) ((fun _ hz => nomatch hz)) (by decide) (by decide) (hts _ q586) (ga_nu hK q630 rfl) hce hcv hcl ?_
      refine lv_astore_n (lv' := [(3, .ref q_9), (0, .ref x), (1, .int x1), (2, .ref o)]) hx hb dX0_chain_11 rfl hl (by decide) rfl (fun ls hl => ?_)
      refine lv_iconst (v := 1) hx hb dX0_chain_12 (by decide) ?_
      have hP9 := hP.sub (ws' := [(x, .inr (1, [.ref g, xs, xp, .ref xi, .int xl, xr, xq])), (g, .inr (2, [.ref sh, .ref al, .int gr, .ref g_b, .ref g_t])), (al, .inr (6, [.int lm, .ref ed, .int lz])), (ed, .inl (cA 5, ln, .inr (.inr (.inr (.inr lf))))), (sh, .inr (4, [.int zw, .int zh, .long zA, .long zL, .long zR, .long zE])), (o, .inl (cA 1, 1, .inr (.inl oF)))]) [1, 2, 3, 4, 5, 0] rfl
      have hD9 := hD.sub (ws' := [(x, .inr (1, [.ref g, xs, xp, .ref xi, .int xl, xr, xq])), (g, .inr (2, [.ref sh, .ref al, .int gr, .ref g_b, .ref g_t])), (al, .inr (6, [.int lm, .ref ed, .int lz])), (ed, .inl (cA 5, ln, .inr (.inr (.inr (.inr lf))))), (sh, .inr (4, [.int zw, .int zh, .long zA, .long zL, .long zR, .long zE])), (o, .inl (cA 1, 1, .inr (.inl oF)))]) [1, 2, 3, 4, 5, 0] (by decide) rfl
      obtain rfl := Option.some.inj h
      exact W.iret hx hb hr (fun t ht hW => ⟨⟨_, oF, rfl, ⟨rfl, rfl⟩, ⟨by rw [ht]; exact hP9, hK.warm hW, hD9⟩⟩, hS.F ht⟩) hS.2.2 dX0_chain_13
    · replace h := ga_iff c_11 h
      by_cases c_12 : u_6 = 4
      · replace h := ga_ift c_12 h
        have eE : E_8 = "java/util/NoSuchElementException" := by rw [eE, c_12]; rfl
        subst eE
        refine vx_catch (name := "java/util/NoSuchElementException") hown [⟨0, 8, 11, 23⟩] ⟨0, 8, 14, 52⟩ [] (by rw [hX.1]; rfl) ((List.forall_mem_cons.mpr ⟨Or.inr ⟨by decide, "java/lang/IndexOutOfBoundsException", hts _ q586, ga_ncu hST (by decide +kernel)⟩, (fun _ hz => nomatch hz)⟩)) (by decide) (by decide) (hts _ q958) (ga_nu hK q969 rfl) hce hcv hcl ?_
        refine lv_astore_n (lv' := [(3, .ref q_9), (0, .ref x), (1, .int x1), (2, .ref o)]) hx hb dX0_chain_14 rfl hl (by decide) rfl (fun ls hl => ?_)
        refine lv_iconst (v := 2) hx hb dX0_chain_15 (by decide) ?_
        have hP9 := hP.sub (ws' := [(x, .inr (1, [.ref g, xs, xp, .ref xi, .int xl, xr, xq])), (g, .inr (2, [.ref sh, .ref al, .int gr, .ref g_b, .ref g_t])), (al, .inr (6, [.int lm, .ref ed, .int lz])), (ed, .inl (cA 5, ln, .inr (.inr (.inr (.inr lf))))), (sh, .inr (4, [.int zw, .int zh, .long zA, .long zL, .long zR, .long zE])), (o, .inl (cA 1, 1, .inr (.inl oF)))]) [1, 2, 3, 4, 5, 0] rfl
        have hD9 := hD.sub (ws' := [(x, .inr (1, [.ref g, xs, xp, .ref xi, .int xl, xr, xq])), (g, .inr (2, [.ref sh, .ref al, .int gr, .ref g_b, .ref g_t])), (al, .inr (6, [.int lm, .ref ed, .int lz])), (ed, .inl (cA 5, ln, .inr (.inr (.inr (.inr lf))))), (sh, .inr (4, [.int zw, .int zh, .long zA, .long zL, .long zR, .long zE])), (o, .inl (cA 1, 1, .inr (.inl oF)))]) [1, 2, 3, 4, 5, 0] (by decide) rfl
        obtain rfl := Option.some.inj h
        exact W.iret hx hb hr (fun t ht hW => ⟨⟨_, oF, rfl, ⟨rfl, rfl⟩, ⟨by rw [ht]; exact hP9, hK.warm hW, hD9⟩⟩, hS.F ht⟩) hS.2.2 dX0_chain_16
      · replace h := ga_iff c_12 h
        cases h
  · obtain ⟨v_10, ev_10, hv9⟩ := w_4
    replace h := ga_swl ev_10 h
    obtain ⟨rfl, rfl⟩ := hv9
    obtain ⟨hP1, -, hD1⟩ := hB
    rw [ht] at hP1
    obtain ⟨hP, hD⟩ := va_join (wr := [(o, .inl (cA 1, 1, .inr (.inl oF)))]) (w1 := [(x, .inr (1, [.ref g, xs, xp, .ref xi, .int xl, xr, xq])), (g, .inr (2, [.ref sh, .ref al, .int gr, .ref g_b, .ref g_t])), (al, .inr (6, [.int lm, .ref ed, .int lz])), (ed, .inl (cA 5, ln, .inr (.inr (.inr (.inr lf))))), (sh, .inr (4, [.int zw, .int zh, .long zA, .long zL, .long zR, .long zE]))]) hP hD [0, 1, 2, 3, 4] [5] rfl rfl (by decide) (by decide) hk hFc hP1 hD1
    have hP : va_P D ga_cl [(o, .inl (cA 1, 1, .inr (.inl oF))), (x, .inr (1, [.ref g, xs, xp, .ref xi, .int xl, xr, xq])), (g, .inr (2, [.ref sh, .ref al, .int gr, .ref g_b, .ref g_t])), (al, .inr (6, [.int lm, .ref ed, .int lz])), (ed, .inl (cA 5, ln, .inr (.inr (.inr (.inr lf))))), (sh, .inr (4, [.int zw, .int zh, .long zA, .long zL, .long zR, .long zE]))] H_5 := hP
    have hD : va_D A [(o, .inl (cA 1, 1, .inr (.inl oF))), (x, .inr (1, [.ref g, xs, xp, .ref xi, .int xl, xr, xq])), (g, .inr (2, [.ref sh, .ref al, .int gr, .ref g_b, .ref g_t])), (al, .inr (6, [.int lm, .ref ed, .int lz])), (ed, .inl (cA 5, ln, .inr (.inr (.inr (.inr lf))))), (sh, .inr (4, [.int zw, .int zh, .long zA, .long zL, .long zR, .long zE]))] := hD
    refine W.cs (cells' := 2) (slots' := 12) rfl rfl ?_
    refine va_last hx hb hK.1 hP hD hS 0 1 (f := oF) rfl rfl (ga_in (by decide)) dX0_chain_7 (fun H_14 locs hP hD hS => ?_)
    have hP : va_P D ga_cl [(o, .inl (cA 1, 1, .inr (.inl (vp_updL oF (ix 0) v_10.1)))), (x, .inr (1, [.ref g, xs, xp, .ref xi, .int xl, xr, xq])), (g, .inr (2, [.ref sh, .ref al, .int gr, .ref g_b, .ref g_t])), (al, .inr (6, [.int lm, .ref ed, .int lz])), (ed, .inl (cA 5, ln, .inr (.inr (.inr (.inr lf))))), (sh, .inr (4, [.int zw, .int zh, .long zA, .long zL, .long zR, .long zE]))] H_14 := hP
    have hD : va_D A [(o, .inl (cA 1, 1, .inr (.inl (vp_updL oF (ix 0) v_10.1)))), (x, .inr (1, [.ref g, xs, xp, .ref xi, .int xl, xr, xq])), (g, .inr (2, [.ref sh, .ref al, .int gr, .ref g_b, .ref g_t])), (al, .inr (6, [.int lm, .ref ed, .int lz])), (ed, .inl (cA 5, ln, .inr (.inr (.inr (.inr lf))))), (sh, .inr (4, [.int zw, .int zh, .long zA, .long zL, .long zR, .long zE]))] := hD
    refine lv_goto (tgt := 17) hx hb dX0_chain_8 (by decide) ?_
    refine lv_iconst (v := 0) hx hb dX0_chain_17 (by decide) ?_
    have hP9 := hP.sub (ws' := [(x, .inr (1, [.ref g, xs, xp, .ref xi, .int xl, xr, xq])), (g, .inr (2, [.ref sh, .ref al, .int gr, .ref g_b, .ref g_t])), (al, .inr (6, [.int lm, .ref ed, .int lz])), (ed, .inl (cA 5, ln, .inr (.inr (.inr (.inr lf))))), (sh, .inr (4, [.int zw, .int zh, .long zA, .long zL, .long zR, .long zE])), (o, .inl (cA 1, 1, .inr (.inl (vp_updL oF (ix 0) v_10.1))))]) [1, 2, 3, 4, 5, 0] rfl
    have hD9 := hD.sub (ws' := [(x, .inr (1, [.ref g, xs, xp, .ref xi, .int xl, xr, xq])), (g, .inr (2, [.ref sh, .ref al, .int gr, .ref g_b, .ref g_t])), (al, .inr (6, [.int lm, .ref ed, .int lz])), (ed, .inl (cA 5, ln, .inr (.inr (.inr (.inr lf))))), (sh, .inr (4, [.int zw, .int zh, .long zA, .long zL, .long zR, .long zE])), (o, .inl (cA 1, 1, .inr (.inl (vp_updL oF (ix 0) v_10.1))))]) [1, 2, 3, 4, 5, 0] (by decide) rfl
    obtain rfl := Option.some.inj h
    exact W.iret hx hb hr (fun t ht hW => ⟨⟨_, (vp_updL oF (ix 0) v_10.1), rfl, ⟨rfl, rfl⟩, ⟨by rw [ht]; exact hP9, hK.warm hW, hD9⟩⟩, hS.F ht⟩) hS.2.2 dX0_chain_18
abbrev rm_X0_stonesToEnclose : Room := { frames := 9, cells := 4, slots := 24, locals := 192 }
def F_X0_stonesToEnclose (N : Nat) (xl : Int32) (gr : Int32) (lm : Int32) (lz : Int32) (ln : Nat) (zw : Int32) (zh : Int32) (zA : Int64) (zL : Int64) (zR : Int64) (zE : Int64) (oF : Nat → Int64) (np : Nat) (q1 : Nat → Int32) (q2 : Nat → Int32) (qN : Nat → Int32) (qW : Nat → Nat → Int32) (qP : Nat → Nat → Int32) (qR : Nat → Nat → Int32) (qV : Nat → Nat → Int32) (qB : Nat → Int64) (qS : Nat → Nat → Int64) (qA : Nat → Nat → Int64) (qG : Nat → Nat → Int64) (qC : Nat → Nat → Int32) (x1 : Int32) (x2 : Int32) : Option (Int32 × ((Nat → Int64))) :=
  ((F_X1_stonesToEnclose N xl gr lm lz ln zw zh zA zL zR zE np q1 q2 qN qW qP qR qV qB qS qA qG qC x1 x2).bind fun r_1 => ga_sw r_1 (fun v_10 =>
  some (0, (vp_updL oF (ix 0) v_10.1.toInt64))) (fun u_6 =>
  (if u_6 = 3 then
  some (1, oF)
  else
  (if u_6 = 4 then
  some (2, oF)
  else
  none))))
set_option maxHeartbeats 4000000 in
theorem met_X0_stonesToEnclose (l : Launch) (D : va_G) (cA : Nat → ClassId) (A : Nat → Prop) (x : Nat) (g : Nat) (xs : Value) (xp : Value) (xi : Nat) (xr : Value) (xq : Value) (sh : Nat) (al : Nat) (g_b : Nat) (g_t : Nat) (ed : Nat) (lf : Nat → Option Nat) (o : Nat) (zs : Nat → Nat) (xl : Int32) (gr : Int32) (lm : Int32) (lz : Int32) (ln : Nat) (zw : Int32) (zh : Int32) (zA : Int64) (zL : Int64) (zR : Int64) (zE : Int64) (oF : Nat → Int64) (np : Nat) (q1 : Nat → Int32) (q2 : Nat → Int32) (qN : Nat → Int32) (qW : Nat → Nat → Int32) (qP : Nat → Nat → Int32) (qR : Nat → Nat → Int32) (qV : Nat → Nat → Int32) (qB : Nat → Int64) (qS : Nat → Nat → Int64) (qA : Nat → Nat → Int64) (qG : Nat → Nat → Int64) (qC : Nat → Nat → Int32) (N : Nat) (x1 : Int32) (x2 : Int32)  (hstk : l.stackTraces = false) (out : Int32 × ((Nat → Int64))) (h : F_X0_stonesToEnclose N xl gr lm lz ln zw zh zA zL zR zE oF np q1 q2 qN qW qP qR qV qB qS qA qG qC x1 x2 = some out) : Met l yX0_stonesToEnclose (wsW_ yX0_stonesToEnclose cX0_stonesToEnclose 5 (some .int) [(0, 10, 13, 23), (0, 10, 17, 52)]) rm_X0_stonesToEnclose (ga_XR D cA zs A (ga_po D cA lf np q1 q2 qN qW qP qR qV qB qS qA qG qC) [(x, .inr (1, [.ref g, xs, xp, .ref xi, .int xl, xr, xq])), (g, .inr (2, [.ref sh, .ref al, .int gr, .ref g_b, .ref g_t])), (al, .inr (6, [.int lm, .ref ed, .int lz])), (ed, .inl (cA 5, ln, .inr (.inr (.inr (.inr lf))))), (sh, .inr (4, [.int zw, .int zh, .long zA, .long zL, .long zR, .long zE])), (o, .inl (cA 1, 1, .inr (.inl oF)))] [.ref x, .int x1, .int x2, .ref o]) (va_Qi (fun (r : Int32) (u : (Nat → Int64)) => (out.1 = r) ∧ out.2 = u) (fun (u : (Nat → Int64)) (t : State) => va_P D ga_cl [(x, .inr (1, [.ref g, xs, xp, .ref xi, .int xl, xr, xq])), (g, .inr (2, [.ref sh, .ref al, .int gr, .ref g_b, .ref g_t])), (al, .inr (6, [.int lm, .ref ed, .int lz])), (ed, .inl (cA 5, ln, .inr (.inr (.inr (.inr lf))))), (sh, .inr (4, [.int zw, .int zh, .long zA, .long zL, .long zR, .long zE])), (o, .inl (cA 1, 1, .inr (.inl u)))] t.heap ∧ ga_K D cA t ∧ va_D A [(x, .inr (1, [.ref g, xs, xp, .ref xi, .int xl, xr, xq])), (g, .inr (2, [.ref sh, .ref al, .int gr, .ref g_b, .ref g_t])), (al, .inr (6, [.int lm, .ref ed, .int lz])), (ed, .inl (cA 5, ln, .inr (.inr (.inr (.inr lf))))), (sh, .inr (4, [.int zw, .int zh, .long zA, .long zL, .long zR, .long zE])), (o, .inl (cA 1, 1, .inr (.inl u)))]) A) 4 24 A := by
  refine va_MetW (cc := cX0_stonesToEnclose) (maxL := 5) (ret := (some .int)) (hh := [(0, 10, 13, 23), (0, 10, 17, 52)]) (by decide) rfl ?_
  intro p e s m args below meth c s₁ B hml hv
  have hX : c.exceptionTable.toList = tableOf [(0, 10, 13, 23), (0, 10, 17, 52)] ∧ l.stackTraces = false := ⟨vx_table (x := yX0_stonesToEnclose) B (atoms_spec (ws := (wsW_ yX0_stonesToEnclose cX0_stonesToEnclose 5 (some .int) [(0, 10, 13, 23), (0, 10, 17, 52)])) B.pre _ List.mem_cons_self), hstk⟩
  obtain ⟨rfl, hP, hK, hD, hA, hST, hR⟩ := hv
  have hS : va_S A s.heap s.heap [] := va_S.rf
  have C : ga_cx p m c meth s _ RX0 cX0_stonesToEnclose 5 (some .int) := ga_cxW_of B hml
  have C0 := C
  obtain ⟨hx, hb, hr, hlocks, hml, hown, hts⟩ := C0
  have hl := lv_entry ([.ref x, .int x1, .int x2, .ref o]) (n := 5) (Nat.le_of_ble_eq_true rfl)
  rw [lg_entry_eq]
  generalize (lg_sl ([.ref x, .int x1, .int x2, .ref o]) ++ List.replicate (5 - (lg_sl ([.ref x, .int x1, .int x2, .ref o])).length) Slot.unset).toArray = ls at hl ⊢
  have hl : lv_has ls 5 [(0, .ref x), (1, .int x1), (2, .int x2), (3, .ref o)] := hl
  rw [F_X0_stonesToEnclose] at h
  refine lv_aload_n hx hb dX0_stonesToEnclose_0 rfl (lv_at hl 3 rfl) ?_
  refine lv_iconst (v := 0) hx hb dX0_stonesToEnclose_1 (by decide) ?_
  refine lv_aload_n hx hb dX0_stonesToEnclose_2 rfl (lv_at hl 0 rfl) ?_
  refine lv_iload_n hx hb dX0_stonesToEnclose_3 rfl (lv_at hl 1 rfl) ?_
  refine lv_iload_n hx hb dX0_stonesToEnclose_4 rfl (lv_at hl 2 rfl) ?_
  obtain ⟨r_1, e_2, h⟩ := ga_gb h
  have hFc := va_free (wc := [(x, .inr (1, [.ref g, xs, xp, .ref xi, .int xl, xr, xq])), (g, .inr (2, [.ref sh, .ref al, .int gr, .ref g_b, .ref g_t])), (al, .inr (6, [.int lm, .ref ed, .int lz])), (ed, .inl (cA 5, ln, .inr (.inr (.inr (.inr lf))))), (sh, .inr (4, [.int zw, .int zh, .long zA, .long zL, .long zR, .long zE]))]) hD hS hA [0, 1, 2, 3, 4] rfl
  refine vx_calli (vx_runV (As := [.int x1, .int x2]) (rest := [.int 0, .ref o]) ⟨hx, hb, hml, hown, hts⟩ (met_X1_stonesToEnclose l D cA (va_A [(x, .inr (1, [.ref g, xs, xp, .ref xi, .int xl, xr, xq])), (g, .inr (2, [.ref sh, .ref al, .int gr, .ref g_b, .ref g_t])), (al, .inr (6, [.int lm, .ref ed, .int lz])), (ed, .inl (cA 5, ln, .inr (.inr (.inr (.inr lf))))), (sh, .inr (4, [.int zw, .int zh, .long zA, .long zL, .long zR, .long zE]))] s.heap.size) x g xs xp xi xr xq sh al g_b g_t ed lf zs xl gr lm lz ln zw zh zA zL zR zE np q1 q2 qN qW qP qR qV qB qS qA qG qC N x1 x2 hX.2 r_1 e_2) (cwV 2 hts (lw_V q1000 q1001 q1002 q67 q1003) rfl rfl rfl (by decide +kernel) ⟨Nat.le_of_ble_eq_true rfl, Nat.le_of_ble_eq_true rfl⟩) (ga_XRV ga_poK (ga_poK.at hR hS hFc) hK (hP.sub (ws' := [(x, .inr (1, [.ref g, xs, xp, .ref xi, .int xl, xr, xq])), (g, .inr (2, [.ref sh, .ref al, .int gr, .ref g_b, .ref g_t])), (al, .inr (6, [.int lm, .ref ed, .int lz])), (ed, .inl (cA 5, ln, .inr (.inr (.inr (.inr lf))))), (sh, .inr (4, [.int zw, .int zh, .long zA, .long zL, .long zR, .long zE]))]) [0, 1, 2, 3, 4] rfl) (hD.sub (ws' := [(x, .inr (1, [.ref g, xs, xp, .ref xi, .int xl, xr, xq])), (g, .inr (2, [.ref sh, .ref al, .int gr, .ref g_b, .ref g_t])), (al, .inr (6, [.int lm, .ref ed, .int lz])), (ed, .inl (cA 5, ln, .inr (.inr (.inr (.inr lf))))), (sh, .inr (4, [.int zw, .int zh, .long zA, .long zL, .long zR, .long zE]))]) [0, 1, 2, 3, 4] (by decide) rfl).self (fun _ hq => Or.inr hq) (hST.at hS hFc) (va_recv hK.1 hP (ci := 1) (q0 := 0) rfl rfl)) rfl rfl hl.1 rfl (lv_room (Nat.le_of_ble_eq_true rfl)) dX0_stonesToEnclose_5 ⟨Nat.le_of_ble_eq_true rfl, Nat.le_of_ble_eq_true rfl⟩) hS (fun q _ hq => hFc q hq) hFc (fun q _ hq => hFc q hq) (fun E_8 ce q_9 u_6 t H_7 locs ht _ w_4 hB _ hk hS hce hcv hcl => ?_) (fun z_3 u_6 t H_5 locs ht _ w_4 hB _ hk hS => ?_)
  · replace h := ga_swr w_4 h
    obtain ⟨eE, hP1, hD1⟩ := hB
    rw [ht] at hP1
    obtain ⟨hP, hD⟩ := va_join (wr := [(o, .inl (cA 1, 1, .inr (.inl oF)))]) (w1 := [(x, .inr (1, [.ref g, xs, xp, .ref xi, .int xl, xr, xq])), (g, .inr (2, [.ref sh, .ref al, .int gr, .ref g_b, .ref g_t])), (al, .inr (6, [.int lm, .ref ed, .int lz])), (ed, .inl (cA 5, ln, .inr (.inr (.inr (.inr lf))))), (sh, .inr (4, [.int zw, .int zh, .long zA, .long zL, .long zR, .long zE]))]) hP hD [0, 1, 2, 3, 4] [5] rfl rfl (by decide) (by decide) hk hFc hP1 hD1
    have hP : va_P D ga_cl [(o, .inl (cA 1, 1, .inr (.inl oF))), (x, .inr (1, [.ref g, xs, xp, .ref xi, .int xl, xr, xq])), (g, .inr (2, [.ref sh, .ref al, .int gr, .ref g_b, .ref g_t])), (al, .inr (6, [.int lm, .ref ed, .int lz])), (ed, .inl (cA 5, ln, .inr (.inr (.inr (.inr lf))))), (sh, .inr (4, [.int zw, .int zh, .long zA, .long zL, .long zR, .long zE]))] H_7 := hP
    have hD : va_D A [(o, .inl (cA 1, 1, .inr (.inl oF))), (x, .inr (1, [.ref g, xs, xp, .ref xi, .int xl, xr, xq])), (g, .inr (2, [.ref sh, .ref al, .int gr, .ref g_b, .ref g_t])), (al, .inr (6, [.int lm, .ref ed, .int lz])), (ed, .inl (cA 5, ln, .inr (.inr (.inr (.inr lf))))), (sh, .inr (4, [.int zw, .int zh, .long zA, .long zL, .long zR, .long zE]))] := hD
    by_cases c_11 : u_6 = 3
    · replace h := ga_ift c_11 h
      have eE : E_8 = "java/lang/IndexOutOfBoundsException" := by rw [eE, c_11]; rfl
      subst eE
      refine vx_catch (name := "java/lang/IndexOutOfBoundsException") hown [] ⟨0, 10, 13, 23⟩ [⟨0, 10, 17, 52⟩] (by rw [hX.1]; rfl) ((fun _ hz => nomatch hz)) (by decide) (by decide) (hts _ q586) (ga_nu hK q630 rfl) hce hcv hcl ?_
      refine lv_astore (lv' := [(4, .ref q_9), (0, .ref x), (1, .int x1), (2, .int x2), (3, .ref o)]) hx hb dX0_stonesToEnclose_13 hl (by decide) rfl (fun ls hl => ?_)
      refine lv_iconst (v := 1) hx hb dX0_stonesToEnclose_15 (by decide) ?_
      have hP9 := hP.sub (ws' := [(x, .inr (1, [.ref g, xs, xp, .ref xi, .int xl, xr, xq])), (g, .inr (2, [.ref sh, .ref al, .int gr, .ref g_b, .ref g_t])), (al, .inr (6, [.int lm, .ref ed, .int lz])), (ed, .inl (cA 5, ln, .inr (.inr (.inr (.inr lf))))), (sh, .inr (4, [.int zw, .int zh, .long zA, .long zL, .long zR, .long zE])), (o, .inl (cA 1, 1, .inr (.inl oF)))]) [1, 2, 3, 4, 5, 0] rfl
      have hD9 := hD.sub (ws' := [(x, .inr (1, [.ref g, xs, xp, .ref xi, .int xl, xr, xq])), (g, .inr (2, [.ref sh, .ref al, .int gr, .ref g_b, .ref g_t])), (al, .inr (6, [.int lm, .ref ed, .int lz])), (ed, .inl (cA 5, ln, .inr (.inr (.inr (.inr lf))))), (sh, .inr (4, [.int zw, .int zh, .long zA, .long zL, .long zR, .long zE])), (o, .inl (cA 1, 1, .inr (.inl oF)))]) [1, 2, 3, 4, 5, 0] (by decide) rfl
      obtain rfl := Option.some.inj h
      exact W.iret hx hb hr (fun t ht hW => ⟨⟨_, oF, rfl, ⟨rfl, rfl⟩, ⟨by rw [ht]; exact hP9, hK.warm hW, hD9⟩⟩, hS.F ht⟩) hS.2.2 dX0_stonesToEnclose_16
    · replace h := ga_iff c_11 h
      by_cases c_12 : u_6 = 4
      · replace h := ga_ift c_12 h
        have eE : E_8 = "java/util/NoSuchElementException" := by rw [eE, c_12]; rfl
        subst eE
        refine vx_catch (name := "java/util/NoSuchElementException") hown [⟨0, 10, 13, 23⟩] ⟨0, 10, 17, 52⟩ [] (by rw [hX.1]; rfl) ((List.forall_mem_cons.mpr ⟨Or.inr ⟨by decide, "java/lang/IndexOutOfBoundsException", hts _ q586, ga_ncu hST (by decide +kernel)⟩, (fun _ hz => nomatch hz)⟩)) (by decide) (by decide) (hts _ q958) (ga_nu hK q969 rfl) hce hcv hcl ?_
        refine lv_astore (lv' := [(4, .ref q_9), (0, .ref x), (1, .int x1), (2, .int x2), (3, .ref o)]) hx hb dX0_stonesToEnclose_17 hl (by decide) rfl (fun ls hl => ?_)
        refine lv_iconst (v := 2) hx hb dX0_stonesToEnclose_19 (by decide) ?_
        have hP9 := hP.sub (ws' := [(x, .inr (1, [.ref g, xs, xp, .ref xi, .int xl, xr, xq])), (g, .inr (2, [.ref sh, .ref al, .int gr, .ref g_b, .ref g_t])), (al, .inr (6, [.int lm, .ref ed, .int lz])), (ed, .inl (cA 5, ln, .inr (.inr (.inr (.inr lf))))), (sh, .inr (4, [.int zw, .int zh, .long zA, .long zL, .long zR, .long zE])), (o, .inl (cA 1, 1, .inr (.inl oF)))]) [1, 2, 3, 4, 5, 0] rfl
        have hD9 := hD.sub (ws' := [(x, .inr (1, [.ref g, xs, xp, .ref xi, .int xl, xr, xq])), (g, .inr (2, [.ref sh, .ref al, .int gr, .ref g_b, .ref g_t])), (al, .inr (6, [.int lm, .ref ed, .int lz])), (ed, .inl (cA 5, ln, .inr (.inr (.inr (.inr lf))))), (sh, .inr (4, [.int zw, .int zh, .long zA, .long zL, .long zR, .long zE])), (o, .inl (cA 1, 1, .inr (.inl oF)))]) [1, 2, 3, 4, 5, 0] (by decide) rfl
        obtain rfl := Option.some.inj h
        exact W.iret hx hb hr (fun t ht hW => ⟨⟨_, oF, rfl, ⟨rfl, rfl⟩, ⟨by rw [ht]; exact hP9, hK.warm hW, hD9⟩⟩, hS.F ht⟩) hS.2.2 dX0_stonesToEnclose_20
      · replace h := ga_iff c_12 h
        cases h
  · obtain ⟨v_10, ev_10, hv9⟩ := w_4
    replace h := ga_swl ev_10 h
    obtain ⟨rfl, rfl⟩ := hv9
    obtain ⟨hP1, -, hD1⟩ := hB
    rw [ht] at hP1
    obtain ⟨hP, hD⟩ := va_join (wr := [(o, .inl (cA 1, 1, .inr (.inl oF)))]) (w1 := [(x, .inr (1, [.ref g, xs, xp, .ref xi, .int xl, xr, xq])), (g, .inr (2, [.ref sh, .ref al, .int gr, .ref g_b, .ref g_t])), (al, .inr (6, [.int lm, .ref ed, .int lz])), (ed, .inl (cA 5, ln, .inr (.inr (.inr (.inr lf))))), (sh, .inr (4, [.int zw, .int zh, .long zA, .long zL, .long zR, .long zE]))]) hP hD [0, 1, 2, 3, 4] [5] rfl rfl (by decide) (by decide) hk hFc hP1 hD1
    have hP : va_P D ga_cl [(o, .inl (cA 1, 1, .inr (.inl oF))), (x, .inr (1, [.ref g, xs, xp, .ref xi, .int xl, xr, xq])), (g, .inr (2, [.ref sh, .ref al, .int gr, .ref g_b, .ref g_t])), (al, .inr (6, [.int lm, .ref ed, .int lz])), (ed, .inl (cA 5, ln, .inr (.inr (.inr (.inr lf))))), (sh, .inr (4, [.int zw, .int zh, .long zA, .long zL, .long zR, .long zE]))] H_5 := hP
    have hD : va_D A [(o, .inl (cA 1, 1, .inr (.inl oF))), (x, .inr (1, [.ref g, xs, xp, .ref xi, .int xl, xr, xq])), (g, .inr (2, [.ref sh, .ref al, .int gr, .ref g_b, .ref g_t])), (al, .inr (6, [.int lm, .ref ed, .int lz])), (ed, .inl (cA 5, ln, .inr (.inr (.inr (.inr lf))))), (sh, .inr (4, [.int zw, .int zh, .long zA, .long zL, .long zR, .long zE]))] := hD
    refine W.cs (cells' := 4) (slots' := 24) rfl rfl ?_
    refine lv_i2l (v := v_10.1.toInt64) hx hb dX0_stonesToEnclose_8 rfl ?_
    refine va_last hx hb hK.1 hP hD hS 0 1 (f := oF) rfl rfl (ga_in (by decide)) dX0_stonesToEnclose_9 (fun H_14 locs hP hD hS => ?_)
    have hP : va_P D ga_cl [(o, .inl (cA 1, 1, .inr (.inl (vp_updL oF (ix 0) v_10.1.toInt64)))), (x, .inr (1, [.ref g, xs, xp, .ref xi, .int xl, xr, xq])), (g, .inr (2, [.ref sh, .ref al, .int gr, .ref g_b, .ref g_t])), (al, .inr (6, [.int lm, .ref ed, .int lz])), (ed, .inl (cA 5, ln, .inr (.inr (.inr (.inr lf))))), (sh, .inr (4, [.int zw, .int zh, .long zA, .long zL, .long zR, .long zE]))] H_14 := hP
    have hD : va_D A [(o, .inl (cA 1, 1, .inr (.inl (vp_updL oF (ix 0) v_10.1.toInt64)))), (x, .inr (1, [.ref g, xs, xp, .ref xi, .int xl, xr, xq])), (g, .inr (2, [.ref sh, .ref al, .int gr, .ref g_b, .ref g_t])), (al, .inr (6, [.int lm, .ref ed, .int lz])), (ed, .inl (cA 5, ln, .inr (.inr (.inr (.inr lf))))), (sh, .inr (4, [.int zw, .int zh, .long zA, .long zL, .long zR, .long zE]))] := hD
    refine lv_goto (tgt := 21) hx hb dX0_stonesToEnclose_10 (by decide) ?_
    refine lv_iconst (v := 0) hx hb dX0_stonesToEnclose_21 (by decide) ?_
    have hP9 := hP.sub (ws' := [(x, .inr (1, [.ref g, xs, xp, .ref xi, .int xl, xr, xq])), (g, .inr (2, [.ref sh, .ref al, .int gr, .ref g_b, .ref g_t])), (al, .inr (6, [.int lm, .ref ed, .int lz])), (ed, .inl (cA 5, ln, .inr (.inr (.inr (.inr lf))))), (sh, .inr (4, [.int zw, .int zh, .long zA, .long zL, .long zR, .long zE])), (o, .inl (cA 1, 1, .inr (.inl (vp_updL oF (ix 0) v_10.1.toInt64))))]) [1, 2, 3, 4, 5, 0] rfl
    have hD9 := hD.sub (ws' := [(x, .inr (1, [.ref g, xs, xp, .ref xi, .int xl, xr, xq])), (g, .inr (2, [.ref sh, .ref al, .int gr, .ref g_b, .ref g_t])), (al, .inr (6, [.int lm, .ref ed, .int lz])), (ed, .inl (cA 5, ln, .inr (.inr (.inr (.inr lf))))), (sh, .inr (4, [.int zw, .int zh, .long zA, .long zL, .long zR, .long zE])), (o, .inl (cA 1, 1, .inr (.inl (vp_updL oF (ix 0) v_10.1.toInt64))))]) [1, 2, 3, 4, 5, 0] (by decide) rfl
    obtain rfl := Option.some.inj h
    exact W.iret hx hb hr (fun t ht hW => ⟨⟨_, (vp_updL oF (ix 0) v_10.1.toInt64), rfl, ⟨rfl, rfl⟩, ⟨by rw [ht]; exact hP9, hK.warm hW, hD9⟩⟩, hS.F ht⟩) hS.2.2 dX0_stonesToEnclose_22
abbrev rm_X0_share : Room := { frames := 9, cells := 1, slots := 6, locals := 162 }
def F_X0_share (N : Nat) (xl : Int32) (gr : Int32) (lm : Int32) (lz : Int32) (ln : Nat) (zw : Int32) (zh : Int32) (zA : Int64) (zL : Int64) (zR : Int64) (zE : Int64) (oD : Nat → UInt64) (np : Nat) (q1 : Nat → Int32) (q2 : Nat → Int32) (qN : Nat → Int32) (qW : Nat → Nat → Int32) (qP : Nat → Nat → Int32) (qR : Nat → Nat → Int32) (qV : Nat → Nat → Int32) (qB : Nat → Int64) (qS : Nat → Nat → Int64) (qA : Nat → Nat → Int64) (qG : Nat → Nat → Int64) (qC : Nat → Nat → Int32) (x1 : Int32) : Option (Int32 × ((Nat → UInt64))) :=
  ((F_X1_share N xl gr lm lz ln zw zh zA zL zR zE np q1 q2 qN qW qP qR qV qB qS qA qG qC x1).bind fun r_1 => ga_sw r_1 (fun v_10 =>
  some (0, (vf_upd oD (ix 0) v_10.1))) (fun u_6 =>
  (if u_6 = 3 then
  some (1, oD)
  else
  none)))
set_option maxHeartbeats 4000000 in
theorem met_X0_share (l : Launch) (D : va_G) (cA : Nat → ClassId) (A : Nat → Prop) (x : Nat) (g : Nat) (xs : Value) (xp : Value) (xi : Nat) (xr : Value) (xq : Value) (sh : Nat) (al : Nat) (g_b : Nat) (g_t : Nat) (ed : Nat) (lf : Nat → Option Nat) (o : Nat) (zs : Nat → Nat) (xl : Int32) (gr : Int32) (lm : Int32) (lz : Int32) (ln : Nat) (zw : Int32) (zh : Int32) (zA : Int64) (zL : Int64) (zR : Int64) (zE : Int64) (oD : Nat → UInt64) (np : Nat) (q1 : Nat → Int32) (q2 : Nat → Int32) (qN : Nat → Int32) (qW : Nat → Nat → Int32) (qP : Nat → Nat → Int32) (qR : Nat → Nat → Int32) (qV : Nat → Nat → Int32) (qB : Nat → Int64) (qS : Nat → Nat → Int64) (qA : Nat → Nat → Int64) (qG : Nat → Nat → Int64) (qC : Nat → Nat → Int32) (N : Nat) (x1 : Int32)  (hstk : l.stackTraces = false) (out : Int32 × ((Nat → UInt64))) (h : F_X0_share N xl gr lm lz ln zw zh zA zL zR zE oD np q1 q2 qN qW qP qR qV qB qS qA qG qC x1 = some out) : Met l yX0_share (wsW_ yX0_share cX0_share 4 (some .int) [(0, 8, 11, 23)]) rm_X0_share (ga_XR D cA zs A (ga_po D cA lf np q1 q2 qN qW qP qR qV qB qS qA qG qC) [(x, .inr (1, [.ref g, xs, xp, .ref xi, .int xl, xr, xq])), (g, .inr (2, [.ref sh, .ref al, .int gr, .ref g_b, .ref g_t])), (al, .inr (6, [.int lm, .ref ed, .int lz])), (ed, .inl (cA 5, ln, .inr (.inr (.inr (.inr lf))))), (sh, .inr (4, [.int zw, .int zh, .long zA, .long zL, .long zR, .long zE])), (o, .inl (cA 4, 1, .inr (.inr (.inr (.inl oD)))))] [.ref x, .int x1, .ref o]) (va_Qi (fun (r : Int32) (u : (Nat → UInt64)) => (out.1 = r) ∧ out.2 = u) (fun (u : (Nat → UInt64)) (t : State) => va_P D ga_cl [(x, .inr (1, [.ref g, xs, xp, .ref xi, .int xl, xr, xq])), (g, .inr (2, [.ref sh, .ref al, .int gr, .ref g_b, .ref g_t])), (al, .inr (6, [.int lm, .ref ed, .int lz])), (ed, .inl (cA 5, ln, .inr (.inr (.inr (.inr lf))))), (sh, .inr (4, [.int zw, .int zh, .long zA, .long zL, .long zR, .long zE])), (o, .inl (cA 4, 1, .inr (.inr (.inr (.inl u)))))] t.heap ∧ ga_K D cA t ∧ va_D A [(x, .inr (1, [.ref g, xs, xp, .ref xi, .int xl, xr, xq])), (g, .inr (2, [.ref sh, .ref al, .int gr, .ref g_b, .ref g_t])), (al, .inr (6, [.int lm, .ref ed, .int lz])), (ed, .inl (cA 5, ln, .inr (.inr (.inr (.inr lf))))), (sh, .inr (4, [.int zw, .int zh, .long zA, .long zL, .long zR, .long zE])), (o, .inl (cA 4, 1, .inr (.inr (.inr (.inl u)))))]) A) 1 6 A := by
  refine va_MetW (cc := cX0_share) (maxL := 4) (ret := (some .int)) (hh := [(0, 8, 11, 23)]) (by decide) rfl ?_
  intro p e s m args below meth c s₁ B hml hv
  have hX : c.exceptionTable.toList = tableOf [(0, 8, 11, 23)] ∧ l.stackTraces = false := ⟨vx_table (x := yX0_share) B (atoms_spec (ws := (wsW_ yX0_share cX0_share 4 (some .int) [(0, 8, 11, 23)])) B.pre _ List.mem_cons_self), hstk⟩
  obtain ⟨rfl, hP, hK, hD, hA, hST, hR⟩ := hv
  have hS : va_S A s.heap s.heap [] := va_S.rf
  have C : ga_cx p m c meth s _ RX0 cX0_share 4 (some .int) := ga_cxW_of B hml
  have C0 := C
  obtain ⟨hx, hb, hr, hlocks, hml, hown, hts⟩ := C0
  have hl := lv_entry ([.ref x, .int x1, .ref o]) (n := 4) (Nat.le_of_ble_eq_true rfl)
  rw [lg_entry_eq]
  generalize (lg_sl ([.ref x, .int x1, .ref o]) ++ List.replicate (4 - (lg_sl ([.ref x, .int x1, .ref o])).length) Slot.unset).toArray = ls at hl ⊢
  have hl : lv_has ls 4 [(0, .ref x), (1, .int x1), (2, .ref o)] := hl
  rw [F_X0_share] at h
  refine lv_aload_n hx hb dX0_share_0 rfl (lv_at hl 2 rfl) ?_
  refine lv_iconst (v := 0) hx hb dX0_share_1 (by decide) ?_
  refine lv_aload_n hx hb dX0_share_2 rfl (lv_at hl 0 rfl) ?_
  refine lv_iload_n hx hb dX0_share_3 rfl (lv_at hl 1 rfl) ?_
  obtain ⟨r_1, e_2, h⟩ := ga_gb h
  have hFc := va_free (wc := [(x, .inr (1, [.ref g, xs, xp, .ref xi, .int xl, xr, xq])), (g, .inr (2, [.ref sh, .ref al, .int gr, .ref g_b, .ref g_t])), (al, .inr (6, [.int lm, .ref ed, .int lz])), (ed, .inl (cA 5, ln, .inr (.inr (.inr (.inr lf))))), (sh, .inr (4, [.int zw, .int zh, .long zA, .long zL, .long zR, .long zE]))]) hD hS hA [0, 1, 2, 3, 4] rfl
  refine vx_calld (vx_runV (As := [.int x1]) (rest := [.int 0, .ref o]) ⟨hx, hb, hml, hown, hts⟩ (met_X1_share l D cA (va_A [(x, .inr (1, [.ref g, xs, xp, .ref xi, .int xl, xr, xq])), (g, .inr (2, [.ref sh, .ref al, .int gr, .ref g_b, .ref g_t])), (al, .inr (6, [.int lm, .ref ed, .int lz])), (ed, .inl (cA 5, ln, .inr (.inr (.inr (.inr lf))))), (sh, .inr (4, [.int zw, .int zh, .long zA, .long zL, .long zR, .long zE]))] s.heap.size) x g xs xp xi xr xq sh al g_b g_t ed lf zs xl gr lm lz ln zw zh zA zL zR zE np q1 q2 qN qW qP qR qV qB qS qA qG qC N x1 hX.2 r_1 e_2) (cwV 1 hts (lw_V q1022 q1023 q1024 q67 q1025) rfl rfl rfl (by decide +kernel) ⟨Nat.le_of_ble_eq_true rfl, Nat.le_of_ble_eq_true rfl⟩) (ga_XRV ga_poK (ga_poK.at hR hS hFc) hK (hP.sub (ws' := [(x, .inr (1, [.ref g, xs, xp, .ref xi, .int xl, xr, xq])), (g, .inr (2, [.ref sh, .ref al, .int gr, .ref g_b, .ref g_t])), (al, .inr (6, [.int lm, .ref ed, .int lz])), (ed, .inl (cA 5, ln, .inr (.inr (.inr (.inr lf))))), (sh, .inr (4, [.int zw, .int zh, .long zA, .long zL, .long zR, .long zE]))]) [0, 1, 2, 3, 4] rfl) (hD.sub (ws' := [(x, .inr (1, [.ref g, xs, xp, .ref xi, .int xl, xr, xq])), (g, .inr (2, [.ref sh, .ref al, .int gr, .ref g_b, .ref g_t])), (al, .inr (6, [.int lm, .ref ed, .int lz])), (ed, .inl (cA 5, ln, .inr (.inr (.inr (.inr lf))))), (sh, .inr (4, [.int zw, .int zh, .long zA, .long zL, .long zR, .long zE]))]) [0, 1, 2, 3, 4] (by decide) rfl).self (fun _ hq => Or.inr hq) (hST.at hS hFc) (va_recv hK.1 hP (ci := 1) (q0 := 0) rfl rfl)) rfl rfl hl.1 rfl (lv_room (Nat.le_of_ble_eq_true rfl)) dX0_share_4 ⟨Nat.le_of_ble_eq_true rfl, Nat.le_of_ble_eq_true rfl⟩) hS (fun q _ hq => hFc q hq) hFc (fun q _ hq => hFc q hq) (fun E_8 ce q_9 u_6 t H_7 locs ht _ w_4 hB _ hk hS hce hcv hcl => ?_) (fun z_3 u_6 t H_5 locs ht _ w_4 hB _ hk hS => ?_)
  · replace h := ga_swr w_4 h
    obtain ⟨eE, hP1, hD1⟩ := hB
    rw [ht] at hP1
    obtain ⟨hP, hD⟩ := va_join (wr := [(o, .inl (cA 4, 1, .inr (.inr (.inr (.inl oD)))))]) (w1 := [(x, .inr (1, [.ref g, xs, xp, .ref xi, .int xl, xr, xq])), (g, .inr (2, [.ref sh, .ref al, .int gr, .ref g_b, .ref g_t])), (al, .inr (6, [.int lm, .ref ed, .int lz])), (ed, .inl (cA 5, ln, .inr (.inr (.inr (.inr lf))))), (sh, .inr (4, [.int zw, .int zh, .long zA, .long zL, .long zR, .long zE]))]) hP hD [0, 1, 2, 3, 4] [5] rfl rfl (by decide) (by decide) hk hFc hP1 hD1
    have hP : va_P D ga_cl [(o, .inl (cA 4, 1, .inr (.inr (.inr (.inl oD))))), (x, .inr (1, [.ref g, xs, xp, .ref xi, .int xl, xr, xq])), (g, .inr (2, [.ref sh, .ref al, .int gr, .ref g_b, .ref g_t])), (al, .inr (6, [.int lm, .ref ed, .int lz])), (ed, .inl (cA 5, ln, .inr (.inr (.inr (.inr lf))))), (sh, .inr (4, [.int zw, .int zh, .long zA, .long zL, .long zR, .long zE]))] H_7 := hP
    have hD : va_D A [(o, .inl (cA 4, 1, .inr (.inr (.inr (.inl oD))))), (x, .inr (1, [.ref g, xs, xp, .ref xi, .int xl, xr, xq])), (g, .inr (2, [.ref sh, .ref al, .int gr, .ref g_b, .ref g_t])), (al, .inr (6, [.int lm, .ref ed, .int lz])), (ed, .inl (cA 5, ln, .inr (.inr (.inr (.inr lf))))), (sh, .inr (4, [.int zw, .int zh, .long zA, .long zL, .long zR, .long zE]))] := hD
    by_cases c_11 : u_6 = 3
    · replace h := ga_ift c_11 h
      have eE : E_8 = "java/lang/IndexOutOfBoundsException" := by rw [eE, c_11]; rfl
      subst eE
      refine vx_catch (name := "java/lang/IndexOutOfBoundsException") hown [] ⟨0, 8, 11, 23⟩ [] (by rw [hX.1]; rfl) ((fun _ hz => nomatch hz)) (by decide) (by decide) (hts _ q586) (ga_nu hK q630 rfl) hce hcv hcl ?_
      refine lv_astore_n (lv' := [(3, .ref q_9), (0, .ref x), (1, .int x1), (2, .ref o)]) hx hb dX0_share_11 rfl hl (by decide) rfl (fun ls hl => ?_)
      refine lv_iconst (v := 1) hx hb dX0_share_12 (by decide) ?_
      have hP9 := hP.sub (ws' := [(x, .inr (1, [.ref g, xs, xp, .ref xi, .int xl, xr, xq])), (g, .inr (2, [.ref sh, .ref al, .int gr, .ref g_b, .ref g_t])), (al, .inr (6, [.int lm, .ref ed, .int lz])), (ed, .inl (cA 5, ln, .inr (.inr (.inr (.inr lf))))), (sh, .inr (4, [.int zw, .int zh, .long zA, .long zL, .long zR, .long zE])), (o, .inl (cA 4, 1, .inr (.inr (.inr (.inl oD)))))]) [1, 2, 3, 4, 5, 0] rfl
      have hD9 := hD.sub (ws' := [(x, .inr (1, [.ref g, xs, xp, .ref xi, .int xl, xr, xq])), (g, .inr (2, [.ref sh, .ref al, .int gr, .ref g_b, .ref g_t])), (al, .inr (6, [.int lm, .ref ed, .int lz])), (ed, .inl (cA 5, ln, .inr (.inr (.inr (.inr lf))))), (sh, .inr (4, [.int zw, .int zh, .long zA, .long zL, .long zR, .long zE])), (o, .inl (cA 4, 1, .inr (.inr (.inr (.inl oD)))))]) [1, 2, 3, 4, 5, 0] (by decide) rfl
      obtain rfl := Option.some.inj h
      exact W.iret hx hb hr (fun t ht hW => ⟨⟨_, oD, rfl, ⟨rfl, rfl⟩, ⟨by rw [ht]; exact hP9, hK.warm hW, hD9⟩⟩, hS.F ht⟩) hS.2.2 dX0_share_13
    · replace h := ga_iff c_11 h
      cases h
  · obtain ⟨v_10, ev_10, hv9⟩ := w_4
    replace h := ga_swl ev_10 h
    obtain ⟨rfl, rfl⟩ := hv9
    obtain ⟨hP1, -, hD1⟩ := hB
    rw [ht] at hP1
    obtain ⟨hP, hD⟩ := va_join (wr := [(o, .inl (cA 4, 1, .inr (.inr (.inr (.inl oD)))))]) (w1 := [(x, .inr (1, [.ref g, xs, xp, .ref xi, .int xl, xr, xq])), (g, .inr (2, [.ref sh, .ref al, .int gr, .ref g_b, .ref g_t])), (al, .inr (6, [.int lm, .ref ed, .int lz])), (ed, .inl (cA 5, ln, .inr (.inr (.inr (.inr lf))))), (sh, .inr (4, [.int zw, .int zh, .long zA, .long zL, .long zR, .long zE]))]) hP hD [0, 1, 2, 3, 4] [5] rfl rfl (by decide) (by decide) hk hFc hP1 hD1
    have hP : va_P D ga_cl [(o, .inl (cA 4, 1, .inr (.inr (.inr (.inl oD))))), (x, .inr (1, [.ref g, xs, xp, .ref xi, .int xl, xr, xq])), (g, .inr (2, [.ref sh, .ref al, .int gr, .ref g_b, .ref g_t])), (al, .inr (6, [.int lm, .ref ed, .int lz])), (ed, .inl (cA 5, ln, .inr (.inr (.inr (.inr lf))))), (sh, .inr (4, [.int zw, .int zh, .long zA, .long zL, .long zR, .long zE]))] H_5 := hP
    have hD : va_D A [(o, .inl (cA 4, 1, .inr (.inr (.inr (.inl oD))))), (x, .inr (1, [.ref g, xs, xp, .ref xi, .int xl, xr, xq])), (g, .inr (2, [.ref sh, .ref al, .int gr, .ref g_b, .ref g_t])), (al, .inr (6, [.int lm, .ref ed, .int lz])), (ed, .inl (cA 5, ln, .inr (.inr (.inr (.inr lf))))), (sh, .inr (4, [.int zw, .int zh, .long zA, .long zL, .long zR, .long zE]))] := hD
    refine W.cs (cells' := 1) (slots' := 6) rfl rfl ?_
    refine va_dast hx hb hK.1 hP hD hS 0 4 (f := oD) rfl rfl (ga_in (by decide)) dX0_share_7 (fun H_13 locs hP hD hS => ?_)
    have hP : va_P D ga_cl [(o, .inl (cA 4, 1, .inr (.inr (.inr (.inl (vf_upd oD (ix 0) v_10.1)))))), (x, .inr (1, [.ref g, xs, xp, .ref xi, .int xl, xr, xq])), (g, .inr (2, [.ref sh, .ref al, .int gr, .ref g_b, .ref g_t])), (al, .inr (6, [.int lm, .ref ed, .int lz])), (ed, .inl (cA 5, ln, .inr (.inr (.inr (.inr lf))))), (sh, .inr (4, [.int zw, .int zh, .long zA, .long zL, .long zR, .long zE]))] H_13 := hP
    have hD : va_D A [(o, .inl (cA 4, 1, .inr (.inr (.inr (.inl (vf_upd oD (ix 0) v_10.1)))))), (x, .inr (1, [.ref g, xs, xp, .ref xi, .int xl, xr, xq])), (g, .inr (2, [.ref sh, .ref al, .int gr, .ref g_b, .ref g_t])), (al, .inr (6, [.int lm, .ref ed, .int lz])), (ed, .inl (cA 5, ln, .inr (.inr (.inr (.inr lf))))), (sh, .inr (4, [.int zw, .int zh, .long zA, .long zL, .long zR, .long zE]))] := hD
    refine lv_goto (tgt := 14) hx hb dX0_share_8 (by decide) ?_
    refine lv_iconst (v := 0) hx hb dX0_share_14 (by decide) ?_
    have hP9 := hP.sub (ws' := [(x, .inr (1, [.ref g, xs, xp, .ref xi, .int xl, xr, xq])), (g, .inr (2, [.ref sh, .ref al, .int gr, .ref g_b, .ref g_t])), (al, .inr (6, [.int lm, .ref ed, .int lz])), (ed, .inl (cA 5, ln, .inr (.inr (.inr (.inr lf))))), (sh, .inr (4, [.int zw, .int zh, .long zA, .long zL, .long zR, .long zE])), (o, .inl (cA 4, 1, .inr (.inr (.inr (.inl (vf_upd oD (ix 0) v_10.1))))))]) [1, 2, 3, 4, 5, 0] rfl
    have hD9 := hD.sub (ws' := [(x, .inr (1, [.ref g, xs, xp, .ref xi, .int xl, xr, xq])), (g, .inr (2, [.ref sh, .ref al, .int gr, .ref g_b, .ref g_t])), (al, .inr (6, [.int lm, .ref ed, .int lz])), (ed, .inl (cA 5, ln, .inr (.inr (.inr (.inr lf))))), (sh, .inr (4, [.int zw, .int zh, .long zA, .long zL, .long zR, .long zE])), (o, .inl (cA 4, 1, .inr (.inr (.inr (.inl (vf_upd oD (ix 0) v_10.1))))))]) [1, 2, 3, 4, 5, 0] (by decide) rfl
    obtain rfl := Option.some.inj h
    exact W.iret hx hb hr (fun t ht hW => ⟨⟨_, (vf_upd oD (ix 0) v_10.1), rfl, ⟨rfl, rfl⟩, ⟨by rw [ht]; exact hP9, hK.warm hW, hD9⟩⟩, hS.F ht⟩) hS.2.2 dX0_share_15
abbrev rm_X0_feed : Room := { frames := 8, cells := 1, slots := 6, locals := 141 }
def F_X0_feed (N : Nat) (xl : Int32) (xI : Nat → Int32) (oF : Nat → Int64) (x1 : Int32) : Option (Int32 × (Int32 × (Nat → Int32) × (Nat → Int64))) :=
  ((F_X1_feed N xl xI x1).bind fun r_1 => ga_sw r_1 (fun v_10 =>
  some (0, (v_10.2.1, v_10.2.2, (vp_updL oF (ix 0) v_10.1.toInt64)))) (fun u_6 =>
  (if u_6 = 2 then
  some (1, (xl, xI, oF))
  else
  none)))
set_option maxHeartbeats 4000000 in
theorem met_X0_feed (l : Launch) (D : va_G) (cA : Nat → ClassId) (A : Nat → Prop) (x : Nat) (g : Nat) (xs : Value) (xp : Value) (xi : Nat) (xr : Value) (xq : Value) (o : Nat) (zs : Nat → Nat) (xl : Int32) (xI : Nat → Int32) (oF : Nat → Int64) (N : Nat) (x1 : Int32)  (hstk : l.stackTraces = false) (out : Int32 × (Int32 × (Nat → Int32) × (Nat → Int64))) (h : F_X0_feed N xl xI oF x1 = some out) : Met l yX0_feed (wsW_ yX0_feed cX0_feed 4 (some .int) [(0, 9, 12, 28)]) rm_X0_feed (ga_X D cA zs A [(x, .inr (1, [.ref g, xs, xp, .ref xi, .int xl, xr, xq])), (xi, .inl (cA 2, 80, .inl xI)), (o, .inl (cA 1, 1, .inr (.inl oF)))] [.ref x, .int x1, .ref o]) (va_Qi (fun (r : Int32) (u : Int32 × (Nat → Int32) × (Nat → Int64)) => (out.1 = r) ∧ out.2 = u) (fun (u : Int32 × (Nat → Int32) × (Nat → Int64)) (t : State) => va_P D ga_cl [(x, .inr (1, [.ref g, xs, xp, .ref xi, .int u.1, xr, xq])), (xi, .inl (cA 2, 80, .inl u.2.1)), (o, .inl (cA 1, 1, .inr (.inl u.2.2)))] t.heap ∧ ga_K D cA t ∧ va_D A [(x, .inr (1, [.ref g, xs, xp, .ref xi, .int u.1, xr, xq])), (xi, .inl (cA 2, 80, .inl u.2.1)), (o, .inl (cA 1, 1, .inr (.inl u.2.2)))]) A) 1 6 A := by
  refine va_MetW (cc := cX0_feed) (maxL := 4) (ret := (some .int)) (hh := [(0, 9, 12, 28)]) (by decide) rfl ?_
  intro p e s m args below meth c s₁ B hml hv
  have hX : c.exceptionTable.toList = tableOf [(0, 9, 12, 28)] ∧ l.stackTraces = false := ⟨vx_table (x := yX0_feed) B (atoms_spec (ws := (wsW_ yX0_feed cX0_feed 4 (some .int) [(0, 9, 12, 28)])) B.pre _ List.mem_cons_self), hstk⟩
  obtain ⟨rfl, hP, hK, hD, hA, hST⟩ := hv
  have hS : va_S A s.heap s.heap [] := va_S.rf
  have C : ga_cx p m c meth s _ RX0 cX0_feed 4 (some .int) := ga_cxW_of B hml
  have C0 := C
  obtain ⟨hx, hb, hr, hlocks, hml, hown, hts⟩ := C0
  have hl := lv_entry ([.ref x, .int x1, .ref o]) (n := 4) (Nat.le_of_ble_eq_true rfl)
  rw [lg_entry_eq]
  generalize (lg_sl ([.ref x, .int x1, .ref o]) ++ List.replicate (4 - (lg_sl ([.ref x, .int x1, .ref o])).length) Slot.unset).toArray = ls at hl ⊢
  have hl : lv_has ls 4 [(0, .ref x), (1, .int x1), (2, .ref o)] := hl
  rw [F_X0_feed] at h
  refine lv_aload_n hx hb dX0_feed_0 rfl (lv_at hl 2 rfl) ?_
  refine lv_iconst (v := 0) hx hb dX0_feed_1 (by decide) ?_
  refine lv_aload_n hx hb dX0_feed_2 rfl (lv_at hl 0 rfl) ?_
  refine lv_iload_n hx hb dX0_feed_3 rfl (lv_at hl 1 rfl) ?_
  obtain ⟨r_1, e_2, h⟩ := ga_gb h
  have hFc := va_free (wc := [(x, .inr (1, [.ref g, xs, xp, .ref xi, .int xl, xr, xq])), (xi, .inl (cA 2, 80, .inl xI))]) hD hS hA [0, 1] rfl
  refine vx_calli (vx_runV (As := [.int x1]) (rest := [.int 0, .ref o]) ⟨hx, hb, hml, hown, hts⟩ (met_X1_feed l D cA (va_A [(x, .inr (1, [.ref g, xs, xp, .ref xi, .int xl, xr, xq])), (xi, .inl (cA 2, 80, .inl xI))] s.heap.size) x g xs xp xi xr xq zs xl xI N x1 hX.2 r_1 e_2) (cwV 1 hts (lw_V q1116 q1117 q1118 q67 q1119) rfl rfl rfl (by decide +kernel) ⟨Nat.le_of_ble_eq_true rfl, Nat.le_of_ble_eq_true rfl⟩) (ga_XV hK (hP.sub (ws' := [(x, .inr (1, [.ref g, xs, xp, .ref xi, .int xl, xr, xq])), (xi, .inl (cA 2, 80, .inl xI))]) [0, 1] rfl) (hD.sub (ws' := [(x, .inr (1, [.ref g, xs, xp, .ref xi, .int xl, xr, xq])), (xi, .inl (cA 2, 80, .inl xI))]) [0, 1] (by decide) rfl).self (fun _ hq => Or.inr hq) (hST.at hS hFc) (va_recv hK.1 hP (ci := 1) (q0 := 0) rfl rfl)) rfl rfl hl.1 rfl (lv_room (Nat.le_of_ble_eq_true rfl)) dX0_feed_4 ⟨Nat.le_of_ble_eq_true rfl, Nat.le_of_ble_eq_true rfl⟩) hS (fun q _ hq => hFc q hq) hFc (fun q _ hq => hFc q hq) (fun E_8 ce q_9 u_6 t H_7 locs ht _ w_4 hB _ hk hS hce hcv hcl => ?_) (fun z_3 u_6 t H_5 locs ht _ w_4 hB _ hk hS => ?_)
  · replace h := ga_swr w_4 h
    obtain ⟨eE, hP1, hD1⟩ := hB
    rw [ht] at hP1
    obtain ⟨hP, hD⟩ := va_join (wr := [(o, .inl (cA 1, 1, .inr (.inl oF)))]) (w1 := [(x, .inr (1, [.ref g, xs, xp, .ref xi, .int xl, xr, xq])), (xi, .inl (cA 2, 80, .inl xI))]) hP hD [0, 1] [2] rfl rfl (by decide) (by decide) hk hFc hP1 hD1
    have hP : va_P D ga_cl [(o, .inl (cA 1, 1, .inr (.inl oF))), (x, .inr (1, [.ref g, xs, xp, .ref xi, .int xl, xr, xq])), (xi, .inl (cA 2, 80, .inl xI))] H_7 := hP
    have hD : va_D A [(o, .inl (cA 1, 1, .inr (.inl oF))), (x, .inr (1, [.ref g, xs, xp, .ref xi, .int xl, xr, xq])), (xi, .inl (cA 2, 80, .inl xI))] := hD
    by_cases c_11 : u_6 = 2
    · replace h := ga_ift c_11 h
      have eE : E_8 = "java/lang/IllegalStateException" := by rw [eE, c_11]; rfl
      subst eE
      refine vx_catch (name := "java/lang/IllegalStateException") hown [] ⟨0, 9, 12, 28⟩ [] (by rw [hX.1]; rfl) ((fun _ hz => nomatch hz)) (by decide) (by decide) (hts _ q646) (ga_nu hK q670 rfl) hce hcv hcl ?_
      refine lv_astore_n (lv' := [(3, .ref q_9), (0, .ref x), (1, .int x1), (2, .ref o)]) hx hb dX0_feed_12 rfl hl (by decide) rfl (fun ls hl => ?_)
      refine lv_iconst (v := 1) hx hb dX0_feed_13 (by decide) ?_
      have hP9 := hP.sub (ws' := [(x, .inr (1, [.ref g, xs, xp, .ref xi, .int xl, xr, xq])), (xi, .inl (cA 2, 80, .inl xI)), (o, .inl (cA 1, 1, .inr (.inl oF)))]) [1, 2, 0] rfl
      have hD9 := hD.sub (ws' := [(x, .inr (1, [.ref g, xs, xp, .ref xi, .int xl, xr, xq])), (xi, .inl (cA 2, 80, .inl xI)), (o, .inl (cA 1, 1, .inr (.inl oF)))]) [1, 2, 0] (by decide) rfl
      obtain rfl := Option.some.inj h
      exact W.iret hx hb hr (fun t ht hW => ⟨⟨_, (xl, xI, oF), rfl, ⟨rfl, rfl⟩, ⟨by rw [ht]; exact hP9, hK.warm hW, hD9⟩⟩, hS.F ht⟩) hS.2.2 dX0_feed_14
    · replace h := ga_iff c_11 h
      cases h
  · obtain ⟨v_10, ev_10, hv9⟩ := w_4
    replace h := ga_swl ev_10 h
    obtain ⟨rfl, rfl⟩ := hv9
    obtain ⟨hP1, -, hD1⟩ := hB
    rw [ht] at hP1
    obtain ⟨hP, hD⟩ := va_join (wr := [(o, .inl (cA 1, 1, .inr (.inl oF)))]) (w1 := [(x, .inr (1, [.ref g, xs, xp, .ref xi, .int v_10.2.1, xr, xq])), (xi, .inl (cA 2, 80, .inl v_10.2.2))]) hP hD [0, 1] [2] rfl rfl (by decide) (by decide) hk hFc hP1 hD1
    have hP : va_P D ga_cl [(o, .inl (cA 1, 1, .inr (.inl oF))), (x, .inr (1, [.ref g, xs, xp, .ref xi, .int v_10.2.1, xr, xq])), (xi, .inl (cA 2, 80, .inl v_10.2.2))] H_5 := hP
    have hD : va_D A [(o, .inl (cA 1, 1, .inr (.inl oF))), (x, .inr (1, [.ref g, xs, xp, .ref xi, .int v_10.2.1, xr, xq])), (xi, .inl (cA 2, 80, .inl v_10.2.2))] := hD
    refine W.cs (cells' := 1) (slots' := 6) rfl rfl ?_
    refine lv_i2l (v := v_10.1.toInt64) hx hb dX0_feed_7 rfl ?_
    refine va_last hx hb hK.1 hP hD hS 0 1 (f := oF) rfl rfl (ga_in (by decide)) dX0_feed_8 (fun H_13 locs hP hD hS => ?_)
    have hP : va_P D ga_cl [(o, .inl (cA 1, 1, .inr (.inl (vp_updL oF (ix 0) v_10.1.toInt64)))), (x, .inr (1, [.ref g, xs, xp, .ref xi, .int v_10.2.1, xr, xq])), (xi, .inl (cA 2, 80, .inl v_10.2.2))] H_13 := hP
    have hD : va_D A [(o, .inl (cA 1, 1, .inr (.inl (vp_updL oF (ix 0) v_10.1.toInt64)))), (x, .inr (1, [.ref g, xs, xp, .ref xi, .int v_10.2.1, xr, xq])), (xi, .inl (cA 2, 80, .inl v_10.2.2))] := hD
    refine lv_goto (tgt := 15) hx hb dX0_feed_9 (by decide) ?_
    refine lv_iconst (v := 0) hx hb dX0_feed_15 (by decide) ?_
    have hP9 := hP.sub (ws' := [(x, .inr (1, [.ref g, xs, xp, .ref xi, .int v_10.2.1, xr, xq])), (xi, .inl (cA 2, 80, .inl v_10.2.2)), (o, .inl (cA 1, 1, .inr (.inl (vp_updL oF (ix 0) v_10.1.toInt64))))]) [1, 2, 0] rfl
    have hD9 := hD.sub (ws' := [(x, .inr (1, [.ref g, xs, xp, .ref xi, .int v_10.2.1, xr, xq])), (xi, .inl (cA 2, 80, .inl v_10.2.2)), (o, .inl (cA 1, 1, .inr (.inl (vp_updL oF (ix 0) v_10.1.toInt64))))]) [1, 2, 0] (by decide) rfl
    obtain rfl := Option.some.inj h
    exact W.iret hx hb hr (fun t ht hW => ⟨⟨_, (v_10.2.1, v_10.2.2, (vp_updL oF (ix 0) v_10.1.toInt64)), rfl, ⟨rfl, rfl⟩, ⟨by rw [ht]; exact hP9, hK.warm hW, hD9⟩⟩, hS.F ht⟩) hS.2.2 dX0_feed_16
