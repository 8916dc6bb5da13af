abbrev rm_X0_count : Room := { frames := 8, cells := 1, slots := 6, locals := 141 }
def F_X0_count (N : Nat) (xl : Int32) (gr : Int32) (lm : Int32) (lz : Int32) (ln : Nat) (zw : Int32) (zh : Int32) (zA : Int64) (zL : Int64) (zR : Int64) (zE : Int64) (oF : Nat → Int64) (np : Nat) (q1 : Nat → Int32) (q2 : Nat → Int32) (qN : Nat → Int32) (qW : Nat → Nat → Int32) (qP : Nat → Nat → Int32) (qR : Nat → Nat → Int32) (qV : Nat → Nat → Int32) (qB : Nat → Int64) (qS : Nat → Nat → Int64) (qA : Nat → Nat → Int64) (qG : Nat → Nat → Int64) (qC : Nat → Nat → Int32) (x1 : Int32) : Option (Int32 × ((Nat → Int64))) :=
  ((F_X1_count N xl gr lm lz ln zw zh zA zL zR zE np q1 q2 qN qW qP qR qV qB qS qA qG qC x1).bind fun r_1 => ga_sw r_1 (fun v_10 =>
  some (0, (vp_updL oF (ix 0) v_10.1.toInt64))) (fun u_6 =>
  (if u_6 = 1 then
  some (1, oF)
  else
  none)))
set_option maxHeartbeats 4000000 in
theorem met_X0_count (l : Launch) (D : va_G) (cA : Nat → ClassId) (A : Nat → Prop) (x : Nat) (g : Nat) (xs : Value) (xp : Value) (xi : Nat) (xr : Value) (xq : Value) (sh : Nat) (al : Nat) (g_b : Nat) (g_t : Nat) (ed : Nat) (lf : Nat → Option Nat) (o : Nat) (zs : Nat → Nat) (xl : Int32) (gr : Int32) (lm : Int32) (lz : Int32) (ln : Nat) (zw : Int32) (zh : Int32) (zA : Int64) (zL : Int64) (zR : Int64) (zE : Int64) (oF : Nat → Int64) (np : Nat) (q1 : Nat → Int32) (q2 : Nat → Int32) (qN : Nat → Int32) (qW : Nat → Nat → Int32) (qP : Nat → Nat → Int32) (qR : Nat → Nat → Int32) (qV : Nat → Nat → Int32) (qB : Nat → Int64) (qS : Nat → Nat → Int64) (qA : Nat → Nat → Int64) (qG : Nat → Nat → Int64) (qC : Nat → Nat → Int32) (N : Nat) (x1 : Int32)  (hstk : l.stackTraces = false) (out : Int32 × ((Nat → Int64))) (h : F_X0_count N xl gr lm lz ln zw zh zA zL zR zE oF np q1 q2 qN qW qP qR qV qB qS qA qG qC x1 = some out) : Met l yX0_count (wsW_ yX0_count cX0_count 4 (some .int) [(0, 9, 12, 13)]) rm_X0_count (ga_XR D cA zs A (ga_po D cA lf np q1 q2 qN qW qP qR qV qB qS qA qG qC) [(x, .inr (1, [.ref g, xs, xp, .ref xi, .int xl, xr, xq])), (g, .inr (2, [.ref sh, .ref al, .int gr, .ref g_b, .ref g_t])), (al, .inr (6, [.int lm, .ref ed, .int lz])), (ed, .inl (cA 5, ln, .inr (.inr (.inr (.inr lf))))), (sh, .inr (4, [.int zw, .int zh, .long zA, .long zL, .long zR, .long zE])), (o, .inl (cA 1, 1, .inr (.inl oF)))] [.ref x, .int x1, .ref o]) (va_Qi (fun (r : Int32) (u : (Nat → Int64)) => (out.1 = r) ∧ out.2 = u) (fun (u : (Nat → Int64)) (t : State) => va_P D ga_cl [(x, .inr (1, [.ref g, xs, xp, .ref xi, .int xl, xr, xq])), (g, .inr (2, [.ref sh, .ref al, .int gr, .ref g_b, .ref g_t])), (al, .inr (6, [.int lm, .ref ed, .int lz])), (ed, .inl (cA 5, ln, .inr (.inr (.inr (.inr lf))))), (sh, .inr (4, [.int zw, .int zh, .long zA, .long zL, .long zR, .long zE])), (o, .inl (cA 1, 1, .inr (.inl u)))] t.heap ∧ ga_K D cA t ∧ va_D A [(x, .inr (1, [.ref g, xs, xp, .ref xi, .int xl, xr, xq])), (g, .inr (2, [.ref sh, .ref al, .int gr, .ref g_b, .ref g_t])), (al, .inr (6, [.int lm, .ref ed, .int lz])), (ed, .inl (cA 5, ln, .inr (.inr (.inr (.inr lf))))), (sh, .inr (4, [.int zw, .int zh, .long zA, .long zL, .long zR, .long zE])), (o, .inl (cA 1, 1, .inr (.inl u)))]) A) 1 6 A := by
  refine va_MetW (cc := cX0_count) (maxL := 4) (ret := (some .int)) (hh := [(0, 9, 12, 13)]) (by decide) rfl ?_
  intro p e s m args below meth c s₁ B hml hv
  have hX : c.exceptionTable.toList = tableOf [(0, 9, 12, 13)] ∧ l.stackTraces = false := ⟨vx_table (x := yX0_count) B (atoms_spec (ws := (wsW_ yX0_count cX0_count 4 (some .int) [(0, 9, 12, 13)])) B.pre _ List.mem_cons_self), hstk⟩
  obtain ⟨rfl, hP, hK, hD, hA, hST, hR⟩ := hv
  have hS : va_S A s.heap s.heap [] := va_S.rf
  have C : ga_cx p m c meth s _ RX0 cX0_count 4 (some .int) := ga_cxW_of B hml
  have C0 := C
  obtain ⟨hx, hb, hr, hlocks, hml, hown, hts⟩ := C0
  have hl := lv_entry ([.ref x, .int x1, .ref o]) (n := 4) (Nat.le_of_ble_eq_true rfl)
  rw [lg_entry_eq]
  generalize (lg_sl ([.ref x, .int x1, .ref o]) ++ List.replicate (4 - (lg_sl ([.ref x, .int x1, .ref o])).length) Slot.unset).toArray = ls at hl ⊢
  have hl : lv_has ls 4 [(0, .ref x), (1, .int x1), (2, .ref o)] := hl
  rw [F_X0_count] at h
  refine lv_aload_n hx hb dX0_count_0 rfl (lv_at hl 2 rfl) ?_
  refine lv_iconst (v := 0) hx hb dX0_count_1 (by decide) ?_
  refine lv_aload_n hx hb dX0_count_2 rfl (lv_at hl 0 rfl) ?_
  refine lv_iload_n hx hb dX0_count_3 rfl (lv_at hl 1 rfl) ?_
  obtain ⟨r_1, e_2, h⟩ := ga_gb h
  have hFc := va_free (wc := [(x, .inr (1, [.ref g, xs, xp, .ref xi, .int xl, xr, xq])), (g, .inr (2, [.ref sh, .ref al, .int gr, .ref g_b, .ref g_t])), (al, .inr (6, [.int lm, .ref ed, .int lz])), (ed, .inl (cA 5, ln, .inr (.inr (.inr (.inr lf))))), (sh, .inr (4, [.int zw, .int zh, .long zA, .long zL, .long zR, .long zE]))]) hD hS hA [0, 1, 2, 3, 4] rfl
  refine vx_calli (vx_runV (As := [.int x1]) (rest := [.int 0, .ref o]) ⟨hx, hb, hml, hown, hts⟩ (met_X1_count l D cA (va_A [(x, .inr (1, [.ref g, xs, xp, .ref xi, .int xl, xr, xq])), (g, .inr (2, [.ref sh, .ref al, .int gr, .ref g_b, .ref g_t])), (al, .inr (6, [.int lm, .ref ed, .int lz])), (ed, .inl (cA 5, ln, .inr (.inr (.inr (.inr lf))))), (sh, .inr (4, [.int zw, .int zh, .long zA, .long zL, .long zR, .long zE]))] s.heap.size) x g xs xp xi xr xq sh al g_b g_t ed lf zs xl gr lm lz ln zw zh zA zL zR zE np q1 q2 qN qW qP qR qV qB qS qA qG qC N x1 hX.2 r_1 e_2) (cwV 1 hts (lw_V q910 q911 q912 q67 q913) rfl rfl rfl (by decide +kernel) ⟨Nat.le_of_ble_eq_true rfl, Nat.le_of_ble_eq_true rfl⟩) (ga_XRV ga_poK (ga_poK.at hR hS hFc) hK (hP.sub (ws' := [(x, .inr (1, [.ref g, xs, xp, .ref xi, .int xl, xr, xq])), (g, .inr (2, [.ref sh, .ref al, .int gr, .ref g_b, .ref g_t])), (al, .inr (6, [.int lm, .ref ed, .int lz])), (ed, .inl (cA 5, ln, .inr (.inr (.inr (.inr lf))))), (sh, .inr (4, [.int zw, .int zh, .long zA, .long zL, .long zR, .long zE]))]) [0, 1, 2, 3, 4] rfl) (hD.sub (ws' := [(x, .inr (1, [.ref g, xs, xp, .ref xi, .int xl, xr, xq])), (g, .inr (2, [.ref sh, .ref al, .int gr, .ref g_b, .ref g_t])), (al, .inr (6, [.int lm, .ref ed, .int lz])), (ed, .inl (cA 5, ln, .inr (.inr (.inr (.inr lf))))), (sh, .inr (4, [.int zw, .int zh, .long zA, .long zL, .long zR, .long zE]))]) [0, 1, 2, 3, 4] (by decide) rfl).self (fun _ hq => Or.inr hq) (hST.at hS hFc) (va_recv hK.1 hP (ci := 1) (q0 := 0) rfl rfl)) rfl rfl hl.1 rfl (lv_room (Nat.le_of_ble_eq_true rfl)) dX0_count_4 ⟨Nat.le_of_ble_eq_true rfl, Nat.le_of_ble_eq_true rfl⟩) hS (fun q _ hq => hFc q hq) hFc (fun q _ hq => hFc q hq) (fun E_8 ce q_9 u_6 t H_7 locs ht _ w_4 hB _ hk hS hce hcv hcl => ?_) (fun z_3 u_6 t H_5 locs ht _ w_4 hB _ hk hS => ?_)
  · replace h := ga_swr w_4 h
    obtain ⟨eE, hP1, hD1⟩ := hB
    rw [ht] at hP1
    obtain ⟨hP, hD⟩ := va_join (wr := [(o, .inl (cA 1, 1, .inr (.inl oF)))]) (w1 := [(x, .inr (1, [.ref g, xs, xp, .ref xi, .int xl, xr, xq])), (g, .inr (2, [.ref sh, .ref al, .int gr, .ref g_b, .ref g_t])), (al, .inr (6, [.int lm, .ref ed, .int lz])), (ed, .inl (cA 5, ln, .inr (.inr (.inr (.inr lf))))), (sh, .inr (4, [.int zw, .int zh, .long zA, .long zL, .long zR, .long zE]))]) hP hD [0, 1, 2, 3, 4] [5] rfl rfl (by decide) (by decide) hk hFc hP1 hD1
    have hP : va_P D ga_cl [(o, .inl (cA 1, 1, .inr (.inl oF))), (x, .inr (1, [.ref g, xs, xp, .ref xi, .int xl, xr, xq])), (g, .inr (2, [.ref sh, .ref al, .int gr, .ref g_b, .ref g_t])), (al, .inr (6, [.int lm, .ref ed, .int lz])), (ed, .inl (cA 5, ln, .inr (.inr (.inr (.inr lf))))), (sh, .inr (4, [.int zw, .int zh, .long zA, .long zL, .long zR, .long zE]))] H_7 := hP
    have hD : va_D A [(o, .inl (cA 1, 1, .inr (.inl oF))), (x, .inr (1, [.ref g, xs, xp, .ref xi, .int xl, xr, xq])), (g, .inr (2, [.ref sh, .ref al, .int gr, .ref g_b, .ref g_t])), (al, .inr (6, [.int lm, .ref ed, .int lz])), (ed, .inl (cA 5, ln, .inr (.inr (.inr (.inr lf))))), (sh, .inr (4, [.int zw, .int zh, .long zA, .long zL, .long zR, .long zE]))] := hD
    by_cases c_11 : u_6 = 1
    · replace h := ga_ift c_11 h
      have eE : E_8 = "java/lang/IllegalArgumentException" := by rw [eE, c_11]; rfl
      subst eE
      refine vx_catch (name := "java/lang/IllegalArgumentException") hown [] ⟨0, 9, 12, 13⟩ [] (by rw [hX.1]; rfl) ((fun _ hz => nomatch hz)) (by decide) (by decide) (hts _ q479) (ga_nu hK q495 rfl) hce hcv hcl ?_
      refine lv_astore_n (lv' := [(3, .ref q_9), (0, .ref x), (1, .int x1), (2, .ref o)]) hx hb dX0_count_12 rfl hl (by decide) rfl (fun ls hl => ?_)
      refine lv_iconst (v := 1) hx hb dX0_count_13 (by decide) ?_
      have hP9 := hP.sub (ws' := [(x, .inr (1, [.ref g, xs, xp, .ref xi, .int xl, xr, xq])), (g, .inr (2, [.ref sh, .ref al, .int gr, .ref g_b, .ref g_t])), (al, .inr (6, [.int lm, .ref ed, .int lz])), (ed, .inl (cA 5, ln, .inr (.inr (.inr (.inr lf))))), (sh, .inr (4, [.int zw, .int zh, .long zA, .long zL, .long zR, .long zE])), (o, .inl (cA 1, 1, .inr (.inl oF)))]) [1, 2, 3, 4, 5, 0] rfl
      have hD9 := hD.sub (ws' := [(x, .inr (1, [.ref g, xs, xp, .ref xi, .int xl, xr, xq])), (g, .inr (2, [.ref sh, .ref al, .int gr, .ref g_b, .ref g_t])), (al, .inr (6, [.int lm, .ref ed, .int lz])), (ed, .inl (cA 5, ln, .inr (.inr (.inr (.inr lf))))), (sh, .inr (4, [.int zw, .int zh, .long zA, .long zL, .long zR, .long zE])), (o, .inl (cA 1, 1, .inr (.inl oF)))]) [1, 2, 3, 4, 5, 0] (by decide) rfl
      obtain rfl := Option.some.inj h
      exact W.iret hx hb hr (fun t ht hW => ⟨⟨_, oF, rfl, ⟨rfl, rfl⟩, ⟨by rw [ht]; exact hP9, hK.warm hW, hD9⟩⟩, hS.F ht⟩) hS.2.2 dX0_count_14
    · replace h := ga_iff c_11 h
      cases h
  · obtain ⟨v_10, ev_10, hv9⟩ := w_4
    replace h := ga_swl ev_10 h
    obtain ⟨rfl, rfl⟩ := hv9
    obtain ⟨hP1, -, hD1⟩ := hB
    rw [ht] at hP1
    obtain ⟨hP, hD⟩ := va_join (wr := [(o, .inl (cA 1, 1, .inr (.inl oF)))]) (w1 := [(x, .inr (1, [.ref g, xs, xp, .ref xi, .int xl, xr, xq])), (g, .inr (2, [.ref sh, .ref al, .int gr, .ref g_b, .ref g_t])), (al, .inr (6, [.int lm, .ref ed, .int lz])), (ed, .inl (cA 5, ln, .inr (.inr (.inr (.inr lf))))), (sh, .inr (4, [.int zw, .int zh, .long zA, .long zL, .long zR, .long zE]))]) hP hD [0, 1, 2, 3, 4] [5] rfl rfl (by decide) (by decide) hk hFc hP1 hD1
    have hP : va_P D ga_cl [(o, .inl (cA 1, 1, .inr (.inl oF))), (x, .inr (1, [.ref g, xs, xp, .ref xi, .int xl, xr, xq])), (g, .inr (2, [.ref sh, .ref al, .int gr, .ref g_b, .ref g_t])), (al, .inr (6, [.int lm, .ref ed, .int lz])), (ed, .inl (cA 5, ln, .inr (.inr (.inr (.inr lf))))), (sh, .inr (4, [.int zw, .int zh, .long zA, .long zL, .long zR, .long zE]))] H_5 := hP
    have hD : va_D A [(o, .inl (cA 1, 1, .inr (.inl oF))), (x, .inr (1, [.ref g, xs, xp, .ref xi, .int xl, xr, xq])), (g, .inr (2, [.ref sh, .ref al, .int gr, .ref g_b, .ref g_t])), (al, .inr (6, [.int lm, .ref ed, .int lz])), (ed, .inl (cA 5, ln, .inr (.inr (.inr (.inr lf))))), (sh, .inr (4, [.int zw, .int zh, .long zA, .long zL, .long zR, .long zE]))] := hD
    refine W.cs (cells' := 1) (slots' := 6) rfl rfl ?_
    refine lv_i2l (v := v_10.1.toInt64) hx hb dX0_count_7 rfl ?_
    refine va_last hx hb hK.1 hP hD hS 0 1 (f := oF) rfl rfl (ga_in (by decide)) dX0_count_8 (fun H_13 locs hP hD hS => ?_)
    have hP : va_P D ga_cl [(o, .inl (cA 1, 1, .inr (.inl (vp_updL oF (ix 0) v_10.1.toInt64)))), (x, .inr (1, [.ref g, xs, xp, .ref xi, .int xl, xr, xq])), (g, .inr (2, [.ref sh, .ref al, .int gr, .ref g_b, .ref g_t])), (al, .inr (6, [.int lm, .ref ed, .int lz])), (ed, .inl (cA 5, ln, .inr (.inr (.inr (.inr lf))))), (sh, .inr (4, [.int zw, .int zh, .long zA, .long zL, .long zR, .long zE]))] H_13 := hP
    have hD : va_D A [(o, .inl (cA 1, 1, .inr (.inl (vp_updL oF (ix 0) v_10.1.toInt64)))), (x, .inr (1, [.ref g, xs, xp, .ref xi, .int xl, xr, xq])), (g, .inr (2, [.ref sh, .ref al, .int gr, .ref g_b, .ref g_t])), (al, .inr (6, [.int lm, .ref ed, .int lz])), (ed, .inl (cA 5, ln, .inr (.inr (.inr (.inr lf))))), (sh, .inr (4, [.int zw, .int zh, .long zA, .long zL, .long zR, .long zE]))] := hD
    refine lv_goto (tgt := 15) hx hb dX0_count_9 (by decide) ?_
    refine lv_iconst (v := 0) hx hb dX0_count_15 (by decide) ?_
    have hP9 := hP.sub (ws' := [(x, .inr (1, [.ref g, xs, xp, .ref xi, .int xl, xr, xq])), (g, .inr (2, [.ref sh, .ref al, .int gr, .ref g_b, .ref g_t])), (al, .inr (6, [.int lm, .ref ed, .int lz])), (ed, .inl (cA 5, ln, .inr (.inr (.inr (.inr lf))))), (sh, .inr (4, [.int zw, .int zh, .long zA, .long zL, .long zR, .long zE])), (o, .inl (cA 1, 1, .inr (.inl (vp_updL oF (ix 0) v_10.1.toInt64))))]) [1, 2, 3, 4, 5, 0] rfl
    have hD9 := hD.sub (ws' := [(x, .inr (1, [.ref g, xs, xp, .ref xi, .int xl, xr, xq])), (g, .inr (2, [.ref sh, .ref al, .int gr, .ref g_b, .ref g_t])), (al, .inr (6, [.int lm, .ref ed, .int lz])), (ed, .inl (cA 5, ln, .inr (.inr (.inr (.inr lf))))), (sh, .inr (4, [.int zw, .int zh, .long zA, .long zL, .long zR, .long zE])), (o, .inl (cA 1, 1, .inr (.inl (vp_updL oF (ix 0) v_10.1.toInt64))))]) [1, 2, 3, 4, 5, 0] (by decide) rfl
    obtain rfl := Option.some.inj h
    exact W.iret hx hb hr (fun t ht hW => ⟨⟨_, (vp_updL oF (ix 0) v_10.1.toInt64), rfl, ⟨rfl, rfl⟩, ⟨by rw [ht]; exact hP9, hK.warm hW, hD9⟩⟩, hS.F ht⟩) hS.2.2 dX0_count_16
abbrev rm_X0_player : Room := { frames := 9, cells := 2, slots := 12, locals := 167 }
def F_X0_player (N : Nat) (xl : Int32) (gr : Int32) (lm : Int32) (lz : Int32) (ln : Nat) (gB : Nat → Int32) (zw : Int32) (zh : Int32) (zA : Int64) (zL : Int64) (zR : Int64) (zE : Int64) (oF : Nat → Int64) (np : Nat) (q1 : Nat → Int32) (q2 : Nat → Int32) (qN : Nat → Int32) (qW : Nat → Nat → Int32) (qP : Nat → Nat → Int32) (qR : Nat → Nat → Int32) (qV : Nat → Nat → Int32) (qB : Nat → Int64) (qS : Nat → Nat → Int64) (qA : Nat → Nat → Int64) (qG : Nat → Nat → Int64) (qC : Nat → Nat → Int32) (x1 : Int32) (x2 : Int32) : Option (Int32 × ((Nat → Int64))) :=
  ((F_X1_player N xl gr lm lz ln gB zw zh zA zL zR zE np q1 q2 qN qW qP qR qV qB qS qA qG qC x1 x2).bind fun r_1 => ga_sw r_1 (fun v_10 =>
  some (0, (vp_updL oF (ix 0) v_10.1.toInt64))) (fun u_6 =>
  (if u_6 = 1 then
  some (2, oF)
  else
  (if u_6 = 3 then
  some (1, oF)
  else
  none))))
set_option maxHeartbeats 4000000 in
theorem met_X0_player (l : Launch) (D : va_G) (cA : Nat → ClassId) (A : Nat → Prop) (x : Nat) (g : Nat) (xs : Value) (xp : Value) (xi : Nat) (xr : Value) (xq : Value) (sh : Nat) (al : Nat) (g_b : Nat) (g_t : Nat) (ed : Nat) (lf : Nat → Option Nat) (o : Nat) (zs : Nat → Nat) (xl : Int32) (gr : Int32) (lm : Int32) (lz : Int32) (ln : Nat) (gB : Nat → Int32) (zw : Int32) (zh : Int32) (zA : Int64) (zL : Int64) (zR : Int64) (zE : Int64) (oF : Nat → Int64) (np : Nat) (q1 : Nat → Int32) (q2 : Nat → Int32) (qN : Nat → Int32) (qW : Nat → Nat → Int32) (qP : Nat → Nat → Int32) (qR : Nat → Nat → Int32) (qV : Nat → Nat → Int32) (qB : Nat → Int64) (qS : Nat → Nat → Int64) (qA : Nat → Nat → Int64) (qG : Nat → Nat → Int64) (qC : Nat → Nat → Int32) (N : Nat) (x1 : Int32) (x2 : Int32)  (hstk : l.stackTraces = false) (out : Int32 × ((Nat → Int64))) (h : F_X0_player N xl gr lm lz ln gB zw zh zA zL zR zE oF np q1 q2 qN qW qP qR qV qB qS qA qG qC x1 x2 = some out) : Met l yX0_player (wsW_ yX0_player cX0_player 5 (some .int) [(0, 10, 13, 23), (0, 10, 17, 13)]) rm_X0_player (ga_XR D cA zs A (ga_po D cA lf np q1 q2 qN qW qP qR qV qB qS qA qG qC) [(x, .inr (1, [.ref g, xs, xp, .ref xi, .int xl, xr, xq])), (g, .inr (2, [.ref sh, .ref al, .int gr, .ref g_b, .ref g_t])), (al, .inr (6, [.int lm, .ref ed, .int lz])), (ed, .inl (cA 5, ln, .inr (.inr (.inr (.inr lf))))), (g_b, .inl (cA 0, 2, .inl gB)), (sh, .inr (4, [.int zw, .int zh, .long zA, .long zL, .long zR, .long zE])), (o, .inl (cA 1, 1, .inr (.inl oF)))] [.ref x, .int x1, .int x2, .ref o]) (va_Qi (fun (r : Int32) (u : (Nat → Int64)) => (out.1 = r) ∧ out.2 = u) (fun (u : (Nat → Int64)) (t : State) => va_P D ga_cl [(x, .inr (1, [.ref g, xs, xp, .ref xi, .int xl, xr, xq])), (g, .inr (2, [.ref sh, .ref al, .int gr, .ref g_b, .ref g_t])), (al, .inr (6, [.int lm, .ref ed, .int lz])), (ed, .inl (cA 5, ln, .inr (.inr (.inr (.inr lf))))), (g_b, .inl (cA 0, 2, .inl gB)), (sh, .inr (4, [.int zw, .int zh, .long zA, .long zL, .long zR, .long zE])), (o, .inl (cA 1, 1, .inr (.inl u)))] t.heap ∧ ga_K D cA t ∧ va_D A [(x, .inr (1, [.ref g, xs, xp, .ref xi, .int xl, xr, xq])), (g, .inr (2, [.ref sh, .ref al, .int gr, .ref g_b, .ref g_t])), (al, .inr (6, [.int lm, .ref ed, .int lz])), (ed, .inl (cA 5, ln, .inr (.inr (.inr (.inr lf))))), (g_b, .inl (cA 0, 2, .inl gB)), (sh, .inr (4, [.int zw, .int zh, .long zA, .long zL, .long zR, .long zE])), (o, .inl (cA 1, 1, .inr (.inl u)))]) A) 2 12 A := by
  refine va_MetW (cc := cX0_player) (maxL := 5) (ret := (some .int)) (hh := [(0, 10, 13, 23), (0, 10, 17, 13)]) (by decide) rfl ?_
  intro p e s m args below meth c s₁ B hml hv
  have hX : c.exceptionTable.toList = tableOf [(0, 10, 13, 23), (0, 10, 17, 13)] ∧ l.stackTraces = false := ⟨vx_table (x := yX0_player) B (atoms_spec (ws := (wsW_ yX0_player cX0_player 5 (some .int) [(0, 10, 13, 23), (0, 10, 17, 13)])) B.pre _ List.mem_cons_self), hstk⟩
  obtain ⟨rfl, hP, hK, hD, hA, hST, hR⟩ := hv
  have hS : va_S A s.heap s.heap [] := va_S.rf
  have C : ga_cx p m c meth s _ RX0 cX0_player 5 (some .int) := ga_cxW_of B hml
  have C0 := C
  obtain ⟨hx, hb, hr, hlocks, hml, hown, hts⟩ := C0
  have hl := lv_entry ([.ref x, .int x1, .int x2, .ref o]) (n := 5) (Nat.le_of_ble_eq_true rfl)
  rw [lg_entry_eq]
  generalize (lg_sl ([.ref x, .int x1, .int x2, .ref o]) ++ List.replicate (5 - (lg_sl ([.ref x, .int x1, .int x2, .ref o])).length) Slot.unset).toArray = ls at hl ⊢
  have hl : lv_has ls 5 [(0, .ref x), (1, .int x1), (2, .int x2), (3, .ref o)] := hl
  rw [F_X0_player] at h
  refine lv_aload_n hx hb dX0_player_0 rfl (lv_at hl 3 rfl) ?_
  refine lv_iconst (v := 0) hx hb dX0_player_1 (by decide) ?_
  refine lv_aload_n hx hb dX0_player_2 rfl (lv_at hl 0 rfl) ?_
  refine lv_iload_n hx hb dX0_player_3 rfl (lv_at hl 1 rfl) ?_
  refine lv_iload_n hx hb dX0_player_4 rfl (lv_at hl 2 rfl) ?_
  obtain ⟨r_1, e_2, h⟩ := ga_gb h
  have hFc := va_free (wc := [(x, .inr (1, [.ref g, xs, xp, .ref xi, .int xl, xr, xq])), (g, .inr (2, [.ref sh, .ref al, .int gr, .ref g_b, .ref g_t])), (al, .inr (6, [.int lm, .ref ed, .int lz])), (ed, .inl (cA 5, ln, .inr (.inr (.inr (.inr lf))))), (g_b, .inl (cA 0, 2, .inl gB)), (sh, .inr (4, [.int zw, .int zh, .long zA, .long zL, .long zR, .long zE]))]) hD hS hA [0, 1, 2, 3, 4, 5] rfl
  refine vx_calli (vx_runV (As := [.int x1, .int x2]) (rest := [.int 0, .ref o]) ⟨hx, hb, hml, hown, hts⟩ (met_X1_player l D cA (va_A [(x, .inr (1, [.ref g, xs, xp, .ref xi, .int xl, xr, xq])), (g, .inr (2, [.ref sh, .ref al, .int gr, .ref g_b, .ref g_t])), (al, .inr (6, [.int lm, .ref ed, .int lz])), (ed, .inl (cA 5, ln, .inr (.inr (.inr (.inr lf))))), (g_b, .inl (cA 0, 2, .inl gB)), (sh, .inr (4, [.int zw, .int zh, .long zA, .long zL, .long zR, .long zE]))] s.heap.size) x g xs xp xi xr xq sh al g_b g_t ed lf zs xl gr lm lz ln gB zw zh zA zL zR zE np q1 q2 qN qW qP qR qV qB qS qA qG qC N x1 x2 hX.2 r_1 e_2) (cwV 2 hts (lw_V q931 q932 q933 q67 q934) rfl rfl rfl (by decide +kernel) ⟨Nat.le_of_ble_eq_true rfl, Nat.le_of_ble_eq_true rfl⟩) (ga_XRV ga_poK (ga_poK.at hR hS hFc) hK (hP.sub (ws' := [(x, .inr (1, [.ref g, xs, xp, .ref xi, .int xl, xr, xq])), (g, .inr (2, [.ref sh, .ref al, .int gr, .ref g_b, .ref g_t])), (al, .inr (6, [.int lm, .ref ed, .int lz])), (ed, .inl (cA 5, ln, .inr (.inr (.inr (.inr lf))))), (g_b, .inl (cA 0, 2, .inl gB)), (sh, .inr (4, [.int zw, .int zh, .long zA, .long zL, .long zR, .long zE]))]) [0, 1, 2, 3, 4, 5] rfl) (hD.sub (ws' := [(x, .inr (1, [.ref g, xs, xp, .ref xi, .int xl, xr, xq])), (g, .inr (2, [.ref sh, .ref al, .int gr, .ref g_b, .ref g_t])), (al, .inr (6, [.int lm, .ref ed, .int lz])), (ed, .inl (cA 5, ln, .inr (.inr (.inr (.inr lf))))), (g_b, .inl (cA 0, 2, .inl gB)), (sh, .inr (4, [.int zw, .int zh, .long zA, .long zL, .long zR, .long zE]))]) [0, 1, 2, 3, 4, 5] (by decide) rfl).self (fun _ hq => Or.inr hq) (hST.at hS hFc) (va_recv hK.1 hP (ci := 1) (q0 := 0) rfl rfl)) rfl rfl hl.1 rfl (lv_room (Nat.le_of_ble_eq_true rfl)) dX0_player_5 ⟨Nat.le_of_ble_eq_true rfl, Nat.le_of_ble_eq_true rfl⟩) hS (fun q _ hq => hFc q hq) hFc (fun q _ hq => hFc q hq) (fun E_8 ce q_9 u_6 t H_7 locs ht _ w_4 hB _ hk hS hce hcv hcl => ?_) (fun z_3 u_6 t H_5 locs ht _ w_4 hB _ hk hS => ?_)
  · replace h := ga_swr w_4 h
    obtain ⟨eE, hP1, hD1⟩ := hB
    rw [ht] at hP1
    obtain ⟨hP, hD⟩ := va_join (wr := [(o, .inl (cA 1, 1, .inr (.inl oF)))]) (w1 := [(x, .inr (1, [.ref g, xs, xp, .ref xi, .int xl, xr, xq])), (g, .inr (2, [.ref sh, .ref al, .int gr, .ref g_b, .ref g_t])), (al, .inr (6, [.int lm, .ref ed, .int lz])), (ed, .inl (cA 5, ln, .inr (.inr (.inr (.inr lf))))), (g_b, .inl (cA 0, 2, .inl gB)), (sh, .inr (4, [.int zw, .int zh, .long zA, .long zL, .long zR, .long zE]))]) hP hD [0, 1, 2, 3, 4, 5] [6] rfl rfl (by decide) (by decide) hk hFc hP1 hD1
    have hP : va_P D ga_cl [(o, .inl (cA 1, 1, .inr (.inl oF))), (x, .inr (1, [.ref g, xs, xp, .ref xi, .int xl, xr, xq])), (g, .inr (2, [.ref sh, .ref al, .int gr, .ref g_b, .ref g_t])), (al, .inr (6, [.int lm, .ref ed, .int lz])), (ed, .inl (cA 5, ln, .inr (.inr (.inr (.inr lf))))), (g_b, .inl (cA 0, 2, .inl gB)), (sh, .inr (4, [.int zw, .int zh, .long zA, .long zL, .long zR, .long zE]))] H_7 := hP
    have hD : va_D A [(o, .inl (cA 1, 1, .inr (.inl oF))), (x, .inr (1, [.ref g, xs, xp, .ref xi, .int xl, xr, xq])), (g, .inr (2, [.ref sh, .ref al, .int gr, .ref g_b, .ref g_t])), (al, .inr (6, [.int lm, .ref ed, .int lz])), (ed, .inl (cA 5, ln, .inr (.inr (.inr (.inr lf))))), (g_b, .inl (cA 0, 2, .inl gB)), (sh, .inr (4, [.int zw, .int zh, .long zA, .long zL, .long zR, .long zE]))] := hD
    by_cases c_11 : u_6 = 1
    · replace h := ga_ift c_11 h
      have eE : E_8 = "java/lang/IllegalArgumentException" := by rw [eE, c_11]; rfl
      subst eE
      refine vx_catch (name := "java/lang/IllegalArgumentException") hown [⟨0, 10, 13, 23⟩] ⟨0, 10, 17, 13⟩ [] (by rw [hX.1]; rfl) ((List.forall_mem_cons.mpr ⟨Or.inr ⟨by decide, "java/lang/IndexOutOfBoundsException", hts _ q586, ga_ncu hST (by decide +kernel)⟩, (fun _ hz => nomatch hz)⟩)) (by decide) (by decide) (hts _ q479) (ga_nu hK q495 rfl) hce hcv hcl ?_
      refine lv_astore (lv' := [(4, .ref q_9), (0, .ref x), (1, .int x1), (2, .int x2), (3, .ref o)]) hx hb dX0_player_17 hl (by decide) rfl (fun ls hl => ?_)
      refine lv_iconst (v := 2) hx hb dX0_player_19 (by decide) ?_
      have hP9 := hP.sub (ws' := [(x, .inr (1, [.ref g, xs, xp, .ref xi, .int xl, xr, xq])), (g, .inr (2, [.ref sh, .ref al, .int gr, .ref g_b, .ref g_t])), (al, .inr (6, [.int lm, .ref ed, .int lz])), (ed, .inl (cA 5, ln, .inr (.inr (.inr (.inr lf))))), (g_b, .inl (cA 0, 2, .inl gB)), (sh, .inr (4, [.int zw, .int zh, .long zA, .long zL, .long zR, .long zE])), (o, .inl (cA 1, 1, .inr (.inl oF)))]) [1, 2, 3, 4, 5, 6, 0] rfl
      have hD9 := hD.sub (ws' := [(x, .inr (1, [.ref g, xs, xp, .ref xi, .int xl, xr, xq])), (g, .inr (2, [.ref sh, .ref al, .int gr, .ref g_b, .ref g_t])), (al, .inr (6, [.int lm, .ref ed, .int lz])), (ed, .inl (cA 5, ln, .inr (.inr (.inr (.inr lf))))), (g_b, .inl (cA 0, 2, .inl gB)), (sh, .inr (4, [.int zw, .int zh, .long zA, .long zL, .long zR, .long zE])), (o, .inl (cA 1, 1, .inr (.inl oF)))]) [1, 2, 3, 4, 5, 6, 0] (by decide) rfl
      obtain rfl := Option.some.inj h
      exact W.iret hx hb hr (fun t ht hW => ⟨⟨_, oF, rfl, ⟨rfl, rfl⟩, ⟨by rw [ht]; exact hP9, hK.warm hW, hD9⟩⟩, hS.F ht⟩) hS.2.2 dX0_player_20
    · replace h := ga_iff c_11 h
      by_cases c_12 : u_6 = 3
      · replace h := ga_ift c_12 h
        have eE : E_8 = "java/lang/IndexOutOfBoundsException" := by rw [eE, c_12]; rfl
        subst eE
        refine vx_catch (name := "java/lang/IndexOutOfBoundsException") hown [] ⟨0, 10, 13, 23⟩ [⟨0, 10, 17, 13⟩] (by rw [hX.1]; rfl) ((fun _ hz => nomatch hz)) (by decide) (by decide) (hts _ q586) (ga_nu hK q630 rfl) hce hcv hcl ?_
        refine lv_astore (lv' := [(4, .ref q_9), (0, .ref x), (1, .int x1), (2, .int x2), (3, .ref o)]) hx hb dX0_player_13 hl (by decide) rfl (fun ls hl => ?_)
        refine lv_iconst (v := 1) hx hb dX0_player_15 (by decide) ?_
        have hP9 := hP.sub (ws' := [(x, .inr (1, [.ref g, xs, xp, .ref xi, .int xl, xr, xq])), (g, .inr (2, [.ref sh, .ref al, .int gr, .ref g_b, .ref g_t])), (al, .inr (6, [.int lm, .ref ed, .int lz])), (ed, .inl (cA 5, ln, .inr (.inr (.inr (.inr lf))))), (g_b, .inl (cA 0, 2, .inl gB)), (sh, .inr (4, [.int zw, .int zh, .long zA, .long zL, .long zR, .long zE])), (o, .inl (cA 1, 1, .inr (.inl oF)))]) [1, 2, 3, 4, 5, 6, 0] rfl
        have hD9 := hD.sub (ws' := [(x, .inr (1, [.ref g, xs, xp, .ref xi, .int xl, xr, xq])), (g, .inr (2, [.ref sh, .ref al, .int gr, .ref g_b, .ref g_t])), (al, .inr (6, [.int lm, .ref ed, .int lz])), (ed, .inl (cA 5, ln, .inr (.inr (.inr (.inr lf))))), (g_b, .inl (cA 0, 2, .inl gB)), (sh, .inr (4, [.int zw, .int zh, .long zA, .long zL, .long zR, .long zE])), (o, .inl (cA 1, 1, .inr (.inl oF)))]) [1, 2, 3, 4, 5, 6, 0] (by decide) rfl
        obtain rfl := Option.some.inj h
        exact W.iret hx hb hr (fun t ht hW => ⟨⟨_, oF, rfl, ⟨rfl, rfl⟩, ⟨by rw [ht]; exact hP9, hK.warm hW, hD9⟩⟩, hS.F ht⟩) hS.2.2 dX0_player_16
      · replace h := ga_iff c_12 h
        cases h
  · obtain ⟨v_10, ev_10, hv9⟩ := w_4
    replace h := ga_swl ev_10 h
    obtain ⟨rfl, rfl⟩ := hv9
    obtain ⟨hP1, -, hD1⟩ := hB
    rw [ht] at hP1
    obtain ⟨hP, hD⟩ := va_join (wr := [(o, .inl (cA 1, 1, .inr (.inl oF)))]) (w1 := [(x, .inr (1, [.ref g, xs, xp, .ref xi, .int xl, xr, xq])), (g, .inr (2, [.ref sh, .ref al, .int gr, .ref g_b, .ref g_t])), (al, .inr (6, [.int lm, .ref ed, .int lz])), (ed, .inl (cA 5, ln, .inr (.inr (.inr (.inr lf))))), (g_b, .inl (cA 0, 2, .inl gB)), (sh, .inr (4, [.int zw, .int zh, .long zA, .long zL, .long zR, .long zE]))]) hP hD [0, 1, 2, 3, 4, 5] [6] rfl rfl (by decide) (by decide) hk hFc hP1 hD1
    have hP : va_P D ga_cl [(o, .inl (cA 1, 1, .inr (.inl oF))), (x, .inr (1, [.ref g, xs, xp, .ref xi, .int xl, xr, xq])), (g, .inr (2, [.ref sh, .ref al, .int gr, .ref g_b, .ref g_t])), (al, .inr (6, [.int lm, .ref ed, .int lz])), (ed, .inl (cA 5, ln, .inr (.inr (.inr (.inr lf))))), (g_b, .inl (cA 0, 2, .inl gB)), (sh, .inr (4, [.int zw, .int zh, .long zA, .long zL, .long zR, .long zE]))] H_5 := hP
    have hD : va_D A [(o, .inl (cA 1, 1, .inr (.inl oF))), (x, .inr (1, [.ref g, xs, xp, .ref xi, .int xl, xr, xq])), (g, .inr (2, [.ref sh, .ref al, .int gr, .ref g_b, .ref g_t])), (al, .inr (6, [.int lm, .ref ed, .int lz])), (ed, .inl (cA 5, ln, .inr (.inr (.inr (.inr lf))))), (g_b, .inl (cA 0, 2, .inl gB)), (sh, .inr (4, [.int zw, .int zh, .long zA, .long zL, .long zR, .long zE]))] := hD
    refine W.cs (cells' := 2) (slots' := 12) rfl rfl ?_
    refine lv_i2l (v := v_10.1.toInt64) hx hb dX0_player_8 rfl ?_
    refine va_last hx hb hK.1 hP hD hS 0 1 (f := oF) rfl rfl (ga_in (by decide)) dX0_player_9 (fun H_14 locs hP hD hS => ?_)
    have hP : va_P D ga_cl [(o, .inl (cA 1, 1, .inr (.inl (vp_updL oF (ix 0) v_10.1.toInt64)))), (x, .inr (1, [.ref g, xs, xp, .ref xi, .int xl, xr, xq])), (g, .inr (2, [.ref sh, .ref al, .int gr, .ref g_b, .ref g_t])), (al, .inr (6, [.int lm, .ref ed, .int lz])), (ed, .inl (cA 5, ln, .inr (.inr (.inr (.inr lf))))), (g_b, .inl (cA 0, 2, .inl gB)), (sh, .inr (4, [.int zw, .int zh, .long zA, .long zL, .long zR, .long zE]))] H_14 := hP
    have hD : va_D A [(o, .inl (cA 1, 1, .inr (.inl (vp_updL oF (ix 0) v_10.1.toInt64)))), (x, .inr (1, [.ref g, xs, xp, .ref xi, .int xl, xr, xq])), (g, .inr (2, [.ref sh, .ref al, .int gr, .ref g_b, .ref g_t])), (al, .inr (6, [.int lm, .ref ed, .int lz])), (ed, .inl (cA 5, ln, .inr (.inr (.inr (.inr lf))))), (g_b, .inl (cA 0, 2, .inl gB)), (sh, .inr (4, [.int zw, .int zh, .long zA, .long zL, .long zR, .long zE]))] := hD
    refine lv_goto (tgt := 21) hx hb dX0_player_10 (by decide) ?_
    refine lv_iconst (v := 0) hx hb dX0_player_21 (by decide) ?_
    have hP9 := hP.sub (ws' := [(x, .inr (1, [.ref g, xs, xp, .ref xi, .int xl, xr, xq])), (g, .inr (2, [.ref sh, .ref al, .int gr, .ref g_b, .ref g_t])), (al, .inr (6, [.int lm, .ref ed, .int lz])), (ed, .inl (cA 5, ln, .inr (.inr (.inr (.inr lf))))), (g_b, .inl (cA 0, 2, .inl gB)), (sh, .inr (4, [.int zw, .int zh, .long zA, .long zL, .long zR, .long zE])), (o, .inl (cA 1, 1, .inr (.inl (vp_updL oF (ix 0) v_10.1.toInt64))))]) [1, 2, 3, 4, 5, 6, 0] rfl
    have hD9 := hD.sub (ws' := [(x, .inr (1, [.ref g, xs, xp, .ref xi, .int xl, xr, xq])), (g, .inr (2, [.ref sh, .ref al, .int gr, .ref g_b, .ref g_t])), (al, .inr (6, [.int lm, .ref ed, .int lz])), (ed, .inl (cA 5, ln, .inr (.inr (.inr (.inr lf))))), (g_b, .inl (cA 0, 2, .inl gB)), (sh, .inr (4, [.int zw, .int zh, .long zA, .long zL, .long zR, .long zE])), (o, .inl (cA 1, 1, .inr (.inl (vp_updL oF (ix 0) v_10.1.toInt64))))]) [1, 2, 3, 4, 5, 6, 0] (by decide) rfl
    obtain rfl := Option.some.inj h
    exact W.iret hx hb hr (fun t ht hW => ⟨⟨_, (vp_updL oF (ix 0) v_10.1.toInt64), rfl, ⟨rfl, rfl⟩, ⟨by rw [ht]; exact hP9, hK.warm hW, hD9⟩⟩, hS.F ht⟩) hS.2.2 dX0_player_22
abbrev rm_X0_round : Room := { frames := 8, cells := 2, slots := 12, locals := 143 }
def F_X0_round (N : Nat) (xl : Int32) (gr : Int32) (lm : Int32) (lz : Int32) (ln : Nat) (oF : Nat → Int64) (np : Nat) (q1 : Nat → Int32) (q2 : Nat → Int32) (qN : Nat → Int32) (qW : Nat → Nat → Int32) (qP : Nat → Nat → Int32) (qR : Nat → Nat → Int32) (qV : Nat → Nat → Int32) (qB : Nat → Int64) (qS : Nat → Nat → Int64) (qA : Nat → Nat → Int64) (qG : Nat → Nat → Int64) (qC : Nat → Nat → Int32) (x1 : Int32) (x2 : Int32) : Option (Int32 × ((Nat → Int64))) :=
  ((F_X1_round N xl gr lm lz ln np q1 q2 qN qW qP qR qV qB qS qA qG qC x1 x2).bind fun r_1 => ga_sw r_1 (fun v_10 =>
  some (0, (vp_updL oF (ix 0) v_10.1.toInt64))) (fun u_6 =>
  (if u_6 = 1 then
  some (2, oF)
  else
  (if u_6 = 3 then
  some (1, oF)
  else
  none))))
set_option maxHeartbeats 4000000 in
theorem met_X0_round (l : Launch) (D : va_G) (cA : Nat → ClassId) (A : Nat → Prop) (x : Nat) (g : Nat) (xs : Value) (xp : Value) (xi : Nat) (xr : Value) (xq : Value) (sh : Nat) (al : Nat) (g_b : Nat) (g_t : Nat) (ed : Nat) (lf : Nat → Option Nat) (o : Nat) (zs : Nat → Nat) (xl : Int32) (gr : Int32) (lm : Int32) (lz : Int32) (ln : Nat) (oF : Nat → Int64) (np : Nat) (q1 : Nat → Int32) (q2 : Nat → Int32) (qN : Nat → Int32) (qW : Nat → Nat → Int32) (qP : Nat → Nat → Int32) (qR : Nat → Nat → Int32) (qV : Nat → Nat → Int32) (qB : Nat → Int64) (qS : Nat → Nat → Int64) (qA : Nat → Nat → Int64) (qG : Nat → Nat → Int64) (qC : Nat → Nat → Int32) (N : Nat) (x1 : Int32) (x2 : Int32)  (hstk : l.stackTraces = false) (out : Int32 × ((Nat → Int64))) (h : F_X0_round N xl gr lm lz ln oF np q1 q2 qN qW qP qR qV qB qS qA qG qC x1 x2 = some out) : Met l yX0_round (wsW_ yX0_round cX0_round 5 (some .int) [(0, 10, 13, 23), (0, 10, 17, 13)]) rm_X0_round (ga_XR D cA zs A (ga_po D cA lf np q1 q2 qN qW qP qR qV qB qS qA qG qC) [(x, .inr (1, [.ref g, xs, xp, .ref xi, .int xl, xr, xq])), (g, .inr (2, [.ref sh, .ref al, .int gr, .ref g_b, .ref g_t])), (al, .inr (6, [.int lm, .ref ed, .int lz])), (ed, .inl (cA 5, ln, .inr (.inr (.inr (.inr lf))))), (o, .inl (cA 1, 1, .inr (.inl oF)))] [.ref x, .int x1, .int x2, .ref o]) (va_Qi (fun (r : Int32) (u : (Nat → Int64)) => (out.1 = r) ∧ out.2 = u) (fun (u : (Nat → Int64)) (t : State) => va_P D ga_cl [(x, .inr (1, [.ref g, xs, xp, .ref xi, .int xl, xr, xq])), (g, .inr (2, [.ref sh, .ref al, .int gr, .ref g_b, .ref g_t])), (al, .inr (6, [.int lm, .ref ed, .int lz])), (ed, .inl (cA 5, ln, .inr (.inr (.inr (.inr lf))))), (o, .inl (cA 1, 1, .inr (.inl u)))] t.heap ∧ ga_K D cA t ∧ va_D A [(x, .inr (1, [.ref g, xs, xp, .ref xi, .int xl, xr, xq])), (g, .inr (2, [.ref sh, .ref al, .int gr, .ref g_b, .ref g_t])), (al, .inr (6, [.int lm, .ref ed, .int lz])), (ed, .inl (cA 5, ln, .inr (.inr (.inr (.inr lf))))), (o, .inl (cA 1, 1, .inr (.inl u)))]) A) 2 12 A := by
  refine va_MetW (cc := cX0_round) (maxL := 5) (ret := (some .int)) (hh := [(0, 10, 13, 23), (0, 10, 17, 13)]) (by decide) rfl ?_
  intro p e s m args below meth c s₁ B hml hv
  have hX : c.exceptionTable.toList = tableOf [(0, 10, 13, 23), (0, 10, 17, 13)] ∧ l.stackTraces = false := ⟨vx_table (x := yX0_round) B (atoms_spec (ws := (wsW_ yX0_round cX0_round 5 (some .int) [(0, 10, 13, 23), (0, 10, 17, 13)])) B.pre _ List.mem_cons_self), hstk⟩
  obtain ⟨rfl, hP, hK, hD, hA, hST, hR⟩ := hv
  have hS : va_S A s.heap s.heap [] := va_S.rf
  have C : ga_cx p m c meth s _ RX0 cX0_round 5 (some .int) := ga_cxW_of B hml
  have C0 := C
  obtain ⟨hx, hb, hr, hlocks, hml, hown, hts⟩ := C0
  have hl := lv_entry ([.ref x, .int x1, .int x2, .ref o]) (n := 5) (Nat.le_of_ble_eq_true rfl)
  rw [lg_entry_eq]
  generalize (lg_sl ([.ref x, .int x1, .int x2, .ref o]) ++ List.replicate (5 - (lg_sl ([.ref x, .int x1, .int x2, .ref o])).length) Slot.unset).toArray = ls at hl ⊢
  have hl : lv_has ls 5 [(0, .ref x), (1, .int x1), (2, .int x2), (3, .ref o)] := hl
  rw [F_X0_round] at h
  refine lv_aload_n hx hb dX0_round_0 rfl (lv_at hl 3 rfl) ?_
  refine lv_iconst (v := 0) hx hb dX0_round_1 (by decide) ?_
  refine lv_aload_n hx hb dX0_round_2 rfl (lv_at hl 0 rfl) ?_
  refine lv_iload_n hx hb dX0_round_3 rfl (lv_at hl 1 rfl) ?_
  refine lv_iload_n hx hb dX0_round_4 rfl (lv_at hl 2 rfl) ?_
  obtain ⟨r_1, e_2, h⟩ := ga_gb h
  have hFc := va_free (wc := [(x, .inr (1, [.ref g, xs, xp, .ref xi, .int xl, xr, xq])), (g, .inr (2, [.ref sh, .ref al, .int gr, .ref g_b, .ref g_t])), (al, .inr (6, [.int lm, .ref ed, .int lz])), (ed, .inl (cA 5, ln, .inr (.inr (.inr (.inr lf)))))]) hD hS hA [0, 1, 2, 3] rfl
  refine vx_calli (vx_runV (As := [.int x1, .int x2]) (rest := [.int 0, .ref o]) ⟨hx, hb, hml, hown, hts⟩ (met_X1_round l D cA (va_A [(x, .inr (1, [.ref g, xs, xp, .ref xi, .int xl, xr, xq])), (g, .inr (2, [.ref sh, .ref al, .int gr, .ref g_b, .ref g_t])), (al, .inr (6, [.int lm, .ref ed, .int lz])), (ed, .inl (cA 5, ln, .inr (.inr (.inr (.inr lf)))))] s.heap.size) x g xs xp xi xr xq sh al g_b g_t ed lf zs xl gr lm lz ln np q1 q2 qN qW qP qR qV qB qS qA qG qC N x1 x2 hX.2 r_1 e_2) (cwV 2 hts (lw_V q1030 q1031 q1032 q67 q1033) rfl rfl rfl (by decide +kernel) ⟨Nat.le_of_ble_eq_true rfl, Nat.le_of_ble_eq_true rfl⟩) (ga_XRV ga_poK (ga_poK.at hR hS hFc) hK (hP.sub (ws' := [(x, .inr (1, [.ref g, xs, xp, .ref xi, .int xl, xr, xq])), (g, .inr (2, [.ref sh, .ref al, .int gr, .ref g_b, .ref g_t])), (al, .inr (6, [.int lm, .ref ed, .int lz])), (ed, .inl (cA 5, ln, .inr (.inr (.inr (.inr lf)))))]) [0, 1, 2, 3] rfl) (hD.sub (ws' := [(x, .inr (1, [.ref g, xs, xp, .ref xi, .int xl, xr, xq])), (g, .inr (2, [.ref sh, .ref al, .int gr, .ref g_b, .ref g_t])), (al, .inr (6, [.int lm, .ref ed, .int lz])), (ed, .inl (cA 5, ln, .inr (.inr (.inr (.inr lf)))))]) [0, 1, 2, 3] (by decide) rfl).self (fun _ hq => Or.inr hq) (hST.at hS hFc) (va_recv hK.1 hP (ci := 1) (q0 := 0) rfl rfl)) rfl rfl hl.1 rfl (lv_room (Nat.le_of_ble_eq_true rfl)) dX0_round_5 ⟨Nat.le_of_ble_eq_true rfl, Nat.le_of_ble_eq_true rfl⟩) hS (fun q _ hq => hFc q hq) hFc (fun q _ hq => hFc q hq) (fun E_8 ce q_9 u_6 t H_7 locs ht _ w_4 hB _ hk hS hce hcv hcl => ?_) (fun z_3 u_6 t H_5 locs ht _ w_4 hB _ hk hS => ?_)
  · replace h := ga_swr w_4 h
    obtain ⟨eE, hP1, hD1⟩ := hB
    rw [ht] at hP1
    obtain ⟨hP, hD⟩ := va_join (wr := [(o, .inl (cA 1, 1, .inr (.inl oF)))]) (w1 := [(x, .inr (1, [.ref g, xs, xp, .ref xi, .int xl, xr, xq])), (g, .inr (2, [.ref sh, .ref al, .int gr, .ref g_b, .ref g_t])), (al, .inr (6, [.int lm, .ref ed, .int lz])), (ed, .inl (cA 5, ln, .inr (.inr (.inr (.inr lf)))))]) hP hD [0, 1, 2, 3] [4] rfl rfl (by decide) (by decide) hk hFc hP1 hD1
    have hP : va_P D ga_cl [(o, .inl (cA 1, 1, .inr (.inl oF))), (x, .inr (1, [.ref g, xs, xp, .ref xi, .int xl, xr, xq])), (g, .inr (2, [.ref sh, .ref al, .int gr, .ref g_b, .ref g_t])), (al, .inr (6, [.int lm, .ref ed, .int lz])), (ed, .inl (cA 5, ln, .inr (.inr (.inr (.inr lf)))))] H_7 := hP
    have hD : va_D A [(o, .inl (cA 1, 1, .inr (.inl oF))), (x, .inr (1, [.ref g, xs, xp, .ref xi, .int xl, xr, xq])), (g, .inr (2, [.ref sh, .ref al, .int gr, .ref g_b, .ref g_t])), (al, .inr (6, [.int lm, .ref ed, .int lz])), (ed, .inl (cA 5, ln, .inr (.inr (.inr (.inr lf)))))] := hD
    by_cases c_11 : u_6 = 1
    · replace h := ga_ift c_11 h
      have eE : E_8 = "java/lang/IllegalArgumentException" := by rw [eE, c_11]; rfl
      subst eE
      refine vx_catch (name := "java/lang/IllegalArgumentException") hown [⟨0, 10, 13, 23⟩] ⟨0, 10, 17, 13⟩ [] (by rw [hX.1]; rfl) ((List.forall_mem_cons.mpr ⟨Or.inr ⟨by decide, "java/lang/IndexOutOfBoundsException", hts _ q586, ga_ncu hST (by decide +kernel)⟩, (fun _ hz => nomatch hz)⟩)) (by decide) (by decide) (hts _ q479) (ga_nu hK q495 rfl) hce hcv hcl ?_
      refine lv_astore (lv' := [(4, .ref q_9), (0, .ref x), (1, .int x1), (2, .int x2), (3, .ref o)]) hx hb dX0_round_17 hl (by decide) rfl (fun ls hl => ?_)
      refine lv_iconst (v := 2) hx hb dX0_round_19 (by decide) ?_
      have hP9 := hP.sub (ws' := [(x, .inr (1, [.ref g, xs, xp, .ref xi, .int xl, xr, xq])), (g, .inr (2, [.ref sh, .ref al, .int gr, .ref g_b, .ref g_t])), (al, .inr (6, [.int lm, .ref ed, .int lz])), (ed, .inl (cA 5, ln, .inr (.inr (.inr (.inr lf))))), (o, .inl (cA 1, 1, .inr (.inl oF)))]) [1, 2, 3, 4, 0] rfl
      have hD9 := hD.sub (ws' := [(x, .inr (1, [.ref g, xs, xp, .ref xi, .int xl, xr, xq])), (g, .inr (2, [.ref sh, .ref al, .int gr, .ref g_b, .ref g_t])), (al, .inr (6, [.int lm, .ref ed, .int lz])), (ed, .inl (cA 5, ln, .inr (.inr (.inr (.inr lf))))), (o, .inl (cA 1, 1, .inr (.inl oF)))]) [1, 2, 3, 4, 0] (by decide) rfl
      obtain rfl := Option.some.inj h
      exact W.iret hx hb hr (fun t ht hW => ⟨⟨_, oF, rfl, ⟨rfl, rfl⟩, ⟨by rw [ht]; exact hP9, hK.warm hW, hD9⟩⟩, hS.F ht⟩) hS.2.2 dX0_round_20
    · replace h := ga_iff c_11 h
      by_cases c_12 : u_6 = 3
      · replace h := ga_ift c_12 h
        have eE : E_8 = "java/lang/IndexOutOfBoundsException" := by rw [eE, c_12]; rfl
        subst eE
        refine vx_catch (name := "java/lang/IndexOutOfBoundsException") hown [] ⟨0, 10, 13, 23⟩ [⟨0, 10, 17, 13⟩] (by rw [hX.1]; rfl) ((fun _ hz => nomatch hz)) (by decide) (by decide) (hts _ q586) (ga_nu hK q630 rfl) hce hcv hcl ?_
        refine lv_astore (lv' := [(4, .ref q_9), (0, .ref x), (1, .int x1), (2, .int x2), (3, .ref o)]) hx hb dX0_round_13 hl (by decide) rfl (fun ls hl => ?_)
        refine lv_iconst (v := 1) hx hb dX0_round_15 (by decide) ?_
        have hP9 := hP.sub (ws' := [(x, .inr (1, [.ref g, xs, xp, .ref xi, .int xl, xr, xq])), (g, .inr (2, [.ref sh, .ref al, .int gr, .ref g_b, .ref g_t])), (al, .inr (6, [.int lm, .ref ed, .int lz])), (ed, .inl (cA 5, ln, .inr (.inr (.inr (.inr lf))))), (o, .inl (cA 1, 1, .inr (.inl oF)))]) [1, 2, 3, 4, 0] rfl
        have hD9 := hD.sub (ws' := [(x, .inr (1, [.ref g, xs, xp, .ref xi, .int xl, xr, xq])), (g, .inr (2, [.ref sh, .ref al, .int gr, .ref g_b, .ref g_t])), (al, .inr (6, [.int lm, .ref ed, .int lz])), (ed, .inl (cA 5, ln, .inr (.inr (.inr (.inr lf))))), (o, .inl (cA 1, 1, .inr (.inl oF)))]) [1, 2, 3, 4, 0] (by decide) rfl
        obtain rfl := Option.some.inj h
        exact W.iret hx hb hr (fun t ht hW => ⟨⟨_, oF, rfl, ⟨rfl, rfl⟩, ⟨by rw [ht]; exact hP9, hK.warm hW, hD9⟩⟩, hS.F ht⟩) hS.2.2 dX0_round_16
      · replace h := ga_iff c_12 h
        cases h
  · obtain ⟨v_10, ev_10, hv9⟩ := w_4
    replace h := ga_swl ev_10 h
    obtain ⟨rfl, rfl⟩ := hv9
    obtain ⟨hP1, -, hD1⟩ := hB
    rw [ht] at hP1
    obtain ⟨hP, hD⟩ := va_join (wr := [(o, .inl (cA 1, 1, .inr (.inl oF)))]) (w1 := [(x, .inr (1, [.ref g, xs, xp, .ref xi, .int xl, xr, xq])), (g, .inr (2, [.ref sh, .ref al, .int gr, .ref g_b, .ref g_t])), (al, .inr (6, [.int lm, .ref ed, .int lz])), (ed, .inl (cA 5, ln, .inr (.inr (.inr (.inr lf)))))]) hP hD [0, 1, 2, 3] [4] rfl rfl (by decide) (by decide) hk hFc hP1 hD1
    have hP : va_P D ga_cl [(o, .inl (cA 1, 1, .inr (.inl oF))), (x, .inr (1, [.ref g, xs, xp, .ref xi, .int xl, xr, xq])), (g, .inr (2, [.ref sh, .ref al, .int gr, .ref g_b, .ref g_t])), (al, .inr (6, [.int lm, .ref ed, .int lz])), (ed, .inl (cA 5, ln, .inr (.inr (.inr (.inr lf)))))] H_5 := hP
    have hD : va_D A [(o, .inl (cA 1, 1, .inr (.inl oF))), (x, .inr (1, [.ref g, xs, xp, .ref xi, .int xl, xr, xq])), (g, .inr (2, [.ref sh, .ref al, .int gr, .ref g_b, .ref g_t])), (al, .inr (6, [.int lm, .ref ed, .int lz])), (ed, .inl (cA 5, ln, .inr (.inr (.inr (.inr lf)))))] := hD
    refine W.cs (cells' := 2) (slots' := 12) rfl rfl ?_
    refine lv_i2l (v := v_10.1.toInt64) hx hb dX0_round_8 rfl ?_
    refine va_last hx hb hK.1 hP hD hS 0 1 (f := oF) rfl rfl (ga_in (by decide)) dX0_round_9 (fun H_14 locs hP hD hS => ?_)
    have hP : va_P D ga_cl [(o, .inl (cA 1, 1, .inr (.inl (vp_updL oF (ix 0) v_10.1.toInt64)))), (x, .inr (1, [.ref g, xs, xp, .ref xi, .int xl, xr, xq])), (g, .inr (2, [.ref sh, .ref al, .int gr, .ref g_b, .ref g_t])), (al, .inr (6, [.int lm, .ref ed, .int lz])), (ed, .inl (cA 5, ln, .inr (.inr (.inr (.inr lf)))))] H_14 := hP
    have hD : va_D A [(o, .inl (cA 1, 1, .inr (.inl (vp_updL oF (ix 0) v_10.1.toInt64)))), (x, .inr (1, [.ref g, xs, xp, .ref xi, .int xl, xr, xq])), (g, .inr (2, [.ref sh, .ref al, .int gr, .ref g_b, .ref g_t])), (al, .inr (6, [.int lm, .ref ed, .int lz])), (ed, .inl (cA 5, ln, .inr (.inr (.inr (.inr lf)))))] := hD
    refine lv_goto (tgt := 21) hx hb dX0_round_10 (by decide) ?_
    refine lv_iconst (v := 0) hx hb dX0_round_21 (by decide) ?_
    have hP9 := hP.sub (ws' := [(x, .inr (1, [.ref g, xs, xp, .ref xi, .int xl, xr, xq])), (g, .inr (2, [.ref sh, .ref al, .int gr, .ref g_b, .ref g_t])), (al, .inr (6, [.int lm, .ref ed, .int lz])), (ed, .inl (cA 5, ln, .inr (.inr (.inr (.inr lf))))), (o, .inl (cA 1, 1, .inr (.inl (vp_updL oF (ix 0) v_10.1.toInt64))))]) [1, 2, 3, 4, 0] rfl
    have hD9 := hD.sub (ws' := [(x, .inr (1, [.ref g, xs, xp, .ref xi, .int xl, xr, xq])), (g, .inr (2, [.ref sh, .ref al, .int gr, .ref g_b, .ref g_t])), (al, .inr (6, [.int lm, .ref ed, .int lz])), (ed, .inl (cA 5, ln, .inr (.inr (.inr (.inr lf))))), (o, .inl (cA 1, 1, .inr (.inl (vp_updL oF (ix 0) v_10.1.toInt64))))]) [1, 2, 3, 4, 0] (by decide) rfl
    obtain rfl := Option.some.inj h
    exact W.iret hx hb hr (fun t ht hW => ⟨⟨_, (vp_updL oF (ix 0) v_10.1.toInt64), rfl, ⟨rfl, rfl⟩, ⟨by rw [ht]; exact hP9, hK.warm hW, hD9⟩⟩, hS.F ht⟩) hS.2.2 dX0_round_22
abbrev rm_X0_turningPoint : Room := { frames := 8, cells := 1, slots := 6, locals := 144 }
def F_X0_turningPoint (N : Nat) (xl : Int32) (gr : Int32) (lm : Int32) (lz : Int32) (ln : Nat) (gB : Nat → Int32) (oF : Nat → Int64) (np : Nat) (q1 : Nat → Int32) (q2 : Nat → Int32) (qN : Nat → Int32) (qW : Nat → Nat → Int32) (qP : Nat → Nat → Int32) (qR : Nat → Nat → Int32) (qV : Nat → Nat → Int32) (qB : Nat → Int64) (qS : Nat → Nat → Int64) (qA : Nat → Nat → Int64) (qG : Nat → Nat → Int64) (qC : Nat → Nat → Int32)  : Option (Int32 × ((Nat → Int64))) :=
  ((F_X1_turningPoint N xl gr lm lz ln gB np q1 q2 qN qW qP qR qV qB qS qA qG qC).bind fun r_1 => ga_sw r_1 (fun v_10 =>
  some (0, (vp_updL oF (ix 0) v_10.1.toInt64))) (fun u_6 =>
  (if u_6 = 4 then
  some (1, oF)
  else
  none)))
set_option maxHeartbeats 4000000 in
theorem met_X0_turningPoint (l : Launch) (D : va_G) (cA : Nat → ClassId) (A : Nat → Prop) (x : Nat) (g : Nat) (xs : Value) (xp : Value) (xi : Nat) (xr : Value) (xq : Value) (sh : Nat) (al : Nat) (g_b : Nat) (g_t : Nat) (ed : Nat) (lf : Nat → Option Nat) (o : Nat) (zs : Nat → Nat) (xl : Int32) (gr : Int32) (lm : Int32) (lz : Int32) (ln : Nat) (gB : Nat → Int32) (oF : Nat → Int64) (np : Nat) (q1 : Nat → Int32) (q2 : Nat → Int32) (qN : Nat → Int32) (qW : Nat → Nat → Int32) (qP : Nat → Nat → Int32) (qR : Nat → Nat → Int32) (qV : Nat → Nat → Int32) (qB : Nat → Int64) (qS : Nat → Nat → Int64) (qA : Nat → Nat → Int64) (qG : Nat → Nat → Int64) (qC : Nat → Nat → Int32) (N : Nat)   (hstk : l.stackTraces = false) (out : Int32 × ((Nat → Int64))) (h : F_X0_turningPoint N xl gr lm lz ln gB oF np q1 q2 qN qW qP qR qV qB qS qA qG qC = some out) : Met l yX0_turningPoint (wsW_ yX0_turningPoint cX0_turningPoint 3 (some .int) [(0, 8, 11, 52)]) rm_X0_turningPoint (ga_XR D cA zs A (ga_po D cA lf np q1 q2 qN qW qP qR qV qB qS qA qG qC) [(x, .inr (1, [.ref g, xs, xp, .ref xi, .int xl, xr, xq])), (g, .inr (2, [.ref sh, .ref al, .int gr, .ref g_b, .ref g_t])), (al, .inr (6, [.int lm, .ref ed, .int lz])), (ed, .inl (cA 5, ln, .inr (.inr (.inr (.inr lf))))), (g_b, .inl (cA 0, 2, .inl gB)), (o, .inl (cA 1, 1, .inr (.inl oF)))] [.ref x, .ref o]) (va_Qi (fun (r : Int32) (u : (Nat → Int64)) => (out.1 = r) ∧ out.2 = u) (fun (u : (Nat → Int64)) (t : State) => va_P D ga_cl [(x, .inr (1, [.ref g, xs, xp, .ref xi, .int xl, xr, xq])), (g, .inr (2, [.ref sh, .ref al, .int gr, .ref g_b, .ref g_t])), (al, .inr (6, [.int lm, .ref ed, .int lz])), (ed, .inl (cA 5, ln, .inr (.inr (.inr (.inr lf))))), (g_b, .inl (cA 0, 2, .inl gB)), (o, .inl (cA 1, 1, .inr (.inl u)))] t.heap ∧ ga_K D cA t ∧ va_D A [(x, .inr (1, [.ref g, xs, xp, .ref xi, .int xl, xr, xq])), (g, .inr (2, [.ref sh, .ref al, .int gr, .ref g_b, .ref g_t])), (al, .inr (6, [.int lm, .ref ed, .int lz])), (ed, .inl (cA 5, ln, .inr (.inr (.inr (.inr lf))))), (g_b, .inl (cA 0, 2, .inl gB)), (o, .inl (cA 1, 1, .inr (.inl u)))]) A) 1 6 A := by
  refine va_MetW (cc := cX0_turningPoint) (maxL := 3) (ret := (some .int)) (hh := [(0, 8, 11, 52)]) (by decide) rfl ?_
  intro p e s m args below meth c s₁ B hml hv
  have hX : c.exceptionTable.toList = tableOf [(0, 8, 11, 52)] ∧ l.stackTraces = false := ⟨vx_table (x := yX0_turningPoint) B (atoms_spec (ws := (wsW_ yX0_turningPoint cX0_turningPoint 3 (some .int) [(0, 8, 11, 52)])) B.pre _ List.mem_cons_self), hstk⟩
  obtain ⟨rfl, hP, hK, hD, hA, hST, hR⟩ := hv
  have hS : va_S A s.heap s.heap [] := va_S.rf
  have C : ga_cx p m c meth s _ RX0 cX0_turningPoint 3 (some .int) := ga_cxW_of B hml
  have C0 := C
  obtain ⟨hx, hb, hr, hlocks, hml, hown, hts⟩ := C0
  have hl := lv_entry ([.ref x, .ref o]) (n := 3) (Nat.le_of_ble_eq_true rfl)
  rw [lg_entry_eq]
  generalize (lg_sl ([.ref x, .ref o]) ++ List.replicate (3 - (lg_sl ([.ref x, .ref o])).length) Slot.unset).toArray = ls at hl ⊢
  have hl : lv_has ls 3 [(0, .ref x), (1, .ref o)] := hl
  rw [F_X0_turningPoint] at h
  refine lv_aload_n hx hb dX0_turningPoint_0 rfl (lv_at hl 1 rfl) ?_
  refine lv_iconst (v := 0) hx hb dX0_turningPoint_1 (by decide) ?_
  refine lv_aload_n hx hb dX0_turningPoint_2 rfl (lv_at hl 0 rfl) ?_
  obtain ⟨r_1, e_2, h⟩ := ga_gb h
  have hFc := va_free (wc := [(x, .inr (1, [.ref g, xs, xp, .ref xi, .int xl, xr, xq])), (g, .inr (2, [.ref sh, .ref al, .int gr, .ref g_b, .ref g_t])), (al, .inr (6, [.int lm, .ref ed, .int lz])), (ed, .inl (cA 5, ln, .inr (.inr (.inr (.inr lf))))), (g_b, .inl (cA 0, 2, .inl gB))]) hD hS hA [0, 1, 2, 3, 4] rfl
  refine vx_calli (vx_runV (As := []) (rest := [.int 0, .ref o]) ⟨hx, hb, hml, hown, hts⟩ (met_X1_turningPoint l D cA (va_A [(x, .inr (1, [.ref g, xs, xp, .ref xi, .int xl, xr, xq])), (g, .inr (2, [.ref sh, .ref al, .int gr, .ref g_b, .ref g_t])), (al, .inr (6, [.int lm, .ref ed, .int lz])), (ed, .inl (cA 5, ln, .inr (.inr (.inr (.inr lf))))), (g_b, .inl (cA 0, 2, .inl gB))] s.heap.size) x g xs xp xi xr xq sh al g_b g_t ed lf zs xl gr lm lz ln gB np q1 q2 qN qW qP qR qV qB qS qA qG qC N hX.2 r_1 e_2) (cwV 0 hts (lw_V q1037 q1038 q1039 q67 q1040) rfl rfl rfl (by decide +kernel) ⟨Nat.le_of_ble_eq_true rfl, Nat.le_of_ble_eq_true rfl⟩) (ga_XRV ga_poK (ga_poK.at hR hS hFc) hK (hP.sub (ws' := [(x, .inr (1, [.ref g, xs, xp, .ref xi, .int xl, xr, xq])), (g, .inr (2, [.ref sh, .ref al, .int gr, .ref g_b, .ref g_t])), (al, .inr (6, [.int lm, .ref ed, .int lz])), (ed, .inl (cA 5, ln, .inr (.inr (.inr (.inr lf))))), (g_b, .inl (cA 0, 2, .inl gB))]) [0, 1, 2, 3, 4] rfl) (hD.sub (ws' := [(x, .inr (1, [.ref g, xs, xp, .ref xi, .int xl, xr, xq])), (g, .inr (2, [.ref sh, .ref al, .int gr, .ref g_b, .ref g_t])), (al, .inr (6, [.int lm, .ref ed, .int lz])), (ed, .inl (cA 5, ln, .inr (.inr (.inr (.inr lf))))), (g_b, .inl (cA 0, 2, .inl gB))]) [0, 1, 2, 3, 4] (by decide) rfl).self (fun _ hq => Or.inr hq) (hST.at hS hFc) (va_recv hK.1 hP (ci := 1) (q0 := 0) rfl rfl)) rfl rfl hl.1 rfl (lv_room (Nat.le_of_ble_eq_true rfl)) dX0_turningPoint_3 ⟨Nat.le_of_ble_eq_true rfl, Nat.le_of_ble_eq_true rfl⟩) hS (fun q _ hq => hFc q hq) hFc (fun q _ hq => hFc q hq) (fun E_8 ce q_9 u_6 t H_7 locs ht _ w_4 hB _ hk hS hce hcv hcl => ?_) (fun z_3 u_6 t H_5 locs ht _ w_4 hB _ hk hS => ?_)
  · replace h := ga_swr w_4 h
    obtain ⟨eE, hP1, hD1⟩ := hB
    rw [ht] at hP1
    obtain ⟨hP, hD⟩ := va_join (wr := [(o, .inl (cA 1, 1, .inr (.inl oF)))]) (w1 := [(x, .inr (1, [.ref g, xs, xp, .ref xi, .int xl, xr, xq])), (g, .inr (2, [.ref sh, .ref al, .int gr, .ref g_b, .ref g_t])), (al, .inr (6, [.int lm, .ref ed, .int lz])), (ed, .inl (cA 5, ln, .inr (.inr (.inr (.inr lf))))), (g_b, .inl (cA 0, 2, .inl gB))]) hP hD [0, 1, 2, 3, 4] [5] rfl rfl (by decide) (by decide) hk hFc hP1 hD1
    have hP : va_P D ga_cl [(o, .inl (cA 1, 1, .inr (.inl oF))), (x, .inr (1, [.ref g, xs, xp, .ref xi, .int xl, xr, xq])), (g, .inr (2, [.ref sh, .ref al, .int gr, .ref g_b, .ref g_t])), (al, .inr (6, [.int lm, .ref ed, .int lz])), (ed, .inl (cA 5, ln, .inr (.inr (.inr (.inr lf))))), (g_b, .inl (cA 0, 2, .inl gB))] H_7 := hP
    have hD : va_D A [(o, .inl (cA 1, 1, .inr (.inl oF))), (x, .inr (1, [.ref g, xs, xp, .ref xi, .int xl, xr, xq])), (g, .inr (2, [.ref sh, .ref al, .int gr, .ref g_b, .ref g_t])), (al, .inr (6, [.int lm, .ref ed, .int lz])), (ed, .inl (cA 5, ln, .inr (.inr (.inr (.inr lf))))), (g_b, .inl (cA 0, 2, .inl gB))] := hD
    by_cases c_11 : u_6 = 4
    · replace h := ga_ift c_11 h
      have eE : E_8 = "java/util/NoSuchElementException" := by rw [eE, c_11]; rfl
      subst eE
      refine vx_catch (name := "java/util/NoSuchElementException") hown [] ⟨0, 8, 11, 52⟩ [] (by rw [hX.1]; rfl) ((fun _ hz => nomatch hz)) (by decide) (by decide) (hts _ q958) (ga_nu hK q969 rfl) hce hcv hcl ?_
      refine lv_astore_n (lv' := [(2, .ref q_9), (0, .ref x), (1, .ref o)]) hx hb dX0_turningPoint_11 rfl hl (by decide) rfl (fun ls hl => ?_)
      refine lv_iconst (v := 1) hx hb dX0_turningPoint_12 (by decide) ?_
      have hP9 := hP.sub (ws' := [(x, .inr (1, [.ref g, xs, xp, .ref xi, .int xl, xr, xq])), (g, .inr (2, [.ref sh, .ref al, .int gr, .ref g_b, .ref g_t])), (al, .inr (6, [.int lm, .ref ed, .int lz])), (ed, .inl (cA 5, ln, .inr (.inr (.inr (.inr lf))))), (g_b, .inl (cA 0, 2, .inl gB)), (o, .inl (cA 1, 1, .inr (.inl oF)))]) [1, 2, 3, 4, 5, 0] rfl
      have hD9 := hD.sub (ws' := [(x, .inr (1, [.ref g, xs, xp, .ref xi, .int xl, xr, xq])), (g, .inr (2, [.ref sh, .ref al, .int gr, .ref g_b, .ref g_t])), (al, .inr (6, [.int lm, .ref ed, .int lz])), (ed, .inl (cA 5, ln, .inr (.inr (.inr (.inr lf))))), (g_b, .inl (cA 0, 2, .inl gB)), (o, .inl (cA 1, 1, .inr (.inl oF)))]) [1, 2, 3, 4, 5, 0] (by decide) rfl
      obtain rfl := Option.some.inj h
      exact W.iret hx hb hr (fun t ht hW => ⟨⟨_, oF, rfl, ⟨rfl, rfl⟩, ⟨by rw [ht]; exact hP9, hK.warm hW, hD9⟩⟩, hS.F ht⟩) hS.2.2 dX0_turningPoint_13
    · replace h := ga_iff c_11 h
      cases h
  · obtain ⟨v_10, ev_10, hv9⟩ := w_4
    replace h := ga_swl ev_10 h
    obtain ⟨rfl, rfl⟩ := hv9
    obtain ⟨hP1, -, hD1⟩ := hB
    rw [ht] at hP1
    obtain ⟨hP, hD⟩ := va_join (wr := [(o, .inl (cA 1, 1, .inr (.inl oF)))]) (w1 := [(x, .inr (1, [.ref g, xs, xp, .ref xi, .int xl, xr, xq])), (g, .inr (2, [.ref sh, .ref al, .int gr, .ref g_b, .ref g_t])), (al, .inr (6, [.int lm, .ref ed, .int lz])), (ed, .inl (cA 5, ln, .inr (.inr (.inr (.inr lf))))), (g_b, .inl (cA 0, 2, .inl gB))]) hP hD [0, 1, 2, 3, 4] [5] rfl rfl (by decide) (by decide) hk hFc hP1 hD1
    have hP : va_P D ga_cl [(o, .inl (cA 1, 1, .inr (.inl oF))), (x, .inr (1, [.ref g, xs, xp, .ref xi, .int xl, xr, xq])), (g, .inr (2, [.ref sh, .ref al, .int gr, .ref g_b, .ref g_t])), (al, .inr (6, [.int lm, .ref ed, .int lz])), (ed, .inl (cA 5, ln, .inr (.inr (.inr (.inr lf))))), (g_b, .inl (cA 0, 2, .inl gB))] H_5 := hP
    have hD : va_D A [(o, .inl (cA 1, 1, .inr (.inl oF))), (x, .inr (1, [.ref g, xs, xp, .ref xi, .int xl, xr, xq])), (g, .inr (2, [.ref sh, .ref al, .int gr, .ref g_b, .ref g_t])), (al, .inr (6, [.int lm, .ref ed, .int lz])), (ed, .inl (cA 5, ln, .inr (.inr (.inr (.inr lf))))), (g_b, .inl (cA 0, 2, .inl gB))] := hD
    refine W.cs (cells' := 1) (slots' := 6) rfl rfl ?_
    refine lv_i2l (v := v_10.1.toInt64) hx hb dX0_turningPoint_6 rfl ?_
    refine va_last hx hb hK.1 hP hD hS 0 1 (f := oF) rfl rfl (ga_in (by decide)) dX0_turningPoint_7 (fun H_13 locs hP hD hS => ?_)
    have hP : va_P D ga_cl [(o, .inl (cA 1, 1, .inr (.inl (vp_updL oF (ix 0) v_10.1.toInt64)))), (x, .inr (1, [.ref g, xs, xp, .ref xi, .int xl, xr, xq])), (g, .inr (2, [.ref sh, .ref al, .int gr, .ref g_b, .ref g_t])), (al, .inr (6, [.int lm, .ref ed, .int lz])), (ed, .inl (cA 5, ln, .inr (.inr (.inr (.inr lf))))), (g_b, .inl (cA 0, 2, .inl gB))] H_13 := hP
    have hD : va_D A [(o, .inl (cA 1, 1, .inr (.inl (vp_updL oF (ix 0) v_10.1.toInt64)))), (x, .inr (1, [.ref g, xs, xp, .ref xi, .int xl, xr, xq])), (g, .inr (2, [.ref sh, .ref al, .int gr, .ref g_b, .ref g_t])), (al, .inr (6, [.int lm, .ref ed, .int lz])), (ed, .inl (cA 5, ln, .inr (.inr (.inr (.inr lf))))), (g_b, .inl (cA 0, 2, .inl gB))] := hD
    refine lv_goto (tgt := 14) hx hb dX0_turningPoint_8 (by decide) ?_
    refine lv_iconst (v := 0) hx hb dX0_turningPoint_14 (by decide) ?_
    have hP9 := hP.sub (ws' := [(x, .inr (1, [.ref g, xs, xp, .ref xi, .int xl, xr, xq])), (g, .inr (2, [.ref sh, .ref al, .int gr, .ref g_b, .ref g_t])), (al, .inr (6, [.int lm, .ref ed, .int lz])), (ed, .inl (cA 5, ln, .inr (.inr (.inr (.inr lf))))), (g_b, .inl (cA 0, 2, .inl gB)), (o, .inl (cA 1, 1, .inr (.inl (vp_updL oF (ix 0) v_10.1.toInt64))))]) [1, 2, 3, 4, 5, 0] rfl
    have hD9 := hD.sub (ws' := [(x, .inr (1, [.ref g, xs, xp, .ref xi, .int xl, xr, xq])), (g, .inr (2, [.ref sh, .ref al, .int gr, .ref g_b, .ref g_t])), (al, .inr (6, [.int lm, .ref ed, .int lz])), (ed, .inl (cA 5, ln, .inr (.inr (.inr (.inr lf))))), (g_b, .inl (cA 0, 2, .inl gB)), (o, .inl (cA 1, 1, .inr (.inl (vp_updL oF (ix 0) v_10.1.toInt64))))]) [1, 2, 3, 4, 5, 0] (by decide) rfl
    obtain rfl := Option.some.inj h
    exact W.iret hx hb hr (fun t ht hW => ⟨⟨_, (vp_updL oF (ix 0) v_10.1.toInt64), rfl, ⟨rfl, rfl⟩, ⟨by rw [ht]; exact hP9, hK.warm hW, hD9⟩⟩, hS.F ht⟩) hS.2.2 dX0_turningPoint_15
