abbrev rm_X1_sum : Room := { frames := 5, cells := 0, slots := 0, locals := 97 }
def lp_X1_sum_4 (N : Nat) (xl : Int32) (gr : Int32) (lm : Int32) (lz : Int32) (ln : Nat) (np : Nat) (q1 : Nat → Int32) (q2 : Nat → Int32) (qN : Nat → Int32) (qW : Nat → Nat → Int32) (qP : Nat → Nat → Int32) (qR : Nat → Nat → Int32) (qV : Nat → Nat → Int32) (qB : Nat → Int64) (qS : Nat → Nat → Int64) (qA : Nat → Nat → Int64) (qG : Nat → Nat → Int64) (qC : Nat → Nat → Int32) (x1 : Int32) : Nat → (Int32) → (Int32) → Option (Int32)
  | 0, _, _ => none
  | n+1, x2, x3 =>
    (if (lz - 1) ≤ x3 then
    some x2
    else
    (if ix (x3 + 1) < np then
    ((F_X2_round N gr lm lz ln (q1 (ix (x3 + 1))) (q2 (ix (x3 + 1))) (qN (ix (x3 + 1))) x3).bind fun r_21 =>
    ((F_X5_part N (q1 (ix (x3 + 1))) (q2 (ix (x3 + 1))) (qN (ix (x3 + 1))) (qW (ix (x3 + 1))) (qP (ix (x3 + 1))) x1).bind fun r_25 =>
    lp_X1_sum_4 N xl gr lm lz ln np q1 q2 qN qW qP qR qV qB qS qA qG qC x1 n (x2 + r_25) (x3 + 1)))
    else none))
set_option maxHeartbeats 4000000 in
theorem w_X1_sum_4 {p : Program} {l : Launch} {e : Env} {s : State} {m : MethodId} {args : Array Value} {below : List Frame} {meth : Method} {c : Code} {D : va_G} {cA : Nat → ClassId} {x : Nat} {g : Nat} {xs : Value} {xp : Value} {xi : Nat} {xr : Value} {xq : Value} {sh : Nat} {al : Nat} {g_b : Nat} {g_t : Nat} {ed : Nat} {lf : Nat → Option Nat} {N : Nat} {xl : Int32} {gr : Int32} {lm : Int32} {lz : Int32} {ln : Nat} {np : Nat} {q1 : Nat → Int32} {q2 : Nat → Int32} {qN : Nat → Int32} {qW : Nat → Nat → Int32} {qP : Nat → Nat → Int32} {qR : Nat → Nat → Int32} {qV : Nat → Nat → Int32} {qB : Nat → Int64} {qS : Nat → Nat → Int64} {qA : Nat → Nat → Int64} {qG : Nat → Nat → Int64} {qC : Nat → Nat → Int32} {x1 : Int32}  (C : ga_cx p m c meth s args RX1 cX1_sum 4 (some .int)) (hK : ga_K D cA s) (hP : va_P D ga_cl [(x, .inr (1, [.ref g, xs, xp, .ref xi, .int xl, xr, xq])), (g, .inr (2, [.ref sh, .ref al, .int gr, .ref g_b, .ref g_t])), (al, .inr (6, [.int lm, .ref ed, .int lz])), (ed, .inl (cA 5, ln, .inr (.inr (.inr (.inr lf)))))] s.heap) (hR : (ga_po D cA lf np q1 q2 qN qW qP qR qV qB qS qA qG qC) ga_F s s.heap) {out : Int32} : ∀ n : Nat, ∀ (x2 : Int32) (x3 : Int32), lp_X1_sum_4 N xl gr lm lz ln np q1 q2 qN qW qP qR qV qB qS qA qG qC x1 n x2 x3 = some out → ∀ ls : Array Slot, lv_has ls 4 [(0, .ref x), (1, .int x1), (2, .int x2), (3, .int x3)] → W p l e (headSpec (ws_ yX1_sum cX1_sum 4 (some .int)) rm_X1_sum).room s m args below meth c s.heap [] 0 0 (MQ below (vp_Si (fun r => out = r)) args s 0 0 ga_F) (F0 m 4 ls []) := by
  have C0 := C
  obtain ⟨hx, hb, hr, hlocks, hml, hown, hts⟩ := C0
  intro n
  induction n with
  | zero =>
    intro x2 x3 h
    rw [lp_X1_sum_4.eq_1] at h
    cases h
  | succ n ih =>
    intro x2 x3 h ls hl
    rw [lp_X1_sum_4.eq_2] at h
    refine lv_iload_n hx hb dX1_sum_4 rfl (lv_at hl 3 rfl) ?_
    refine lv_aload_n hx hb dX1_sum_5 rfl (lv_at hl 0 rfl) ?_
    refine va_get hx hb hts in_X1 hown hK.1 hP 0 (fs := [.ref g, xs, xp, .ref xi, .int xl, xr, xq]) rfl rfl 0 (by decide) (hts _ q350) (fun _ hh => hh) (v := .ref g) rfl dX1_sum_6 ?_
    refine vp_callSi (va_Run.run (va_runV (As := []) (rest := [.int x3]) ⟨hx, hb, hml, hown, hts⟩ (met_X2_rounds l D cA g sh al g_b g_t ed gr lm lz N (lz - 1) rfl) (cwV 0 hts (lw_V q475 q411 q412 q68 q413) rfl rfl rfl (by decide +kernel) ⟨Nat.le_of_ble_eq_true rfl, Nat.le_of_ble_eq_true rfl⟩) (ga_PV hK (hP.sub (ws' := [(g, .inr (2, [.ref sh, .ref al, .int gr, .ref g_b, .ref g_t])), (al, .inr (6, [.int lm, .ref ed, .int lz]))]) [1, 2] rfl) (va_recv hK.1 hP (ci := 2) (q0 := 1) rfl rfl)) rfl rfl hl.1 rfl (lv_room (Nat.le_of_ble_eq_true rfl)) dX1_sum_9 ⟨Nat.le_of_ble_eq_true rfl, Nat.le_of_ble_eq_true rfl⟩)) (fun z_3 w_4 => ?_)
    obtain rfl := w_4
    refine lv_icmp_ge (tgt := 36) hx hb dX1_sum_12 (by decide) (fun c_6 => ?_) (fun c_6 => ?_)
    · replace h := ga_ift c_6 h
      refine lv_iload_n hx hb dX1_sum_36 rfl (lv_at hl 2 rfl) ?_
      obtain rfl := Option.some.inj h
      exact W.iret hx hb hr (fun t ht hW => ⟨_, rfl, rfl, ht⟩) (fun _ hq => by cases hq) dX1_sum_37
    · replace h := ga_iff c_6 h
      refine lv_iload_n hx hb dX1_sum_15 rfl (lv_at hl 2 rfl) ?_
      refine lv_aload_n hx hb dX1_sum_16 rfl (lv_at hl 0 rfl) ?_
      refine va_get hx hb hts in_X1 hown hK.1 hP 0 (fs := [.ref g, xs, xp, .ref xi, .int xl, xr, xq]) rfl rfl 0 (by decide) (hts _ q350) (fun _ hh => hh) (v := .ref g) rfl dX1_sum_17 ?_
      refine lv_iload_n hx hb dX1_sum_20 rfl (lv_at hl 3 rfl) ?_
      obtain ⟨i_17, h⟩ := ga_gif h
      obtain ⟨r_7, b_8, w_9, t_10, e_11, v_12, bs_13, ba_14, bc_15, bg_16, f_18, q_19, hn_20⟩ := hR (ix (x3 + 1)) i_17
      have hP : va_P D ga_cl [(x, .inr (1, [.ref g, xs, xp, .ref xi, .int xl, xr, xq])), (g, .inr (2, [.ref sh, .ref al, .int gr, .ref g_b, .ref g_t])), (al, .inr (6, [.int lm, .ref ed, .int lz])), (ed, .inl (cA 5, ln, .inr (.inr (.inr (.inr lf))))), (r_7, .inr (5, [.int (q1 (ix (x3 + 1))), .int (q2 (ix (x3 + 1))), .ref b_8, .ref w_9, .int (qN (ix (x3 + 1))), .ref t_10, .ref e_11, .ref v_12])), (w_9, .inl (cA 0, 8, .inl (qW (ix (x3 + 1))))), (t_10, .inl (cA 0, 2, .inl (qP (ix (x3 + 1))))), (e_11, .inl (cA 0, 49, .inl (qR (ix (x3 + 1))))), (v_12, .inl (cA 0, 49, .inl (qV (ix (x3 + 1))))), (b_8, .inr (3, [.ref bs_13, .ref ba_14, .long (qB (ix (x3 + 1))), .ref bc_15, .ref bg_16])), (bs_13, .inl (cA 1, 2, .inr (.inl (qS (ix (x3 + 1)))))), (ba_14, .inl (cA 1, 2, .inr (.inl (qA (ix (x3 + 1)))))), (bc_15, .inl (cA 0, 2, .inl (qC (ix (x3 + 1))))), (bg_16, .inl (cA 1, 2, .inr (.inl (qG (ix (x3 + 1))))))] s.heap := hP.app q_19
      obtain ⟨r_21, e_22, h⟩ := ga_gb h
      refine va_csr (va_Run.run (va_runV (As := [.int x3]) (rest := [.int x2]) ⟨hx, hb, hml, hown, hts⟩ (met_X2_round l D cA g sh al g_b g_t ed lf r_7 b_8 w_9 t_10 e_11 v_12 gr lm lz ln (q1 (ix (x3 + 1))) (q2 (ix (x3 + 1))) (qN (ix (x3 + 1))) N x3 f_18 r_21 e_22) (cwV 1 hts (lw_V q918 q747 q748 q68 q749) rfl rfl rfl (by decide +kernel) ⟨Nat.le_of_ble_eq_true rfl, Nat.le_of_ble_eq_true rfl⟩) (ga_PV hK (hP.sub (ws' := [(g, .inr (2, [.ref sh, .ref al, .int gr, .ref g_b, .ref g_t])), (al, .inr (6, [.int lm, .ref ed, .int lz])), (ed, .inl (cA 5, ln, .inr (.inr (.inr (.inr lf))))), (r_7, .inr (5, [.int (q1 (ix (x3 + 1))), .int (q2 (ix (x3 + 1))), .ref b_8, .ref w_9, .int (qN (ix (x3 + 1))), .ref t_10, .ref e_11, .ref v_12]))]) [1, 2, 3, 4] rfl) (va_recv hK.1 hP (ci := 2) (q0 := 1) rfl rfl)) rfl rfl hl.1 rfl (lv_room (Nat.le_of_ble_eq_true rfl)) dX1_sum_21 ⟨Nat.le_of_ble_eq_true rfl, Nat.le_of_ble_eq_true rfl⟩)) (fun _ _ => ?_)
      refine lv_iload_n hx hb dX1_sum_24 rfl (lv_at hl 1 rfl) ?_
      obtain ⟨r_25, e_26, h⟩ := ga_gb h
      refine vp_callSi (va_Run.run (va_runV (As := [.int x1]) (rest := [.int x2]) ⟨hx, hb, hml, hown, hts⟩ (met_X5_part l D cA r_7 b_8 w_9 t_10 e_11 v_12 (q1 (ix (x3 + 1))) (q2 (ix (x3 + 1))) (qN (ix (x3 + 1))) (qW (ix (x3 + 1))) (qP (ix (x3 + 1))) N x1 r_25 e_26) (cwV 1 hts (lw_V q919 q920 q921 q74 q922) rfl rfl rfl (by decide +kernel) ⟨Nat.le_of_ble_eq_true rfl, Nat.le_of_ble_eq_true rfl⟩) (ga_PV hK (hP.sub (ws' := [(r_7, .inr (5, [.int (q1 (ix (x3 + 1))), .int (q2 (ix (x3 + 1))), .ref b_8, .ref w_9, .int (qN (ix (x3 + 1))), .ref t_10, .ref e_11, .ref v_12])), (w_9, .inl (cA 0, 8, .inl (qW (ix (x3 + 1))))), (t_10, .inl (cA 0, 2, .inl (qP (ix (x3 + 1)))))]) [4, 5, 6] rfl) (va_recv hK.1 hP (ci := 5) (q0 := 4) rfl rfl)) rfl rfl hl.1 rfl (lv_room (Nat.le_of_ble_eq_true rfl)) dX1_sum_25 ⟨Nat.le_of_ble_eq_true rfl, Nat.le_of_ble_eq_true rfl⟩)) (fun z_27 w_28 => ?_)
      obtain rfl := w_28
      refine lv_iadd hx hb dX1_sum_28 ?_
      refine lv_istore_n (lv' := [(2, .int (x2 + r_25)), (0, .ref x), (1, .int x1), (3, .int x3)]) hx hb dX1_sum_29 rfl hl (by decide) rfl (fun ls hl => ?_)
      refine lv_iinc (v := (x3 + 1)) (lv' := [(3, .int (x3 + 1)), (2, .int (x2 + r_25)), (0, .ref x), (1, .int x1)]) hx hb dX1_sum_30 hl (k := 3) rfl rfl (by decide) rfl (fun ls hl => ?_)
      refine lv_goto (tgt := 4) hx hb dX1_sum_33 (by decide) ?_
      exact ih (x2 + r_25) (x3 + 1) h _ (lv_sub hl [2, 3, 1, 0] rfl)
def F_X1_sum (N : Nat) (xl : Int32) (gr : Int32) (lm : Int32) (lz : Int32) (ln : Nat) (np : Nat) (q1 : Nat → Int32) (q2 : Nat → Int32) (qN : Nat → Int32) (qW : Nat → Nat → Int32) (qP : Nat → Nat → Int32) (qR : Nat → Nat → Int32) (qV : Nat → Nat → Int32) (qB : Nat → Int64) (qS : Nat → Nat → Int64) (qA : Nat → Nat → Int64) (qG : Nat → Nat → Int64) (qC : Nat → Nat → Int32) (x1 : Int32) : Option (Int32) :=
  lp_X1_sum_4 N xl gr lm lz ln np q1 q2 qN qW qP qR qV qB qS qA qG qC x1 N 0 0
set_option maxHeartbeats 4000000 in
theorem met_X1_sum (l : Launch) (D : va_G) (cA : Nat → ClassId) (x : Nat) (g : Nat) (xs : Value) (xp : Value) (xi : Nat) (xr : Value) (xq : Value) (sh : Nat) (al : Nat) (g_b : Nat) (g_t : Nat) (ed : Nat) (lf : Nat → Option Nat) (xl : Int32) (gr : Int32) (lm : Int32) (lz : Int32) (ln : Nat) (np : Nat) (q1 : Nat → Int32) (q2 : Nat → Int32) (qN : Nat → Int32) (qW : Nat → Nat → Int32) (qP : Nat → Nat → Int32) (qR : Nat → Nat → Int32) (qV : Nat → Nat → Int32) (qB : Nat → Int64) (qS : Nat → Nat → Int64) (qA : Nat → Nat → Int64) (qG : Nat → Nat → Int64) (qC : Nat → Nat → Int32) (N : Nat) (x1 : Int32)  (out : Int32) (h : F_X1_sum N xl gr lm lz ln np q1 q2 qN qW qP qR qV qB qS qA qG qC x1 = some out) : Met l yX1_sum (ws_ yX1_sum cX1_sum 4 (some .int)) rm_X1_sum (ga_PR D cA (ga_po D cA lf np q1 q2 qN qW qP qR qV qB qS qA qG qC) [(x, .inr (1, [.ref g, xs, xp, .ref xi, .int xl, xr, xq])), (g, .inr (2, [.ref sh, .ref al, .int gr, .ref g_b, .ref g_t])), (al, .inr (6, [.int lm, .ref ed, .int lz])), (ed, .inl (cA 5, ln, .inr (.inr (.inr (.inr lf)))))] [.ref x, .int x1]) (vp_Si (fun r => out = r)) 0 0 ga_F := by
  refine Met.ofW (cc := cX1_sum) (maxL := 4) (ret := (some .int)) (by decide) rfl ?_
  intro p e s m args below meth c s₁ B hml hv
  obtain ⟨rfl, hP, hK, hR⟩ := hv
  have C : ga_cx p m c meth s _ RX1 cX1_sum 4 (some .int) := ga_cx_of B hml
  have C0 := C
  obtain ⟨hx, hb, hr, hlocks, hml, hown, hts⟩ := C0
  have hl := lv_entry ([.ref x, .int x1]) (n := 4) (Nat.le_of_ble_eq_true rfl)
  rw [lg_entry_eq]
  generalize (lg_sl ([.ref x, .int x1]) ++ List.replicate (4 - (lg_sl ([.ref x, .int x1])).length) Slot.unset).toArray = ls at hl ⊢
  have hl : lv_has ls 4 [(0, .ref x), (1, .int x1)] := hl
  rw [F_X1_sum] at h
  refine lv_iconst (v := 0) hx hb dX1_sum_0 (by decide) ?_
  refine lv_istore_n (lv' := [(2, .int 0), (0, .ref x), (1, .int x1)]) hx hb dX1_sum_1 rfl hl (by decide) rfl (fun ls hl => ?_)
  refine lv_iconst (v := 0) hx hb dX1_sum_2 (by decide) ?_
  refine lv_istore_n (lv' := [(3, .int 0), (2, .int 0), (0, .ref x), (1, .int x1)]) hx hb dX1_sum_3 rfl hl (by decide) rfl (fun ls hl => ?_)
  exact w_X1_sum_4 C hK hP hR N 0 0 h _ (lv_sub hl [2, 3, 1, 0] rfl)
abbrev rm_X1_passes : Room := { frames := 5, cells := 0, slots := 0, locals := 97 }
def lp_X1_passes_4 (N : Nat) (xl : Int32) (gr : Int32) (lm : Int32) (lz : Int32) (ln : Nat) (np : Nat) (q1 : Nat → Int32) (q2 : Nat → Int32) (qN : Nat → Int32) (qW : Nat → Nat → Int32) (qP : Nat → Nat → Int32) (qR : Nat → Nat → Int32) (qV : Nat → Nat → Int32) (qB : Nat → Int64) (qS : Nat → Nat → Int64) (qA : Nat → Nat → Int64) (qG : Nat → Nat → Int64) (qC : Nat → Nat → Int32) (x1 : Int32) : Nat → (Int32) → (Int32) → Option (Int32)
  | 0, _, _ => none
  | n+1, x2, x3 =>
    (if (lz - 1) ≤ x3 then
    some x2
    else
    (if ix (x3 + 1) < np then
    ((F_X2_round N gr lm lz ln (q1 (ix (x3 + 1))) (q2 (ix (x3 + 1))) (qN (ix (x3 + 1))) x3).bind fun r_21 =>
    ((F_X5_part N (q1 (ix (x3 + 1))) (q2 (ix (x3 + 1))) (qN (ix (x3 + 1))) (qW (ix (x3 + 1))) (qP (ix (x3 + 1))) x1).bind fun r_25 =>
    (if r_25 = (-1) then
    lp_X1_passes_4 N xl gr lm lz ln np q1 q2 qN qW qP qR qV qB qS qA qG qC x1 n (x2 + 1) (x3 + 1)
    else
    lp_X1_passes_4 N xl gr lm lz ln np q1 q2 qN qW qP qR qV qB qS qA qG qC x1 n (x2 + 0) (x3 + 1))))
    else none))
set_option maxHeartbeats 4000000 in
theorem w_X1_passes_4 {p : Program} {l : Launch} {e : Env} {s : State} {m : MethodId} {args : Array Value} {below : List Frame} {meth : Method} {c : Code} {D : va_G} {cA : Nat → ClassId} {x : Nat} {g : Nat} {xs : Value} {xp : Value} {xi : Nat} {xr : Value} {xq : Value} {sh : Nat} {al : Nat} {g_b : Nat} {g_t : Nat} {ed : Nat} {lf : Nat → Option Nat} {N : Nat} {xl : Int32} {gr : Int32} {lm : Int32} {lz : Int32} {ln : Nat} {np : Nat} {q1 : Nat → Int32} {q2 : Nat → Int32} {qN : Nat → Int32} {qW : Nat → Nat → Int32} {qP : Nat → Nat → Int32} {qR : Nat → Nat → Int32} {qV : Nat → Nat → Int32} {qB : Nat → Int64} {qS : Nat → Nat → Int64} {qA : Nat → Nat → Int64} {qG : Nat → Nat → Int64} {qC : Nat → Nat → Int32} {x1 : Int32}  (C : ga_cx p m c meth s args RX1 cX1_passes 4 (some .int)) (hK : ga_K D cA s) (hP : va_P D ga_cl [(x, .inr (1, [.ref g, xs, xp, .ref xi, .int xl, xr, xq])), (g, .inr (2, [.ref sh, .ref al, .int gr, .ref g_b, .ref g_t])), (al, .inr (6, [.int lm, .ref ed, .int lz])), (ed, .inl (cA 5, ln, .inr (.inr (.inr (.inr lf)))))] s.heap) (hR : (ga_po D cA lf np q1 q2 qN qW qP qR qV qB qS qA qG qC) ga_F s s.heap) {out : Int32} : ∀ n : Nat, ∀ (x2 : Int32) (x3 : Int32), lp_X1_passes_4 N xl gr lm lz ln np q1 q2 qN qW qP qR qV qB qS qA qG qC x1 n x2 x3 = some out → ∀ ls : Array Slot, lv_has ls 4 [(0, .ref x), (1, .int x1), (2, .int x2), (3, .int x3)] → W p l e (headSpec (ws_ yX1_passes cX1_passes 4 (some .int)) rm_X1_passes).room s m args below meth c s.heap [] 0 0 (MQ below (vp_Si (fun r => out = r)) args s 0 0 ga_F) (F0 m 4 ls []) := by
  have C0 := C
  obtain ⟨hx, hb, hr, hlocks, hml, hown, hts⟩ := C0
  intro n
  induction n with
  | zero =>
    intro x2 x3 h
    rw [lp_X1_passes_4.eq_1] at h
    cases h
  | succ n ih =>
    intro x2 x3 h ls hl
    rw [lp_X1_passes_4.eq_2] at h
    refine lv_iload_n hx hb dX1_passes_4 rfl (lv_at hl 3 rfl) ?_
    refine lv_aload_n hx hb dX1_passes_5 rfl (lv_at hl 0 rfl) ?_
    refine va_get hx hb hts in_X1 hown hK.1 hP 0 (fs := [.ref g, xs, xp, .ref xi, .int xl, xr, xq]) rfl rfl 0 (by decide) (hts _ q350) (fun _ hh => hh) (v := .ref g) rfl dX1_passes_6 ?_
    refine vp_callSi (va_Run.run (va_runV (As := []) (rest := [.int x3]) ⟨hx, hb, hml, hown, hts⟩ (met_X2_rounds l D cA g sh al g_b g_t ed gr lm lz N (lz - 1) rfl) (cwV 0 hts (lw_V q475 q411 q412 q68 q413) rfl rfl rfl (by decide +kernel) ⟨Nat.le_of_ble_eq_true rfl, Nat.le_of_ble_eq_true rfl⟩) (ga_PV hK (hP.sub (ws' := [(g, .inr (2, [.ref sh, .ref al, .int gr, .ref g_b, .ref g_t])), (al, .inr (6, [.int lm, .ref ed, .int lz]))]) [1, 2] rfl) (va_recv hK.1 hP (ci := 2) (q0 := 1) rfl rfl)) rfl rfl hl.1 rfl (lv_room (Nat.le_of_ble_eq_true rfl)) dX1_passes_9 ⟨Nat.le_of_ble_eq_true rfl, Nat.le_of_ble_eq_true rfl⟩)) (fun z_3 w_4 => ?_)
    obtain rfl := w_4
    refine lv_icmp_ge (tgt := 45) hx hb dX1_passes_12 (by decide) (fun c_6 => ?_) (fun c_6 => ?_)
    · replace h := ga_ift c_6 h
      refine lv_iload_n hx hb dX1_passes_45 rfl (lv_at hl 2 rfl) ?_
      obtain rfl := Option.some.inj h
      exact W.iret hx hb hr (fun t ht hW => ⟨_, rfl, rfl, ht⟩) (fun _ hq => by cases hq) dX1_passes_46
    · replace h := ga_iff c_6 h
      refine lv_iload_n hx hb dX1_passes_15 rfl (lv_at hl 2 rfl) ?_
      refine lv_aload_n hx hb dX1_passes_16 rfl (lv_at hl 0 rfl) ?_
      refine va_get hx hb hts in_X1 hown hK.1 hP 0 (fs := [.ref g, xs, xp, .ref xi, .int xl, xr, xq]) rfl rfl 0 (by decide) (hts _ q350) (fun _ hh => hh) (v := .ref g) rfl dX1_passes_17 ?_
      refine lv_iload_n hx hb dX1_passes_20 rfl (lv_at hl 3 rfl) ?_
      obtain ⟨i_17, h⟩ := ga_gif h
      obtain ⟨r_7, b_8, w_9, t_10, e_11, v_12, bs_13, ba_14, bc_15, bg_16, f_18, q_19, hn_20⟩ := hR (ix (x3 + 1)) i_17
      have hP : va_P D ga_cl [(x, .inr (1, [.ref g, xs, xp, .ref xi, .int xl, xr, xq])), (g, .inr (2, [.ref sh, .ref al, .int gr, .ref g_b, .ref g_t])), (al, .inr (6, [.int lm, .ref ed, .int lz])), (ed, .inl (cA 5, ln, .inr (.inr (.inr (.inr lf))))), (r_7, .inr (5, [.int (q1 (ix (x3 + 1))), .int (q2 (ix (x3 + 1))), .ref b_8, .ref w_9, .int (qN (ix (x3 + 1))), .ref t_10, .ref e_11, .ref v_12])), (w_9, .inl (cA 0, 8, .inl (qW (ix (x3 + 1))))), (t_10, .inl (cA 0, 2, .inl (qP (ix (x3 + 1))))), (e_11, .inl (cA 0, 49, .inl (qR (ix (x3 + 1))))), (v_12, .inl (cA 0, 49, .inl (qV (ix (x3 + 1))))), (b_8, .inr (3, [.ref bs_13, .ref ba_14, .long (qB (ix (x3 + 1))), .ref bc_15, .ref bg_16])), (bs_13, .inl (cA 1, 2, .inr (.inl (qS (ix (x3 + 1)))))), (ba_14, .inl (cA 1, 2, .inr (.inl (qA (ix (x3 + 1)))))), (bc_15, .inl (cA 0, 2, .inl (qC (ix (x3 + 1))))), (bg_16, .inl (cA 1, 2, .inr (.inl (qG (ix (x3 + 1))))))] s.heap := hP.app q_19
      obtain ⟨r_21, e_22, h⟩ := ga_gb h
      refine va_csr (va_Run.run (va_runV (As := [.int x3]) (rest := [.int x2]) ⟨hx, hb, hml, hown, hts⟩ (met_X2_round l D cA g sh al g_b g_t ed lf r_7 b_8 w_9 t_10 e_11 v_12 gr lm lz ln (q1 (ix (x3 + 1))) (q2 (ix (x3 + 1))) (qN (ix (x3 + 1))) N x3 f_18 r_21 e_22) (cwV 1 hts (lw_V q918 q747 q748 q68 q749) rfl rfl rfl (by decide +kernel) ⟨Nat.le_of_ble_eq_true rfl, Nat.le_of_ble_eq_true rfl⟩) (ga_PV hK (hP.sub (ws' := [(g, .inr (2, [.ref sh, .ref al, .int gr, .ref g_b, .ref g_t])), (al, .inr (6, [.int lm, .ref ed, .int lz])), (ed, .inl (cA 5, ln, .inr (.inr (.inr (.inr lf))))), (r_7, .inr (5, [.int (q1 (ix (x3 + 1))), .int (q2 (ix (x3 + 1))), .ref b_8, .ref w_9, .int (qN (ix (x3 + 1))), .ref t_10, .ref e_11, .ref v_12]))]) [1, 2, 3, 4] rfl) (va_recv hK.1 hP (ci := 2) (q0 := 1) rfl rfl)) rfl rfl hl.1 rfl (lv_room (Nat.le_of_ble_eq_true rfl)) dX1_passes_21 ⟨Nat.le_of_ble_eq_true rfl, Nat.le_of_ble_eq_true rfl⟩)) (fun _ _ => ?_)
      refine lv_iload_n hx hb dX1_passes_24 rfl (lv_at hl 1 rfl) ?_
      obtain ⟨r_25, e_26, h⟩ := ga_gb h
      refine vp_callSi (va_Run.run (va_runV (As := [.int x1]) (rest := [.int x2]) ⟨hx, hb, hml, hown, hts⟩ (met_X5_part l D cA r_7 b_8 w_9 t_10 e_11 v_12 (q1 (ix (x3 + 1))) (q2 (ix (x3 + 1))) (qN (ix (x3 + 1))) (qW (ix (x3 + 1))) (qP (ix (x3 + 1))) N x1 r_25 e_26) (cwV 1 hts (lw_V q919 q920 q921 q74 q922) rfl rfl rfl (by decide +kernel) ⟨Nat.le_of_ble_eq_true rfl, Nat.le_of_ble_eq_true rfl⟩) (ga_PV hK (hP.sub (ws' := [(r_7, .inr (5, [.int (q1 (ix (x3 + 1))), .int (q2 (ix (x3 + 1))), .ref b_8, .ref w_9, .int (qN (ix (x3 + 1))), .ref t_10, .ref e_11, .ref v_12])), (w_9, .inl (cA 0, 8, .inl (qW (ix (x3 + 1))))), (t_10, .inl (cA 0, 2, .inl (qP (ix (x3 + 1)))))]) [4, 5, 6] rfl) (va_recv hK.1 hP (ci := 5) (q0 := 4) rfl rfl)) rfl rfl hl.1 rfl (lv_room (Nat.le_of_ble_eq_true rfl)) dX1_passes_25 ⟨Nat.le_of_ble_eq_true rfl, Nat.le_of_ble_eq_true rfl⟩)) (fun z_27 w_28 => ?_)
      obtain rfl := w_28
      refine lv_iconst (v := (-1)) hx hb dX1_passes_28 (by decide) ?_
      refine lv_icmp_ne (tgt := 36) hx hb dX1_passes_29 (by decide) (fun c_30 => ?_) (fun c_30 => ?_)
      · replace h := ga_iff c_30 h
        refine lv_iconst (v := 0) hx hb dX1_passes_36 (by decide) ?_
        refine lv_iadd hx hb dX1_passes_37 ?_
        refine lv_istore_n (lv' := [(2, .int (x2 + 0)), (0, .ref x), (1, .int x1), (3, .int x3)]) hx hb dX1_passes_38 rfl hl (by decide) rfl (fun ls hl => ?_)
        refine lv_iinc (v := (x3 + 1)) (lv' := [(3, .int (x3 + 1)), (2, .int (x2 + 0)), (0, .ref x), (1, .int x1)]) hx hb dX1_passes_39 hl (k := 3) rfl rfl (by decide) rfl (fun ls hl => ?_)
        refine lv_goto (tgt := 4) hx hb dX1_passes_42 (by decide) ?_
        exact ih (x2 + 0) (x3 + 1) h _ (lv_sub hl [2, 3, 1, 0] rfl)
      · replace h := ga_ift c_30 h
        refine lv_iconst (v := 1) hx hb dX1_passes_32 (by decide) ?_
        refine lv_goto (tgt := 37) hx hb dX1_passes_33 (by decide) ?_
        refine lv_iadd hx hb dX1_passes_37 ?_
        refine lv_istore_n (lv' := [(2, .int (x2 + 1)), (0, .ref x), (1, .int x1), (3, .int x3)]) hx hb dX1_passes_38 rfl hl (by decide) rfl (fun ls hl => ?_)
        refine lv_iinc (v := (x3 + 1)) (lv' := [(3, .int (x3 + 1)), (2, .int (x2 + 1)), (0, .ref x), (1, .int x1)]) hx hb dX1_passes_39 hl (k := 3) rfl rfl (by decide) rfl (fun ls hl => ?_)
        refine lv_goto (tgt := 4) hx hb dX1_passes_42 (by decide) ?_
        exact ih (x2 + 1) (x3 + 1) h _ (lv_sub hl [2, 3, 1, 0] rfl)
def F_X1_passes (N : Nat) (xl : Int32) (gr : Int32) (lm : Int32) (lz : Int32) (ln : Nat) (np : Nat) (q1 : Nat → Int32) (q2 : Nat → Int32) (qN : Nat → Int32) (qW : Nat → Nat → Int32) (qP : Nat → Nat → Int32) (qR : Nat → Nat → Int32) (qV : Nat → Nat → Int32) (qB : Nat → Int64) (qS : Nat → Nat → Int64) (qA : Nat → Nat → Int64) (qG : Nat → Nat → Int64) (qC : Nat → Nat → Int32) (x1 : Int32) : Option (Int32) :=
  lp_X1_passes_4 N xl gr lm lz ln np q1 q2 qN qW qP qR qV qB qS qA qG qC x1 N 0 0
set_option maxHeartbeats 4000000 in
theorem met_X1_passes (l : Launch) (D : va_G) (cA : Nat → ClassId) (x : Nat) (g : Nat) (xs : Value) (xp : Value) (xi : Nat) (xr : Value) (xq : Value) (sh : Nat) (al : Nat) (g_b : Nat) (g_t : Nat) (ed : Nat) (lf : Nat → Option Nat) (xl : Int32) (gr : Int32) (lm : Int32) (lz : Int32) (ln : Nat) (np : Nat) (q1 : Nat → Int32) (q2 : Nat → Int32) (qN : Nat → Int32) (qW : Nat → Nat → Int32) (qP : Nat → Nat → Int32) (qR : Nat → Nat → Int32) (qV : Nat → Nat → Int32) (qB : Nat → Int64) (qS : Nat → Nat → Int64) (qA : Nat → Nat → Int64) (qG : Nat → Nat → Int64) (qC : Nat → Nat → Int32) (N : Nat) (x1 : Int32)  (out : Int32) (h : F_X1_passes N xl gr lm lz ln np q1 q2 qN qW qP qR qV qB qS qA qG qC x1 = some out) : Met l yX1_passes (ws_ yX1_passes cX1_passes 4 (some .int)) rm_X1_passes (ga_PR D cA (ga_po D cA lf np q1 q2 qN qW qP qR qV qB qS qA qG qC) [(x, .inr (1, [.ref g, xs, xp, .ref xi, .int xl, xr, xq])), (g, .inr (2, [.ref sh, .ref al, .int gr, .ref g_b, .ref g_t])), (al, .inr (6, [.int lm, .ref ed, .int lz])), (ed, .inl (cA 5, ln, .inr (.inr (.inr (.inr lf)))))] [.ref x, .int x1]) (vp_Si (fun r => out = r)) 0 0 ga_F := by
  refine Met.ofW (cc := cX1_passes) (maxL := 4) (ret := (some .int)) (by decide) rfl ?_
  intro p e s m args below meth c s₁ B hml hv
  obtain ⟨rfl, hP, hK, hR⟩ := hv
  have C : ga_cx p m c meth s _ RX1 cX1_passes 4 (some .int) := ga_cx_of B hml
  have C0 := C
  obtain ⟨hx, hb, hr, hlocks, hml, hown, hts⟩ := C0
  have hl := lv_entry ([.ref x, .int x1]) (n := 4) (Nat.le_of_ble_eq_true rfl)
  rw [lg_entry_eq]
  generalize (lg_sl ([.ref x, .int x1]) ++ List.replicate (4 - (lg_sl ([.ref x, .int x1])).length) Slot.unset).toArray = ls at hl ⊢
  have hl : lv_has ls 4 [(0, .ref x), (1, .int x1)] := hl
  rw [F_X1_passes] at h
  refine lv_iconst (v := 0) hx hb dX1_passes_0 (by decide) ?_
  refine lv_istore_n (lv' := [(2, .int 0), (0, .ref x), (1, .int x1)]) hx hb dX1_passes_1 rfl hl (by decide) rfl (fun ls hl => ?_)
  refine lv_iconst (v := 0) hx hb dX1_passes_2 (by decide) ?_
  refine lv_istore_n (lv' := [(3, .int 0), (2, .int 0), (0, .ref x), (1, .int x1)]) hx hb dX1_passes_3 rfl hl (by decide) rfl (fun ls hl => ?_)
  exact w_X1_passes_4 C hK hP hR N 0 0 h _ (lv_sub hl [2, 3, 1, 0] rfl)
abbrev rm_X1_difference : Room := { frames := 5, cells := 0, slots := 0, locals := 97 }
def F_X1_difference (N : Nat) (xl : Int32) (gr : Int32) (lm : Int32) (lz : Int32) (ln : Nat) (gB : Nat → Int32) (np : Nat) (q1 : Nat → Int32) (q2 : Nat → Int32) (qN : Nat → Int32) (qW : Nat → Nat → Int32) (qP : Nat → Nat → Int32) (qR : Nat → Nat → Int32) (qV : Nat → Nat → Int32) (qB : Nat → Int64) (qS : Nat → Nat → Int64) (qA : Nat → Nat → Int64) (qG : Nat → Nat → Int64) (qC : Nat → Nat → Int32) (x1 : Int32) : Option (Int32) :=
  (if x1 = (-1) then
  some ((gB (ix 0)) - (gB (ix 1)))
  else
  (if ix (x1 + 1) < np then
  ((F_X2_round N gr lm lz ln (q1 (ix (x1 + 1))) (q2 (ix (x1 + 1))) (qN (ix (x1 + 1))) x1).bind fun r_16 =>
  ((F_X2_round N gr lm lz ln (q1 (ix (x1 + 1))) (q2 (ix (x1 + 1))) (qN (ix (x1 + 1))) x1).bind fun r_20 =>
  some (((qP (ix (x1 + 1))) (ix 0)) - ((qP (ix (x1 + 1))) (ix 1)))))
  else none))
set_option maxHeartbeats 4000000 in
theorem met_X1_difference (l : Launch) (D : va_G) (cA : Nat → ClassId) (x : Nat) (g : Nat) (xs : Value) (xp : Value) (xi : Nat) (xr : Value) (xq : Value) (sh : Nat) (al : Nat) (g_b : Nat) (g_t : Nat) (ed : Nat) (lf : Nat → Option Nat) (xl : Int32) (gr : Int32) (lm : Int32) (lz : Int32) (ln : Nat) (gB : Nat → Int32) (np : Nat) (q1 : Nat → Int32) (q2 : Nat → Int32) (qN : Nat → Int32) (qW : Nat → Nat → Int32) (qP : Nat → Nat → Int32) (qR : Nat → Nat → Int32) (qV : Nat → Nat → Int32) (qB : Nat → Int64) (qS : Nat → Nat → Int64) (qA : Nat → Nat → Int64) (qG : Nat → Nat → Int64) (qC : Nat → Nat → Int32) (N : Nat) (x1 : Int32)  (out : Int32) (h : F_X1_difference N xl gr lm lz ln gB np q1 q2 qN qW qP qR qV qB qS qA qG qC x1 = some out) : Met l yX1_difference (ws_ yX1_difference cX1_difference 2 (some .int)) rm_X1_difference (ga_PR D cA (ga_po D cA lf np q1 q2 qN qW qP qR qV qB qS qA qG qC) [(x, .inr (1, [.ref g, xs, xp, .ref xi, .int xl, xr, xq])), (g, .inr (2, [.ref sh, .ref al, .int gr, .ref g_b, .ref g_t])), (al, .inr (6, [.int lm, .ref ed, .int lz])), (ed, .inl (cA 5, ln, .inr (.inr (.inr (.inr lf))))), (g_b, .inl (cA 0, 2, .inl gB))] [.ref x, .int x1]) (vp_Si (fun r => out = r)) 0 0 ga_F := by
  refine Met.ofW (cc := cX1_difference) (maxL := 2) (ret := (some .int)) (by decide) rfl ?_
  intro p e s m args below meth c s₁ B hml hv
  obtain ⟨rfl, hP, hK, hR⟩ := hv
  have C : ga_cx p m c meth s _ RX1 cX1_difference 2 (some .int) := ga_cx_of B hml
  have C0 := C
  obtain ⟨hx, hb, hr, hlocks, hml, hown, hts⟩ := C0
  have hl := lv_entry ([.ref x, .int x1]) (n := 2) (Nat.le_of_ble_eq_true rfl)
  rw [lg_entry_eq]
  generalize (lg_sl ([.ref x, .int x1]) ++ List.replicate (2 - (lg_sl ([.ref x, .int x1])).length) Slot.unset).toArray = ls at hl ⊢
  have hl : lv_has ls 2 [(0, .ref x), (1, .int x1)] := hl
  rw [F_X1_difference] at h
  refine lv_iload_n hx hb dX1_difference_0 rfl (lv_at hl 1 rfl) ?_
  refine lv_iconst (v := (-1)) hx hb dX1_difference_1 (by decide) ?_
  refine lv_icmp_ne (tgt := 25) hx hb dX1_difference_2 (by decide) (fun c_1 => ?_) (fun c_1 => ?_)
  · replace h := ga_iff c_1 h
    refine lv_aload_n hx hb dX1_difference_25 rfl (lv_at hl 0 rfl) ?_
    refine va_get hx hb hts in_X1 hown hK.1 hP 0 (fs := [.ref g, xs, xp, .ref xi, .int xl, xr, xq]) rfl rfl 0 (by decide) (hts _ q350) (fun _ hh => hh) (v := .ref g) rfl dX1_difference_26 ?_
    refine lv_iload_n hx hb dX1_difference_29 rfl (lv_at hl 1 rfl) ?_
    obtain ⟨i_12, h⟩ := ga_gif h
    obtain ⟨r_2, b_3, w_4, t_5, e_6, v_7, bs_8, ba_9, bc_10, bg_11, f_13, q_14, hn_15⟩ := hR (ix (x1 + 1)) i_12
    have hP : va_P D ga_cl [(x, .inr (1, [.ref g, xs, xp, .ref xi, .int xl, xr, xq])), (g, .inr (2, [.ref sh, .ref al, .int gr, .ref g_b, .ref g_t])), (al, .inr (6, [.int lm, .ref ed, .int lz])), (ed, .inl (cA 5, ln, .inr (.inr (.inr (.inr lf))))), (g_b, .inl (cA 0, 2, .inl gB)), (r_2, .inr (5, [.int (q1 (ix (x1 + 1))), .int (q2 (ix (x1 + 1))), .ref b_3, .ref w_4, .int (qN (ix (x1 + 1))), .ref t_5, .ref e_6, .ref v_7])), (w_4, .inl (cA 0, 8, .inl (qW (ix (x1 + 1))))), (t_5, .inl (cA 0, 2, .inl (qP (ix (x1 + 1))))), (e_6, .inl (cA 0, 49, .inl (qR (ix (x1 + 1))))), (v_7, .inl (cA 0, 49, .inl (qV (ix (x1 + 1))))), (b_3, .inr (3, [.ref bs_8, .ref ba_9, .long (qB (ix (x1 + 1))), .ref bc_10, .ref bg_11])), (bs_8, .inl (cA 1, 2, .inr (.inl (qS (ix (x1 + 1)))))), (ba_9, .inl (cA 1, 2, .inr (.inl (qA (ix (x1 + 1)))))), (bc_10, .inl (cA 0, 2, .inl (qC (ix (x1 + 1))))), (bg_11, .inl (cA 1, 2, .inr (.inl (qG (ix (x1 + 1))))))] s.heap := hP.app q_14
    obtain ⟨r_16, e_17, h⟩ := ga_gb h
    refine va_csr (va_Run.run (va_runV (As := [.int x1]) (rest := []) ⟨hx, hb, hml, hown, hts⟩ (met_X2_round l D cA g sh al g_b g_t ed lf r_2 b_3 w_4 t_5 e_6 v_7 gr lm lz ln (q1 (ix (x1 + 1))) (q2 (ix (x1 + 1))) (qN (ix (x1 + 1))) N x1 f_13 r_16 e_17) (cwV 1 hts (lw_V q918 q747 q748 q68 q749) rfl rfl rfl (by decide +kernel) ⟨Nat.le_of_ble_eq_true rfl, Nat.le_of_ble_eq_true rfl⟩) (ga_PV hK (hP.sub (ws' := [(g, .inr (2, [.ref sh, .ref al, .int gr, .ref g_b, .ref g_t])), (al, .inr (6, [.int lm, .ref ed, .int lz])), (ed, .inl (cA 5, ln, .inr (.inr (.inr (.inr lf))))), (r_2, .inr (5, [.int (q1 (ix (x1 + 1))), .int (q2 (ix (x1 + 1))), .ref b_3, .ref w_4, .int (qN (ix (x1 + 1))), .ref t_5, .ref e_6, .ref v_7]))]) [1, 2, 3, 5] rfl) (va_recv hK.1 hP (ci := 2) (q0 := 1) rfl rfl)) rfl rfl hl.1 rfl (lv_room (Nat.le_of_ble_eq_true rfl)) dX1_difference_30 ⟨Nat.le_of_ble_eq_true rfl, Nat.le_of_ble_eq_true rfl⟩)) (fun _ _ => ?_)
    refine va_getN hx hb hts in_X5 hown hK.1 hP 5 (fs := [.int (q1 (ix (x1 + 1))), .int (q2 (ix (x1 + 1))), .ref b_3, .ref w_4, .int (qN (ix (x1 + 1))), .ref t_5, .ref e_6, .ref v_7]) rfl rfl 5 (by decide) (ga_nu hK q234 rfl) (fun _ hh => hh) (v := .ref t_5) rfl dX1_difference_33 ?_
    refine lv_iconst (v := 0) hx hb dX1_difference_36 (by decide) ?_
    refine va_iald hx hb hK.1 hP 7 0 (f := (qP (ix (x1 + 1)))) rfl rfl (ga_in (by decide)) dX1_difference_37 ?_
    refine lv_aload_n hx hb dX1_difference_38 rfl (lv_at hl 0 rfl) ?_
    refine va_get hx hb hts in_X1 hown hK.1 hP 0 (fs := [.ref g, xs, xp, .ref xi, .int xl, xr, xq]) rfl rfl 0 (by decide) (hts _ q350) (fun _ hh => hh) (v := .ref g) rfl dX1_difference_39 ?_
    refine lv_iload_n hx hb dX1_difference_42 rfl (lv_at hl 1 rfl) ?_
    obtain ⟨r_20, e_21, h⟩ := ga_gb h
    refine va_csr (va_Run.run (va_runV (As := [.int x1]) (rest := [.int ((qP (ix (x1 + 1))) (ix 0))]) ⟨hx, hb, hml, hown, hts⟩ (met_X2_round l D cA g sh al g_b g_t ed lf r_2 b_3 w_4 t_5 e_6 v_7 gr lm lz ln (q1 (ix (x1 + 1))) (q2 (ix (x1 + 1))) (qN (ix (x1 + 1))) N x1 f_13 r_20 e_21) (cwV 1 hts (lw_V q918 q747 q748 q68 q749) rfl rfl rfl (by decide +kernel) ⟨Nat.le_of_ble_eq_true rfl, Nat.le_of_ble_eq_true rfl⟩) (ga_PV hK (hP.sub (ws' := [(g, .inr (2, [.ref sh, .ref al, .int gr, .ref g_b, .ref g_t])), (al, .inr (6, [.int lm, .ref ed, .int lz])), (ed, .inl (cA 5, ln, .inr (.inr (.inr (.inr lf))))), (r_2, .inr (5, [.int (q1 (ix (x1 + 1))), .int (q2 (ix (x1 + 1))), .ref b_3, .ref w_4, .int (qN (ix (x1 + 1))), .ref t_5, .ref e_6, .ref v_7]))]) [1, 2, 3, 5] rfl) (va_recv hK.1 hP (ci := 2) (q0 := 1) rfl rfl)) rfl rfl hl.1 rfl (lv_room (Nat.le_of_ble_eq_true rfl)) dX1_difference_43 ⟨Nat.le_of_ble_eq_true rfl, Nat.le_of_ble_eq_true rfl⟩)) (fun _ _ => ?_)
    refine va_getN hx hb hts in_X5 hown hK.1 hP 5 (fs := [.int (q1 (ix (x1 + 1))), .int (q2 (ix (x1 + 1))), .ref b_3, .ref w_4, .int (qN (ix (x1 + 1))), .ref t_5, .ref e_6, .ref v_7]) rfl rfl 5 (by decide) (ga_nu hK q234 rfl) (fun _ hh => hh) (v := .ref t_5) rfl dX1_difference_46 ?_
    refine lv_iconst (v := 1) hx hb dX1_difference_49 (by decide) ?_
    refine va_iald hx hb hK.1 hP 7 0 (f := (qP (ix (x1 + 1)))) rfl rfl (ga_in (by decide)) dX1_difference_50 ?_
    refine lv_isub hx hb dX1_difference_51 ?_
    obtain rfl := Option.some.inj h
    exact W.iret hx hb hr (fun t ht hW => ⟨_, rfl, rfl, ht⟩) (fun _ hq => by cases hq) dX1_difference_52
  · replace h := ga_ift c_1 h
    refine lv_aload_n hx hb dX1_difference_5 rfl (lv_at hl 0 rfl) ?_
    refine va_get hx hb hts in_X1 hown hK.1 hP 0 (fs := [.ref g, xs, xp, .ref xi, .int xl, xr, xq]) rfl rfl 0 (by decide) (hts _ q350) (fun _ hh => hh) (v := .ref g) rfl dX1_difference_6 ?_
    refine va_getN hx hb hts in_X2 hown hK.1 hP 1 (fs := [.ref sh, .ref al, .int gr, .ref g_b, .ref g_t]) rfl rfl 3 (by decide) (ga_nu hK q335 rfl) (fun _ hh => hh) (v := .ref g_b) rfl dX1_difference_9 ?_
    refine lv_iconst (v := 0) hx hb dX1_difference_12 (by decide) ?_
    refine va_iald hx hb hK.1 hP 4 0 (f := gB) rfl rfl (ga_in (by decide)) dX1_difference_13 ?_
    refine lv_aload_n hx hb dX1_difference_14 rfl (lv_at hl 0 rfl) ?_
    refine va_get hx hb hts in_X1 hown hK.1 hP 0 (fs := [.ref g, xs, xp, .ref xi, .int xl, xr, xq]) rfl rfl 0 (by decide) (hts _ q350) (fun _ hh => hh) (v := .ref g) rfl dX1_difference_15 ?_
    refine va_getN hx hb hts in_X2 hown hK.1 hP 1 (fs := [.ref sh, .ref al, .int gr, .ref g_b, .ref g_t]) rfl rfl 3 (by decide) (ga_nu hK q335 rfl) (fun _ hh => hh) (v := .ref g_b) rfl dX1_difference_18 ?_
    refine lv_iconst (v := 1) hx hb dX1_difference_21 (by decide) ?_
    refine va_iald hx hb hK.1 hP 4 0 (f := gB) rfl rfl (ga_in (by decide)) dX1_difference_22 ?_
    refine lv_isub hx hb dX1_difference_23 ?_
    obtain rfl := Option.some.inj h
    exact W.iret hx hb hr (fun t ht hW => ⟨_, rfl, rfl, ht⟩) (fun _ hq => by cases hq) dX1_difference_24
abbrev rm_X1_count : Room := { frames := 7, cells := 1, slots := 6, locals := 120 }
def F_X1_count (N : Nat) (xl : Int32) (gr : Int32) (lm : Int32) (lz : Int32) (ln : Nat) (zw : Int32) (zh : Int32) (zA : Int64) (zL : Int64) (zR : Int64) (zE : Int64) (np : Nat) (q1 : Nat → Int32) (q2 : Nat → Int32) (qN : Nat → Int32) (qW : Nat → Nat → Int32) (qP : Nat → Nat → Int32) (qR : Nat → Nat → Int32) (qV : Nat → Nat → Int32) (qB : Nat → Int64) (qS : Nat → Nat → Int64) (qA : Nat → Nat → Int64) (qG : Nat → Nat → Int64) (qC : Nat → Nat → Int32) (x1 : Int32) : Option ((Int32 × Unit) ⊕ Nat) :=
  ((F_X1_inRange N x1 0 6).bind fun r_1 =>
  ((F_X1_checkArgument N r_1).bind fun r_6 => ga_sw r_6 (fun v_15 =>
  (if x1 = 0 then
  some (.inl ((lz - 1), ()))
  else
  (if x1 = 1 then
  some (.inl (zw, ()))
  else
  (if x1 = 2 then
  some (.inl (zh, ()))
  else
  (if x1 = 3 then
  (if ix (lz - 1) < np then
  ((F_X2_board N gr lm lz ln (q1 (ix (lz - 1))) (q2 (ix (lz - 1))) (qN (ix (lz - 1)))).bind fun r_41 =>
  ((F_X3_empty N (qB (ix (lz - 1))) (qS (ix (lz - 1))) (qA (ix (lz - 1))) zw zh zA zL zR zE).bind fun r_45 =>
  some (.inl ((V_J13_bitCount r_45), ()))))
  else none)
  else
  (if x1 = 4 then
  (if ix (lz - 1) < np then
  ((F_X2_board N gr lm lz ln (q1 (ix (lz - 1))) (q2 (ix (lz - 1))) (qN (ix (lz - 1)))).bind fun r_71 =>
  some (.inl ((V_J13_bitCount (qB (ix (lz - 1)))), ())))
  else none)
  else
  (if x1 = 5 then
  ((F_X1_sum N xl gr lm lz ln np q1 q2 qN qW qP qR qV qB qS qA qG qC 2).bind fun r_81 =>
  some (.inl (r_81, ())))
  else
  ((F_X1_sum N xl gr lm lz ln np q1 q2 qN qW qP qR qV qB qS qA qG qC 3).bind fun r_86 =>
  some (.inl (r_86, ())))))))))) (fun u_11 =>
  some (.inr u_11))))
set_option maxHeartbeats 4000000 in
theorem met_X1_count (l : Launch) (D : va_G) (cA : Nat → ClassId) (A : Nat → Prop) (x : Nat) (g : Nat) (xs : Value) (xp : Value) (xi : Nat) (xr : Value) (xq : Value) (sh : Nat) (al : Nat) (g_b : Nat) (g_t : Nat) (ed : Nat) (lf : Nat → Option Nat) (zs : Nat → Nat) (xl : Int32) (gr : Int32) (lm : Int32) (lz : Int32) (ln : Nat) (zw : Int32) (zh : Int32) (zA : Int64) (zL : Int64) (zR : Int64) (zE : Int64) (np : Nat) (q1 : Nat → Int32) (q2 : Nat → Int32) (qN : Nat → Int32) (qW : Nat → Nat → Int32) (qP : Nat → Nat → Int32) (qR : Nat → Nat → Int32) (qV : Nat → Nat → Int32) (qB : Nat → Int64) (qS : Nat → Nat → Int64) (qA : Nat → Nat → Int64) (qG : Nat → Nat → Int64) (qC : Nat → Nat → Int32) (N : Nat) (x1 : Int32)  (hstk : l.stackTraces = false) (out : (Int32 × Unit) ⊕ Nat) (h : F_X1_count N xl gr lm lz ln zw zh zA zL zR zE np q1 q2 qN qW qP qR qV qB qS qA qG qC x1 = some out) : vx_Met l yX1_count (ws_ yX1_count cX1_count 2 (some .int)) rm_X1_count (ga_XR D cA zs A (ga_po D cA lf np q1 q2 qN qW qP qR qV qB qS qA qG qC) [(x, .inr (1, [.ref g, xs, xp, .ref xi, .int xl, xr, xq])), (g, .inr (2, [.ref sh, .ref al, .int gr, .ref g_b, .ref g_t])), (al, .inr (6, [.int lm, .ref ed, .int lz])), (ed, .inl (cA 5, ln, .inr (.inr (.inr (.inr lf))))), (sh, .inr (4, [.int zw, .int zh, .long zA, .long zL, .long zR, .long zE]))] [.ref x, .int x1]) (va_Qi (fun (r : Int32) (u : Unit) => ∃ v, out = .inl v ∧ (v.1 = r) ∧ v.2 = u) (fun (u : Unit) (t : State) => va_P D ga_cl [(x, .inr (1, [.ref g, xs, xp, .ref xi, .int xl, xr, xq])), (g, .inr (2, [.ref sh, .ref al, .int gr, .ref g_b, .ref g_t])), (al, .inr (6, [.int lm, .ref ed, .int lz])), (ed, .inl (cA 5, ln, .inr (.inr (.inr (.inr lf))))), (sh, .inr (4, [.int zw, .int zh, .long zA, .long zL, .long zR, .long zE]))] t.heap ∧ ga_K D cA t ∧ va_D A [(x, .inr (1, [.ref g, xs, xp, .ref xi, .int xl, xr, xq])), (g, .inr (2, [.ref sh, .ref al, .int gr, .ref g_b, .ref g_t])), (al, .inr (6, [.int lm, .ref ed, .int lz])), (ed, .inl (cA 5, ln, .inr (.inr (.inr (.inr lf))))), (sh, .inr (4, [.int zw, .int zh, .long zA, .long zL, .long zR, .long zE]))]) A) (vx_X (fun (u : Nat) => out = .inr u) (fun (E : String) (q9 : Nat) (u : Nat) (t : State) => E = ga_en u ∧ va_P D ga_cl [(x, .inr (1, [.ref g, xs, xp, .ref xi, .int xl, xr, xq])), (g, .inr (2, [.ref sh, .ref al, .int gr, .ref g_b, .ref g_t])), (al, .inr (6, [.int lm, .ref ed, .int lz])), (ed, .inl (cA 5, ln, .inr (.inr (.inr (.inr lf))))), (sh, .inr (4, [.int zw, .int zh, .long zA, .long zL, .long zR, .long zE]))] t.heap ∧ va_D A [(x, .inr (1, [.ref g, xs, xp, .ref xi, .int xl, xr, xq])), (g, .inr (2, [.ref sh, .ref al, .int gr, .ref g_b, .ref g_t])), (al, .inr (6, [.int lm, .ref ed, .int lz])), (ed, .inl (cA 5, ln, .inr (.inr (.inr (.inr lf))))), (sh, .inr (4, [.int zw, .int zh, .long zA, .long zL, .long zR, .long zE]))]) A) 1 6 A := by
  refine vx_ofW (cc := cX1_count) (maxL := 2) (ret := (some .int)) (by decide) rfl ?_
  intro p e s m args below meth c s₁ B hml htab hv
  have hX : ga_cx2 c l := ⟨htab, hstk⟩
  obtain ⟨rfl, hP, hK, hD, hA, hST, hR⟩ := hv
  have hS : va_S A s.heap s.heap [] := va_S.rf
  have C : ga_cx p m c meth s _ RX1 cX1_count 2 (some .int) := ga_cx_of B hml
  have C0 := C
  obtain ⟨hx, hb, hr, hlocks, hml, hown, hts⟩ := C0
  have hl := lv_entry ([.ref x, .int x1]) (n := 2) (Nat.le_of_ble_eq_true rfl)
  rw [lg_entry_eq]
  generalize (lg_sl ([.ref x, .int x1]) ++ List.replicate (2 - (lg_sl ([.ref x, .int x1])).length) Slot.unset).toArray = ls at hl ⊢
  have hl : lv_has ls 2 [(0, .ref x), (1, .int x1)] := hl
  rw [F_X1_count] at h
  refine lv_iload_n hx hb dX1_count_0 rfl (lv_at hl 1 rfl) ?_
  refine lv_iconst (v := 0) hx hb dX1_count_1 (by decide) ?_
  refine lv_bipush (v := 6) hx hb dX1_count_2 (by decide) ?_
  obtain ⟨r_1, e_2, h⟩ := ga_gb h
  refine vp_callSi (va_Run.run (va_runS (As := [.int x1, .int 0, .int 6]) (rest := []) ⟨hx, hb, hml, hown, hts⟩ (met_X1_inRange l D cA N x1 0 6 r_1 e_2) (va_cwS 3 hts (lw_S q487 q488 q67 q489) rfl rfl rfl (by decide +kernel) ⟨Nat.le_of_ble_eq_true rfl, Nat.le_of_ble_eq_true rfl⟩) (ga_PS hK ga_P0) rfl rfl hl.1 rfl (lv_room (Nat.le_of_ble_eq_true rfl)) dX1_count_4 ⟨Nat.le_of_ble_eq_true rfl, Nat.le_of_ble_eq_true rfl⟩)) (fun z_3 w_4 => ?_)
  obtain ⟨rfl, b_5⟩ := w_4
  obtain ⟨r_6, e_7, h⟩ := ga_gb h
  have hFc := va_free (wc := []) hD hS hA [] rfl
  refine vx_callv (vx_runS (As := [.int r_1]) (rest := []) ⟨hx, hb, hml, hown, hts⟩ (met_X1_checkArgument l D cA (va_A [] s.heap.size) zs N r_1 hX.2 r_6 e_7) (va_cwS 1 hts (lw_S q490 q491 q67 q492) rfl rfl rfl (by decide +kernel) ⟨Nat.le_of_ble_eq_true rfl, Nat.le_of_ble_eq_true rfl⟩) (ga_XS hK ga_P0 (hD.sub (ws' := []) [] (by decide) rfl).self (fun _ hq => Or.inr hq) (hST.at hS hFc)) rfl rfl hl.1 rfl (lv_room (Nat.le_of_ble_eq_true rfl)) dX1_count_7 ⟨Nat.le_of_ble_eq_true rfl, Nat.le_of_ble_eq_true rfl⟩) hS (fun q _ hq => hFc q hq) hFc (fun q _ hq => hFc q hq) (fun E_13 ce q_14 u_11 t H_12 locs ht _ w_9 hB _ hk hS hce hcv hcl => ?_) (fun u_11 t H_10 locs ht _ w_9 hB _ hk hS => ?_)
  · replace h := ga_swr w_9 h
    obtain ⟨eE, hP1, hD1⟩ := hB
    rw [ht] at hP1
    obtain ⟨hP, hD⟩ := va_join (wr := [(x, .inr (1, [.ref g, xs, xp, .ref xi, .int xl, xr, xq])), (g, .inr (2, [.ref sh, .ref al, .int gr, .ref g_b, .ref g_t])), (al, .inr (6, [.int lm, .ref ed, .int lz])), (ed, .inl (cA 5, ln, .inr (.inr (.inr (.inr lf))))), (sh, .inr (4, [.int zw, .int zh, .long zA, .long zL, .long zR, .long zE]))]) (w1 := []) hP hD [] [0, 1, 2, 3, 4] rfl rfl (by decide) (by decide) hk hFc hP1 hD1
    have hP : va_P D ga_cl [(x, .inr (1, [.ref g, xs, xp, .ref xi, .int xl, xr, xq])), (g, .inr (2, [.ref sh, .ref al, .int gr, .ref g_b, .ref g_t])), (al, .inr (6, [.int lm, .ref ed, .int lz])), (ed, .inl (cA 5, ln, .inr (.inr (.inr (.inr lf))))), (sh, .inr (4, [.int zw, .int zh, .long zA, .long zL, .long zR, .long zE]))] H_12 := hP
    have hD : va_D A [(x, .inr (1, [.ref g, xs, xp, .ref xi, .int xl, xr, xq])), (g, .inr (2, [.ref sh, .ref al, .int gr, .ref g_b, .ref g_t])), (al, .inr (6, [.int lm, .ref ed, .int lz])), (ed, .inl (cA 5, ln, .inr (.inr (.inr (.inr lf))))), (sh, .inr (4, [.int zw, .int zh, .long zA, .long zL, .long zR, .long zE]))] := hD
    have hP9 := hP.sub (ws' := [(x, .inr (1, [.ref g, xs, xp, .ref xi, .int xl, xr, xq])), (g, .inr (2, [.ref sh, .ref al, .int gr, .ref g_b, .ref g_t])), (al, .inr (6, [.int lm, .ref ed, .int lz])), (ed, .inl (cA 5, ln, .inr (.inr (.inr (.inr lf))))), (sh, .inr (4, [.int zw, .int zh, .long zA, .long zL, .long zR, .long zE]))]) [0, 1, 2, 3, 4] rfl
    have hD9 := hD.sub (ws' := [(x, .inr (1, [.ref g, xs, xp, .ref xi, .int xl, xr, xq])), (g, .inr (2, [.ref sh, .ref al, .int gr, .ref g_b, .ref g_t])), (al, .inr (6, [.int lm, .ref ed, .int lz])), (ed, .inl (cA 5, ln, .inr (.inr (.inr (.inr lf))))), (sh, .inr (4, [.int zw, .int zh, .long zA, .long zL, .long zR, .long zE]))]) [0, 1, 2, 3, 4] (by decide) rfl
    obtain rfl := Option.some.inj h
    exact vx_out (fun x hx9 => (hX.1 x hx9).elim) hlocks hce hcv hcl (fun t ht _ => ⟨u_11, rfl, ⟨eE, by rw [ht]; exact hP9, hD9⟩, hS.F ht⟩) hS.2.2 (by decide) (by decide)
  · obtain ⟨v_15, ev_15, hv9⟩ := w_9
    replace h := ga_swl ev_15 h
    obtain rfl := hv9
    obtain ⟨hP1, -, hD1⟩ := hB
    rw [ht] at hP1
    obtain ⟨hP, hD⟩ := va_join (wr := [(x, .inr (1, [.ref g, xs, xp, .ref xi, .int xl, xr, xq])), (g, .inr (2, [.ref sh, .ref al, .int gr, .ref g_b, .ref g_t])), (al, .inr (6, [.int lm, .ref ed, .int lz])), (ed, .inl (cA 5, ln, .inr (.inr (.inr (.inr lf))))), (sh, .inr (4, [.int zw, .int zh, .long zA, .long zL, .long zR, .long zE]))]) (w1 := []) hP hD [] [0, 1, 2, 3, 4] rfl rfl (by decide) (by decide) hk hFc hP1 hD1
    have hP : va_P D ga_cl [(x, .inr (1, [.ref g, xs, xp, .ref xi, .int xl, xr, xq])), (g, .inr (2, [.ref sh, .ref al, .int gr, .ref g_b, .ref g_t])), (al, .inr (6, [.int lm, .ref ed, .int lz])), (ed, .inl (cA 5, ln, .inr (.inr (.inr (.inr lf))))), (sh, .inr (4, [.int zw, .int zh, .long zA, .long zL, .long zR, .long zE]))] H_10 := hP
    have hD : va_D A [(x, .inr (1, [.ref g, xs, xp, .ref xi, .int xl, xr, xq])), (g, .inr (2, [.ref sh, .ref al, .int gr, .ref g_b, .ref g_t])), (al, .inr (6, [.int lm, .ref ed, .int lz])), (ed, .inl (cA 5, ln, .inr (.inr (.inr (.inr lf))))), (sh, .inr (4, [.int zw, .int zh, .long zA, .long zL, .long zR, .long zE]))] := hD
    refine W.cs (cells' := 1) (slots' := 6) rfl rfl ?_
    refine lv_iload_n hx hb dX1_count_10 rfl (lv_at hl 1 rfl) ?_
    by_cases c_17 : x1 = 0
    · replace h := ga_ift c_17 h
      refine lv_tableIn (off := 37) (tgt := 48) hx hb dX1_count_11 (by rw [c_17]; decide) (by rw [c_17]; decide) (by rw [c_17]; rfl) (by decide) ?_
      refine lv_aload_n hx hb dX1_count_48 rfl (lv_at hl 0 rfl) ?_
      refine va_get hx hb hts in_X1 hown hK.1 hP 0 (fs := [.ref g, xs, xp, .ref xi, .int xl, xr, xq]) rfl rfl 0 (by decide) (hts _ q350) (fun _ hh => hh) (v := .ref g) rfl dX1_count_49 ?_
      refine vp_callSi (va_Run.run (va_runV (As := []) (rest := []) ⟨hx, hb, hml, hown, hts⟩ (met_X2_rounds l D cA g sh al g_b g_t ed gr lm lz N (lz - 1) rfl) (cwV 0 hts (lw_V q475 q411 q412 q68 q413) rfl rfl rfl (by decide +kernel) ⟨Nat.le_of_ble_eq_true rfl, Nat.le_of_ble_eq_true rfl⟩) (ga_PV hK (hP.sub (ws' := [(g, .inr (2, [.ref sh, .ref al, .int gr, .ref g_b, .ref g_t])), (al, .inr (6, [.int lm, .ref ed, .int lz]))]) [1, 2] rfl) (va_recv hK.1 hP (ci := 2) (q0 := 1) rfl rfl)) rfl rfl hl.1 rfl (lv_room (Nat.le_of_ble_eq_true rfl)) dX1_count_52 ⟨Nat.le_of_ble_eq_true rfl, Nat.le_of_ble_eq_true rfl⟩)) (fun z_20 w_21 => ?_)
      obtain rfl := w_21
      have hP9 := hP.sub (ws' := [(x, .inr (1, [.ref g, xs, xp, .ref xi, .int xl, xr, xq])), (g, .inr (2, [.ref sh, .ref al, .int gr, .ref g_b, .ref g_t])), (al, .inr (6, [.int lm, .ref ed, .int lz])), (ed, .inl (cA 5, ln, .inr (.inr (.inr (.inr lf))))), (sh, .inr (4, [.int zw, .int zh, .long zA, .long zL, .long zR, .long zE]))]) [0, 1, 2, 3, 4] rfl
      have hD9 := hD.sub (ws' := [(x, .inr (1, [.ref g, xs, xp, .ref xi, .int xl, xr, xq])), (g, .inr (2, [.ref sh, .ref al, .int gr, .ref g_b, .ref g_t])), (al, .inr (6, [.int lm, .ref ed, .int lz])), (ed, .inl (cA 5, ln, .inr (.inr (.inr (.inr lf))))), (sh, .inr (4, [.int zw, .int zh, .long zA, .long zL, .long zR, .long zE]))]) [0, 1, 2, 3, 4] (by decide) rfl
      obtain rfl := Option.some.inj h
      refine vx_ret ?_
      exact W.iret hx hb hr (fun t ht hW => ⟨⟨_, (), rfl, ⟨_, rfl, rfl, rfl⟩, ⟨by rw [ht]; exact hP9, hK.warm hW, hD9⟩⟩, hS.F ht⟩) hS.2.2 dX1_count_55
    · replace h := ga_iff c_17 h
      by_cases c_23 : x1 = 1
      · replace h := ga_ift c_23 h
        refine lv_tableIn (off := 45) (tgt := 56) hx hb dX1_count_11 (by rw [c_23]; decide) (by rw [c_23]; decide) (by rw [c_23]; rfl) (by decide) ?_
        refine lv_aload_n hx hb dX1_count_56 rfl (lv_at hl 0 rfl) ?_
        refine va_get hx hb hts in_X1 hown hK.1 hP 0 (fs := [.ref g, xs, xp, .ref xi, .int xl, xr, xq]) rfl rfl 0 (by decide) (hts _ q350) (fun _ hh => hh) (v := .ref g) rfl dX1_count_57 ?_
        refine va_getN hx hb hts in_X2 hown hK.1 hP 1 (fs := [.ref sh, .ref al, .int gr, .ref g_b, .ref g_t]) rfl rfl 0 (by decide) (ga_nu hK q329 rfl) (fun _ hh => hh) (v := .ref sh) rfl dX1_count_60 ?_
        refine va_getN hx hb hts in_X4 hown hK.1 hP 4 (fs := [.int zw, .int zh, .long zA, .long zL, .long zR, .long zE]) rfl rfl 0 (by decide) (ga_nu hK q189 rfl) (fun _ hh => hh) (v := .int zw) rfl dX1_count_63 ?_
        have hP9 := hP.sub (ws' := [(x, .inr (1, [.ref g, xs, xp, .ref xi, .int xl, xr, xq])), (g, .inr (2, [.ref sh, .ref al, .int gr, .ref g_b, .ref g_t])), (al, .inr (6, [.int lm, .ref ed, .int lz])), (ed, .inl (cA 5, ln, .inr (.inr (.inr (.inr lf))))), (sh, .inr (4, [.int zw, .int zh, .long zA, .long zL, .long zR, .long zE]))]) [0, 1, 2, 3, 4] rfl
        have hD9 := hD.sub (ws' := [(x, .inr (1, [.ref g, xs, xp, .ref xi, .int xl, xr, xq])), (g, .inr (2, [.ref sh, .ref al, .int gr, .ref g_b, .ref g_t])), (al, .inr (6, [.int lm, .ref ed, .int lz])), (ed, .inl (cA 5, ln, .inr (.inr (.inr (.inr lf))))), (sh, .inr (4, [.int zw, .int zh, .long zA, .long zL, .long zR, .long zE]))]) [0, 1, 2, 3, 4] (by decide) rfl
        obtain rfl := Option.some.inj h
        refine vx_ret ?_
        exact W.iret hx hb hr (fun t ht hW => ⟨⟨_, (), rfl, ⟨_, rfl, rfl, rfl⟩, ⟨by rw [ht]; exact hP9, hK.warm hW, hD9⟩⟩, hS.F ht⟩) hS.2.2 dX1_count_66
      · replace h := ga_iff c_23 h
        by_cases c_24 : x1 = 2
        · replace h := ga_ift c_24 h
          refine lv_tableIn (off := 56) (tgt := 67) hx hb dX1_count_11 (by rw [c_24]; decide) (by rw [c_24]; decide) (by rw [c_24]; rfl) (by decide) ?_
          refine lv_aload_n hx hb dX1_count_67 rfl (lv_at hl 0 rfl) ?_
          refine va_get hx hb hts in_X1 hown hK.1 hP 0 (fs := [.ref g, xs, xp, .ref xi, .int xl, xr, xq]) rfl rfl 0 (by decide) (hts _ q350) (fun _ hh => hh) (v := .ref g) rfl dX1_count_68 ?_
          refine va_getN hx hb hts in_X2 hown hK.1 hP 1 (fs := [.ref sh, .ref al, .int gr, .ref g_b, .ref g_t]) rfl rfl 0 (by decide) (ga_nu hK q329 rfl) (fun _ hh => hh) (v := .ref sh) rfl dX1_count_71 ?_
          refine va_getN hx hb hts in_X4 hown hK.1 hP 4 (fs := [.int zw, .int zh, .long zA, .long zL, .long zR, .long zE]) rfl rfl 1 (by decide) (ga_nu hK q192 rfl) (fun _ hh => hh) (v := .int zh) rfl dX1_count_74 ?_
          have hP9 := hP.sub (ws' := [(x, .inr (1, [.ref g, xs, xp, .ref xi, .int xl, xr, xq])), (g, .inr (2, [.ref sh, .ref al, .int gr, .ref g_b, .ref g_t])), (al, .inr (6, [.int lm, .ref ed, .int lz])), (ed, .inl (cA 5, ln, .inr (.inr (.inr (.inr lf))))), (sh, .inr (4, [.int zw, .int zh, .long zA, .long zL, .long zR, .long zE]))]) [0, 1, 2, 3, 4] rfl
          have hD9 := hD.sub (ws' := [(x, .inr (1, [.ref g, xs, xp, .ref xi, .int xl, xr, xq])), (g, .inr (2, [.ref sh, .ref al, .int gr, .ref g_b, .ref g_t])), (al, .inr (6, [.int lm, .ref ed, .int lz])), (ed, .inl (cA 5, ln, .inr (.inr (.inr (.inr lf))))), (sh, .inr (4, [.int zw, .int zh, .long zA, .long zL, .long zR, .long zE]))]) [0, 1, 2, 3, 4] (by decide) rfl
          obtain rfl := Option.some.inj h
          refine vx_ret ?_
          exact W.iret hx hb hr (fun t ht hW => ⟨⟨_, (), rfl, ⟨_, rfl, rfl, rfl⟩, ⟨by rw [ht]; exact hP9, hK.warm hW, hD9⟩⟩, hS.F ht⟩) hS.2.2 dX1_count_77
        · replace h := ga_iff c_24 h
          by_cases c_25 : x1 = 3
          · replace h := ga_ift c_25 h
            refine lv_tableIn (off := 67) (tgt := 78) hx hb dX1_count_11 (by rw [c_25]; decide) (by rw [c_25]; decide) (by rw [c_25]; rfl) (by decide) ?_
            refine lv_aload_n hx hb dX1_count_78 rfl (lv_at hl 0 rfl) ?_
            refine va_get hx hb hts in_X1 hown hK.1 hP 0 (fs := [.ref g, xs, xp, .ref xi, .int xl, xr, xq]) rfl rfl 0 (by decide) (hts _ q350) (fun _ hh => hh) (v := .ref g) rfl dX1_count_79 ?_
            obtain ⟨i_36, h⟩ := ga_gif h
            obtain ⟨r_26, b_27, w_28, t_29, e_30, v_31, bs_32, ba_33, bc_34, bg_35, f_37, q_38, hn_39⟩ := (ga_poK.at (B := A) hR hS (fun _ h => h)) (ix (lz - 1)) i_36
            have hP : va_P D ga_cl [(x, .inr (1, [.ref g, xs, xp, .ref xi, .int xl, xr, xq])), (g, .inr (2, [.ref sh, .ref al, .int gr, .ref g_b, .ref g_t])), (al, .inr (6, [.int lm, .ref ed, .int lz])), (ed, .inl (cA 5, ln, .inr (.inr (.inr (.inr lf))))), (sh, .inr (4, [.int zw, .int zh, .long zA, .long zL, .long zR, .long zE])), (r_26, .inr (5, [.int (q1 (ix (lz - 1))), .int (q2 (ix (lz - 1))), .ref b_27, .ref w_28, .int (qN (ix (lz - 1))), .ref t_29, .ref e_30, .ref v_31])), (w_28, .inl (cA 0, 8, .inl (qW (ix (lz - 1))))), (t_29, .inl (cA 0, 2, .inl (qP (ix (lz - 1))))), (e_30, .inl (cA 0, 49, .inl (qR (ix (lz - 1))))), (v_31, .inl (cA 0, 49, .inl (qV (ix (lz - 1))))), (b_27, .inr (3, [.ref bs_32, .ref ba_33, .long (qB (ix (lz - 1))), .ref bc_34, .ref bg_35])), (bs_32, .inl (cA 1, 2, .inr (.inl (qS (ix (lz - 1)))))), (ba_33, .inl (cA 1, 2, .inr (.inl (qA (ix (lz - 1)))))), (bc_34, .inl (cA 0, 2, .inl (qC (ix (lz - 1))))), (bg_35, .inl (cA 1, 2, .inr (.inl (qG (ix (lz - 1))))))] H_10 := hP.app q_38
            have hr_40 : ga_ro D [(r_26, .inr (5, [.int (q1 (ix (lz - 1))), .int (q2 (ix (lz - 1))), .ref b_27, .ref w_28, .int (qN (ix (lz - 1))), .ref t_29, .ref e_30, .ref v_31])), (w_28, .inl (cA 0, 8, .inl (qW (ix (lz - 1))))), (t_29, .inl (cA 0, 2, .inl (qP (ix (lz - 1))))), (e_30, .inl (cA 0, 49, .inl (qR (ix (lz - 1))))), (v_31, .inl (cA 0, 49, .inl (qV (ix (lz - 1))))), (b_27, .inr (3, [.ref bs_32, .ref ba_33, .long (qB (ix (lz - 1))), .ref bc_34, .ref bg_35])), (bs_32, .inl (cA 1, 2, .inr (.inl (qS (ix (lz - 1)))))), (ba_33, .inl (cA 1, 2, .inr (.inl (qA (ix (lz - 1)))))), (bc_34, .inl (cA 0, 2, .inl (qC (ix (lz - 1))))), (bg_35, .inl (cA 1, 2, .inr (.inl (qG (ix (lz - 1))))))] A s H_10 := ⟨q_38, hn_39⟩
            obtain ⟨r_41, e_42, h⟩ := ga_gb h
            refine va_csr (va_Run.run (va_runV (As := []) (rest := []) ⟨hx, hb, hml, hown, hts⟩ (met_X2_board l D cA g sh al g_b g_t ed lf r_26 b_27 w_28 t_29 e_30 v_31 gr lm lz ln (q1 (ix (lz - 1))) (q2 (ix (lz - 1))) (qN (ix (lz - 1))) N f_37 r_41 e_42) (cwV 0 hts (lw_V q565 q385 q386 q68 q387) rfl rfl rfl (by decide +kernel) ⟨Nat.le_of_ble_eq_true rfl, Nat.le_of_ble_eq_true rfl⟩) (ga_PV hK (hP.sub (ws' := [(g, .inr (2, [.ref sh, .ref al, .int gr, .ref g_b, .ref g_t])), (al, .inr (6, [.int lm, .ref ed, .int lz])), (ed, .inl (cA 5, ln, .inr (.inr (.inr (.inr lf))))), (r_26, .inr (5, [.int (q1 (ix (lz - 1))), .int (q2 (ix (lz - 1))), .ref b_27, .ref w_28, .int (qN (ix (lz - 1))), .ref t_29, .ref e_30, .ref v_31]))]) [1, 2, 3, 5] rfl) (va_recv hK.1 hP (ci := 2) (q0 := 1) rfl rfl)) rfl rfl hl.1 rfl (lv_room (Nat.le_of_ble_eq_true rfl)) dX1_count_82 ⟨Nat.le_of_ble_eq_true rfl, Nat.le_of_ble_eq_true rfl⟩)) (fun _ _ => ?_)
            refine lv_aload_n hx hb dX1_count_85 rfl (lv_at hl 0 rfl) ?_
            refine va_get hx hb hts in_X1 hown hK.1 hP 0 (fs := [.ref g, xs, xp, .ref xi, .int xl, xr, xq]) rfl rfl 0 (by decide) (hts _ q350) (fun _ hh => hh) (v := .ref g) rfl dX1_count_86 ?_
            refine va_getN hx hb hts in_X2 hown hK.1 hP 1 (fs := [.ref sh, .ref al, .int gr, .ref g_b, .ref g_t]) rfl rfl 0 (by decide) (ga_nu hK q329 rfl) (fun _ hh => hh) (v := .ref sh) rfl dX1_count_89 ?_
            obtain ⟨r_45, e_46, h⟩ := ga_gb h
            refine vp_callSl (va_Run.run (va_runV (As := [.ref sh]) (rest := []) ⟨hx, hb, hml, hown, hts⟩ (met_X3_empty l D cA b_27 bs_32 ba_33 bc_34 bg_35 sh (qB (ix (lz - 1))) (qS (ix (lz - 1))) (qA (ix (lz - 1))) zw zh zA zL zR zE N r_45 e_46) (cwV 1 hts (lw_V q566 q423 q424 q72 q425) rfl rfl rfl (by decide +kernel) ⟨Nat.le_of_ble_eq_true rfl, Nat.le_of_ble_eq_true rfl⟩) (ga_PV hK (hP.sub (ws' := [(b_27, .inr (3, [.ref bs_32, .ref ba_33, .long (qB (ix (lz - 1))), .ref bc_34, .ref bg_35])), (bs_32, .inl (cA 1, 2, .inr (.inl (qS (ix (lz - 1)))))), (ba_33, .inl (cA 1, 2, .inr (.inl (qA (ix (lz - 1)))))), (sh, .inr (4, [.int zw, .int zh, .long zA, .long zL, .long zR, .long zE]))]) [10, 11, 12, 4] rfl) (va_recv hK.1 hP (ci := 3) (q0 := 10) rfl rfl)) rfl rfl hl.1 rfl (lv_room (Nat.le_of_ble_eq_true rfl)) dX1_count_92 ⟨Nat.le_of_ble_eq_true rfl, Nat.le_of_ble_eq_true rfl⟩)) (fun z_47 w_48 => ?_)
            obtain rfl := w_48
            refine vp_callSi (va_Run.run (va_runS (As := [.long r_45]) (rest := []) ⟨hx, hb, hml, hown, hts⟩ (met_X1_size l D cA N r_45 (V_J13_bitCount r_45) rfl) (va_cwS 1 hts (lw_S q567 q568 q67 q569) rfl rfl rfl (by decide +kernel) ⟨Nat.le_of_ble_eq_true rfl, Nat.le_of_ble_eq_true rfl⟩) (ga_PS hK ga_P0) rfl rfl hl.1 rfl (lv_room (Nat.le_of_ble_eq_true rfl)) dX1_count_95 ⟨Nat.le_of_ble_eq_true rfl, Nat.le_of_ble_eq_true rfl⟩)) (fun z_52 w_53 => ?_)
            obtain rfl := w_53
            have hP9 := hP.sub (ws' := [(x, .inr (1, [.ref g, xs, xp, .ref xi, .int xl, xr, xq])), (g, .inr (2, [.ref sh, .ref al, .int gr, .ref g_b, .ref g_t])), (al, .inr (6, [.int lm, .ref ed, .int lz])), (ed, .inl (cA 5, ln, .inr (.inr (.inr (.inr lf))))), (sh, .inr (4, [.int zw, .int zh, .long zA, .long zL, .long zR, .long zE]))]) [0, 1, 2, 3, 4] rfl
            have hD9 := hD.sub (ws' := [(x, .inr (1, [.ref g, xs, xp, .ref xi, .int xl, xr, xq])), (g, .inr (2, [.ref sh, .ref al, .int gr, .ref g_b, .ref g_t])), (al, .inr (6, [.int lm, .ref ed, .int lz])), (ed, .inl (cA 5, ln, .inr (.inr (.inr (.inr lf))))), (sh, .inr (4, [.int zw, .int zh, .long zA, .long zL, .long zR, .long zE]))]) [0, 1, 2, 3, 4] (by decide) rfl
            obtain rfl := Option.some.inj h
            refine vx_ret ?_
            exact W.iret hx hb hr (fun t ht hW => ⟨⟨_, (), rfl, ⟨_, rfl, rfl, rfl⟩, ⟨by rw [ht]; exact hP9, hK.warm hW, hD9⟩⟩, hS.F ht⟩) hS.2.2 dX1_count_98
          · replace h := ga_iff c_25 h
            by_cases c_55 : x1 = 4
            · replace h := ga_ift c_55 h
              refine lv_tableIn (off := 88) (tgt := 99) hx hb dX1_count_11 (by rw [c_55]; decide) (by rw [c_55]; decide) (by rw [c_55]; rfl) (by decide) ?_
              refine lv_aload_n hx hb dX1_count_99 rfl (lv_at hl 0 rfl) ?_
              refine va_get hx hb hts in_X1 hown hK.1 hP 0 (fs := [.ref g, xs, xp, .ref xi, .int xl, xr, xq]) rfl rfl 0 (by decide) (hts _ q350) (fun _ hh => hh) (v := .ref g) rfl dX1_count_100 ?_
              obtain ⟨i_66, h⟩ := ga_gif h
              obtain ⟨r_56, b_57, w_58, t_59, e_60, v_61, bs_62, ba_63, bc_64, bg_65, f_67, q_68, hn_69⟩ := (ga_poK.at (B := A) hR hS (fun _ h => h)) (ix (lz - 1)) i_66
              have hP : va_P D ga_cl [(x, .inr (1, [.ref g, xs, xp, .ref xi, .int xl, xr, xq])), (g, .inr (2, [.ref sh, .ref al, .int gr, .ref g_b, .ref g_t])), (al, .inr (6, [.int lm, .ref ed, .int lz])), (ed, .inl (cA 5, ln, .inr (.inr (.inr (.inr lf))))), (sh, .inr (4, [.int zw, .int zh, .long zA, .long zL, .long zR, .long zE])), (r_56, .inr (5, [.int (q1 (ix (lz - 1))), .int (q2 (ix (lz - 1))), .ref b_57, .ref w_58, .int (qN (ix (lz - 1))), .ref t_59, .ref e_60, .ref v_61])), (w_58, .inl (cA 0, 8, .inl (qW (ix (lz - 1))))), (t_59, .inl (cA 0, 2, .inl (qP (ix (lz - 1))))), (e_60, .inl (cA 0, 49, .inl (qR (ix (lz - 1))))), (v_61, .inl (cA 0, 49, .inl (qV (ix (lz - 1))))), (b_57, .inr (3, [.ref bs_62, .ref ba_63, .long (qB (ix (lz - 1))), .ref bc_64, .ref bg_65])), (bs_62, .inl (cA 1, 2, .inr (.inl (qS (ix (lz - 1)))))), (ba_63, .inl (cA 1, 2, .inr (.inl (qA (ix (lz - 1)))))), (bc_64, .inl (cA 0, 2, .inl (qC (ix (lz - 1))))), (bg_65, .inl (cA 1, 2, .inr (.inl (qG (ix (lz - 1))))))] H_10 := hP.app q_68
              have hr_70 : ga_ro D [(r_56, .inr (5, [.int (q1 (ix (lz - 1))), .int (q2 (ix (lz - 1))), .ref b_57, .ref w_58, .int (qN (ix (lz - 1))), .ref t_59, .ref e_60, .ref v_61])), (w_58, .inl (cA 0, 8, .inl (qW (ix (lz - 1))))), (t_59, .inl (cA 0, 2, .inl (qP (ix (lz - 1))))), (e_60, .inl (cA 0, 49, .inl (qR (ix (lz - 1))))), (v_61, .inl (cA 0, 49, .inl (qV (ix (lz - 1))))), (b_57, .inr (3, [.ref bs_62, .ref ba_63, .long (qB (ix (lz - 1))), .ref bc_64, .ref bg_65])), (bs_62, .inl (cA 1, 2, .inr (.inl (qS (ix (lz - 1)))))), (ba_63, .inl (cA 1, 2, .inr (.inl (qA (ix (lz - 1)))))), (bc_64, .inl (cA 0, 2, .inl (qC (ix (lz - 1))))), (bg_65, .inl (cA 1, 2, .inr (.inl (qG (ix (lz - 1))))))] A s H_10 := ⟨q_68, hn_69⟩
              obtain ⟨r_71, e_72, h⟩ := ga_gb h
              refine va_csr (va_Run.run (va_runV (As := []) (rest := []) ⟨hx, hb, hml, hown, hts⟩ (met_X2_board l D cA g sh al g_b g_t ed lf r_56 b_57 w_58 t_59 e_60 v_61 gr lm lz ln (q1 (ix (lz - 1))) (q2 (ix (lz - 1))) (qN (ix (lz - 1))) N f_67 r_71 e_72) (cwV 0 hts (lw_V q565 q385 q386 q68 q387) rfl rfl rfl (by decide +kernel) ⟨Nat.le_of_ble_eq_true rfl, Nat.le_of_ble_eq_true rfl⟩) (ga_PV hK (hP.sub (ws' := [(g, .inr (2, [.ref sh, .ref al, .int gr, .ref g_b, .ref g_t])), (al, .inr (6, [.int lm, .ref ed, .int lz])), (ed, .inl (cA 5, ln, .inr (.inr (.inr (.inr lf))))), (r_56, .inr (5, [.int (q1 (ix (lz - 1))), .int (q2 (ix (lz - 1))), .ref b_57, .ref w_58, .int (qN (ix (lz - 1))), .ref t_59, .ref e_60, .ref v_61]))]) [1, 2, 3, 5] rfl) (va_recv hK.1 hP (ci := 2) (q0 := 1) rfl rfl)) rfl rfl hl.1 rfl (lv_room (Nat.le_of_ble_eq_true rfl)) dX1_count_103 ⟨Nat.le_of_ble_eq_true rfl, Nat.le_of_ble_eq_true rfl⟩)) (fun _ _ => ?_)
              refine va_getN hx hb hts in_X3 hown hK.1 hP 10 (fs := [.ref bs_62, .ref ba_63, .long (qB (ix (lz - 1))), .ref bc_64, .ref bg_65]) rfl rfl 2 (by decide) (ga_nu hK q160 rfl) (fun _ hh => hh) (v := .long (qB (ix (lz - 1)))) rfl dX1_count_106 ?_
              refine vp_callSi (va_Run.run (va_runS (As := [.long (qB (ix (lz - 1)))]) (rest := []) ⟨hx, hb, hml, hown, hts⟩ (met_X1_size l D cA N (qB (ix (lz - 1))) (V_J13_bitCount (qB (ix (lz - 1)))) rfl) (va_cwS 1 hts (lw_S q567 q568 q67 q569) rfl rfl rfl (by decide +kernel) ⟨Nat.le_of_ble_eq_true rfl, Nat.le_of_ble_eq_true rfl⟩) (ga_PS hK ga_P0) rfl rfl hl.1 rfl (lv_room (Nat.le_of_ble_eq_true rfl)) dX1_count_109 ⟨Nat.le_of_ble_eq_true rfl, Nat.le_of_ble_eq_true rfl⟩)) (fun z_77 w_78 => ?_)
              obtain rfl := w_78
              have hP9 := hP.sub (ws' := [(x, .inr (1, [.ref g, xs, xp, .ref xi, .int xl, xr, xq])), (g, .inr (2, [.ref sh, .ref al, .int gr, .ref g_b, .ref g_t])), (al, .inr (6, [.int lm, .ref ed, .int lz])), (ed, .inl (cA 5, ln, .inr (.inr (.inr (.inr lf))))), (sh, .inr (4, [.int zw, .int zh, .long zA, .long zL, .long zR, .long zE]))]) [0, 1, 2, 3, 4] rfl
              have hD9 := hD.sub (ws' := [(x, .inr (1, [.ref g, xs, xp, .ref xi, .int xl, xr, xq])), (g, .inr (2, [.ref sh, .ref al, .int gr, .ref g_b, .ref g_t])), (al, .inr (6, [.int lm, .ref ed, .int lz])), (ed, .inl (cA 5, ln, .inr (.inr (.inr (.inr lf))))), (sh, .inr (4, [.int zw, .int zh, .long zA, .long zL, .long zR, .long zE]))]) [0, 1, 2, 3, 4] (by decide) rfl
              obtain rfl := Option.some.inj h
              refine vx_ret ?_
              exact W.iret hx hb hr (fun t ht hW => ⟨⟨_, (), rfl, ⟨_, rfl, rfl, rfl⟩, ⟨by rw [ht]; exact hP9, hK.warm hW, hD9⟩⟩, hS.F ht⟩) hS.2.2 dX1_count_112
            · replace h := ga_iff c_55 h
              by_cases c_80 : x1 = 5
              · replace h := ga_ift c_80 h
                refine lv_tableIn (off := 102) (tgt := 113) hx hb dX1_count_11 (by rw [c_80]; decide) (by rw [c_80]; decide) (by rw [c_80]; rfl) (by decide) ?_
                refine lv_aload_n hx hb dX1_count_113 rfl (lv_at hl 0 rfl) ?_
                refine lv_iconst (v := 2) hx hb dX1_count_114 (by decide) ?_
                obtain ⟨r_81, e_82, h⟩ := ga_gb h
                refine vp_callSi (va_Run.run (va_runV (As := [.int 2]) (rest := []) ⟨hx, hb, hml, hown, hts⟩ (met_X1_sum l D cA x g xs xp xi xr xq sh al g_b g_t ed lf xl gr lm lz ln np q1 q2 qN qW qP qR qV qB qS qA qG qC N 2 r_81 e_82) (cwV 1 hts (lw_V q914 q916 qs13 q67 q917) rfl rfl rfl (by decide +kernel) ⟨Nat.le_of_ble_eq_true rfl, Nat.le_of_ble_eq_true rfl⟩) (ga_PRV ga_poK (ga_poK.at (B := ga_F) hR hS (fun _ h => False.elim h)) hK (hP.sub (ws' := [(x, .inr (1, [.ref g, xs, xp, .ref xi, .int xl, xr, xq])), (g, .inr (2, [.ref sh, .ref al, .int gr, .ref g_b, .ref g_t])), (al, .inr (6, [.int lm, .ref ed, .int lz])), (ed, .inl (cA 5, ln, .inr (.inr (.inr (.inr lf)))))]) [0, 1, 2, 3] rfl) (va_recv hK.1 hP (ci := 1) (q0 := 0) rfl rfl)) rfl rfl hl.1 rfl (lv_room (Nat.le_of_ble_eq_true rfl)) dX1_count_115 ⟨Nat.le_of_ble_eq_true rfl, Nat.le_of_ble_eq_true rfl⟩)) (fun z_83 w_84 => ?_)
                obtain rfl := w_84
                have hP9 := hP.sub (ws' := [(x, .inr (1, [.ref g, xs, xp, .ref xi, .int xl, xr, xq])), (g, .inr (2, [.ref sh, .ref al, .int gr, .ref g_b, .ref g_t])), (al, .inr (6, [.int lm, .ref ed, .int lz])), (ed, .inl (cA 5, ln, .inr (.inr (.inr (.inr lf))))), (sh, .inr (4, [.int zw, .int zh, .long zA, .long zL, .long zR, .long zE]))]) [0, 1, 2, 3, 4] rfl
                have hD9 := hD.sub (ws' := [(x, .inr (1, [.ref g, xs, xp, .ref xi, .int xl, xr, xq])), (g, .inr (2, [.ref sh, .ref al, .int gr, .ref g_b, .ref g_t])), (al, .inr (6, [.int lm, .ref ed, .int lz])), (ed, .inl (cA 5, ln, .inr (.inr (.inr (.inr lf))))), (sh, .inr (4, [.int zw, .int zh, .long zA, .long zL, .long zR, .long zE]))]) [0, 1, 2, 3, 4] (by decide) rfl
                obtain rfl := Option.some.inj h
                refine vx_ret ?_
                exact W.iret hx hb hr (fun t ht hW => ⟨⟨_, (), rfl, ⟨_, rfl, rfl, rfl⟩, ⟨by rw [ht]; exact hP9, hK.warm hW, hD9⟩⟩, hS.F ht⟩) hS.2.2 dX1_count_118
              · replace h := ga_iff c_80 h
                have tc_17 := lv_neT c_17 (a := 0) (by decide)
                have tc_23 := lv_neT c_23 (a := 1) (by decide)
                have tc_24 := lv_neT c_24 (a := 2) (by decide)
                have tc_25 := lv_neT c_25 (a := 3) (by decide)
                have tc_55 := lv_neT c_55 (a := 4) (by decide)
                have tc_80 := lv_neT c_80 (a := 5) (by decide)
                refine lv_tableOut (tgt := 119) hx hb dX1_count_11 (by omega) (by decide) ?_
                refine lv_aload_n hx hb dX1_count_119 rfl (lv_at hl 0 rfl) ?_
                refine lv_iconst (v := 3) hx hb dX1_count_120 (by decide) ?_
                obtain ⟨r_86, e_87, h⟩ := ga_gb h
                refine vp_callSi (va_Run.run (va_runV (As := [.int 3]) (rest := []) ⟨hx, hb, hml, hown, hts⟩ (met_X1_sum l D cA x g xs xp xi xr xq sh al g_b g_t ed lf xl gr lm lz ln np q1 q2 qN qW qP qR qV qB qS qA qG qC N 3 r_86 e_87) (cwV 1 hts (lw_V q914 q916 qs13 q67 q917) rfl rfl rfl (by decide +kernel) ⟨Nat.le_of_ble_eq_true rfl, Nat.le_of_ble_eq_true rfl⟩) (ga_PRV ga_poK (ga_poK.at (B := ga_F) hR hS (fun _ h => False.elim h)) hK (hP.sub (ws' := [(x, .inr (1, [.ref g, xs, xp, .ref xi, .int xl, xr, xq])), (g, .inr (2, [.ref sh, .ref al, .int gr, .ref g_b, .ref g_t])), (al, .inr (6, [.int lm, .ref ed, .int lz])), (ed, .inl (cA 5, ln, .inr (.inr (.inr (.inr lf)))))]) [0, 1, 2, 3] rfl) (va_recv hK.1 hP (ci := 1) (q0 := 0) rfl rfl)) rfl rfl hl.1 rfl (lv_room (Nat.le_of_ble_eq_true rfl)) dX1_count_121 ⟨Nat.le_of_ble_eq_true rfl, Nat.le_of_ble_eq_true rfl⟩)) (fun z_88 w_89 => ?_)
                obtain rfl := w_89
                have hP9 := hP.sub (ws' := [(x, .inr (1, [.ref g, xs, xp, .ref xi, .int xl, xr, xq])), (g, .inr (2, [.ref sh, .ref al, .int gr, .ref g_b, .ref g_t])), (al, .inr (6, [.int lm, .ref ed, .int lz])), (ed, .inl (cA 5, ln, .inr (.inr (.inr (.inr lf))))), (sh, .inr (4, [.int zw, .int zh, .long zA, .long zL, .long zR, .long zE]))]) [0, 1, 2, 3, 4] rfl
                have hD9 := hD.sub (ws' := [(x, .inr (1, [.ref g, xs, xp, .ref xi, .int xl, xr, xq])), (g, .inr (2, [.ref sh, .ref al, .int gr, .ref g_b, .ref g_t])), (al, .inr (6, [.int lm, .ref ed, .int lz])), (ed, .inl (cA 5, ln, .inr (.inr (.inr (.inr lf))))), (sh, .inr (4, [.int zw, .int zh, .long zA, .long zL, .long zR, .long zE]))]) [0, 1, 2, 3, 4] (by decide) rfl
                obtain rfl := Option.some.inj h
                refine vx_ret ?_
                exact W.iret hx hb hr (fun t ht hW => ⟨⟨_, (), rfl, ⟨_, rfl, rfl, rfl⟩, ⟨by rw [ht]; exact hP9, hK.warm hW, hD9⟩⟩, hS.F ht⟩) hS.2.2 dX1_count_124
abbrev rm_X1_player : Room := { frames := 8, cells := 2, slots := 12, locals := 144 }
def F_X1_player (N : Nat) (xl : Int32) (gr : Int32) (lm : Int32) (lz : Int32) (ln : Nat) (gB : Nat → Int32) (zw : Int32) (zh : Int32) (zA : Int64) (zL : Int64) (zR : Int64) (zE : Int64) (np : Nat) (q1 : Nat → Int32) (q2 : Nat → Int32) (qN : Nat → Int32) (qW : Nat → Nat → Int32) (qP : Nat → Nat → Int32) (qR : Nat → Nat → Int32) (qV : Nat → Nat → Int32) (qB : Nat → Int64) (qS : Nat → Nat → Int64) (qA : Nat → Nat → Int64) (qG : Nat → Nat → Int64) (qC : Nat → Nat → Int32) (x1 : Int32) (x2 : Int32) : Option ((Int32 × Unit) ⊕ Nat) :=
  ((F_X1_checkPlayer N x1).bind fun r_1 => ga_sw r_1 (fun v_10 =>
  ((F_X1_inRange N x2 0 7).bind fun r_12 =>
  ((F_X1_checkArgument N r_12).bind fun r_17 => ga_sw r_17 (fun v_26 =>
  (if ix (lz - 1) < np then
  ((F_X2_board N gr lm lz ln (q1 (ix (lz - 1))) (q2 (ix (lz - 1))) (qN (ix (lz - 1)))).bind fun r_43 =>
  (if x2 = 0 then
  ((F_X2_score N gr gB (qB (ix (lz - 1))) (qA (ix (lz - 1))) (qC (ix (lz - 1))) x1).bind fun r_48 =>
  some (.inl (r_48, ())))
  else
  (if x2 = 1 then
  (if inb x1 2 = true then
  some (.inl ((V_J13_bitCount ((qS (ix (lz - 1))) (ix x1))), ()))
  else none)
  else
  (if x2 = 2 then
  (if inb x1 2 = true then
  some (.inl ((V_J13_bitCount ((qA (ix (lz - 1))) (ix x1))), ()))
  else none)
  else
  (if x2 = 3 then
  (if inb x1 2 = true then
  some (.inl (((qC (ix (lz - 1))) (ix x1)), ()))
  else none)
  else
  (if x2 = 4 then
  (if inb x1 2 = true then
  some (.inl ((gB (ix x1)), ()))
  else none)
  else
  (if x2 = 5 then
  ((F_X1_passes N xl gr lm lz ln np q1 q2 qN qW qP qR qV qB qS qA qG qC x1).bind fun r_72 =>
  some (.inl (r_72, ())))
  else
  (if x2 = 7 then
  ((F_X1_regions N xl gr lm lz ln (q1 (ix (lz - 1))) (q2 (ix (lz - 1))) (qN (ix (lz - 1))) (qB (ix (lz - 1))) (qS (ix (lz - 1))) (qA (ix (lz - 1))) zw zh zA zL zR zE x1 1).bind fun r_83 =>
  some (.inl (r_83, ())))
  else
  ((F_X1_regions N xl gr lm lz ln (q1 (ix (lz - 1))) (q2 (ix (lz - 1))) (qN (ix (lz - 1))) (qB (ix (lz - 1))) (qS (ix (lz - 1))) (qA (ix (lz - 1))) zw zh zA zL zR zE x1 0).bind fun r_78 =>
  some (.inl (r_78, ())))))))))))
  else none)) (fun u_22 =>
  some (.inr u_22))))) (fun u_6 =>
  some (.inr u_6)))
set_option maxHeartbeats 4000000 in
theorem met_X1_player (l : Launch) (D : va_G) (cA : Nat → ClassId) (A : Nat → Prop) (x : Nat) (g : Nat) (xs : Value) (xp : Value) (xi : Nat) (xr : Value) (xq : Value) (sh : Nat) (al : Nat) (g_b : Nat) (g_t : Nat) (ed : Nat) (lf : Nat → Option Nat) (zs : Nat → Nat) (xl : Int32) (gr : Int32) (lm : Int32) (lz : Int32) (ln : Nat) (gB : Nat → Int32) (zw : Int32) (zh : Int32) (zA : Int64) (zL : Int64) (zR : Int64) (zE : Int64) (np : Nat) (q1 : Nat → Int32) (q2 : Nat → Int32) (qN : Nat → Int32) (qW : Nat → Nat → Int32) (qP : Nat → Nat → Int32) (qR : Nat → Nat → Int32) (qV : Nat → Nat → Int32) (qB : Nat → Int64) (qS : Nat → Nat → Int64) (qA : Nat → Nat → Int64) (qG : Nat → Nat → Int64) (qC : Nat → Nat → Int32) (N : Nat) (x1 : Int32) (x2 : Int32)  (hstk : l.stackTraces = false) (out : (Int32 × Unit) ⊕ Nat) (h : F_X1_player N xl gr lm lz ln gB zw zh zA zL zR zE np q1 q2 qN qW qP qR qV qB qS qA qG qC x1 x2 = some out) : vx_Met l yX1_player (ws_ yX1_player cX1_player 4 (some .int)) rm_X1_player (ga_XR D cA zs A (ga_po D cA lf np q1 q2 qN qW qP qR qV qB qS qA qG qC) [(x, .inr (1, [.ref g, xs, xp, .ref xi, .int xl, xr, xq])), (g, .inr (2, [.ref sh, .ref al, .int gr, .ref g_b, .ref g_t])), (al, .inr (6, [.int lm, .ref ed, .int lz])), (ed, .inl (cA 5, ln, .inr (.inr (.inr (.inr lf))))), (g_b, .inl (cA 0, 2, .inl gB)), (sh, .inr (4, [.int zw, .int zh, .long zA, .long zL, .long zR, .long zE]))] [.ref x, .int x1, .int x2]) (va_Qi (fun (r : Int32) (u : Unit) => ∃ v, out = .inl v ∧ (v.1 = r) ∧ v.2 = u) (fun (u : Unit) (t : State) => va_P D ga_cl [(x, .inr (1, [.ref g, xs, xp, .ref xi, .int xl, xr, xq])), (g, .inr (2, [.ref sh, .ref al, .int gr, .ref g_b, .ref g_t])), (al, .inr (6, [.int lm, .ref ed, .int lz])), (ed, .inl (cA 5, ln, .inr (.inr (.inr (.inr lf))))), (g_b, .inl (cA 0, 2, .inl gB)), (sh, .inr (4, [.int zw, .int zh, .long zA, .long zL, .long zR, .long zE]))] t.heap ∧ ga_K D cA t ∧ va_D A [(x, .inr (1, [.ref g, xs, xp, .ref xi, .int xl, xr, xq])), (g, .inr (2, [.ref sh, .ref al, .int gr, .ref g_b, .ref g_t])), (al, .inr (6, [.int lm, .ref ed, .int lz])), (ed, .inl (cA 5, ln, .inr (.inr (.inr (.inr lf))))), (g_b, .inl (cA 0, 2, .inl gB)), (sh, .inr (4, [.int zw, .int zh, .long zA, .long zL, .long zR, .long zE]))]) A) (vx_X (fun (u : Nat) => out = .inr u) (fun (E : String) (q9 : Nat) (u : Nat) (t : State) => E = ga_en u ∧ va_P D ga_cl [(x, .inr (1, [.ref g, xs, xp, .ref xi, .int xl, xr, xq])), (g, .inr (2, [.ref sh, .ref al, .int gr, .ref g_b, .ref g_t])), (al, .inr (6, [.int lm, .ref ed, .int lz])), (ed, .inl (cA 5, ln, .inr (.inr (.inr (.inr lf))))), (g_b, .inl (cA 0, 2, .inl gB)), (sh, .inr (4, [.int zw, .int zh, .long zA, .long zL, .long zR, .long zE]))] t.heap ∧ va_D A [(x, .inr (1, [.ref g, xs, xp, .ref xi, .int xl, xr, xq])), (g, .inr (2, [.ref sh, .ref al, .int gr, .ref g_b, .ref g_t])), (al, .inr (6, [.int lm, .ref ed, .int lz])), (ed, .inl (cA 5, ln, .inr (.inr (.inr (.inr lf))))), (g_b, .inl (cA 0, 2, .inl gB)), (sh, .inr (4, [.int zw, .int zh, .long zA, .long zL, .long zR, .long zE]))]) A) 2 12 A := by
  refine vx_ofW (cc := cX1_player) (maxL := 4) (ret := (some .int)) (by decide) rfl ?_
  intro p e s m args below meth c s₁ B hml htab hv
  have hX : ga_cx2 c l := ⟨htab, hstk⟩
  obtain ⟨rfl, hP, hK, hD, hA, hST, hR⟩ := hv
  have hS : va_S A s.heap s.heap [] := va_S.rf
  have C : ga_cx p m c meth s _ RX1 cX1_player 4 (some .int) := ga_cx_of B hml
  have C0 := C
  obtain ⟨hx, hb, hr, hlocks, hml, hown, hts⟩ := C0
  have hl := lv_entry ([.ref x, .int x1, .int x2]) (n := 4) (Nat.le_of_ble_eq_true rfl)
  rw [lg_entry_eq]
  generalize (lg_sl ([.ref x, .int x1, .int x2]) ++ List.replicate (4 - (lg_sl ([.ref x, .int x1, .int x2])).length) Slot.unset).toArray = ls at hl ⊢
  have hl : lv_has ls 4 [(0, .ref x), (1, .int x1), (2, .int x2)] := hl
  rw [F_X1_player] at h
  refine lv_iload_n hx hb dX1_player_0 rfl (lv_at hl 1 rfl) ?_
  obtain ⟨r_1, e_2, h⟩ := ga_gb h
  have hFc := va_free (wc := []) hD hS hA [] rfl
  refine vx_callv (vx_runS (As := [.int x1]) (rest := []) ⟨hx, hb, hml, hown, hts⟩ (met_X1_checkPlayer l D cA (va_A [] s.heap.size) zs N x1 hX.2 r_1 e_2) (va_cwS 1 hts (lw_S q622 q623 q67 q624) rfl rfl rfl (by decide +kernel) ⟨Nat.le_of_ble_eq_true rfl, Nat.le_of_ble_eq_true rfl⟩) (ga_XS hK ga_P0 (hD.sub (ws' := []) [] (by decide) rfl).self (fun _ hq => Or.inr hq) (hST.at hS hFc)) rfl rfl hl.1 rfl (lv_room (Nat.le_of_ble_eq_true rfl)) dX1_player_1 ⟨Nat.le_of_ble_eq_true rfl, Nat.le_of_ble_eq_true rfl⟩) hS (fun q _ hq => hFc q hq) hFc (fun q _ hq => hFc q hq) (fun E_8 ce q_9 u_6 t H_7 locs ht _ w_4 hB _ hk hS hce hcv hcl => ?_) (fun u_6 t H_5 locs ht _ w_4 hB _ hk hS => ?_)
  · replace h := ga_swr w_4 h
    obtain ⟨eE, hP1, hD1⟩ := hB
    rw [ht] at hP1
    obtain ⟨hP, hD⟩ := va_join (wr := [(x, .inr (1, [.ref g, xs, xp, .ref xi, .int xl, xr, xq])), (g, .inr (2, [.ref sh, .ref al, .int gr, .ref g_b, .ref g_t])), (al, .inr (6, [.int lm, .ref ed, .int lz])), (ed, .inl (cA 5, ln, .inr (.inr (.inr (.inr lf))))), (g_b, .inl (cA 0, 2, .inl gB)), (sh, .inr (4, [.int zw, .int zh, .long zA, .long zL, .long zR, .long zE]))]) (w1 := []) hP hD [] [0, 1, 2, 3, 4, 5] rfl rfl (by decide) (by decide) hk hFc hP1 hD1
    have hP : va_P D ga_cl [(x, .inr (1, [.ref g, xs, xp, .ref xi, .int xl, xr, xq])), (g, .inr (2, [.ref sh, .ref al, .int gr, .ref g_b, .ref g_t])), (al, .inr (6, [.int lm, .ref ed, .int lz])), (ed, .inl (cA 5, ln, .inr (.inr (.inr (.inr lf))))), (g_b, .inl (cA 0, 2, .inl gB)), (sh, .inr (4, [.int zw, .int zh, .long zA, .long zL, .long zR, .long zE]))] H_7 := hP
    have hD : va_D A [(x, .inr (1, [.ref g, xs, xp, .ref xi, .int xl, xr, xq])), (g, .inr (2, [.ref sh, .ref al, .int gr, .ref g_b, .ref g_t])), (al, .inr (6, [.int lm, .ref ed, .int lz])), (ed, .inl (cA 5, ln, .inr (.inr (.inr (.inr lf))))), (g_b, .inl (cA 0, 2, .inl gB)), (sh, .inr (4, [.int zw, .int zh, .long zA, .long zL, .long zR, .long zE]))] := hD
    have hP9 := hP.sub (ws' := [(x, .inr (1, [.ref g, xs, xp, .ref xi, .int xl, xr, xq])), (g, .inr (2, [.ref sh, .ref al, .int gr, .ref g_b, .ref g_t])), (al, .inr (6, [.int lm, .ref ed, .int lz])), (ed, .inl (cA 5, ln, .inr (.inr (.inr (.inr lf))))), (g_b, .inl (cA 0, 2, .inl gB)), (sh, .inr (4, [.int zw, .int zh, .long zA, .long zL, .long zR, .long zE]))]) [0, 1, 2, 3, 4, 5] rfl
    have hD9 := hD.sub (ws' := [(x, .inr (1, [.ref g, xs, xp, .ref xi, .int xl, xr, xq])), (g, .inr (2, [.ref sh, .ref al, .int gr, .ref g_b, .ref g_t])), (al, .inr (6, [.int lm, .ref ed, .int lz])), (ed, .inl (cA 5, ln, .inr (.inr (.inr (.inr lf))))), (g_b, .inl (cA 0, 2, .inl gB)), (sh, .inr (4, [.int zw, .int zh, .long zA, .long zL, .long zR, .long zE]))]) [0, 1, 2, 3, 4, 5] (by decide) rfl
    obtain rfl := Option.some.inj h
    exact vx_out (fun x hx9 => (hX.1 x hx9).elim) hlocks hce hcv hcl (fun t ht _ => ⟨u_6, rfl, ⟨eE, by rw [ht]; exact hP9, hD9⟩, hS.F ht⟩) hS.2.2 (by decide) (by decide)
  · obtain ⟨v_10, ev_10, hv9⟩ := w_4
    replace h := ga_swl ev_10 h
    obtain rfl := hv9
    obtain ⟨hP1, -, hD1⟩ := hB
    rw [ht] at hP1
    obtain ⟨hP, hD⟩ := va_join (wr := [(x, .inr (1, [.ref g, xs, xp, .ref xi, .int xl, xr, xq])), (g, .inr (2, [.ref sh, .ref al, .int gr, .ref g_b, .ref g_t])), (al, .inr (6, [.int lm, .ref ed, .int lz])), (ed, .inl (cA 5, ln, .inr (.inr (.inr (.inr lf))))), (g_b, .inl (cA 0, 2, .inl gB)), (sh, .inr (4, [.int zw, .int zh, .long zA, .long zL, .long zR, .long zE]))]) (w1 := []) hP hD [] [0, 1, 2, 3, 4, 5] rfl rfl (by decide) (by decide) hk hFc hP1 hD1
    have hP : va_P D ga_cl [(x, .inr (1, [.ref g, xs, xp, .ref xi, .int xl, xr, xq])), (g, .inr (2, [.ref sh, .ref al, .int gr, .ref g_b, .ref g_t])), (al, .inr (6, [.int lm, .ref ed, .int lz])), (ed, .inl (cA 5, ln, .inr (.inr (.inr (.inr lf))))), (g_b, .inl (cA 0, 2, .inl gB)), (sh, .inr (4, [.int zw, .int zh, .long zA, .long zL, .long zR, .long zE]))] H_5 := hP
    have hD : va_D A [(x, .inr (1, [.ref g, xs, xp, .ref xi, .int xl, xr, xq])), (g, .inr (2, [.ref sh, .ref al, .int gr, .ref g_b, .ref g_t])), (al, .inr (6, [.int lm, .ref ed, .int lz])), (ed, .inl (cA 5, ln, .inr (.inr (.inr (.inr lf))))), (g_b, .inl (cA 0, 2, .inl gB)), (sh, .inr (4, [.int zw, .int zh, .long zA, .long zL, .long zR, .long zE]))] := hD
    refine W.cs (cells' := 1) (slots' := 6) rfl rfl ?_
    refine lv_iload_n hx hb dX1_player_4 rfl (lv_at hl 2 rfl) ?_
    refine lv_iconst (v := 0) hx hb dX1_player_5 (by decide) ?_
    refine lv_bipush (v := 7) hx hb dX1_player_6 (by decide) ?_
    obtain ⟨r_12, e_13, h⟩ := ga_gb h
    refine vp_callSi (va_Run.run (va_runS (As := [.int x2, .int 0, .int 7]) (rest := []) ⟨hx, hb, hml, hown, hts⟩ (met_X1_inRange l D cA N x2 0 7 r_12 e_13) (va_cwS 3 hts (lw_S q487 q488 q67 q489) rfl rfl rfl (by decide +kernel) ⟨Nat.le_of_ble_eq_true rfl, Nat.le_of_ble_eq_true rfl⟩) (ga_PS hK ga_P0) rfl rfl hl.1 rfl (lv_room (Nat.le_of_ble_eq_true rfl)) dX1_player_8 ⟨Nat.le_of_ble_eq_true rfl, Nat.le_of_ble_eq_true rfl⟩)) (fun z_14 w_15 => ?_)
    obtain ⟨rfl, b_16⟩ := w_15
    obtain ⟨r_17, e_18, h⟩ := ga_gb h
    have hFc := va_free (wc := []) hD hS hA [] rfl
    refine vx_callv (vx_runS (As := [.int r_12]) (rest := []) ⟨hx, hb, hml, hown, hts⟩ (met_X1_checkArgument l D cA (va_A [] H_5.size) zs N r_12 hX.2 r_17 e_18) (va_cwS 1 hts (lw_S q490 q491 q67 q492) rfl rfl rfl (by decide +kernel) ⟨Nat.le_of_ble_eq_true rfl, Nat.le_of_ble_eq_true rfl⟩) (ga_XS hK ga_P0 (hD.sub (ws' := []) [] (by decide) rfl).self (fun _ hq => Or.inr hq) (hST.at hS hFc)) rfl rfl hl.1 rfl (lv_room (Nat.le_of_ble_eq_true rfl)) dX1_player_11 ⟨Nat.le_of_ble_eq_true rfl, Nat.le_of_ble_eq_true rfl⟩) hS (fun q _ hq => hFc q hq) hFc (fun q _ hq => hFc q hq) (fun E_24 ce q_25 u_22 t H_23 locs ht _ w_20 hB _ hk hS hce hcv hcl => ?_) (fun u_22 t H_21 locs ht _ w_20 hB _ hk hS => ?_)
    · replace h := ga_swr w_20 h
      obtain ⟨eE, hP1, hD1⟩ := hB
      rw [ht] at hP1
      obtain ⟨hP, hD⟩ := va_join (wr := [(x, .inr (1, [.ref g, xs, xp, .ref xi, .int xl, xr, xq])), (g, .inr (2, [.ref sh, .ref al, .int gr, .ref g_b, .ref g_t])), (al, .inr (6, [.int lm, .ref ed, .int lz])), (ed, .inl (cA 5, ln, .inr (.inr (.inr (.inr lf))))), (g_b, .inl (cA 0, 2, .inl gB)), (sh, .inr (4, [.int zw, .int zh, .long zA, .long zL, .long zR, .long zE]))]) (w1 := []) hP hD [] [0, 1, 2, 3, 4, 5] rfl rfl (by decide) (by decide) hk hFc hP1 hD1
      have hP : va_P D ga_cl [(x, .inr (1, [.ref g, xs, xp, .ref xi, .int xl, xr, xq])), (g, .inr (2, [.ref sh, .ref al, .int gr, .ref g_b, .ref g_t])), (al, .inr (6, [.int lm, .ref ed, .int lz])), (ed, .inl (cA 5, ln, .inr (.inr (.inr (.inr lf))))), (g_b, .inl (cA 0, 2, .inl gB)), (sh, .inr (4, [.int zw, .int zh, .long zA, .long zL, .long zR, .long zE]))] H_23 := hP
      have hD : va_D A [(x, .inr (1, [.ref g, xs, xp, .ref xi, .int xl, xr, xq])), (g, .inr (2, [.ref sh, .ref al, .int gr, .ref g_b, .ref g_t])), (al, .inr (6, [.int lm, .ref ed, .int lz])), (ed, .inl (cA 5, ln, .inr (.inr (.inr (.inr lf))))), (g_b, .inl (cA 0, 2, .inl gB)), (sh, .inr (4, [.int zw, .int zh, .long zA, .long zL, .long zR, .long zE]))] := hD
      have hP9 := hP.sub (ws' := [(x, .inr (1, [.ref g, xs, xp, .ref xi, .int xl, xr, xq])), (g, .inr (2, [.ref sh, .ref al, .int gr, .ref g_b, .ref g_t])), (al, .inr (6, [.int lm, .ref ed, .int lz])), (ed, .inl (cA 5, ln, .inr (.inr (.inr (.inr lf))))), (g_b, .inl (cA 0, 2, .inl gB)), (sh, .inr (4, [.int zw, .int zh, .long zA, .long zL, .long zR, .long zE]))]) [0, 1, 2, 3, 4, 5] rfl
      have hD9 := hD.sub (ws' := [(x, .inr (1, [.ref g, xs, xp, .ref xi, .int xl, xr, xq])), (g, .inr (2, [.ref sh, .ref al, .int gr, .ref g_b, .ref g_t])), (al, .inr (6, [.int lm, .ref ed, .int lz])), (ed, .inl (cA 5, ln, .inr (.inr (.inr (.inr lf))))), (g_b, .inl (cA 0, 2, .inl gB)), (sh, .inr (4, [.int zw, .int zh, .long zA, .long zL, .long zR, .long zE]))]) [0, 1, 2, 3, 4, 5] (by decide) rfl
      obtain rfl := Option.some.inj h
      exact vx_out (fun x hx9 => (hX.1 x hx9).elim) hlocks hce hcv hcl (fun t ht _ => ⟨u_22, rfl, ⟨eE, by rw [ht]; exact hP9, hD9⟩, hS.F ht⟩) hS.2.2 (by decide) (by decide)
    · obtain ⟨v_26, ev_26, hv9⟩ := w_20
      replace h := ga_swl ev_26 h
      obtain rfl := hv9
      obtain ⟨hP1, -, hD1⟩ := hB
      rw [ht] at hP1
      obtain ⟨hP, hD⟩ := va_join (wr := [(x, .inr (1, [.ref g, xs, xp, .ref xi, .int xl, xr, xq])), (g, .inr (2, [.ref sh, .ref al, .int gr, .ref g_b, .ref g_t])), (al, .inr (6, [.int lm, .ref ed, .int lz])), (ed, .inl (cA 5, ln, .inr (.inr (.inr (.inr lf))))), (g_b, .inl (cA 0, 2, .inl gB)), (sh, .inr (4, [.int zw, .int zh, .long zA, .long zL, .long zR, .long zE]))]) (w1 := []) hP hD [] [0, 1, 2, 3, 4, 5] rfl rfl (by decide) (by decide) hk hFc hP1 hD1
      have hP : va_P D ga_cl [(x, .inr (1, [.ref g, xs, xp, .ref xi, .int xl, xr, xq])), (g, .inr (2, [.ref sh, .ref al, .int gr, .ref g_b, .ref g_t])), (al, .inr (6, [.int lm, .ref ed, .int lz])), (ed, .inl (cA 5, ln, .inr (.inr (.inr (.inr lf))))), (g_b, .inl (cA 0, 2, .inl gB)), (sh, .inr (4, [.int zw, .int zh, .long zA, .long zL, .long zR, .long zE]))] H_21 := hP
      have hD : va_D A [(x, .inr (1, [.ref g, xs, xp, .ref xi, .int xl, xr, xq])), (g, .inr (2, [.ref sh, .ref al, .int gr, .ref g_b, .ref g_t])), (al, .inr (6, [.int lm, .ref ed, .int lz])), (ed, .inl (cA 5, ln, .inr (.inr (.inr (.inr lf))))), (g_b, .inl (cA 0, 2, .inl gB)), (sh, .inr (4, [.int zw, .int zh, .long zA, .long zL, .long zR, .long zE]))] := hD
      refine W.cs (cells' := 2) (slots' := 12) rfl rfl ?_
      refine lv_aload_n hx hb dX1_player_14 rfl (lv_at hl 0 rfl) ?_
      refine va_get hx hb hts in_X1 hown hK.1 hP 0 (fs := [.ref g, xs, xp, .ref xi, .int xl, xr, xq]) rfl rfl 0 (by decide) (hts _ q350) (fun _ hh => hh) (v := .ref g) rfl dX1_player_15 ?_
      obtain ⟨i_38, h⟩ := ga_gif h
      obtain ⟨r_28, b_29, w_30, t_31, e_32, v_33, bs_34, ba_35, bc_36, bg_37, f_39, q_40, hn_41⟩ := (ga_poK.at (B := A) hR hS (fun _ h => h)) (ix (lz - 1)) i_38
      have hP : va_P D ga_cl [(x, .inr (1, [.ref g, xs, xp, .ref xi, .int xl, xr, xq])), (g, .inr (2, [.ref sh, .ref al, .int gr, .ref g_b, .ref g_t])), (al, .inr (6, [.int lm, .ref ed, .int lz])), (ed, .inl (cA 5, ln, .inr (.inr (.inr (.inr lf))))), (g_b, .inl (cA 0, 2, .inl gB)), (sh, .inr (4, [.int zw, .int zh, .long zA, .long zL, .long zR, .long zE])), (r_28, .inr (5, [.int (q1 (ix (lz - 1))), .int (q2 (ix (lz - 1))), .ref b_29, .ref w_30, .int (qN (ix (lz - 1))), .ref t_31, .ref e_32, .ref v_33])), (w_30, .inl (cA 0, 8, .inl (qW (ix (lz - 1))))), (t_31, .inl (cA 0, 2, .inl (qP (ix (lz - 1))))), (e_32, .inl (cA 0, 49, .inl (qR (ix (lz - 1))))), (v_33, .inl (cA 0, 49, .inl (qV (ix (lz - 1))))), (b_29, .inr (3, [.ref bs_34, .ref ba_35, .long (qB (ix (lz - 1))), .ref bc_36, .ref bg_37])), (bs_34, .inl (cA 1, 2, .inr (.inl (qS (ix (lz - 1)))))), (ba_35, .inl (cA 1, 2, .inr (.inl (qA (ix (lz - 1)))))), (bc_36, .inl (cA 0, 2, .inl (qC (ix (lz - 1))))), (bg_37, .inl (cA 1, 2, .inr (.inl (qG (ix (lz - 1))))))] H_21 := hP.app q_40
      have hr_42 : ga_ro D [(r_28, .inr (5, [.int (q1 (ix (lz - 1))), .int (q2 (ix (lz - 1))), .ref b_29, .ref w_30, .int (qN (ix (lz - 1))), .ref t_31, .ref e_32, .ref v_33])), (w_30, .inl (cA 0, 8, .inl (qW (ix (lz - 1))))), (t_31, .inl (cA 0, 2, .inl (qP (ix (lz - 1))))), (e_32, .inl (cA 0, 49, .inl (qR (ix (lz - 1))))), (v_33, .inl (cA 0, 49, .inl (qV (ix (lz - 1))))), (b_29, .inr (3, [.ref bs_34, .ref ba_35, .long (qB (ix (lz - 1))), .ref bc_36, .ref bg_37])), (bs_34, .inl (cA 1, 2, .inr (.inl (qS (ix (lz - 1)))))), (ba_35, .inl (cA 1, 2, .inr (.inl (qA (ix (lz - 1)))))), (bc_36, .inl (cA 0, 2, .inl (qC (ix (lz - 1))))), (bg_37, .inl (cA 1, 2, .inr (.inl (qG (ix (lz - 1))))))] A s H_21 := ⟨q_40, hn_41⟩
      obtain ⟨r_43, e_44, h⟩ := ga_gb h
      refine va_csr (va_Run.run (va_runV (As := []) (rest := []) ⟨hx, hb, hml, hown, hts⟩ (met_X2_board l D cA g sh al g_b g_t ed lf r_28 b_29 w_30 t_31 e_32 v_33 gr lm lz ln (q1 (ix (lz - 1))) (q2 (ix (lz - 1))) (qN (ix (lz - 1))) N f_39 r_43 e_44) (cwV 0 hts (lw_V q565 q385 q386 q68 q387) rfl rfl rfl (by decide +kernel) ⟨Nat.le_of_ble_eq_true rfl, Nat.le_of_ble_eq_true rfl⟩) (ga_PV hK (hP.sub (ws' := [(g, .inr (2, [.ref sh, .ref al, .int gr, .ref g_b, .ref g_t])), (al, .inr (6, [.int lm, .ref ed, .int lz])), (ed, .inl (cA 5, ln, .inr (.inr (.inr (.inr lf))))), (r_28, .inr (5, [.int (q1 (ix (lz - 1))), .int (q2 (ix (lz - 1))), .ref b_29, .ref w_30, .int (qN (ix (lz - 1))), .ref t_31, .ref e_32, .ref v_33]))]) [1, 2, 3, 6] rfl) (va_recv hK.1 hP (ci := 2) (q0 := 1) rfl rfl)) rfl rfl hl.1 rfl (lv_room (Nat.le_of_ble_eq_true rfl)) dX1_player_18 ⟨Nat.le_of_ble_eq_true rfl, Nat.le_of_ble_eq_true rfl⟩)) (fun _ _ => ?_)
      refine lv_astore_n (lv' := [(3, .ref b_29), (0, .ref x), (1, .int x1), (2, .int x2)]) hx hb dX1_player_21 rfl hl (by decide) rfl (fun ls hl => ?_)
      refine lv_iload_n hx hb dX1_player_22 rfl (lv_at hl 3 rfl) ?_
      by_cases c_47 : x2 = 0
      · replace h := ga_ift c_47 h
        refine lv_tableIn (off := 37) (tgt := 60) hx hb dX1_player_23 (by rw [c_47]; decide) (by rw [c_47]; decide) (by rw [c_47]; rfl) (by decide) ?_
        refine lv_aload_n hx hb dX1_player_60 rfl (lv_at hl 1 rfl) ?_
        refine va_get hx hb hts in_X1 hown hK.1 hP 0 (fs := [.ref g, xs, xp, .ref xi, .int xl, xr, xq]) rfl rfl 0 (by decide) (hts _ q350) (fun _ hh => hh) (v := .ref g) rfl dX1_player_61 ?_
        refine lv_aload_n hx hb dX1_player_64 rfl (lv_at hl 0 rfl) ?_
        refine lv_iload_n hx hb dX1_player_65 rfl (lv_at hl 2 rfl) ?_
        obtain ⟨r_48, e_49, h⟩ := ga_gb h
        refine vp_callSi (va_Run.run (va_runV (As := [.ref b_29, .int x1]) (rest := []) ⟨hx, hb, hml, hown, hts⟩ (met_X2_score l D cA g sh al g_b g_t b_29 bs_34 ba_35 bc_36 bg_37 gr gB (qB (ix (lz - 1))) (qA (ix (lz - 1))) (qC (ix (lz - 1))) N x1 r_48 e_49) (cwV 2 hts (lw_V q935 q805 q806 q68 q807) rfl rfl rfl (by decide +kernel) ⟨Nat.le_of_ble_eq_true rfl, Nat.le_of_ble_eq_true rfl⟩) (ga_PV hK (hP.sub (ws' := [(g, .inr (2, [.ref sh, .ref al, .int gr, .ref g_b, .ref g_t])), (g_b, .inl (cA 0, 2, .inl gB)), (b_29, .inr (3, [.ref bs_34, .ref ba_35, .long (qB (ix (lz - 1))), .ref bc_36, .ref bg_37])), (ba_35, .inl (cA 1, 2, .inr (.inl (qA (ix (lz - 1)))))), (bc_36, .inl (cA 0, 2, .inl (qC (ix (lz - 1)))))]) [1, 4, 11, 13, 14] rfl) (va_recv hK.1 hP (ci := 2) (q0 := 1) rfl rfl)) rfl rfl hl.1 rfl (lv_room (Nat.le_of_ble_eq_true rfl)) dX1_player_66 ⟨Nat.le_of_ble_eq_true rfl, Nat.le_of_ble_eq_true rfl⟩)) (fun z_50 w_51 => ?_)
        obtain rfl := w_51
        have hP9 := hP.sub (ws' := [(x, .inr (1, [.ref g, xs, xp, .ref xi, .int xl, xr, xq])), (g, .inr (2, [.ref sh, .ref al, .int gr, .ref g_b, .ref g_t])), (al, .inr (6, [.int lm, .ref ed, .int lz])), (ed, .inl (cA 5, ln, .inr (.inr (.inr (.inr lf))))), (g_b, .inl (cA 0, 2, .inl gB)), (sh, .inr (4, [.int zw, .int zh, .long zA, .long zL, .long zR, .long zE]))]) [0, 1, 2, 3, 4, 5] rfl
        have hD9 := hD.sub (ws' := [(x, .inr (1, [.ref g, xs, xp, .ref xi, .int xl, xr, xq])), (g, .inr (2, [.ref sh, .ref al, .int gr, .ref g_b, .ref g_t])), (al, .inr (6, [.int lm, .ref ed, .int lz])), (ed, .inl (cA 5, ln, .inr (.inr (.inr (.inr lf))))), (g_b, .inl (cA 0, 2, .inl gB)), (sh, .inr (4, [.int zw, .int zh, .long zA, .long zL, .long zR, .long zE]))]) [0, 1, 2, 3, 4, 5] (by decide) rfl
        obtain rfl := Option.some.inj h
        refine vx_ret ?_
        exact W.iret hx hb hr (fun t ht hW => ⟨⟨_, (), rfl, ⟨_, rfl, rfl, rfl⟩, ⟨by rw [ht]; exact hP9, hK.warm hW, hD9⟩⟩, hS.F ht⟩) hS.2.2 dX1_player_69
      · replace h := ga_iff c_47 h
        by_cases c_53 : x2 = 1
        · replace h := ga_ift c_53 h
          refine lv_tableIn (off := 47) (tgt := 70) hx hb dX1_player_23 (by rw [c_53]; decide) (by rw [c_53]; decide) (by rw [c_53]; rfl) (by decide) ?_
          refine lv_aload_n hx hb dX1_player_70 rfl (lv_at hl 0 rfl) ?_
          refine va_getN hx hb hts in_X3 hown hK.1 hP 11 (fs := [.ref bs_34, .ref ba_35, .long (qB (ix (lz - 1))), .ref bc_36, .ref bg_37]) rfl rfl 0 (by decide) (ga_nu hK q156 rfl) (fun _ hh => hh) (v := .ref bs_34) rfl dX1_player_71 ?_
          refine lv_iload_n hx hb dX1_player_74 rfl (lv_at hl 2 rfl) ?_
          obtain ⟨i_54, h⟩ := ga_gif h
          refine va_lald hx hb hK.1 hP 12 1 (f := (qS (ix (lz - 1)))) rfl rfl (ga_in i_54) dX1_player_75 ?_
          refine vp_callSi (va_Run.run (va_runS (As := [.long ((qS (ix (lz - 1))) (ix x1))]) (rest := []) ⟨hx, hb, hml, hown, hts⟩ (met_X1_size l D cA N ((qS (ix (lz - 1))) (ix x1)) (V_J13_bitCount ((qS (ix (lz - 1))) (ix x1))) rfl) (va_cwS 1 hts (lw_S q567 q568 q67 q569) rfl rfl rfl (by decide +kernel) ⟨Nat.le_of_ble_eq_true rfl, Nat.le_of_ble_eq_true rfl⟩) (ga_PS hK ga_P0) rfl rfl hl.1 rfl (lv_room (Nat.le_of_ble_eq_true rfl)) dX1_player_76 ⟨Nat.le_of_ble_eq_true rfl, Nat.le_of_ble_eq_true rfl⟩)) (fun z_57 w_58 => ?_)
          obtain rfl := w_58
          have hP9 := hP.sub (ws' := [(x, .inr (1, [.ref g, xs, xp, .ref xi, .int xl, xr, xq])), (g, .inr (2, [.ref sh, .ref al, .int gr, .ref g_b, .ref g_t])), (al, .inr (6, [.int lm, .ref ed, .int lz])), (ed, .inl (cA 5, ln, .inr (.inr (.inr (.inr lf))))), (g_b, .inl (cA 0, 2, .inl gB)), (sh, .inr (4, [.int zw, .int zh, .long zA, .long zL, .long zR, .long zE]))]) [0, 1, 2, 3, 4, 5] rfl
          have hD9 := hD.sub (ws' := [(x, .inr (1, [.ref g, xs, xp, .ref xi, .int xl, xr, xq])), (g, .inr (2, [.ref sh, .ref al, .int gr, .ref g_b, .ref g_t])), (al, .inr (6, [.int lm, .ref ed, .int lz])), (ed, .inl (cA 5, ln, .inr (.inr (.inr (.inr lf))))), (g_b, .inl (cA 0, 2, .inl gB)), (sh, .inr (4, [.int zw, .int zh, .long zA, .long zL, .long zR, .long zE]))]) [0, 1, 2, 3, 4, 5] (by decide) rfl
          obtain rfl := Option.some.inj h
          refine vx_ret ?_
          exact W.iret hx hb hr (fun t ht hW => ⟨⟨_, (), rfl, ⟨_, rfl, rfl, rfl⟩, ⟨by rw [ht]; exact hP9, hK.warm hW, hD9⟩⟩, hS.F ht⟩) hS.2.2 dX1_player_79
        · replace h := ga_iff c_53 h
          by_cases c_60 : x2 = 2
          · replace h := ga_ift c_60 h
            refine lv_tableIn (off := 57) (tgt := 80) hx hb dX1_player_23 (by rw [c_60]; decide) (by rw [c_60]; decide) (by rw [c_60]; rfl) (by decide) ?_
            refine lv_aload_n hx hb dX1_player_80 rfl (lv_at hl 0 rfl) ?_
            refine va_getN hx hb hts in_X3 hown hK.1 hP 11 (fs := [.ref bs_34, .ref ba_35, .long (qB (ix (lz - 1))), .ref bc_36, .ref bg_37]) rfl rfl 1 (by decide) (ga_nu hK q158 rfl) (fun _ hh => hh) (v := .ref ba_35) rfl dX1_player_81 ?_
            refine lv_iload_n hx hb dX1_player_84 rfl (lv_at hl 2 rfl) ?_
            obtain ⟨i_61, h⟩ := ga_gif h
            refine va_lald hx hb hK.1 hP 13 1 (f := (qA (ix (lz - 1)))) rfl rfl (ga_in i_61) dX1_player_85 ?_
            refine vp_callSi (va_Run.run (va_runS (As := [.long ((qA (ix (lz - 1))) (ix x1))]) (rest := []) ⟨hx, hb, hml, hown, hts⟩ (met_X1_size l D cA N ((qA (ix (lz - 1))) (ix x1)) (V_J13_bitCount ((qA (ix (lz - 1))) (ix x1))) rfl) (va_cwS 1 hts (lw_S q567 q568 q67 q569) rfl rfl rfl (by decide +kernel) ⟨Nat.le_of_ble_eq_true rfl, Nat.le_of_ble_eq_true rfl⟩) (ga_PS hK ga_P0) rfl rfl hl.1 rfl (lv_room (Nat.le_of_ble_eq_true rfl)) dX1_player_86 ⟨Nat.le_of_ble_eq_true rfl, Nat.le_of_ble_eq_true rfl⟩)) (fun z_64 w_65 => ?_)
            obtain rfl := w_65
            have hP9 := hP.sub (ws' := [(x, .inr (1, [.ref g, xs, xp, .ref xi, .int xl, xr, xq])), (g, .inr (2, [.ref sh, .ref al, .int gr, .ref g_b, .ref g_t])), (al, .inr (6, [.int lm, .ref ed, .int lz])), (ed, .inl (cA 5, ln, .inr (.inr (.inr (.inr lf))))), (g_b, .inl (cA 0, 2, .inl gB)), (sh, .inr (4, [.int zw, .int zh, .long zA, .long zL, .long zR, .long zE]))]) [0, 1, 2, 3, 4, 5] rfl
            have hD9 := hD.sub (ws' := [(x, .inr (1, [.ref g, xs, xp, .ref xi, .int xl, xr, xq])), (g, .inr (2, [.ref sh, .ref al, .int gr, .ref g_b, .ref g_t])), (al, .inr (6, [.int lm, .ref ed, .int lz])), (ed, .inl (cA 5, ln, .inr (.inr (.inr (.inr lf))))), (g_b, .inl (cA 0, 2, .inl gB)), (sh, .inr (4, [.int zw, .int zh, .long zA, .long zL, .long zR, .long zE]))]) [0, 1, 2, 3, 4, 5] (by decide) rfl
            obtain rfl := Option.some.inj h
            refine vx_ret ?_
            exact W.iret hx hb hr (fun t ht hW => ⟨⟨_, (), rfl, ⟨_, rfl, rfl, rfl⟩, ⟨by rw [ht]; exact hP9, hK.warm hW, hD9⟩⟩, hS.F ht⟩) hS.2.2 dX1_player_89
          · replace h := ga_iff c_60 h
            by_cases c_67 : x2 = 3
            · replace h := ga_ift c_67 h
              refine lv_tableIn (off := 67) (tgt := 90) hx hb dX1_player_23 (by rw [c_67]; decide) (by rw [c_67]; decide) (by rw [c_67]; rfl) (by decide) ?_
              refine lv_aload_n hx hb dX1_player_90 rfl (lv_at hl 0 rfl) ?_
              refine va_getN hx hb hts in_X3 hown hK.1 hP 11 (fs := [.ref bs_34, .ref ba_35, .long (qB (ix (lz - 1))), .ref bc_36, .ref bg_37]) rfl rfl 3 (by decide) (ga_nu hK q162 rfl) (fun _ hh => hh) (v := .ref bc_36) rfl dX1_player_91 ?_
              refine lv_iload_n hx hb dX1_player_94 rfl (lv_at hl 2 rfl) ?_
              obtain ⟨i_68, h⟩ := ga_gif h
              refine va_iald hx hb hK.1 hP 14 0 (f := (qC (ix (lz - 1)))) rfl rfl (ga_in i_68) dX1_player_95 ?_
              have hP9 := hP.sub (ws' := [(x, .inr (1, [.ref g, xs, xp, .ref xi, .int xl, xr, xq])), (g, .inr (2, [.ref sh, .ref al, .int gr, .ref g_b, .ref g_t])), (al, .inr (6, [.int lm, .ref ed, .int lz])), (ed, .inl (cA 5, ln, .inr (.inr (.inr (.inr lf))))), (g_b, .inl (cA 0, 2, .inl gB)), (sh, .inr (4, [.int zw, .int zh, .long zA, .long zL, .long zR, .long zE]))]) [0, 1, 2, 3, 4, 5] rfl
              have hD9 := hD.sub (ws' := [(x, .inr (1, [.ref g, xs, xp, .ref xi, .int xl, xr, xq])), (g, .inr (2, [.ref sh, .ref al, .int gr, .ref g_b, .ref g_t])), (al, .inr (6, [.int lm, .ref ed, .int lz])), (ed, .inl (cA 5, ln, .inr (.inr (.inr (.inr lf))))), (g_b, .inl (cA 0, 2, .inl gB)), (sh, .inr (4, [.int zw, .int zh, .long zA, .long zL, .long zR, .long zE]))]) [0, 1, 2, 3, 4, 5] (by decide) rfl
              obtain rfl := Option.some.inj h
              refine vx_ret ?_
              exact W.iret hx hb hr (fun t ht hW => ⟨⟨_, (), rfl, ⟨_, rfl, rfl, rfl⟩, ⟨by rw [ht]; exact hP9, hK.warm hW, hD9⟩⟩, hS.F ht⟩) hS.2.2 dX1_player_96
            · replace h := ga_iff c_67 h
              by_cases c_69 : x2 = 4
              · replace h := ga_ift c_69 h
                refine lv_tableIn (off := 74) (tgt := 97) hx hb dX1_player_23 (by rw [c_69]; decide) (by rw [c_69]; decide) (by rw [c_69]; rfl) (by decide) ?_
                refine lv_aload_n hx hb dX1_player_97 rfl (lv_at hl 1 rfl) ?_
                refine va_get hx hb hts in_X1 hown hK.1 hP 0 (fs := [.ref g, xs, xp, .ref xi, .int xl, xr, xq]) rfl rfl 0 (by decide) (hts _ q350) (fun _ hh => hh) (v := .ref g) rfl dX1_player_98 ?_
                refine va_getN hx hb hts in_X2 hown hK.1 hP 1 (fs := [.ref sh, .ref al, .int gr, .ref g_b, .ref g_t]) rfl rfl 3 (by decide) (ga_nu hK q335 rfl) (fun _ hh => hh) (v := .ref g_b) rfl dX1_player_101 ?_
                refine lv_iload_n hx hb dX1_player_104 rfl (lv_at hl 2 rfl) ?_
                obtain ⟨i_70, h⟩ := ga_gif h
                refine va_iald hx hb hK.1 hP 4 0 (f := gB) rfl rfl (ga_in i_70) dX1_player_105 ?_
                have hP9 := hP.sub (ws' := [(x, .inr (1, [.ref g, xs, xp, .ref xi, .int xl, xr, xq])), (g, .inr (2, [.ref sh, .ref al, .int gr, .ref g_b, .ref g_t])), (al, .inr (6, [.int lm, .ref ed, .int lz])), (ed, .inl (cA 5, ln, .inr (.inr (.inr (.inr lf))))), (g_b, .inl (cA 0, 2, .inl gB)), (sh, .inr (4, [.int zw, .int zh, .long zA, .long zL, .long zR, .long zE]))]) [0, 1, 2, 3, 4, 5] rfl
                have hD9 := hD.sub (ws' := [(x, .inr (1, [.ref g, xs, xp, .ref xi, .int xl, xr, xq])), (g, .inr (2, [.ref sh, .ref al, .int gr, .ref g_b, .ref g_t])), (al, .inr (6, [.int lm, .ref ed, .int lz])), (ed, .inl (cA 5, ln, .inr (.inr (.inr (.inr lf))))), (g_b, .inl (cA 0, 2, .inl gB)), (sh, .inr (4, [.int zw, .int zh, .long zA, .long zL, .long zR, .long zE]))]) [0, 1, 2, 3, 4, 5] (by decide) rfl
                obtain rfl := Option.some.inj h
                refine vx_ret ?_
                exact W.iret hx hb hr (fun t ht hW => ⟨⟨_, (), rfl, ⟨_, rfl, rfl, rfl⟩, ⟨by rw [ht]; exact hP9, hK.warm hW, hD9⟩⟩, hS.F ht⟩) hS.2.2 dX1_player_106
              · replace h := ga_iff c_69 h
                by_cases c_71 : x2 = 5
                · replace h := ga_ift c_71 h
                  refine lv_tableIn (off := 84) (tgt := 107) hx hb dX1_player_23 (by rw [c_71]; decide) (by rw [c_71]; decide) (by rw [c_71]; rfl) (by decide) ?_
                  refine lv_aload_n hx hb dX1_player_107 rfl (lv_at hl 1 rfl) ?_
                  refine lv_iload_n hx hb dX1_player_108 rfl (lv_at hl 2 rfl) ?_
                  obtain ⟨r_72, e_73, h⟩ := ga_gb h
                  refine vp_callSi (va_Run.run (va_runV (As := [.int x1]) (rest := []) ⟨hx, hb, hml, hown, hts⟩ (met_X1_passes l D cA x g xs xp xi xr xq sh al g_b g_t ed lf xl gr lm lz ln np q1 q2 qN qW qP qR qV qB qS qA qG qC N x1 r_72 e_73) (cwV 1 hts (lw_V q936 q938 qs14 q67 q939) rfl rfl rfl (by decide +kernel) ⟨Nat.le_of_ble_eq_true rfl, Nat.le_of_ble_eq_true rfl⟩) (ga_PRV ga_poK (ga_poK.at (B := ga_F) hR hS (fun _ h => False.elim h)) hK (hP.sub (ws' := [(x, .inr (1, [.ref g, xs, xp, .ref xi, .int xl, xr, xq])), (g, .inr (2, [.ref sh, .ref al, .int gr, .ref g_b, .ref g_t])), (al, .inr (6, [.int lm, .ref ed, .int lz])), (ed, .inl (cA 5, ln, .inr (.inr (.inr (.inr lf)))))]) [0, 1, 2, 3] rfl) (va_recv hK.1 hP (ci := 1) (q0 := 0) rfl rfl)) rfl rfl hl.1 rfl (lv_room (Nat.le_of_ble_eq_true rfl)) dX1_player_109 ⟨Nat.le_of_ble_eq_true rfl, Nat.le_of_ble_eq_true rfl⟩)) (fun z_74 w_75 => ?_)
                  obtain rfl := w_75
                  have hP9 := hP.sub (ws' := [(x, .inr (1, [.ref g, xs, xp, .ref xi, .int xl, xr, xq])), (g, .inr (2, [.ref sh, .ref al, .int gr, .ref g_b, .ref g_t])), (al, .inr (6, [.int lm, .ref ed, .int lz])), (ed, .inl (cA 5, ln, .inr (.inr (.inr (.inr lf))))), (g_b, .inl (cA 0, 2, .inl gB)), (sh, .inr (4, [.int zw, .int zh, .long zA, .long zL, .long zR, .long zE]))]) [0, 1, 2, 3, 4, 5] rfl
                  have hD9 := hD.sub (ws' := [(x, .inr (1, [.ref g, xs, xp, .ref xi, .int xl, xr, xq])), (g, .inr (2, [.ref sh, .ref al, .int gr, .ref g_b, .ref g_t])), (al, .inr (6, [.int lm, .ref ed, .int lz])), (ed, .inl (cA 5, ln, .inr (.inr (.inr (.inr lf))))), (g_b, .inl (cA 0, 2, .inl gB)), (sh, .inr (4, [.int zw, .int zh, .long zA, .long zL, .long zR, .long zE]))]) [0, 1, 2, 3, 4, 5] (by decide) rfl
                  obtain rfl := Option.some.inj h
                  refine vx_ret ?_
                  exact W.iret hx hb hr (fun t ht hW => ⟨⟨_, (), rfl, ⟨_, rfl, rfl, rfl⟩, ⟨by rw [ht]; exact hP9, hK.warm hW, hD9⟩⟩, hS.F ht⟩) hS.2.2 dX1_player_112
                · replace h := ga_iff c_71 h
                  have tc_47 := lv_neT c_47 (a := 0) (by decide)
                  have tc_53 := lv_neT c_53 (a := 1) (by decide)
                  have tc_60 := lv_neT c_60 (a := 2) (by decide)
                  have tc_67 := lv_neT c_67 (a := 3) (by decide)
                  have tc_69 := lv_neT c_69 (a := 4) (by decide)
                  have tc_71 := lv_neT c_71 (a := 5) (by decide)
                  refine lv_tableOut (tgt := 113) hx hb dX1_player_23 (by omega) (by decide) ?_
                  refine lv_aload_n hx hb dX1_player_113 rfl (lv_at hl 1 rfl) ?_
                  refine lv_iload_n hx hb dX1_player_114 rfl (lv_at hl 2 rfl) ?_
                  refine lv_iload_n hx hb dX1_player_115 rfl (lv_at hl 3 rfl) ?_
                  refine lv_bipush (v := 7) hx hb dX1_player_116 (by decide) ?_
                  refine lv_icmp_ne (tgt := 125) hx hb dX1_player_118 (by decide) (fun c_77 => ?_) (fun c_77 => ?_)
                  · replace h := ga_iff c_77 h
                    refine lv_iconst (v := 0) hx hb dX1_player_125 (by decide) ?_
                    obtain ⟨r_78, e_79, h⟩ := ga_gb h
                    refine vp_callSi (va_Run.run (va_runV (As := [.int x1, .int 0]) (rest := []) ⟨hx, hb, hml, hown, hts⟩ (met_X1_regions l D cA x g xs xp xi xr xq sh al g_b g_t ed lf r_28 b_29 w_30 t_31 e_32 v_33 bs_34 ba_35 bc_36 bg_37 xl gr lm lz ln (q1 (ix (lz - 1))) (q2 (ix (lz - 1))) (qN (ix (lz - 1))) (qB (ix (lz - 1))) (qS (ix (lz - 1))) (qA (ix (lz - 1))) zw zh zA zL zR zE N x1 0 f_39 r_78 e_79) (cwV 2 hts (lw_V q940 q942 qs15 q67 q943) rfl rfl rfl (by decide +kernel) ⟨Nat.le_of_ble_eq_true rfl, Nat.le_of_ble_eq_true rfl⟩) (ga_PV hK (hP.sub (ws' := [(x, .inr (1, [.ref g, xs, xp, .ref xi, .int xl, xr, xq])), (g, .inr (2, [.ref sh, .ref al, .int gr, .ref g_b, .ref g_t])), (al, .inr (6, [.int lm, .ref ed, .int lz])), (ed, .inl (cA 5, ln, .inr (.inr (.inr (.inr lf))))), (r_28, .inr (5, [.int (q1 (ix (lz - 1))), .int (q2 (ix (lz - 1))), .ref b_29, .ref w_30, .int (qN (ix (lz - 1))), .ref t_31, .ref e_32, .ref v_33])), (b_29, .inr (3, [.ref bs_34, .ref ba_35, .long (qB (ix (lz - 1))), .ref bc_36, .ref bg_37])), (bs_34, .inl (cA 1, 2, .inr (.inl (qS (ix (lz - 1)))))), (ba_35, .inl (cA 1, 2, .inr (.inl (qA (ix (lz - 1)))))), (sh, .inr (4, [.int zw, .int zh, .long zA, .long zL, .long zR, .long zE]))]) [0, 1, 2, 3, 6, 11, 12, 13, 5] rfl) (va_recv hK.1 hP (ci := 1) (q0 := 0) rfl rfl)) rfl rfl hl.1 rfl (lv_room (Nat.le_of_ble_eq_true rfl)) dX1_player_126 ⟨Nat.le_of_ble_eq_true rfl, Nat.le_of_ble_eq_true rfl⟩)) (fun z_80 w_81 => ?_)
                    obtain rfl := w_81
                    have hP9 := hP.sub (ws' := [(x, .inr (1, [.ref g, xs, xp, .ref xi, .int xl, xr, xq])), (g, .inr (2, [.ref sh, .ref al, .int gr, .ref g_b, .ref g_t])), (al, .inr (6, [.int lm, .ref ed, .int lz])), (ed, .inl (cA 5, ln, .inr (.inr (.inr (.inr lf))))), (g_b, .inl (cA 0, 2, .inl gB)), (sh, .inr (4, [.int zw, .int zh, .long zA, .long zL, .long zR, .long zE]))]) [0, 1, 2, 3, 4, 5] rfl
                    have hD9 := hD.sub (ws' := [(x, .inr (1, [.ref g, xs, xp, .ref xi, .int xl, xr, xq])), (g, .inr (2, [.ref sh, .ref al, .int gr, .ref g_b, .ref g_t])), (al, .inr (6, [.int lm, .ref ed, .int lz])), (ed, .inl (cA 5, ln, .inr (.inr (.inr (.inr lf))))), (g_b, .inl (cA 0, 2, .inl gB)), (sh, .inr (4, [.int zw, .int zh, .long zA, .long zL, .long zR, .long zE]))]) [0, 1, 2, 3, 4, 5] (by decide) rfl
                    obtain rfl := Option.some.inj h
                    refine vx_ret ?_
                    exact W.iret hx hb hr (fun t ht hW => ⟨⟨_, (), rfl, ⟨_, rfl, rfl, rfl⟩, ⟨by rw [ht]; exact hP9, hK.warm hW, hD9⟩⟩, hS.F ht⟩) hS.2.2 dX1_player_129
                  · replace h := ga_ift c_77 h
                    refine lv_iconst (v := 1) hx hb dX1_player_121 (by decide) ?_
                    refine lv_goto (tgt := 126) hx hb dX1_player_122 (by decide) ?_
                    obtain ⟨r_83, e_84, h⟩ := ga_gb h
                    refine vp_callSi (va_Run.run (va_runV (As := [.int x1, .int 1]) (rest := []) ⟨hx, hb, hml, hown, hts⟩ (met_X1_regions l D cA x g xs xp xi xr xq sh al g_b g_t ed lf r_28 b_29 w_30 t_31 e_32 v_33 bs_34 ba_35 bc_36 bg_37 xl gr lm lz ln (q1 (ix (lz - 1))) (q2 (ix (lz - 1))) (qN (ix (lz - 1))) (qB (ix (lz - 1))) (qS (ix (lz - 1))) (qA (ix (lz - 1))) zw zh zA zL zR zE N x1 1 f_39 r_83 e_84) (cwV 2 hts (lw_V q940 q942 qs15 q67 q943) rfl rfl rfl (by decide +kernel) ⟨Nat.le_of_ble_eq_true rfl, Nat.le_of_ble_eq_true rfl⟩) (ga_PV hK (hP.sub (ws' := [(x, .inr (1, [.ref g, xs, xp, .ref xi, .int xl, xr, xq])), (g, .inr (2, [.ref sh, .ref al, .int gr, .ref g_b, .ref g_t])), (al, .inr (6, [.int lm, .ref ed, .int lz])), (ed, .inl (cA 5, ln, .inr (.inr (.inr (.inr lf))))), (r_28, .inr (5, [.int (q1 (ix (lz - 1))), .int (q2 (ix (lz - 1))), .ref b_29, .ref w_30, .int (qN (ix (lz - 1))), .ref t_31, .ref e_32, .ref v_33])), (b_29, .inr (3, [.ref bs_34, .ref ba_35, .long (qB (ix (lz - 1))), .ref bc_36, .ref bg_37])), (bs_34, .inl (cA 1, 2, .inr (.inl (qS (ix (lz - 1)))))), (ba_35, .inl (cA 1, 2, .inr (.inl (qA (ix (lz - 1)))))), (sh, .inr (4, [.int zw, .int zh, .long zA, .long zL, .long zR, .long zE]))]) [0, 1, 2, 3, 6, 11, 12, 13, 5] rfl) (va_recv hK.1 hP (ci := 1) (q0 := 0) rfl rfl)) rfl rfl hl.1 rfl (lv_room (Nat.le_of_ble_eq_true rfl)) dX1_player_126 ⟨Nat.le_of_ble_eq_true rfl, Nat.le_of_ble_eq_true rfl⟩)) (fun z_85 w_86 => ?_)
                    obtain rfl := w_86
                    have hP9 := hP.sub (ws' := [(x, .inr (1, [.ref g, xs, xp, .ref xi, .int xl, xr, xq])), (g, .inr (2, [.ref sh, .ref al, .int gr, .ref g_b, .ref g_t])), (al, .inr (6, [.int lm, .ref ed, .int lz])), (ed, .inl (cA 5, ln, .inr (.inr (.inr (.inr lf))))), (g_b, .inl (cA 0, 2, .inl gB)), (sh, .inr (4, [.int zw, .int zh, .long zA, .long zL, .long zR, .long zE]))]) [0, 1, 2, 3, 4, 5] rfl
                    have hD9 := hD.sub (ws' := [(x, .inr (1, [.ref g, xs, xp, .ref xi, .int xl, xr, xq])), (g, .inr (2, [.ref sh, .ref al, .int gr, .ref g_b, .ref g_t])), (al, .inr (6, [.int lm, .ref ed, .int lz])), (ed, .inl (cA 5, ln, .inr (.inr (.inr (.inr lf))))), (g_b, .inl (cA 0, 2, .inl gB)), (sh, .inr (4, [.int zw, .int zh, .long zA, .long zL, .long zR, .long zE]))]) [0, 1, 2, 3, 4, 5] (by decide) rfl
                    obtain rfl := Option.some.inj h
                    refine vx_ret ?_
                    exact W.iret hx hb hr (fun t ht hW => ⟨⟨_, (), rfl, ⟨_, rfl, rfl, rfl⟩, ⟨by rw [ht]; exact hP9, hK.warm hW, hD9⟩⟩, hS.F ht⟩) hS.2.2 dX1_player_129
abbrev rm_X1_round : Room := { frames := 7, cells := 2, slots := 12, locals := 121 }
def F_X1_round (N : Nat) (xl : Int32) (gr : Int32) (lm : Int32) (lz : Int32) (ln : Nat) (np : Nat) (q1 : Nat → Int32) (q2 : Nat → Int32) (qN : Nat → Int32) (qW : Nat → Nat → Int32) (qP : Nat → Nat → Int32) (qR : Nat → Nat → Int32) (qV : Nat → Nat → Int32) (qB : Nat → Int64) (qS : Nat → Nat → Int64) (qA : Nat → Nat → Int64) (qG : Nat → Nat → Int64) (qC : Nat → Nat → Int32) (x1 : Int32) (x2 : Int32) : Option ((Int32 × Unit) ⊕ Nat) :=
  ((F_X1_checkIndex N x1 (lz - 1)).bind fun r_6 => ga_sw r_6 (fun v_15 =>
  ((F_X1_inRange N x2 0 6).bind fun r_17 =>
  ((F_X1_checkArgument N r_17).bind fun r_22 => ga_sw r_22 (fun v_31 =>
  (if ix (x1 + 1) < np then
  ((F_X2_round N gr lm lz ln (q1 (ix (x1 + 1))) (q2 (ix (x1 + 1))) (qN (ix (x1 + 1))) x1).bind fun r_48 =>
  ((F_X5_part N (q1 (ix (x1 + 1))) (q2 (ix (x1 + 1))) (qN (ix (x1 + 1))) (qW (ix (x1 + 1))) (qP (ix (x1 + 1))) x2).bind fun r_52 =>
  some (.inl (r_52, ()))))
  else none)) (fun u_27 =>
  some (.inr u_27))))) (fun u_11 =>
  some (.inr u_11)))
set_option maxHeartbeats 4000000 in
theorem met_X1_round (l : Launch) (D : va_G) (cA : Nat → ClassId) (A : Nat → Prop) (x : Nat) (g : Nat) (xs : Value) (xp : Value) (xi : Nat) (xr : Value) (xq : Value) (sh : Nat) (al : Nat) (g_b : Nat) (g_t : Nat) (ed : Nat) (lf : Nat → Option Nat) (zs : Nat → Nat) (xl : Int32) (gr : Int32) (lm : Int32) (lz : Int32) (ln : Nat) (np : Nat) (q1 : Nat → Int32) (q2 : Nat → Int32) (qN : Nat → Int32) (qW : Nat → Nat → Int32) (qP : Nat → Nat → Int32) (qR : Nat → Nat → Int32) (qV : Nat → Nat → Int32) (qB : Nat → Int64) (qS : Nat → Nat → Int64) (qA : Nat → Nat → Int64) (qG : Nat → Nat → Int64) (qC : Nat → Nat → Int32) (N : Nat) (x1 : Int32) (x2 : Int32)  (hstk : l.stackTraces = false) (out : (Int32 × Unit) ⊕ Nat) (h : F_X1_round N xl gr lm lz ln np q1 q2 qN qW qP qR qV qB qS qA qG qC x1 x2 = some out) : vx_Met l yX1_round (ws_ yX1_round cX1_round 3 (some .int)) rm_X1_round (ga_XR D cA zs A (ga_po D cA lf np q1 q2 qN qW qP qR qV qB qS qA qG qC) [(x, .inr (1, [.ref g, xs, xp, .ref xi, .int xl, xr, xq])), (g, .inr (2, [.ref sh, .ref al, .int gr, .ref g_b, .ref g_t])), (al, .inr (6, [.int lm, .ref ed, .int lz])), (ed, .inl (cA 5, ln, .inr (.inr (.inr (.inr lf)))))] [.ref x, .int x1, .int x2]) (va_Qi (fun (r : Int32) (u : Unit) => ∃ v, out = .inl v ∧ (v.1 = r) ∧ v.2 = u) (fun (u : Unit) (t : State) => va_P D ga_cl [(x, .inr (1, [.ref g, xs, xp, .ref xi, .int xl, xr, xq])), (g, .inr (2, [.ref sh, .ref al, .int gr, .ref g_b, .ref g_t])), (al, .inr (6, [.int lm, .ref ed, .int lz])), (ed, .inl (cA 5, ln, .inr (.inr (.inr (.inr lf)))))] t.heap ∧ ga_K D cA t ∧ va_D A [(x, .inr (1, [.ref g, xs, xp, .ref xi, .int xl, xr, xq])), (g, .inr (2, [.ref sh, .ref al, .int gr, .ref g_b, .ref g_t])), (al, .inr (6, [.int lm, .ref ed, .int lz])), (ed, .inl (cA 5, ln, .inr (.inr (.inr (.inr lf)))))]) A) (vx_X (fun (u : Nat) => out = .inr u) (fun (E : String) (q9 : Nat) (u : Nat) (t : State) => E = ga_en u ∧ va_P D ga_cl [(x, .inr (1, [.ref g, xs, xp, .ref xi, .int xl, xr, xq])), (g, .inr (2, [.ref sh, .ref al, .int gr, .ref g_b, .ref g_t])), (al, .inr (6, [.int lm, .ref ed, .int lz])), (ed, .inl (cA 5, ln, .inr (.inr (.inr (.inr lf)))))] t.heap ∧ va_D A [(x, .inr (1, [.ref g, xs, xp, .ref xi, .int xl, xr, xq])), (g, .inr (2, [.ref sh, .ref al, .int gr, .ref g_b, .ref g_t])), (al, .inr (6, [.int lm, .ref ed, .int lz])), (ed, .inl (cA 5, ln, .inr (.inr (.inr (.inr lf)))))]) A) 2 12 A := by
  refine vx_ofW (cc := cX1_round) (maxL := 3) (ret := (some .int)) (by decide) rfl ?_
  intro p e s m args below meth c s₁ B hml htab hv
  have hX : ga_cx2 c l := ⟨htab, hstk⟩
  obtain ⟨rfl, hP, hK, hD, hA, hST, hR⟩ := hv
  have hS : va_S A s.heap s.heap [] := va_S.rf
  have C : ga_cx p m c meth s _ RX1 cX1_round 3 (some .int) := ga_cx_of B hml
  have C0 := C
  obtain ⟨hx, hb, hr, hlocks, hml, hown, hts⟩ := C0
  have hl := lv_entry ([.ref x, .int x1, .int x2]) (n := 3) (Nat.le_of_ble_eq_true rfl)
  rw [lg_entry_eq]
  generalize (lg_sl ([.ref x, .int x1, .int x2]) ++ List.replicate (3 - (lg_sl ([.ref x, .int x1, .int x2])).length) Slot.unset).toArray = ls at hl ⊢
  have hl : lv_has ls 3 [(0, .ref x), (1, .int x1), (2, .int x2)] := hl
  rw [F_X1_round] at h
  refine lv_iload_n hx hb dX1_round_0 rfl (lv_at hl 1 rfl) ?_
  refine lv_aload_n hx hb dX1_round_1 rfl (lv_at hl 0 rfl) ?_
  refine va_get hx hb hts in_X1 hown hK.1 hP 0 (fs := [.ref g, xs, xp, .ref xi, .int xl, xr, xq]) rfl rfl 0 (by decide) (hts _ q350) (fun _ hh => hh) (v := .ref g) rfl dX1_round_2 ?_
  refine vp_callSi (va_Run.run (va_runV (As := []) (rest := [.int x1]) ⟨hx, hb, hml, hown, hts⟩ (met_X2_rounds l D cA g sh al g_b g_t ed gr lm lz N (lz - 1) rfl) (cwV 0 hts (lw_V q475 q411 q412 q68 q413) rfl rfl rfl (by decide +kernel) ⟨Nat.le_of_ble_eq_true rfl, Nat.le_of_ble_eq_true rfl⟩) (ga_PV hK (hP.sub (ws' := [(g, .inr (2, [.ref sh, .ref al, .int gr, .ref g_b, .ref g_t])), (al, .inr (6, [.int lm, .ref ed, .int lz]))]) [1, 2] rfl) (va_recv hK.1 hP (ci := 2) (q0 := 1) rfl rfl)) rfl rfl hl.1 rfl (lv_room (Nat.le_of_ble_eq_true rfl)) dX1_round_5 ⟨Nat.le_of_ble_eq_true rfl, Nat.le_of_ble_eq_true rfl⟩)) (fun z_3 w_4 => ?_)
  obtain rfl := w_4
  obtain ⟨r_6, e_7, h⟩ := ga_gb h
  have hFc := va_free (wc := []) hD hS hA [] rfl
  refine vx_callv (vx_runS (As := [.int x1, .int (lz - 1)]) (rest := []) ⟨hx, hb, hml, hown, hts⟩ (met_X1_checkIndex l D cA (va_A [] s.heap.size) zs N x1 (lz - 1) hX.2 r_6 e_7) (va_cwS 2 hts (lw_S q625 q626 q67 q627) rfl rfl rfl (by decide +kernel) ⟨Nat.le_of_ble_eq_true rfl, Nat.le_of_ble_eq_true rfl⟩) (ga_XS hK ga_P0 (hD.sub (ws' := []) [] (by decide) rfl).self (fun _ hq => Or.inr hq) (hST.at hS hFc)) rfl rfl hl.1 rfl (lv_room (Nat.le_of_ble_eq_true rfl)) dX1_round_8 ⟨Nat.le_of_ble_eq_true rfl, Nat.le_of_ble_eq_true rfl⟩) hS (fun q _ hq => hFc q hq) hFc (fun q _ hq => hFc q hq) (fun E_13 ce q_14 u_11 t H_12 locs ht _ w_9 hB _ hk hS hce hcv hcl => ?_) (fun u_11 t H_10 locs ht _ w_9 hB _ hk hS => ?_)
  · replace h := ga_swr w_9 h
    obtain ⟨eE, hP1, hD1⟩ := hB
    rw [ht] at hP1
    obtain ⟨hP, hD⟩ := va_join (wr := [(x, .inr (1, [.ref g, xs, xp, .ref xi, .int xl, xr, xq])), (g, .inr (2, [.ref sh, .ref al, .int gr, .ref g_b, .ref g_t])), (al, .inr (6, [.int lm, .ref ed, .int lz])), (ed, .inl (cA 5, ln, .inr (.inr (.inr (.inr lf)))))]) (w1 := []) hP hD [] [0, 1, 2, 3] rfl rfl (by decide) (by decide) hk hFc hP1 hD1
    have hP : va_P D ga_cl [(x, .inr (1, [.ref g, xs, xp, .ref xi, .int xl, xr, xq])), (g, .inr (2, [.ref sh, .ref al, .int gr, .ref g_b, .ref g_t])), (al, .inr (6, [.int lm, .ref ed, .int lz])), (ed, .inl (cA 5, ln, .inr (.inr (.inr (.inr lf)))))] H_12 := hP
    have hD : va_D A [(x, .inr (1, [.ref g, xs, xp, .ref xi, .int xl, xr, xq])), (g, .inr (2, [.ref sh, .ref al, .int gr, .ref g_b, .ref g_t])), (al, .inr (6, [.int lm, .ref ed, .int lz])), (ed, .inl (cA 5, ln, .inr (.inr (.inr (.inr lf)))))] := hD
    have hP9 := hP.sub (ws' := [(x, .inr (1, [.ref g, xs, xp, .ref xi, .int xl, xr, xq])), (g, .inr (2, [.ref sh, .ref al, .int gr, .ref g_b, .ref g_t])), (al, .inr (6, [.int lm, .ref ed, .int lz])), (ed, .inl (cA 5, ln, .inr (.inr (.inr (.inr lf)))))]) [0, 1, 2, 3] rfl
    have hD9 := hD.sub (ws' := [(x, .inr (1, [.ref g, xs, xp, .ref xi, .int xl, xr, xq])), (g, .inr (2, [.ref sh, .ref al, .int gr, .ref g_b, .ref g_t])), (al, .inr (6, [.int lm, .ref ed, .int lz])), (ed, .inl (cA 5, ln, .inr (.inr (.inr (.inr lf)))))]) [0, 1, 2, 3] (by decide) rfl
    obtain rfl := Option.some.inj h
    exact vx_out (fun x hx9 => (hX.1 x hx9).elim) hlocks hce hcv hcl (fun t ht _ => ⟨u_11, rfl, ⟨eE, by rw [ht]; exact hP9, hD9⟩, hS.F ht⟩) hS.2.2 (by decide) (by decide)
  · obtain ⟨v_15, ev_15, hv9⟩ := w_9
    replace h := ga_swl ev_15 h
    obtain rfl := hv9
    obtain ⟨hP1, -, hD1⟩ := hB
    rw [ht] at hP1
    obtain ⟨hP, hD⟩ := va_join (wr := [(x, .inr (1, [.ref g, xs, xp, .ref xi, .int xl, xr, xq])), (g, .inr (2, [.ref sh, .ref al, .int gr, .ref g_b, .ref g_t])), (al, .inr (6, [.int lm, .ref ed, .int lz])), (ed, .inl (cA 5, ln, .inr (.inr (.inr (.inr lf)))))]) (w1 := []) hP hD [] [0, 1, 2, 3] rfl rfl (by decide) (by decide) hk hFc hP1 hD1
    have hP : va_P D ga_cl [(x, .inr (1, [.ref g, xs, xp, .ref xi, .int xl, xr, xq])), (g, .inr (2, [.ref sh, .ref al, .int gr, .ref g_b, .ref g_t])), (al, .inr (6, [.int lm, .ref ed, .int lz])), (ed, .inl (cA 5, ln, .inr (.inr (.inr (.inr lf)))))] H_10 := hP
    have hD : va_D A [(x, .inr (1, [.ref g, xs, xp, .ref xi, .int xl, xr, xq])), (g, .inr (2, [.ref sh, .ref al, .int gr, .ref g_b, .ref g_t])), (al, .inr (6, [.int lm, .ref ed, .int lz])), (ed, .inl (cA 5, ln, .inr (.inr (.inr (.inr lf)))))] := hD
    refine W.cs (cells' := 1) (slots' := 6) rfl rfl ?_
    refine lv_iload_n hx hb dX1_round_11 rfl (lv_at hl 2 rfl) ?_
    refine lv_iconst (v := 0) hx hb dX1_round_12 (by decide) ?_
    refine lv_bipush (v := 6) hx hb dX1_round_13 (by decide) ?_
    obtain ⟨r_17, e_18, h⟩ := ga_gb h
    refine vp_callSi (va_Run.run (va_runS (As := [.int x2, .int 0, .int 6]) (rest := []) ⟨hx, hb, hml, hown, hts⟩ (met_X1_inRange l D cA N x2 0 6 r_17 e_18) (va_cwS 3 hts (lw_S q487 q488 q67 q489) rfl rfl rfl (by decide +kernel) ⟨Nat.le_of_ble_eq_true rfl, Nat.le_of_ble_eq_true rfl⟩) (ga_PS hK ga_P0) rfl rfl hl.1 rfl (lv_room (Nat.le_of_ble_eq_true rfl)) dX1_round_15 ⟨Nat.le_of_ble_eq_true rfl, Nat.le_of_ble_eq_true rfl⟩)) (fun z_19 w_20 => ?_)
    obtain ⟨rfl, b_21⟩ := w_20
    obtain ⟨r_22, e_23, h⟩ := ga_gb h
    have hFc := va_free (wc := []) hD hS hA [] rfl
    refine vx_callv (vx_runS (As := [.int r_17]) (rest := []) ⟨hx, hb, hml, hown, hts⟩ (met_X1_checkArgument l D cA (va_A [] H_10.size) zs N r_17 hX.2 r_22 e_23) (va_cwS 1 hts (lw_S q490 q491 q67 q492) rfl rfl rfl (by decide +kernel) ⟨Nat.le_of_ble_eq_true rfl, Nat.le_of_ble_eq_true rfl⟩) (ga_XS hK ga_P0 (hD.sub (ws' := []) [] (by decide) rfl).self (fun _ hq => Or.inr hq) (hST.at hS hFc)) rfl rfl hl.1 rfl (lv_room (Nat.le_of_ble_eq_true rfl)) dX1_round_18 ⟨Nat.le_of_ble_eq_true rfl, Nat.le_of_ble_eq_true rfl⟩) hS (fun q _ hq => hFc q hq) hFc (fun q _ hq => hFc q hq) (fun E_29 ce q_30 u_27 t H_28 locs ht _ w_25 hB _ hk hS hce hcv hcl => ?_) (fun u_27 t H_26 locs ht _ w_25 hB _ hk hS => ?_)
    · replace h := ga_swr w_25 h
      obtain ⟨eE, hP1, hD1⟩ := hB
      rw [ht] at hP1
      obtain ⟨hP, hD⟩ := va_join (wr := [(x, .inr (1, [.ref g, xs, xp, .ref xi, .int xl, xr, xq])), (g, .inr (2, [.ref sh, .ref al, .int gr, .ref g_b, .ref g_t])), (al, .inr (6, [.int lm, .ref ed, .int lz])), (ed, .inl (cA 5, ln, .inr (.inr (.inr (.inr lf)))))]) (w1 := []) hP hD [] [0, 1, 2, 3] rfl rfl (by decide) (by decide) hk hFc hP1 hD1
      have hP : va_P D ga_cl [(x, .inr (1, [.ref g, xs, xp, .ref xi, .int xl, xr, xq])), (g, .inr (2, [.ref sh, .ref al, .int gr, .ref g_b, .ref g_t])), (al, .inr (6, [.int lm, .ref ed, .int lz])), (ed, .inl (cA 5, ln, .inr (.inr (.inr (.inr lf)))))] H_28 := hP
      have hD : va_D A [(x, .inr (1, [.ref g, xs, xp, .ref xi, .int xl, xr, xq])), (g, .inr (2, [.ref sh, .ref al, .int gr, .ref g_b, .ref g_t])), (al, .inr (6, [.int lm, .ref ed, .int lz])), (ed, .inl (cA 5, ln, .inr (.inr (.inr (.inr lf)))))] := hD
      have hP9 := hP.sub (ws' := [(x, .inr (1, [.ref g, xs, xp, .ref xi, .int xl, xr, xq])), (g, .inr (2, [.ref sh, .ref al, .int gr, .ref g_b, .ref g_t])), (al, .inr (6, [.int lm, .ref ed, .int lz])), (ed, .inl (cA 5, ln, .inr (.inr (.inr (.inr lf)))))]) [0, 1, 2, 3] rfl
      have hD9 := hD.sub (ws' := [(x, .inr (1, [.ref g, xs, xp, .ref xi, .int xl, xr, xq])), (g, .inr (2, [.ref sh, .ref al, .int gr, .ref g_b, .ref g_t])), (al, .inr (6, [.int lm, .ref ed, .int lz])), (ed, .inl (cA 5, ln, .inr (.inr (.inr (.inr lf)))))]) [0, 1, 2, 3] (by decide) rfl
      obtain rfl := Option.some.inj h
      exact vx_out (fun x hx9 => (hX.1 x hx9).elim) hlocks hce hcv hcl (fun t ht _ => ⟨u_27, rfl, ⟨eE, by rw [ht]; exact hP9, hD9⟩, hS.F ht⟩) hS.2.2 (by decide) (by decide)
    · obtain ⟨v_31, ev_31, hv9⟩ := w_25
      replace h := ga_swl ev_31 h
      obtain rfl := hv9
      obtain ⟨hP1, -, hD1⟩ := hB
      rw [ht] at hP1
      obtain ⟨hP, hD⟩ := va_join (wr := [(x, .inr (1, [.ref g, xs, xp, .ref xi, .int xl, xr, xq])), (g, .inr (2, [.ref sh, .ref al, .int gr, .ref g_b, .ref g_t])), (al, .inr (6, [.int lm, .ref ed, .int lz])), (ed, .inl (cA 5, ln, .inr (.inr (.inr (.inr lf)))))]) (w1 := []) hP hD [] [0, 1, 2, 3] rfl rfl (by decide) (by decide) hk hFc hP1 hD1
      have hP : va_P D ga_cl [(x, .inr (1, [.ref g, xs, xp, .ref xi, .int xl, xr, xq])), (g, .inr (2, [.ref sh, .ref al, .int gr, .ref g_b, .ref g_t])), (al, .inr (6, [.int lm, .ref ed, .int lz])), (ed, .inl (cA 5, ln, .inr (.inr (.inr (.inr lf)))))] H_26 := hP
      have hD : va_D A [(x, .inr (1, [.ref g, xs, xp, .ref xi, .int xl, xr, xq])), (g, .inr (2, [.ref sh, .ref al, .int gr, .ref g_b, .ref g_t])), (al, .inr (6, [.int lm, .ref ed, .int lz])), (ed, .inl (cA 5, ln, .inr (.inr (.inr (.inr lf)))))] := hD
      refine W.cs (cells' := 2) (slots' := 12) rfl rfl ?_
      refine lv_aload_n hx hb dX1_round_21 rfl (lv_at hl 0 rfl) ?_
      refine va_get hx hb hts in_X1 hown hK.1 hP 0 (fs := [.ref g, xs, xp, .ref xi, .int xl, xr, xq]) rfl rfl 0 (by decide) (hts _ q350) (fun _ hh => hh) (v := .ref g) rfl dX1_round_22 ?_
      refine lv_iload_n hx hb dX1_round_25 rfl (lv_at hl 1 rfl) ?_
      obtain ⟨i_43, h⟩ := ga_gif h
      obtain ⟨r_33, b_34, w_35, t_36, e_37, v_38, bs_39, ba_40, bc_41, bg_42, f_44, q_45, hn_46⟩ := (ga_poK.at (B := A) hR hS (fun _ h => h)) (ix (x1 + 1)) i_43
      have hP : va_P D ga_cl [(x, .inr (1, [.ref g, xs, xp, .ref xi, .int xl, xr, xq])), (g, .inr (2, [.ref sh, .ref al, .int gr, .ref g_b, .ref g_t])), (al, .inr (6, [.int lm, .ref ed, .int lz])), (ed, .inl (cA 5, ln, .inr (.inr (.inr (.inr lf))))), (r_33, .inr (5, [.int (q1 (ix (x1 + 1))), .int (q2 (ix (x1 + 1))), .ref b_34, .ref w_35, .int (qN (ix (x1 + 1))), .ref t_36, .ref e_37, .ref v_38])), (w_35, .inl (cA 0, 8, .inl (qW (ix (x1 + 1))))), (t_36, .inl (cA 0, 2, .inl (qP (ix (x1 + 1))))), (e_37, .inl (cA 0, 49, .inl (qR (ix (x1 + 1))))), (v_38, .inl (cA 0, 49, .inl (qV (ix (x1 + 1))))), (b_34, .inr (3, [.ref bs_39, .ref ba_40, .long (qB (ix (x1 + 1))), .ref bc_41, .ref bg_42])), (bs_39, .inl (cA 1, 2, .inr (.inl (qS (ix (x1 + 1)))))), (ba_40, .inl (cA 1, 2, .inr (.inl (qA (ix (x1 + 1)))))), (bc_41, .inl (cA 0, 2, .inl (qC (ix (x1 + 1))))), (bg_42, .inl (cA 1, 2, .inr (.inl (qG (ix (x1 + 1))))))] H_26 := hP.app q_45
      have hr_47 : ga_ro D [(r_33, .inr (5, [.int (q1 (ix (x1 + 1))), .int (q2 (ix (x1 + 1))), .ref b_34, .ref w_35, .int (qN (ix (x1 + 1))), .ref t_36, .ref e_37, .ref v_38])), (w_35, .inl (cA 0, 8, .inl (qW (ix (x1 + 1))))), (t_36, .inl (cA 0, 2, .inl (qP (ix (x1 + 1))))), (e_37, .inl (cA 0, 49, .inl (qR (ix (x1 + 1))))), (v_38, .inl (cA 0, 49, .inl (qV (ix (x1 + 1))))), (b_34, .inr (3, [.ref bs_39, .ref ba_40, .long (qB (ix (x1 + 1))), .ref bc_41, .ref bg_42])), (bs_39, .inl (cA 1, 2, .inr (.inl (qS (ix (x1 + 1)))))), (ba_40, .inl (cA 1, 2, .inr (.inl (qA (ix (x1 + 1)))))), (bc_41, .inl (cA 0, 2, .inl (qC (ix (x1 + 1))))), (bg_42, .inl (cA 1, 2, .inr (.inl (qG (ix (x1 + 1))))))] A s H_26 := ⟨q_45, hn_46⟩
      obtain ⟨r_48, e_49, h⟩ := ga_gb h
      refine va_csr (va_Run.run (va_runV (As := [.int x1]) (rest := []) ⟨hx, hb, hml, hown, hts⟩ (met_X2_round l D cA g sh al g_b g_t ed lf r_33 b_34 w_35 t_36 e_37 v_38 gr lm lz ln (q1 (ix (x1 + 1))) (q2 (ix (x1 + 1))) (qN (ix (x1 + 1))) N x1 f_44 r_48 e_49) (cwV 1 hts (lw_V q918 q747 q748 q68 q749) rfl rfl rfl (by decide +kernel) ⟨Nat.le_of_ble_eq_true rfl, Nat.le_of_ble_eq_true rfl⟩) (ga_PV hK (hP.sub (ws' := [(g, .inr (2, [.ref sh, .ref al, .int gr, .ref g_b, .ref g_t])), (al, .inr (6, [.int lm, .ref ed, .int lz])), (ed, .inl (cA 5, ln, .inr (.inr (.inr (.inr lf))))), (r_33, .inr (5, [.int (q1 (ix (x1 + 1))), .int (q2 (ix (x1 + 1))), .ref b_34, .ref w_35, .int (qN (ix (x1 + 1))), .ref t_36, .ref e_37, .ref v_38]))]) [1, 2, 3, 4] rfl) (va_recv hK.1 hP (ci := 2) (q0 := 1) rfl rfl)) rfl rfl hl.1 rfl (lv_room (Nat.le_of_ble_eq_true rfl)) dX1_round_26 ⟨Nat.le_of_ble_eq_true rfl, Nat.le_of_ble_eq_true rfl⟩)) (fun _ _ => ?_)
      refine lv_iload_n hx hb dX1_round_29 rfl (lv_at hl 2 rfl) ?_
      obtain ⟨r_52, e_53, h⟩ := ga_gb h
      refine vp_callSi (va_Run.run (va_runV (As := [.int x2]) (rest := []) ⟨hx, hb, hml, hown, hts⟩ (met_X5_part l D cA r_33 b_34 w_35 t_36 e_37 v_38 (q1 (ix (x1 + 1))) (q2 (ix (x1 + 1))) (qN (ix (x1 + 1))) (qW (ix (x1 + 1))) (qP (ix (x1 + 1))) N x2 r_52 e_53) (cwV 1 hts (lw_V q919 q920 q921 q74 q922) rfl rfl rfl (by decide +kernel) ⟨Nat.le_of_ble_eq_true rfl, Nat.le_of_ble_eq_true rfl⟩) (ga_PV hK (hP.sub (ws' := [(r_33, .inr (5, [.int (q1 (ix (x1 + 1))), .int (q2 (ix (x1 + 1))), .ref b_34, .ref w_35, .int (qN (ix (x1 + 1))), .ref t_36, .ref e_37, .ref v_38])), (w_35, .inl (cA 0, 8, .inl (qW (ix (x1 + 1))))), (t_36, .inl (cA 0, 2, .inl (qP (ix (x1 + 1)))))]) [4, 5, 6] rfl) (va_recv hK.1 hP (ci := 5) (q0 := 4) rfl rfl)) rfl rfl hl.1 rfl (lv_room (Nat.le_of_ble_eq_true rfl)) dX1_round_30 ⟨Nat.le_of_ble_eq_true rfl, Nat.le_of_ble_eq_true rfl⟩)) (fun z_54 w_55 => ?_)
      obtain rfl := w_55
      have hP9 := hP.sub (ws' := [(x, .inr (1, [.ref g, xs, xp, .ref xi, .int xl, xr, xq])), (g, .inr (2, [.ref sh, .ref al, .int gr, .ref g_b, .ref g_t])), (al, .inr (6, [.int lm, .ref ed, .int lz])), (ed, .inl (cA 5, ln, .inr (.inr (.inr (.inr lf)))))]) [0, 1, 2, 3] rfl
      have hD9 := hD.sub (ws' := [(x, .inr (1, [.ref g, xs, xp, .ref xi, .int xl, xr, xq])), (g, .inr (2, [.ref sh, .ref al, .int gr, .ref g_b, .ref g_t])), (al, .inr (6, [.int lm, .ref ed, .int lz])), (ed, .inl (cA 5, ln, .inr (.inr (.inr (.inr lf)))))]) [0, 1, 2, 3] (by decide) rfl
      obtain rfl := Option.some.inj h
      refine vx_ret ?_
      exact W.iret hx hb hr (fun t ht hW => ⟨⟨_, (), rfl, ⟨_, rfl, rfl, rfl⟩, ⟨by rw [ht]; exact hP9, hK.warm hW, hD9⟩⟩, hS.F ht⟩) hS.2.2 dX1_round_33
abbrev rm_X1_turningPoint : Room := { frames := 7, cells := 1, slots := 6, locals := 120 }
def lp_X1_turningPoint_24 (N : Nat) (xl : Int32) (gr : Int32) (lm : Int32) (lz : Int32) (ln : Nat) (gB : Nat → Int32) (np : Nat) (q1 : Nat → Int32) (q2 : Nat → Int32) (qN : Nat → Int32) (qW : Nat → Nat → Int32) (qP : Nat → Nat → Int32) (qR : Nat → Nat → Int32) (qV : Nat → Nat → Int32) (qB : Nat → Int64) (qS : Nat → Nat → Int64) (qA : Nat → Nat → Int64) (qG : Nat → Nat → Int64) (qC : Nat → Nat → Int32) : Nat → (Int32) → (Int32) → (Int32) → Option ((Int32 × Unit) ⊕ Nat)
  | 0, _, _, _ => none
  | n+1, x1, x2, x3 =>
    (if (lz - 1) ≤ x3 then
    some (.inl (x1, ()))
    else
    ((F_X1_difference N xl gr lm lz ln gB np q1 q2 qN qW qP qR qV qB qS qA qG qC x3).bind fun r_35 =>
    ((F_X1_difference N xl gr lm lz ln gB np q1 q2 qN qW qP qR qV qB qS qA qG qC (x3 - 1)).bind fun r_40 =>
    (if (jiabs (r_35 - r_40)) ≤ x2 then
    lp_X1_turningPoint_24 N xl gr lm lz ln gB np q1 q2 qN qW qP qR qV qB qS qA qG qC n x1 (jimax x2 (jiabs (r_35 - r_40))) (x3 + 1)
    else
    lp_X1_turningPoint_24 N xl gr lm lz ln gB np q1 q2 qN qW qP qR qV qB qS qA qG qC n x3 (jimax x2 (jiabs (r_35 - r_40))) (x3 + 1)))))
set_option maxHeartbeats 4000000 in
theorem w_X1_turningPoint_24 {p : Program} {l : Launch} {e : Env} {s : State} {m : MethodId} {args : Array Value} {below : List Frame} {meth : Method} {c : Code} {D : va_G} {cA : Nat → ClassId} {A : Nat → Prop} {x : Nat} {g : Nat} {xs : Value} {xp : Value} {xi : Nat} {xr : Value} {xq : Value} {sh : Nat} {al : Nat} {g_b : Nat} {g_t : Nat} {ed : Nat} {lf : Nat → Option Nat} {zs : Nat → Nat} {N : Nat} {xl : Int32} {gr : Int32} {lm : Int32} {lz : Int32} {ln : Nat} {gB : Nat → Int32} {np : Nat} {q1 : Nat → Int32} {q2 : Nat → Int32} {qN : Nat → Int32} {qW : Nat → Nat → Int32} {qP : Nat → Nat → Int32} {qR : Nat → Nat → Int32} {qV : Nat → Nat → Int32} {qB : Nat → Int64} {qS : Nat → Nat → Int64} {qA : Nat → Nat → Int64} {qG : Nat → Nat → Int64} {qC : Nat → Nat → Int32}  (C : ga_cx p m c meth s args RX1 cX1_turningPoint 5 (some .int)) (hK : ga_K D cA s) (hA : ∀ q : Nat, s.heap.size ≤ q → A q) (hST : ga_ST zs A s s.heap) (hX : ga_cx2 c l) (hR : (ga_po D cA lf np q1 q2 qN qW qP qR qV qB qS qA qG qC) A s s.heap) {out : (Int32 × Unit) ⊕ Nat} : ∀ n : Nat, ∀ (x1 : Int32) (x2 : Int32) (x3 : Int32), lp_X1_turningPoint_24 N xl gr lm lz ln gB np q1 q2 qN qW qP qR qV qB qS qA qG qC n x1 x2 x3 = some out → ∀ (H : Heap) (locs : List Loc), va_P D ga_cl [(x, .inr (1, [.ref g, xs, xp, .ref xi, .int xl, xr, xq])), (g, .inr (2, [.ref sh, .ref al, .int gr, .ref g_b, .ref g_t])), (al, .inr (6, [.int lm, .ref ed, .int lz])), (ed, .inl (cA 5, ln, .inr (.inr (.inr (.inr lf))))), (g_b, .inl (cA 0, 2, .inl gB))] H → va_D A [(x, .inr (1, [.ref g, xs, xp, .ref xi, .int xl, xr, xq])), (g, .inr (2, [.ref sh, .ref al, .int gr, .ref g_b, .ref g_t])), (al, .inr (6, [.int lm, .ref ed, .int lz])), (ed, .inl (cA 5, ln, .inr (.inr (.inr (.inr lf))))), (g_b, .inl (cA 0, 2, .inl gB))] → va_S A s.heap H locs → ∀ ls : Array Slot, lv_has ls 5 [(0, .ref x), (1, .int x1), (2, .int x2), (3, .int x3)] → W p l e (headSpec (ws_ yX1_turningPoint cX1_turningPoint 5 (some .int)) rm_X1_turningPoint).room s m args below meth c H locs 1 6 (vx_MQ below (va_Qi (fun (r : Int32) (u : Unit) => ∃ v, out = .inl v ∧ (v.1 = r) ∧ v.2 = u) (fun (u : Unit) (t : State) => va_P D ga_cl [(x, .inr (1, [.ref g, xs, xp, .ref xi, .int xl, xr, xq])), (g, .inr (2, [.ref sh, .ref al, .int gr, .ref g_b, .ref g_t])), (al, .inr (6, [.int lm, .ref ed, .int lz])), (ed, .inl (cA 5, ln, .inr (.inr (.inr (.inr lf))))), (g_b, .inl (cA 0, 2, .inl gB))] t.heap ∧ ga_K D cA t ∧ va_D A [(x, .inr (1, [.ref g, xs, xp, .ref xi, .int xl, xr, xq])), (g, .inr (2, [.ref sh, .ref al, .int gr, .ref g_b, .ref g_t])), (al, .inr (6, [.int lm, .ref ed, .int lz])), (ed, .inl (cA 5, ln, .inr (.inr (.inr (.inr lf))))), (g_b, .inl (cA 0, 2, .inl gB))]) A) (vx_X (fun (u : Nat) => out = .inr u) (fun (E : String) (q9 : Nat) (u : Nat) (t : State) => E = ga_en u ∧ va_P D ga_cl [(x, .inr (1, [.ref g, xs, xp, .ref xi, .int xl, xr, xq])), (g, .inr (2, [.ref sh, .ref al, .int gr, .ref g_b, .ref g_t])), (al, .inr (6, [.int lm, .ref ed, .int lz])), (ed, .inl (cA 5, ln, .inr (.inr (.inr (.inr lf))))), (g_b, .inl (cA 0, 2, .inl gB))] t.heap ∧ va_D A [(x, .inr (1, [.ref g, xs, xp, .ref xi, .int xl, xr, xq])), (g, .inr (2, [.ref sh, .ref al, .int gr, .ref g_b, .ref g_t])), (al, .inr (6, [.int lm, .ref ed, .int lz])), (ed, .inl (cA 5, ln, .inr (.inr (.inr (.inr lf))))), (g_b, .inl (cA 0, 2, .inl gB))]) A) args s 1 6 A) (F0 m 24 ls []) := by
  have C0 := C
  obtain ⟨hx, hb, hr, hlocks, hml, hown, hts⟩ := C0
  intro n
  induction n with
  | zero =>
    intro x1 x2 x3 h
    rw [lp_X1_turningPoint_24.eq_1] at h
    cases h
  | succ n ih =>
    intro x1 x2 x3 h H locs hP hD hS ls hl
    rw [lp_X1_turningPoint_24.eq_2] at h
    refine lv_iload_n hx hb dX1_turningPoint_24 rfl (lv_at hl 3 rfl) ?_
    refine lv_aload_n hx hb dX1_turningPoint_25 rfl (lv_at hl 0 rfl) ?_
    refine va_get hx hb hts in_X1 hown hK.1 hP 0 (fs := [.ref g, xs, xp, .ref xi, .int xl, xr, xq]) rfl rfl 0 (by decide) (hts _ q350) (fun _ hh => hh) (v := .ref g) rfl dX1_turningPoint_26 ?_
    refine vp_callSi (va_Run.run (va_runV (As := []) (rest := [.int x3]) ⟨hx, hb, hml, hown, hts⟩ (met_X2_rounds l D cA g sh al g_b g_t ed gr lm lz N (lz - 1) rfl) (cwV 0 hts (lw_V q475 q411 q412 q68 q413) rfl rfl rfl (by decide +kernel) ⟨Nat.le_of_ble_eq_true rfl, Nat.le_of_ble_eq_true rfl⟩) (ga_PV hK (hP.sub (ws' := [(g, .inr (2, [.ref sh, .ref al, .int gr, .ref g_b, .ref g_t])), (al, .inr (6, [.int lm, .ref ed, .int lz]))]) [1, 2] rfl) (va_recv hK.1 hP (ci := 2) (q0 := 1) rfl rfl)) rfl rfl hl.1 rfl (lv_room (Nat.le_of_ble_eq_true rfl)) dX1_turningPoint_29 ⟨Nat.le_of_ble_eq_true rfl, Nat.le_of_ble_eq_true rfl⟩)) (fun z_31 w_32 => ?_)
    obtain rfl := w_32
    refine lv_icmp_ge (tgt := 78) hx hb dX1_turningPoint_32 (by decide) (fun c_34 => ?_) (fun c_34 => ?_)
    · replace h := ga_ift c_34 h
      refine lv_iload_n hx hb dX1_turningPoint_78 rfl (lv_at hl 1 rfl) ?_
      have hP9 := hP.sub (ws' := [(x, .inr (1, [.ref g, xs, xp, .ref xi, .int xl, xr, xq])), (g, .inr (2, [.ref sh, .ref al, .int gr, .ref g_b, .ref g_t])), (al, .inr (6, [.int lm, .ref ed, .int lz])), (ed, .inl (cA 5, ln, .inr (.inr (.inr (.inr lf))))), (g_b, .inl (cA 0, 2, .inl gB))]) [0, 1, 2, 3, 4] rfl
      have hD9 := hD.sub (ws' := [(x, .inr (1, [.ref g, xs, xp, .ref xi, .int xl, xr, xq])), (g, .inr (2, [.ref sh, .ref al, .int gr, .ref g_b, .ref g_t])), (al, .inr (6, [.int lm, .ref ed, .int lz])), (ed, .inl (cA 5, ln, .inr (.inr (.inr (.inr lf))))), (g_b, .inl (cA 0, 2, .inl gB))]) [0, 1, 2, 3, 4] (by decide) rfl
      obtain rfl := Option.some.inj h
      refine vx_ret ?_
      exact W.iret hx hb hr (fun t ht hW => ⟨⟨_, (), rfl, ⟨_, rfl, rfl, rfl⟩, ⟨by rw [ht]; exact hP9, hK.warm hW, hD9⟩⟩, hS.F ht⟩) hS.2.2 dX1_turningPoint_79
    · replace h := ga_iff c_34 h
      refine lv_aload_n hx hb dX1_turningPoint_35 rfl (lv_at hl 0 rfl) ?_
      refine lv_iload_n hx hb dX1_turningPoint_36 rfl (lv_at hl 3 rfl) ?_
      obtain ⟨r_35, e_36, h⟩ := ga_gb h
      refine vp_callSi (va_Run.run (va_runV (As := [.int x3]) (rest := []) ⟨hx, hb, hml, hown, hts⟩ (met_X1_difference l D cA x g xs xp xi xr xq sh al g_b g_t ed lf xl gr lm lz ln gB np q1 q2 qN qW qP qR qV qB qS qA qG qC N x3 r_35 e_36) (cwV 1 hts (lw_V q1041 q1043 qs17 q67 q1044) rfl rfl rfl (by decide +kernel) ⟨Nat.le_of_ble_eq_true rfl, Nat.le_of_ble_eq_true rfl⟩) (ga_PRV ga_poK (ga_poK.at (B := ga_F) hR hS (fun _ h => False.elim h)) hK (hP.sub (ws' := [(x, .inr (1, [.ref g, xs, xp, .ref xi, .int xl, xr, xq])), (g, .inr (2, [.ref sh, .ref al, .int gr, .ref g_b, .ref g_t])), (al, .inr (6, [.int lm, .ref ed, .int lz])), (ed, .inl (cA 5, ln, .inr (.inr (.inr (.inr lf))))), (g_b, .inl (cA 0, 2, .inl gB))]) [0, 1, 2, 3, 4] rfl) (va_recv hK.1 hP (ci := 1) (q0 := 0) rfl rfl)) rfl rfl hl.1 rfl (lv_room (Nat.le_of_ble_eq_true rfl)) dX1_turningPoint_37 ⟨Nat.le_of_ble_eq_true rfl, Nat.le_of_ble_eq_true rfl⟩)) (fun z_37 w_38 => ?_)
      obtain rfl := w_38
      refine lv_aload_n hx hb dX1_turningPoint_40 rfl (lv_at hl 0 rfl) ?_
      refine lv_iload_n hx hb dX1_turningPoint_41 rfl (lv_at hl 3 rfl) ?_
      refine lv_iconst (v := 1) hx hb dX1_turningPoint_42 (by decide) ?_
      refine lv_isub hx hb dX1_turningPoint_43 ?_
      obtain ⟨r_40, e_41, h⟩ := ga_gb h
      refine vp_callSi (va_Run.run (va_runV (As := [.int (x3 - 1)]) (rest := [.int r_35]) ⟨hx, hb, hml, hown, hts⟩ (met_X1_difference l D cA x g xs xp xi xr xq sh al g_b g_t ed lf xl gr lm lz ln gB np q1 q2 qN qW qP qR qV qB qS qA qG qC N (x3 - 1) r_40 e_41) (cwV 1 hts (lw_V q1041 q1043 qs17 q67 q1044) rfl rfl rfl (by decide +kernel) ⟨Nat.le_of_ble_eq_true rfl, Nat.le_of_ble_eq_true rfl⟩) (ga_PRV ga_poK (ga_poK.at (B := ga_F) hR hS (fun _ h => False.elim h)) hK (hP.sub (ws' := [(x, .inr (1, [.ref g, xs, xp, .ref xi, .int xl, xr, xq])), (g, .inr (2, [.ref sh, .ref al, .int gr, .ref g_b, .ref g_t])), (al, .inr (6, [.int lm, .ref ed, .int lz])), (ed, .inl (cA 5, ln, .inr (.inr (.inr (.inr lf))))), (g_b, .inl (cA 0, 2, .inl gB))]) [0, 1, 2, 3, 4] rfl) (va_recv hK.1 hP (ci := 1) (q0 := 0) rfl rfl)) rfl rfl hl.1 rfl (lv_room (Nat.le_of_ble_eq_true rfl)) dX1_turningPoint_44 ⟨Nat.le_of_ble_eq_true rfl, Nat.le_of_ble_eq_true rfl⟩)) (fun z_42 w_43 => ?_)
      obtain rfl := w_43
      refine lv_isub hx hb dX1_turningPoint_47 ?_
      refine ga_mabs hx hb (hml.trans hl.1.symm) hown (hts _ q1045) (hts _ q1046) (hts _ q76) (hts _ q1047) (Nat.le_of_ble_eq_true rfl) (Nat.le_of_ble_eq_true rfl) (Nat.le_of_ble_eq_true rfl) (Nat.le_of_ble_eq_true rfl) dX1_turningPoint_48 ?_
      refine lv_istore (lv' := [(4, .int (jiabs (r_35 - r_40))), (0, .ref x), (1, .int x1), (2, .int x2), (3, .int x3)]) hx hb dX1_turningPoint_51 hl (by decide) rfl (fun ls hl => ?_)
      refine lv_iload hx hb dX1_turningPoint_53 (lv_at hl 0 rfl) ?_
      refine lv_iload_n hx hb dX1_turningPoint_55 rfl (lv_at hl 3 rfl) ?_
      refine lv_icmp_le (tgt := 63) hx hb dX1_turningPoint_56 (by decide) (fun c_45 => ?_) (fun c_45 => ?_)
      · replace h := ga_ift c_45 h
        refine lv_iload_n hx hb dX1_turningPoint_63 rfl (lv_at hl 2 rfl) ?_
        refine lv_istore_n (lv' := [(1, .int x1), (4, .int (jiabs (r_35 - r_40))), (0, .ref x), (2, .int x2), (3, .int x3)]) hx hb dX1_turningPoint_64 rfl hl (by decide) rfl (fun ls hl => ?_)
        refine lv_iload_n hx hb dX1_turningPoint_65 rfl (lv_at hl 3 rfl) ?_
        refine lv_iload hx hb dX1_turningPoint_66 (lv_at hl 1 rfl) ?_
        refine ga_mmax hx hb (hml.trans hl.1.symm) hown (hts _ q954) (hts _ q278) (hts _ q76) (hts _ q279) (Nat.le_of_ble_eq_true rfl) (Nat.le_of_ble_eq_true rfl) (Nat.le_of_ble_eq_true rfl) (Nat.le_of_ble_eq_true rfl) dX1_turningPoint_68 ?_
        refine lv_istore_n (lv' := [(2, .int (jimax x2 (jiabs (r_35 - r_40)))), (1, .int x1), (4, .int (jiabs (r_35 - r_40))), (0, .ref x), (3, .int x3)]) hx hb dX1_turningPoint_71 rfl hl (by decide) rfl (fun ls hl => ?_)
        refine lv_iinc (v := (x3 + 1)) (lv' := [(3, .int (x3 + 1)), (2, .int (jimax x2 (jiabs (r_35 - r_40)))), (1, .int x1), (4, .int (jiabs (r_35 - r_40))), (0, .ref x)]) hx hb dX1_turningPoint_72 hl (k := 4) rfl rfl (by decide) rfl (fun ls hl => ?_)
        refine lv_goto (tgt := 24) hx hb dX1_turningPoint_75 (by decide) ?_
        exact ih x1 (jimax x2 (jiabs (r_35 - r_40))) (x3 + 1) h _ _ (hP.sub [0, 1, 2, 3, 4] rfl) (hD.sub [0, 1, 2, 3, 4] (by decide) rfl) hS _ (lv_sub hl [4, 2, 1, 0] rfl)
      · replace h := ga_iff c_45 h
        refine lv_iload_n hx hb dX1_turningPoint_59 rfl (lv_at hl 4 rfl) ?_
        refine lv_goto (tgt := 64) hx hb dX1_turningPoint_60 (by decide) ?_
        refine lv_istore_n (lv' := [(1, .int x3), (4, .int (jiabs (r_35 - r_40))), (0, .ref x), (2, .int x2), (3, .int x3)]) hx hb dX1_turningPoint_64 rfl hl (by decide) rfl (fun ls hl => ?_)
        refine lv_iload_n hx hb dX1_turningPoint_65 rfl (lv_at hl 3 rfl) ?_
        refine lv_iload hx hb dX1_turningPoint_66 (lv_at hl 1 rfl) ?_
        refine ga_mmax hx hb (hml.trans hl.1.symm) hown (hts _ q954) (hts _ q278) (hts _ q76) (hts _ q279) (Nat.le_of_ble_eq_true rfl) (Nat.le_of_ble_eq_true rfl) (Nat.le_of_ble_eq_true rfl) (Nat.le_of_ble_eq_true rfl) dX1_turningPoint_68 ?_
        refine lv_istore_n (lv' := [(2, .int (jimax x2 (jiabs (r_35 - r_40)))), (1, .int x3), (4, .int (jiabs (r_35 - r_40))), (0, .ref x), (3, .int x3)]) hx hb dX1_turningPoint_71 rfl hl (by decide) rfl (fun ls hl => ?_)
        refine lv_iinc (v := (x3 + 1)) (lv' := [(3, .int (x3 + 1)), (2, .int (jimax x2 (jiabs (r_35 - r_40)))), (1, .int x3), (4, .int (jiabs (r_35 - r_40))), (0, .ref x)]) hx hb dX1_turningPoint_72 hl (k := 4) rfl rfl (by decide) rfl (fun ls hl => ?_)
        refine lv_goto (tgt := 24) hx hb dX1_turningPoint_75 (by decide) ?_
        exact ih x3 (jimax x2 (jiabs (r_35 - r_40))) (x3 + 1) h _ _ (hP.sub [0, 1, 2, 3, 4] rfl) (hD.sub [0, 1, 2, 3, 4] (by decide) rfl) hS _ (lv_sub hl [4, 2, 1, 0] rfl)
def F_X1_turningPoint (N : Nat) (xl : Int32) (gr : Int32) (lm : Int32) (lz : Int32) (ln : Nat) (gB : Nat → Int32) (np : Nat) (q1 : Nat → Int32) (q2 : Nat → Int32) (qN : Nat → Int32) (qW : Nat → Nat → Int32) (qP : Nat → Nat → Int32) (qR : Nat → Nat → Int32) (qV : Nat → Nat → Int32) (qB : Nat → Int64) (qS : Nat → Nat → Int64) (qA : Nat → Nat → Int64) (qG : Nat → Nat → Int64) (qC : Nat → Nat → Int32)  : Option ((Int32 × Unit) ⊕ Nat) :=
  (if (lz - 1) ≤ 0 then
  ((F_X1_checkFound N 0).bind fun r_7 => ga_sw r_7 (fun v_16 =>
  lp_X1_turningPoint_24 N xl gr lm lz ln gB np q1 q2 qN qW qP qR qV qB qS qA qG qC N 0 (-1) 0) (fun u_12 =>
  some (.inr u_12)))
  else
  ((F_X1_checkFound N 1).bind fun r_18 => ga_sw r_18 (fun v_27 =>
  lp_X1_turningPoint_24 N xl gr lm lz ln gB np q1 q2 qN qW qP qR qV qB qS qA qG qC N 0 (-1) 0) (fun u_23 =>
  some (.inr u_23))))
set_option maxHeartbeats 4000000 in
theorem met_X1_turningPoint (l : Launch) (D : va_G) (cA : Nat → ClassId) (A : Nat → Prop) (x : Nat) (g : Nat) (xs : Value) (xp : Value) (xi : Nat) (xr : Value) (xq : Value) (sh : Nat) (al : Nat) (g_b : Nat) (g_t : Nat) (ed : Nat) (lf : Nat → Option Nat) (zs : Nat → Nat) (xl : Int32) (gr : Int32) (lm : Int32) (lz : Int32) (ln : Nat) (gB : Nat → Int32) (np : Nat) (q1 : Nat → Int32) (q2 : Nat → Int32) (qN : Nat → Int32) (qW : Nat → Nat → Int32) (qP : Nat → Nat → Int32) (qR : Nat → Nat → Int32) (qV : Nat → Nat → Int32) (qB : Nat → Int64) (qS : Nat → Nat → Int64) (qA : Nat → Nat → Int64) (qG : Nat → Nat → Int64) (qC : Nat → Nat → Int32) (N : Nat)   (hstk : l.stackTraces = false) (out : (Int32 × Unit) ⊕ Nat) (h : F_X1_turningPoint N xl gr lm lz ln gB np q1 q2 qN qW qP qR qV qB qS qA qG qC = some out) : vx_Met l yX1_turningPoint (ws_ yX1_turningPoint cX1_turningPoint 5 (some .int)) rm_X1_turningPoint (ga_XR D cA zs A (ga_po D cA lf np q1 q2 qN qW qP qR qV qB qS qA qG qC) [(x, .inr (1, [.ref g, xs, xp, .ref xi, .int xl, xr, xq])), (g, .inr (2, [.ref sh, .ref al, .int gr, .ref g_b, .ref g_t])), (al, .inr (6, [.int lm, .ref ed, .int lz])), (ed, .inl (cA 5, ln, .inr (.inr (.inr (.inr lf))))), (g_b, .inl (cA 0, 2, .inl gB))] [.ref x]) (va_Qi (fun (r : Int32) (u : Unit) => ∃ v, out = .inl v ∧ (v.1 = r) ∧ v.2 = u) (fun (u : Unit) (t : State) => va_P D ga_cl [(x, .inr (1, [.ref g, xs, xp, .ref xi, .int xl, xr, xq])), (g, .inr (2, [.ref sh, .ref al, .int gr, .ref g_b, .ref g_t])), (al, .inr (6, [.int lm, .ref ed, .int lz])), (ed, .inl (cA 5, ln, .inr (.inr (.inr (.inr lf))))), (g_b, .inl (cA 0, 2, .inl gB))] t.heap ∧ ga_K D cA t ∧ va_D A [(x, .inr (1, [.ref g, xs, xp, .ref xi, .int xl, xr, xq])), (g, .inr (2, [.ref sh, .ref al, .int gr, .ref g_b, .ref g_t])), (al, .inr (6, [.int lm, .ref ed, .int lz])), (ed, .inl (cA 5, ln, .inr (.inr (.inr (.inr lf))))), (g_b, .inl (cA 0, 2, .inl gB))]) A) (vx_X (fun (u : Nat) => out = .inr u) (fun (E : String) (q9 : Nat) (u : Nat) (t : State) => E = ga_en u ∧ va_P D ga_cl [(x, .inr (1, [.ref g, xs, xp, .ref xi, .int xl, xr, xq])), (g, .inr (2, [.ref sh, .ref al, .int gr, .ref g_b, .ref g_t])), (al, .inr (6, [.int lm, .ref ed, .int lz])), (ed, .inl (cA 5, ln, .inr (.inr (.inr (.inr lf))))), (g_b, .inl (cA 0, 2, .inl gB))] t.heap ∧ va_D A [(x, .inr (1, [.ref g, xs, xp, .ref xi, .int xl, xr, xq])), (g, .inr (2, [.ref sh, .ref al, .int gr, .ref g_b, .ref g_t])), (al, .inr (6, [.int lm, .ref ed, .int lz])), (ed, .inl (cA 5, ln, .inr (.inr (.inr (.inr lf))))), (g_b, .inl (cA 0, 2, .inl gB))]) A) 1 6 A := by
  refine vx_ofW (cc := cX1_turningPoint) (maxL := 5) (ret := (some .int)) (by decide) rfl ?_
  intro p e s m args below meth c s₁ B hml htab hv
  have hX : ga_cx2 c l := ⟨htab, hstk⟩
  obtain ⟨rfl, hP, hK, hD, hA, hST, hR⟩ := hv
  have hS : va_S A s.heap s.heap [] := va_S.rf
  have C : ga_cx p m c meth s _ RX1 cX1_turningPoint 5 (some .int) := ga_cx_of B hml
  have C0 := C
  obtain ⟨hx, hb, hr, hlocks, hml, hown, hts⟩ := C0
  have hl := lv_entry ([.ref x]) (n := 5) (Nat.le_of_ble_eq_true rfl)
  rw [lg_entry_eq]
  generalize (lg_sl ([.ref x]) ++ List.replicate (5 - (lg_sl ([.ref x])).length) Slot.unset).toArray = ls at hl ⊢
  have hl : lv_has ls 5 [(0, .ref x)] := hl
  rw [F_X1_turningPoint] at h
  refine lv_aload_n hx hb dX1_turningPoint_0 rfl (lv_at hl 0 rfl) ?_
  refine va_get hx hb hts in_X1 hown hK.1 hP 0 (fs := [.ref g, xs, xp, .ref xi, .int xl, xr, xq]) rfl rfl 0 (by decide) (hts _ q350) (fun _ hh => hh) (v := .ref g) rfl dX1_turningPoint_1 ?_
  refine vp_callSi (va_Run.run (va_runV (As := []) (rest := []) ⟨hx, hb, hml, hown, hts⟩ (met_X2_rounds l D cA g sh al g_b g_t ed gr lm lz N (lz - 1) rfl) (cwV 0 hts (lw_V q475 q411 q412 q68 q413) rfl rfl rfl (by decide +kernel) ⟨Nat.le_of_ble_eq_true rfl, Nat.le_of_ble_eq_true rfl⟩) (ga_PV hK (hP.sub (ws' := [(g, .inr (2, [.ref sh, .ref al, .int gr, .ref g_b, .ref g_t])), (al, .inr (6, [.int lm, .ref ed, .int lz]))]) [1, 2] rfl) (va_recv hK.1 hP (ci := 2) (q0 := 1) rfl rfl)) rfl rfl hl.1 rfl (lv_room (Nat.le_of_ble_eq_true rfl)) dX1_turningPoint_4 ⟨Nat.le_of_ble_eq_true rfl, Nat.le_of_ble_eq_true rfl⟩)) (fun z_3 w_4 => ?_)
  obtain rfl := w_4
  refine lv_if_le (tgt := 14) hx hb dX1_turningPoint_7 (by decide) (fun c_6 => ?_) (fun c_6 => ?_)
  · replace h := ga_ift c_6 h
    refine lv_iconst (v := 0) hx hb dX1_turningPoint_14 (by decide) ?_
    obtain ⟨r_7, e_8, h⟩ := ga_gb h
    have hFc := va_free (wc := []) hD hS hA [] rfl
    refine vx_callv (vx_runS (As := [.int 0]) (rest := []) ⟨hx, hb, hml, hown, hts⟩ (met_X1_checkFound l D cA (va_A [] s.heap.size) zs N 0 hX.2 r_7 e_8) (va_cwS 1 hts (lw_S q964 q965 q67 q966) rfl rfl rfl (by decide +kernel) ⟨Nat.le_of_ble_eq_true rfl, Nat.le_of_ble_eq_true rfl⟩) (ga_XS hK ga_P0 (hD.sub (ws' := []) [] (by decide) rfl).self (fun _ hq => Or.inr hq) (hST.at hS hFc)) rfl rfl hl.1 rfl (lv_room (Nat.le_of_ble_eq_true rfl)) dX1_turningPoint_15 ⟨Nat.le_of_ble_eq_true rfl, Nat.le_of_ble_eq_true rfl⟩) hS (fun q _ hq => hFc q hq) hFc (fun q _ hq => hFc q hq) (fun E_14 ce q_15 u_12 t H_13 locs ht _ w_10 hB _ hk hS hce hcv hcl => ?_) (fun u_12 t H_11 locs ht _ w_10 hB _ hk hS => ?_)
    · replace h := ga_swr w_10 h
      obtain ⟨eE, hP1, hD1⟩ := hB
      rw [ht] at hP1
      obtain ⟨hP, hD⟩ := va_join (wr := [(x, .inr (1, [.ref g, xs, xp, .ref xi, .int xl, xr, xq])), (g, .inr (2, [.ref sh, .ref al, .int gr, .ref g_b, .ref g_t])), (al, .inr (6, [.int lm, .ref ed, .int lz])), (ed, .inl (cA 5, ln, .inr (.inr (.inr (.inr lf))))), (g_b, .inl (cA 0, 2, .inl gB))]) (w1 := []) hP hD [] [0, 1, 2, 3, 4] rfl rfl (by decide) (by decide) hk hFc hP1 hD1
      have hP : va_P D ga_cl [(x, .inr (1, [.ref g, xs, xp, .ref xi, .int xl, xr, xq])), (g, .inr (2, [.ref sh, .ref al, .int gr, .ref g_b, .ref g_t])), (al, .inr (6, [.int lm, .ref ed, .int lz])), (ed, .inl (cA 5, ln, .inr (.inr (.inr (.inr lf))))), (g_b, .inl (cA 0, 2, .inl gB))] H_13 := hP
      have hD : va_D A [(x, .inr (1, [.ref g, xs, xp, .ref xi, .int xl, xr, xq])), (g, .inr (2, [.ref sh, .ref al, .int gr, .ref g_b, .ref g_t])), (al, .inr (6, [.int lm, .ref ed, .int lz])), (ed, .inl (cA 5, ln, .inr (.inr (.inr (.inr lf))))), (g_b, .inl (cA 0, 2, .inl gB))] := hD
      have hP9 := hP.sub (ws' := [(x, .inr (1, [.ref g, xs, xp, .ref xi, .int xl, xr, xq])), (g, .inr (2, [.ref sh, .ref al, .int gr, .ref g_b, .ref g_t])), (al, .inr (6, [.int lm, .ref ed, .int lz])), (ed, .inl (cA 5, ln, .inr (.inr (.inr (.inr lf))))), (g_b, .inl (cA 0, 2, .inl gB))]) [0, 1, 2, 3, 4] rfl
      have hD9 := hD.sub (ws' := [(x, .inr (1, [.ref g, xs, xp, .ref xi, .int xl, xr, xq])), (g, .inr (2, [.ref sh, .ref al, .int gr, .ref g_b, .ref g_t])), (al, .inr (6, [.int lm, .ref ed, .int lz])), (ed, .inl (cA 5, ln, .inr (.inr (.inr (.inr lf))))), (g_b, .inl (cA 0, 2, .inl gB))]) [0, 1, 2, 3, 4] (by decide) rfl
      obtain rfl := Option.some.inj h
      exact vx_out (fun x hx9 => (hX.1 x hx9).elim) hlocks hce hcv hcl (fun t ht _ => ⟨u_12, rfl, ⟨eE, by rw [ht]; exact hP9, hD9⟩, hS.F ht⟩) hS.2.2 (by decide) (by decide)
    · obtain ⟨v_16, ev_16, hv9⟩ := w_10
      replace h := ga_swl ev_16 h
      obtain rfl := hv9
      obtain ⟨hP1, -, hD1⟩ := hB
      rw [ht] at hP1
      obtain ⟨hP, hD⟩ := va_join (wr := [(x, .inr (1, [.ref g, xs, xp, .ref xi, .int xl, xr, xq])), (g, .inr (2, [.ref sh, .ref al, .int gr, .ref g_b, .ref g_t])), (al, .inr (6, [.int lm, .ref ed, .int lz])), (ed, .inl (cA 5, ln, .inr (.inr (.inr (.inr lf))))), (g_b, .inl (cA 0, 2, .inl gB))]) (w1 := []) hP hD [] [0, 1, 2, 3, 4] rfl rfl (by decide) (by decide) hk hFc hP1 hD1
      have hP : va_P D ga_cl [(x, .inr (1, [.ref g, xs, xp, .ref xi, .int xl, xr, xq])), (g, .inr (2, [.ref sh, .ref al, .int gr, .ref g_b, .ref g_t])), (al, .inr (6, [.int lm, .ref ed, .int lz])), (ed, .inl (cA 5, ln, .inr (.inr (.inr (.inr lf))))), (g_b, .inl (cA 0, 2, .inl gB))] H_11 := hP
      have hD : va_D A [(x, .inr (1, [.ref g, xs, xp, .ref xi, .int xl, xr, xq])), (g, .inr (2, [.ref sh, .ref al, .int gr, .ref g_b, .ref g_t])), (al, .inr (6, [.int lm, .ref ed, .int lz])), (ed, .inl (cA 5, ln, .inr (.inr (.inr (.inr lf))))), (g_b, .inl (cA 0, 2, .inl gB))] := hD
      refine W.cs (cells' := 1) (slots' := 6) rfl rfl ?_
      refine lv_iconst (v := 0) hx hb dX1_turningPoint_18 (by decide) ?_
      refine lv_istore_n (lv' := [(1, .int 0), (0, .ref x)]) hx hb dX1_turningPoint_19 rfl hl (by decide) rfl (fun ls hl => ?_)
      refine lv_iconst (v := (-1)) hx hb dX1_turningPoint_20 (by decide) ?_
      refine lv_istore_n (lv' := [(2, .int (-1)), (1, .int 0), (0, .ref x)]) hx hb dX1_turningPoint_21 rfl hl (by decide) rfl (fun ls hl => ?_)
      refine lv_iconst (v := 0) hx hb dX1_turningPoint_22 (by decide) ?_
      refine lv_istore_n (lv' := [(3, .int 0), (2, .int (-1)), (1, .int 0), (0, .ref x)]) hx hb dX1_turningPoint_23 rfl hl (by decide) rfl (fun ls hl => ?_)
      exact w_X1_turningPoint_24 C hK hA hST hX hR N 0 (-1) 0 h _ _ (hP.sub [0, 1, 2, 3, 4] rfl) (hD.sub [0, 1, 2, 3, 4] (by decide) rfl) hS _ (lv_sub hl [3, 2, 1, 0] rfl)
  · replace h := ga_iff c_6 h
    refine lv_iconst (v := 1) hx hb dX1_turningPoint_10 (by decide) ?_
    refine lv_goto (tgt := 15) hx hb dX1_turningPoint_11 (by decide) ?_
    obtain ⟨r_18, e_19, h⟩ := ga_gb h
    have hFc := va_free (wc := []) hD hS hA [] rfl
    refine vx_callv (vx_runS (As := [.int 1]) (rest := []) ⟨hx, hb, hml, hown, hts⟩ (met_X1_checkFound l D cA (va_A [] s.heap.size) zs N 1 hX.2 r_18 e_19) (va_cwS 1 hts (lw_S q964 q965 q67 q966) rfl rfl rfl (by decide +kernel) ⟨Nat.le_of_ble_eq_true rfl, Nat.le_of_ble_eq_true rfl⟩) (ga_XS hK ga_P0 (hD.sub (ws' := []) [] (by decide) rfl).self (fun _ hq => Or.inr hq) (hST.at hS hFc)) rfl rfl hl.1 rfl (lv_room (Nat.le_of_ble_eq_true rfl)) dX1_turningPoint_15 ⟨Nat.le_of_ble_eq_true rfl, Nat.le_of_ble_eq_true rfl⟩) hS (fun q _ hq => hFc q hq) hFc (fun q _ hq => hFc q hq) (fun E_25 ce q_26 u_23 t H_24 locs ht _ w_21 hB _ hk hS hce hcv hcl => ?_) (fun u_23 t H_22 locs ht _ w_21 hB _ hk hS => ?_)
    · replace h := ga_swr w_21 h
      obtain ⟨eE, hP1, hD1⟩ := hB
      rw [ht] at hP1
      obtain ⟨hP, hD⟩ := va_join (wr := [(x, .inr (1, [.ref g, xs, xp, .ref xi, .int xl, xr, xq])), (g, .inr (2, [.ref sh, .ref al, .int gr, .ref g_b, .ref g_t])), (al, .inr (6, [.int lm, .ref ed, .int lz])), (ed, .inl (cA 5, ln, .inr (.inr (.inr (.inr lf))))), (g_b, .inl (cA 0, 2, .inl gB))]) (w1 := []) hP hD [] [0, 1, 2, 3, 4] rfl rfl (by decide) (by decide) hk hFc hP1 hD1
      have hP : va_P D ga_cl [(x, .inr (1, [.ref g, xs, xp, .ref xi, .int xl, xr, xq])), (g, .inr (2, [.ref sh, .ref al, .int gr, .ref g_b, .ref g_t])), (al, .inr (6, [.int lm, .ref ed, .int lz])), (ed, .inl (cA 5, ln, .inr (.inr (.inr (.inr lf))))), (g_b, .inl (cA 0, 2, .inl gB))] H_24 := hP
      have hD : va_D A [(x, .inr (1, [.ref g, xs, xp, .ref xi, .int xl, xr, xq])), (g, .inr (2, [.ref sh, .ref al, .int gr, .ref g_b, .ref g_t])), (al, .inr (6, [.int lm, .ref ed, .int lz])), (ed, .inl (cA 5, ln, .inr (.inr (.inr (.inr lf))))), (g_b, .inl (cA 0, 2, .inl gB))] := hD
      have hP9 := hP.sub (ws' := [(x, .inr (1, [.ref g, xs, xp, .ref xi, .int xl, xr, xq])), (g, .inr (2, [.ref sh, .ref al, .int gr, .ref g_b, .ref g_t])), (al, .inr (6, [.int lm, .ref ed, .int lz])), (ed, .inl (cA 5, ln, .inr (.inr (.inr (.inr lf))))), (g_b, .inl (cA 0, 2, .inl gB))]) [0, 1, 2, 3, 4] rfl
      have hD9 := hD.sub (ws' := [(x, .inr (1, [.ref g, xs, xp, .ref xi, .int xl, xr, xq])), (g, .inr (2, [.ref sh, .ref al, .int gr, .ref g_b, .ref g_t])), (al, .inr (6, [.int lm, .ref ed, .int lz])), (ed, .inl (cA 5, ln, .inr (.inr (.inr (.inr lf))))), (g_b, .inl (cA 0, 2, .inl gB))]) [0, 1, 2, 3, 4] (by decide) rfl
      obtain rfl := Option.some.inj h
      exact vx_out (fun x hx9 => (hX.1 x hx9).elim) hlocks hce hcv hcl (fun t ht _ => ⟨u_23, rfl, ⟨eE, by rw [ht]; exact hP9, hD9⟩, hS.F ht⟩) hS.2.2 (by decide) (by decide)
    · obtain ⟨v_27, ev_27, hv9⟩ := w_21
      replace h := ga_swl ev_27 h
      obtain rfl := hv9
      obtain ⟨hP1, -, hD1⟩ := hB
      rw [ht] at hP1
      obtain ⟨hP, hD⟩ := va_join (wr := [(x, .inr (1, [.ref g, xs, xp, .ref xi, .int xl, xr, xq])), (g, .inr (2, [.ref sh, .ref al, .int gr, .ref g_b, .ref g_t])), (al, .inr (6, [.int lm, .ref ed, .int lz])), (ed, .inl (cA 5, ln, .inr (.inr (.inr (.inr lf))))), (g_b, .inl (cA 0, 2, .inl gB))]) (w1 := []) hP hD [] [0, 1, 2, 3, 4] rfl rfl (by decide) (by decide) hk hFc hP1 hD1
      have hP : va_P D ga_cl [(x, .inr (1, [.ref g, xs, xp, .ref xi, .int xl, xr, xq])), (g, .inr (2, [.ref sh, .ref al, .int gr, .ref g_b, .ref g_t])), (al, .inr (6, [.int lm, .ref ed, .int lz])), (ed, .inl (cA 5, ln, .inr (.inr (.inr (.inr lf))))), (g_b, .inl (cA 0, 2, .inl gB))] H_22 := hP
      have hD : va_D A [(x, .inr (1, [.ref g, xs, xp, .ref xi, .int xl, xr, xq])), (g, .inr (2, [.ref sh, .ref al, .int gr, .ref g_b, .ref g_t])), (al, .inr (6, [.int lm, .ref ed, .int lz])), (ed, .inl (cA 5, ln, .inr (.inr (.inr (.inr lf))))), (g_b, .inl (cA 0, 2, .inl gB))] := hD
      refine W.cs (cells' := 1) (slots' := 6) rfl rfl ?_
      refine lv_iconst (v := 0) hx hb dX1_turningPoint_18 (by decide) ?_
      refine lv_istore_n (lv' := [(1, .int 0), (0, .ref x)]) hx hb dX1_turningPoint_19 rfl hl (by decide) rfl (fun ls hl => ?_)
      refine lv_iconst (v := (-1)) hx hb dX1_turningPoint_20 (by decide) ?_
      refine lv_istore_n (lv' := [(2, .int (-1)), (1, .int 0), (0, .ref x)]) hx hb dX1_turningPoint_21 rfl hl (by decide) rfl (fun ls hl => ?_)
      refine lv_iconst (v := 0) hx hb dX1_turningPoint_22 (by decide) ?_
      refine lv_istore_n (lv' := [(3, .int 0), (2, .int (-1)), (1, .int 0), (0, .ref x)]) hx hb dX1_turningPoint_23 rfl hl (by decide) rfl (fun ls hl => ?_)
      exact w_X1_turningPoint_24 C hK hA hST hX hR N 0 (-1) 0 h _ _ (hP.sub [0, 1, 2, 3, 4] rfl) (hD.sub [0, 1, 2, 3, 4] (by decide) rfl) hS _ (lv_sub hl [3, 2, 1, 0] rfl)
