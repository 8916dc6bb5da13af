abbrev rm_X2_rounds : Room := { frames := 2, cells := 0, slots := 0, locals := 32 }
def F_X2_rounds (N : Nat) (gr : Int32) (lm : Int32) (lz : Int32)  : Option (Int32) :=
  some (lz - 1)
set_option maxHeartbeats 4000000 in
theorem met_X2_rounds (l : Launch) (D : va_G) (cA : Nat → ClassId) (g : Nat) (sh : Nat) (al : Nat) (g_b : Nat) (g_t : Nat) (ed : Nat) (gr : Int32) (lm : Int32) (lz : Int32) (N : Nat)   (out : Int32) (h : F_X2_rounds N gr lm lz = some out) : Met l yX2_rounds (ws_ yX2_rounds cX2_rounds 1 (some .int)) rm_X2_rounds (ga_P D cA [(g, .inr (2, [.ref sh, .ref al, .int gr, .ref g_b, .ref g_t])), (al, .inr (6, [.int lm, .ref ed, .int lz]))] [.ref g]) (vp_Si (fun r => out = r)) 0 0 ga_F := by
  refine Met.ofW (cc := cX2_rounds) (maxL := 1) (ret := (some .int)) (by decide) rfl ?_
  intro p e s m args below meth c s₁ B hml hv
  obtain ⟨rfl, hP, hK⟩ := hv
  have C : ga_cx p m c meth s _ RX2 cX2_rounds 1 (some .int) := ga_cx_of B hml
  have C0 := C
  obtain ⟨hx, hb, hr, hlocks, hml, hown, hts⟩ := C0
  have hl := lv_entry ([.ref g]) (n := 1) (Nat.le_of_ble_eq_true rfl)
  rw [lg_entry_eq]
  generalize (lg_sl ([.ref g]) ++ List.replicate (1 - (lg_sl ([.ref g])).length) Slot.unset).toArray = ls at hl ⊢
  have hl : lv_has ls 1 [(0, .ref g)] := hl
  rw [F_X2_rounds] at h
  refine lv_aload_n hx hb dX2_rounds_0 rfl (lv_at hl 0 rfl) ?_
  refine va_get hx hb hts in_X2 hown hK.1 hP 0 (fs := [.ref sh, .ref al, .int gr, .ref g_b, .ref g_t]) rfl rfl 1 (by decide) (hts _ q330) (fun _ hh => hh) (v := .ref al) rfl dX2_rounds_1 ?_
  refine vp_callSi (va_Run.run (va_runV (As := []) (rest := []) ⟨hx, hb, hml, hown, hts⟩ (met_J2_size l D cA al ed lm lz N lz rfl) (cwV 0 hts (lw_V q392 q393 q394 q71 q395) rfl rfl rfl (by decide +kernel) ⟨Nat.le_of_ble_eq_true rfl, Nat.le_of_ble_eq_true rfl⟩) (ga_PV hK (hP.sub (ws' := [(al, .inr (6, [.int lm, .ref ed, .int lz]))]) [1] rfl) (va_recv hK.1 hP (ci := 6) (q0 := 1) rfl rfl)) rfl rfl hl.1 rfl (lv_room (Nat.le_of_ble_eq_true rfl)) dX2_rounds_4 ⟨Nat.le_of_ble_eq_true rfl, Nat.le_of_ble_eq_true rfl⟩)) (fun z_3 w_4 => ?_)
  obtain rfl := w_4
  refine lv_iconst (v := 1) hx hb dX2_rounds_7 (by decide) ?_
  refine lv_isub hx hb dX2_rounds_8 ?_
  obtain rfl := Option.some.inj h
  exact W.iret hx hb hr (fun t ht hW => ⟨_, rfl, rfl, ht⟩) (fun _ hq => by cases hq) dX2_rounds_9
abbrev rm_X2_round : Room := { frames := 4, cells := 0, slots := 0, locals := 76 }
def F_X2_round (N : Nat) (gr : Int32) (lm : Int32) (lz : Int32) (ln : Nat) (r1 : Int32) (r2 : Int32) (rN : Int32) (x1 : Int32) : Option (Unit) :=
  ((F_J2_get N lm lz ln (x1 + 1)).bind fun r_1 =>
  some ())
set_option maxHeartbeats 4000000 in
theorem met_X2_round (l : Launch) (D : va_G) (cA : Nat → ClassId) (g : Nat) (sh : Nat) (al : Nat) (g_b : Nat) (g_t : Nat) (ed : Nat) (lf : Nat → Option Nat) (r : Nat) (r_b : Nat) (r_w : Nat) (r_s : Nat) (r_r : Nat) (r_v : Nat) (gr : Int32) (lm : Int32) (lz : Int32) (ln : Nat) (r1 : Int32) (r2 : Int32) (rN : Int32) (N : Nat) (x1 : Int32) (hat : lf (ix (x1 + 1)) = some r) (out : Unit) (h : F_X2_round N gr lm lz ln r1 r2 rN x1 = some out) : Met l yX2_round (ws_ yX2_round cX2_round 2 (Option.some (.object "EnclosureReferee$Round"))) rm_X2_round (ga_P D cA [(g, .inr (2, [.ref sh, .ref al, .int gr, .ref g_b, .ref g_t])), (al, .inr (6, [.int lm, .ref ed, .int lz])), (ed, .inl (cA 5, ln, .inr (.inr (.inr (.inr lf))))), (r, .inr (5, [.int r1, .int r2, .ref r_b, .ref r_w, .int rN, .ref r_s, .ref r_r, .ref r_v]))] [.ref g, .int x1]) (va_Sr (fun _ => True) (fun _ => .ref r)) 0 0 ga_F := by
  refine Met.ofW (cc := cX2_round) (maxL := 2) (ret := (Option.some (.object "EnclosureReferee$Round"))) (by decide) rfl ?_
  intro p e s m args below meth c s₁ B hml hv
  obtain ⟨rfl, hP, hK⟩ := hv
  have C : ga_cx p m c meth s _ RX2 cX2_round 2 (Option.some (.object "EnclosureReferee$Round")) := ga_cx_of B hml
  have C0 := C
  obtain ⟨hx, hb, hr, hlocks, hml, hown, hts⟩ := C0
  have hl := lv_entry ([.ref g, .int x1]) (n := 2) (Nat.le_of_ble_eq_true rfl)
  rw [lg_entry_eq]
  generalize (lg_sl ([.ref g, .int x1]) ++ List.replicate (2 - (lg_sl ([.ref g, .int x1])).length) Slot.unset).toArray = ls at hl ⊢
  have hl : lv_has ls 2 [(0, .ref g), (1, .int x1)] := hl
  rw [F_X2_round] at h
  refine lv_aload_n hx hb dX2_round_0 rfl (lv_at hl 0 rfl) ?_
  refine va_get hx hb hts in_X2 hown hK.1 hP 0 (fs := [.ref sh, .ref al, .int gr, .ref g_b, .ref g_t]) rfl rfl 1 (by decide) (hts _ q330) (fun _ hh => hh) (v := .ref al) rfl dX2_round_1 ?_
  refine lv_iload_n hx hb dX2_round_4 rfl (lv_at hl 1 rfl) ?_
  refine lv_iconst (v := 1) hx hb dX2_round_5 (by decide) ?_
  refine lv_iadd hx hb dX2_round_6 ?_
  obtain ⟨r_1, e_2, h⟩ := ga_gb h
  refine va_csq (va_Run.run (va_runV (As := [.int (x1 + 1)]) (rest := []) ⟨hx, hb, hml, hown, hts⟩ (met_J2_get l D cA al ed lf lm lz ln N (x1 + 1) r_1 e_2) (cwV 1 hts (lw_V q396 q397 q398 q71 q399) rfl rfl rfl (by decide +kernel) ⟨Nat.le_of_ble_eq_true rfl, Nat.le_of_ble_eq_true rfl⟩) (ga_PV hK (hP.sub (ws' := [(al, .inr (6, [.int lm, .ref ed, .int lz])), (ed, .inl (cA 5, ln, .inr (.inr (.inr (.inr lf)))))]) [1, 2] rfl) (va_recv hK.1 hP (ci := 6) (q0 := 1) rfl rfl)) rfl rfl hl.1 rfl (lv_room (Nat.le_of_ble_eq_true rfl)) dX2_round_7 ⟨Nat.le_of_ble_eq_true rfl, Nat.le_of_ble_eq_true rfl⟩)) (fun z_3 w_4 => ?_)
  obtain rfl := w_4
  refine ga_rf hat ?_
  refine va_castS hx hb hown (hts _ q211) (hK.1.1 5 _ rfl).2 (va_recv hK.1 hP (ci := 5) (q0 := 3) rfl rfl) dX2_round_10 ?_
  obtain rfl := Option.some.inj h
  exact W.aret hx hb hr (Or.inl ⟨_, rfl⟩) (Or.inr ⟨_, rfl⟩) (fun t ht hW => ⟨0, rfl, trivial, ht⟩) (fun _ hq => by cases hq) dX2_round_13
abbrev rm_X2_last : Room := { frames := 4, cells := 0, slots := 0, locals := 76 }
def F_X2_last (N : Nat) (gr : Int32) (lm : Int32) (lz : Int32) (ln : Nat) (r1 : Int32) (r2 : Int32) (rN : Int32)  : Option (Unit) :=
  ((F_J2_get N lm lz ln (lz - 1)).bind fun r_6 =>
  some ())
set_option maxHeartbeats 4000000 in
theorem met_X2_last (l : Launch) (D : va_G) (cA : Nat → ClassId) (g : Nat) (sh : Nat) (al : Nat) (g_b : Nat) (g_t : Nat) (ed : Nat) (lf : Nat → Option Nat) (r : Nat) (r_b : Nat) (r_w : Nat) (r_s : Nat) (r_r : Nat) (r_v : Nat) (gr : Int32) (lm : Int32) (lz : Int32) (ln : Nat) (r1 : Int32) (r2 : Int32) (rN : Int32) (N : Nat)  (hlast : lf (ix (lz - 1)) = some r) (out : Unit) (h : F_X2_last N gr lm lz ln r1 r2 rN = some out) : Met l yX2_last (ws_ yX2_last cX2_last 1 (Option.some (.object "EnclosureReferee$Round"))) rm_X2_last (ga_P D cA [(g, .inr (2, [.ref sh, .ref al, .int gr, .ref g_b, .ref g_t])), (al, .inr (6, [.int lm, .ref ed, .int lz])), (ed, .inl (cA 5, ln, .inr (.inr (.inr (.inr lf))))), (r, .inr (5, [.int r1, .int r2, .ref r_b, .ref r_w, .int rN, .ref r_s, .ref r_r, .ref r_v]))] [.ref g]) (va_Sr (fun _ => True) (fun _ => .ref r)) 0 0 ga_F := by
  refine Met.ofW (cc := cX2_last) (maxL := 1) (ret := (Option.some (.object "EnclosureReferee$Round"))) (by decide) rfl ?_
  intro p e s m args below meth c s₁ B hml hv
  obtain ⟨rfl, hP, hK⟩ := hv
  have C : ga_cx p m c meth s _ RX2 cX2_last 1 (Option.some (.object "EnclosureReferee$Round")) := ga_cx_of B hml
  have C0 := C
  obtain ⟨hx, hb, hr, hlocks, hml, hown, hts⟩ := C0
  have hl := lv_entry ([.ref g]) (n := 1) (Nat.le_of_ble_eq_true rfl)
  rw [lg_entry_eq]
  generalize (lg_sl ([.ref g]) ++ List.replicate (1 - (lg_sl ([.ref g])).length) Slot.unset).toArray = ls at hl ⊢
  have hl : lv_has ls 1 [(0, .ref g)] := hl
  rw [F_X2_last] at h
  refine lv_aload_n hx hb dX2_last_0 rfl (lv_at hl 0 rfl) ?_
  refine va_get hx hb hts in_X2 hown hK.1 hP 0 (fs := [.ref sh, .ref al, .int gr, .ref g_b, .ref g_t]) rfl rfl 1 (by decide) (hts _ q330) (fun _ hh => hh) (v := .ref al) rfl dX2_last_1 ?_
  refine lv_aload_n hx hb dX2_last_4 rfl (lv_at hl 0 rfl) ?_
  refine va_get hx hb hts in_X2 hown hK.1 hP 0 (fs := [.ref sh, .ref al, .int gr, .ref g_b, .ref g_t]) rfl rfl 1 (by decide) (hts _ q330) (fun _ hh => hh) (v := .ref al) rfl dX2_last_5 ?_
  refine vp_callSi (va_Run.run (va_runV (As := []) (rest := [.ref al]) ⟨hx, hb, hml, hown, hts⟩ (met_J2_size l D cA al ed lm lz N lz rfl) (cwV 0 hts (lw_V q392 q393 q394 q71 q395) rfl rfl rfl (by decide +kernel) ⟨Nat.le_of_ble_eq_true rfl, Nat.le_of_ble_eq_true rfl⟩) (ga_PV hK (hP.sub (ws' := [(al, .inr (6, [.int lm, .ref ed, .int lz]))]) [1] rfl) (va_recv hK.1 hP (ci := 6) (q0 := 1) rfl rfl)) rfl rfl hl.1 rfl (lv_room (Nat.le_of_ble_eq_true rfl)) dX2_last_8 ⟨Nat.le_of_ble_eq_true rfl, Nat.le_of_ble_eq_true rfl⟩)) (fun z_3 w_4 => ?_)
  obtain rfl := w_4
  refine lv_iconst (v := 1) hx hb dX2_last_11 (by decide) ?_
  refine lv_isub hx hb dX2_last_12 ?_
  obtain ⟨r_6, e_7, h⟩ := ga_gb h
  refine va_csq (va_Run.run (va_runV (As := [.int (lz - 1)]) (rest := []) ⟨hx, hb, hml, hown, hts⟩ (met_J2_get l D cA al ed lf lm lz ln N (lz - 1) r_6 e_7) (cwV 1 hts (lw_V q396 q397 q398 q71 q399) rfl rfl rfl (by decide +kernel) ⟨Nat.le_of_ble_eq_true rfl, Nat.le_of_ble_eq_true rfl⟩) (ga_PV hK (hP.sub (ws' := [(al, .inr (6, [.int lm, .ref ed, .int lz])), (ed, .inl (cA 5, ln, .inr (.inr (.inr (.inr lf)))))]) [1, 2] rfl) (va_recv hK.1 hP (ci := 6) (q0 := 1) rfl rfl)) rfl rfl hl.1 rfl (lv_room (Nat.le_of_ble_eq_true rfl)) dX2_last_13 ⟨Nat.le_of_ble_eq_true rfl, Nat.le_of_ble_eq_true rfl⟩)) (fun z_8 w_9 => ?_)
  obtain rfl := w_9
  refine ga_rf hlast ?_
  refine va_castS hx hb hown (hts _ q211) (hK.1.1 5 _ rfl).2 (va_recv hK.1 hP (ci := 5) (q0 := 3) rfl rfl) dX2_last_16 ?_
  obtain rfl := Option.some.inj h
  exact W.aret hx hb hr (Or.inl ⟨_, rfl⟩) (Or.inr ⟨_, rfl⟩) (fun t ht hW => ⟨0, rfl, trivial, ht⟩) (fun _ hq => by cases hq) dX2_last_19
abbrev rm_X2_board : Room := { frames := 5, cells := 0, slots := 0, locals := 96 }
def F_X2_board (N : Nat) (gr : Int32) (lm : Int32) (lz : Int32) (ln : Nat) (r1 : Int32) (r2 : Int32) (rN : Int32)  : Option (Unit) :=
  ((F_X2_last N gr lm lz ln r1 r2 rN).bind fun r_1 =>
  some ())
set_option maxHeartbeats 4000000 in
theorem met_X2_board (l : Launch) (D : va_G) (cA : Nat → ClassId) (g : Nat) (sh : Nat) (al : Nat) (g_b : Nat) (g_t : Nat) (ed : Nat) (lf : Nat → Option Nat) (r : Nat) (r_b : Nat) (r_w : Nat) (r_s : Nat) (r_r : Nat) (r_v : Nat) (gr : Int32) (lm : Int32) (lz : Int32) (ln : Nat) (r1 : Int32) (r2 : Int32) (rN : Int32) (N : Nat)  (hlast : lf (ix (lz - 1)) = some r) (out : Unit) (h : F_X2_board N gr lm lz ln r1 r2 rN = some out) : Met l yX2_board (ws_ yX2_board cX2_board 1 (Option.some (.object "EnclosureReferee$Board"))) rm_X2_board (ga_P D cA [(g, .inr (2, [.ref sh, .ref al, .int gr, .ref g_b, .ref g_t])), (al, .inr (6, [.int lm, .ref ed, .int lz])), (ed, .inl (cA 5, ln, .inr (.inr (.inr (.inr lf))))), (r, .inr (5, [.int r1, .int r2, .ref r_b, .ref r_w, .int rN, .ref r_s, .ref r_r, .ref r_v]))] [.ref g]) (va_Sr (fun _ => True) (fun _ => .ref r_b)) 0 0 ga_F := by
  refine Met.ofW (cc := cX2_board) (maxL := 1) (ret := (Option.some (.object "EnclosureReferee$Board"))) (by decide) rfl ?_
  intro p e s m args below meth c s₁ B hml hv
  obtain ⟨rfl, hP, hK⟩ := hv
  have C : ga_cx p m c meth s _ RX2 cX2_board 1 (Option.some (.object "EnclosureReferee$Board")) := ga_cx_of B hml
  have C0 := C
  obtain ⟨hx, hb, hr, hlocks, hml, hown, hts⟩ := C0
  have hl := lv_entry ([.ref g]) (n := 1) (Nat.le_of_ble_eq_true rfl)
  rw [lg_entry_eq]
  generalize (lg_sl ([.ref g]) ++ List.replicate (1 - (lg_sl ([.ref g])).length) Slot.unset).toArray = ls at hl ⊢
  have hl : lv_has ls 1 [(0, .ref g)] := hl
  rw [F_X2_board] at h
  refine lv_aload_n hx hb dX2_board_0 rfl (lv_at hl 0 rfl) ?_
  obtain ⟨r_1, e_2, h⟩ := ga_gb h
  refine va_csr (va_Run.run (va_runV (As := []) (rest := []) ⟨hx, hb, hml, hown, hts⟩ (met_X2_last l D cA g sh al g_b g_t ed lf r r_b r_w r_s r_r r_v gr lm lz ln r1 r2 rN N hlast r_1 e_2) (cwV 0 hts (lw_V q388 q389 q390 q68 q391) rfl rfl rfl (by decide +kernel) ⟨Nat.le_of_ble_eq_true rfl, Nat.le_of_ble_eq_true rfl⟩) (ga_PV hK (hP.sub (ws' := [(g, .inr (2, [.ref sh, .ref al, .int gr, .ref g_b, .ref g_t])), (al, .inr (6, [.int lm, .ref ed, .int lz])), (ed, .inl (cA 5, ln, .inr (.inr (.inr (.inr lf))))), (r, .inr (5, [.int r1, .int r2, .ref r_b, .ref r_w, .int rN, .ref r_s, .ref r_r, .ref r_v]))]) [0, 1, 2, 3] rfl) (va_recv hK.1 hP (ci := 2) (q0 := 0) rfl rfl)) rfl rfl hl.1 rfl (lv_room (Nat.le_of_ble_eq_true rfl)) dX2_board_1 ⟨Nat.le_of_ble_eq_true rfl, Nat.le_of_ble_eq_true rfl⟩)) (fun _ _ => ?_)
  refine va_getN hx hb hts in_X5 hown hK.1 hP 3 (fs := [.int r1, .int r2, .ref r_b, .ref r_w, .int rN, .ref r_s, .ref r_r, .ref r_v]) rfl rfl 2 (by decide) (ga_nu hK q228 rfl) (fun _ hh => hh) (v := .ref r_b) rfl dX2_board_4 ?_
  obtain rfl := Option.some.inj h
  exact W.aret hx hb hr (Or.inl ⟨_, rfl⟩) (Or.inr ⟨_, rfl⟩) (fun t ht hW => ⟨0, rfl, trivial, ht⟩) (fun _ hq => by cases hq) dX2_board_7
abbrev rm_X2_score : Room := { frames := 4, cells := 0, slots := 0, locals := 75 }
def F_X2_score (N : Nat) (gr : Int32) (gB : Nat → Int32) (bB : Int64) (bA : Nat → Int64) (bC : Nat → Int32) (x2 : Int32) : Option (Int32) :=
  ((F_X3_points N bB bA bC x2).bind fun r_1 =>
  (if inb x2 2 = true then
  some (r_1 + (gB (ix x2)))
  else none))
set_option maxHeartbeats 4000000 in
theorem met_X2_score (l : Launch) (D : va_G) (cA : Nat → ClassId) (g : Nat) (sh : Nat) (al : Nat) (g_b : Nat) (g_t : Nat) (b : Nat) (b_s : Nat) (b_a : Nat) (b_c : Nat) (b_g : Nat) (gr : Int32) (gB : Nat → Int32) (bB : Int64) (bA : Nat → Int64) (bC : Nat → Int32) (N : Nat) (x2 : Int32)  (out : Int32) (h : F_X2_score N gr gB bB bA bC x2 = some out) : Met l yX2_score (ws_ yX2_score cX2_score 3 (some .int)) rm_X2_score (ga_P D cA [(g, .inr (2, [.ref sh, .ref al, .int gr, .ref g_b, .ref g_t])), (g_b, .inl (cA 0, 2, .inl gB)), (b, .inr (3, [.ref b_s, .ref b_a, .long bB, .ref b_c, .ref b_g])), (b_a, .inl (cA 1, 2, .inr (.inl bA))), (b_c, .inl (cA 0, 2, .inl bC))] [.ref g, .ref b, .int x2]) (vp_Si (fun r => out = r)) 0 0 ga_F := by
  refine Met.ofW (cc := cX2_score) (maxL := 3) (ret := (some .int)) (by decide) rfl ?_
  intro p e s m args below meth c s₁ B hml hv
  obtain ⟨rfl, hP, hK⟩ := hv
  have C : ga_cx p m c meth s _ RX2 cX2_score 3 (some .int) := ga_cx_of B hml
  have C0 := C
  obtain ⟨hx, hb, hr, hlocks, hml, hown, hts⟩ := C0
  have hl := lv_entry ([.ref g, .ref b, .int x2]) (n := 3) (Nat.le_of_ble_eq_true rfl)
  rw [lg_entry_eq]
  generalize (lg_sl ([.ref g, .ref b, .int x2]) ++ List.replicate (3 - (lg_sl ([.ref g, .ref b, .int x2])).length) Slot.unset).toArray = ls at hl ⊢
  have hl : lv_has ls 3 [(0, .ref g), (1, .ref b), (2, .int x2)] := hl
  rw [F_X2_score] at h
  refine lv_aload_n hx hb dX2_score_0 rfl (lv_at hl 1 rfl) ?_
  refine lv_iload_n hx hb dX2_score_1 rfl (lv_at hl 2 rfl) ?_
  obtain ⟨r_1, e_2, h⟩ := ga_gb h
  refine vp_callSi (va_Run.run (va_runV (As := [.int x2]) (rest := []) ⟨hx, hb, hml, hown, hts⟩ (met_X3_points l D cA b b_s b_a b_c b_g bB bA bC N x2 r_1 e_2) (cwV 1 hts (lw_V q808 q809 q810 q72 q811) rfl rfl rfl (by decide +kernel) ⟨Nat.le_of_ble_eq_true rfl, Nat.le_of_ble_eq_true rfl⟩) (ga_PV hK (hP.sub (ws' := [(b, .inr (3, [.ref b_s, .ref b_a, .long bB, .ref b_c, .ref b_g])), (b_a, .inl (cA 1, 2, .inr (.inl bA))), (b_c, .inl (cA 0, 2, .inl bC))]) [2, 3, 4] rfl) (va_recv hK.1 hP (ci := 3) (q0 := 2) rfl rfl)) rfl rfl hl.1 rfl (lv_room (Nat.le_of_ble_eq_true rfl)) dX2_score_2 ⟨Nat.le_of_ble_eq_true rfl, Nat.le_of_ble_eq_true rfl⟩)) (fun z_3 w_4 => ?_)
  obtain rfl := w_4
  refine lv_aload_n hx hb dX2_score_5 rfl (lv_at hl 0 rfl) ?_
  refine va_get hx hb hts in_X2 hown hK.1 hP 0 (fs := [.ref sh, .ref al, .int gr, .ref g_b, .ref g_t]) rfl rfl 3 (by decide) (hts _ q334) (fun _ hh => hh) (v := .ref g_b) rfl dX2_score_6 ?_
  refine lv_iload_n hx hb dX2_score_9 rfl (lv_at hl 2 rfl) ?_
  obtain ⟨i_6, h⟩ := ga_gif h
  refine va_iald hx hb hK.1 hP 1 0 (f := gB) rfl rfl (ga_in i_6) dX2_score_10 ?_
  refine lv_iadd hx hb dX2_score_11 ?_
  obtain rfl := Option.some.inj h
  exact W.iret hx hb hr (fun t ht hW => ⟨_, rfl, rfl, ht⟩) (fun _ hq => by cases hq) dX2_score_12
abbrev rm_X2_isOver_2_3 : Room := { frames := 3, cells := 0, slots := 0, locals := 54 }
def F_X2_isOver_2_3 (N : Nat) (gr : Int32) (bB : Int64) (bS : Nat → Int64) (bA : Nat → Int64) (zw : Int32) (zh : Int32) (zA : Int64) (zL : Int64) (zR : Int64) (zE : Int64) (x2 : Int32) (x3 : Int32) : Option (Int32) :=
  (if x3 = 0 then
  (if 60 ≤ x2 then
  some 1
  else
  ((F_X3_empty N bB bS bA zw zh zA zL zR zE).bind fun r_3 =>
  (if (lg_cmp r_3 0) = 0 then
  some 1
  else
  some 0)))
  else
  some 1)
set_option maxHeartbeats 4000000 in
theorem met_X2_isOver_2_3 (l : Launch) (D : va_G) (cA : Nat → ClassId) (g : Nat) (sh : Nat) (al : Nat) (g_b : Nat) (g_t : Nat) (b : Nat) (b_s : Nat) (b_a : Nat) (b_c : Nat) (b_g : Nat) (gr : Int32) (bB : Int64) (bS : Nat → Int64) (bA : Nat → Int64) (zw : Int32) (zh : Int32) (zA : Int64) (zL : Int64) (zR : Int64) (zE : Int64) (N : Nat) (x2 : Int32) (x3 : Int32)  (out : Int32) (h : F_X2_isOver_2_3 N gr bB bS bA zw zh zA zL zR zE x2 x3 = some out) : Met l yX2_isOver_2 (ws_ yX2_isOver_2 cX2_isOver_2 4 (some .boolean)) rm_X2_isOver_2_3 (ga_P D cA [(g, .inr (2, [.ref sh, .ref al, .int gr, .ref g_b, .ref g_t])), (b, .inr (3, [.ref b_s, .ref b_a, .long bB, .ref b_c, .ref b_g])), (b_s, .inl (cA 1, 2, .inr (.inl bS))), (b_a, .inl (cA 1, 2, .inr (.inl bA))), (sh, .inr (4, [.int zw, .int zh, .long zA, .long zL, .long zR, .long zE]))] [.ref g, .ref b, .int x2, .int x3]) (vp_Si (fun r => out = r ∧ ga_B r)) 0 0 ga_F := by
  refine Met.ofW (cc := cX2_isOver_2) (maxL := 4) (ret := (some .boolean)) (by decide) rfl ?_
  intro p e s m args below meth c s₁ B hml hv
  obtain ⟨rfl, hP, hK⟩ := hv
  have C : ga_cx p m c meth s _ RX2 cX2_isOver_2 4 (some .boolean) := ga_cx_of B hml
  have C0 := C
  obtain ⟨hx, hb, hr, hlocks, hml, hown, hts⟩ := C0
  have hl := lv_entry ([.ref g, .ref b, .int x2, .int x3]) (n := 4) (Nat.le_of_ble_eq_true rfl)
  rw [lg_entry_eq]
  generalize (lg_sl ([.ref g, .ref b, .int x2, .int x3]) ++ List.replicate (4 - (lg_sl ([.ref g, .ref b, .int x2, .int x3])).length) Slot.unset).toArray = ls at hl ⊢
  have hl : lv_has ls 4 [(0, .ref g), (1, .ref b), (2, .int x2), (3, .int x3)] := hl
  rw [F_X2_isOver_2_3] at h
  refine lv_iload_n hx hb dX2_isOver_2_0 rfl (lv_at hl 3 rfl) ?_
  refine lv_if_ne (tgt := 23) hx hb dX2_isOver_2_1 (by decide) (fun c_1 => ?_) (fun c_1 => ?_)
  · replace h := ga_iff c_1 h
    refine lv_iconst (v := 1) hx hb dX2_isOver_2_23 (by decide) ?_
    refine lv_goto (tgt := 28) hx hb dX2_isOver_2_24 (by decide) ?_
    obtain rfl := Option.some.inj h
    exact W.zret hx hb hr (ga_nb (Or.inr rfl)) (fun t ht hW => ⟨_, rfl, ⟨rfl, Or.inr rfl⟩, ht⟩) (fun _ hq => by cases hq) dX2_isOver_2_28
  · replace h := ga_ift c_1 h
    refine lv_iload_n hx hb dX2_isOver_2_4 rfl (lv_at hl 2 rfl) ?_
    refine lv_bipush (v := 60) hx hb dX2_isOver_2_5 (by decide) ?_
    refine lv_icmp_ge (tgt := 23) hx hb dX2_isOver_2_7 (by decide) (fun c_2 => ?_) (fun c_2 => ?_)
    · replace h := ga_ift c_2 h
      refine lv_iconst (v := 1) hx hb dX2_isOver_2_23 (by decide) ?_
      refine lv_goto (tgt := 28) hx hb dX2_isOver_2_24 (by decide) ?_
      obtain rfl := Option.some.inj h
      exact W.zret hx hb hr (ga_nb (Or.inr rfl)) (fun t ht hW => ⟨_, rfl, ⟨rfl, Or.inr rfl⟩, ht⟩) (fun _ hq => by cases hq) dX2_isOver_2_28
    · replace h := ga_iff c_2 h
      refine lv_aload_n hx hb dX2_isOver_2_10 rfl (lv_at hl 1 rfl) ?_
      refine lv_aload_n hx hb dX2_isOver_2_11 rfl (lv_at hl 0 rfl) ?_
      refine va_get hx hb hts in_X2 hown hK.1 hP 0 (fs := [.ref sh, .ref al, .int gr, .ref g_b, .ref g_t]) rfl rfl 0 (by decide) (hts _ q327) (fun _ hh => hh) (v := .ref sh) rfl dX2_isOver_2_12 ?_
      obtain ⟨r_3, e_4, h⟩ := ga_gb h
      refine vp_callSl (va_Run.run (va_runV (As := [.ref sh]) (rest := []) ⟨hx, hb, hml, hown, hts⟩ (met_X3_empty l D cA b b_s b_a b_c b_g sh bB bS bA zw zh zA zL zR zE N r_3 e_4) (cwV 1 hts (lw_V q422 q423 q424 q72 q425) rfl rfl rfl (by decide +kernel) ⟨Nat.le_of_ble_eq_true rfl, Nat.le_of_ble_eq_true rfl⟩) (ga_PV hK (hP.sub (ws' := [(b, .inr (3, [.ref b_s, .ref b_a, .long bB, .ref b_c, .ref b_g])), (b_s, .inl (cA 1, 2, .inr (.inl bS))), (b_a, .inl (cA 1, 2, .inr (.inl bA))), (sh, .inr (4, [.int zw, .int zh, .long zA, .long zL, .long zR, .long zE]))]) [1, 2, 3, 4] rfl) (va_recv hK.1 hP (ci := 3) (q0 := 1) rfl rfl)) rfl rfl hl.1 rfl (lv_room (Nat.le_of_ble_eq_true rfl)) dX2_isOver_2_15 ⟨Nat.le_of_ble_eq_true rfl, Nat.le_of_ble_eq_true rfl⟩)) (fun z_5 w_6 => ?_)
      obtain rfl := w_6
      refine lv_lconst (v := 0) hx hb dX2_isOver_2_18 (by decide) ?_
      refine W.lcmp hx hb dX2_isOver_2_19 ?_
      refine lv_if_ne (tgt := 27) hx hb dX2_isOver_2_20 (by decide) (fun c_8 => ?_) (fun c_8 => ?_)
      · replace h := ga_iff c_8 h
        refine lv_iconst (v := 0) hx hb dX2_isOver_2_27 (by decide) ?_
        obtain rfl := Option.some.inj h
        exact W.zret hx hb hr (ga_nb (Or.inl rfl)) (fun t ht hW => ⟨_, rfl, ⟨rfl, Or.inl rfl⟩, ht⟩) (fun _ hq => by cases hq) dX2_isOver_2_28
      · replace h := ga_ift c_8 h
        refine lv_iconst (v := 1) hx hb dX2_isOver_2_23 (by decide) ?_
        refine lv_goto (tgt := 28) hx hb dX2_isOver_2_24 (by decide) ?_
        obtain rfl := Option.some.inj h
        exact W.zret hx hb hr (ga_nb (Or.inr rfl)) (fun t ht hW => ⟨_, rfl, ⟨rfl, Or.inr rfl⟩, ht⟩) (fun _ hq => by cases hq) dX2_isOver_2_28
abbrev rm_X2_isOver : Room := { frames := 6, cells := 0, slots := 0, locals := 116 }
def F_X2_isOver (N : Nat) (gr : Int32) (lm : Int32) (lz : Int32) (ln : Nat) (r1 : Int32) (r2 : Int32) (rN : Int32) (rbB : Int64) (rbS : Nat → Int64) (rbA : Nat → Int64) (zw : Int32) (zh : Int32) (zA : Int64) (zL : Int64) (zR : Int64) (zE : Int64)  : Option (Int32) :=
  ((F_X2_board N gr lm lz ln r1 r2 rN).bind fun r_1 =>
  (if (lz - 1) ≤ 0 then
  ((F_X2_isOver_2_3 N gr rbB rbS rbA zw zh zA zL zR zE (lz - 1) 0).bind fun r_16 =>
  some r_16)
  else
  ((F_X2_last N gr lm lz ln r1 r2 rN).bind fun r_21 =>
  ((F_X5_isEnd N r1 r2 rN).bind fun r_25 =>
  (if r_25 = 0 then
  ((F_X2_isOver_2_3 N gr rbB rbS rbA zw zh zA zL zR zE (lz - 1) 0).bind fun r_31 =>
  some r_31)
  else
  ((F_X2_isOver_2_3 N gr rbB rbS rbA zw zh zA zL zR zE (lz - 1) 1).bind fun r_36 =>
  some r_36))))))
set_option maxHeartbeats 4000000 in
theorem met_X2_isOver (l : Launch) (D : va_G) (cA : Nat → ClassId) (g : Nat) (sh : Nat) (al : Nat) (g_b : Nat) (g_t : Nat) (ed : Nat) (lf : Nat → Option Nat) (r : Nat) (r_b : Nat) (r_w : Nat) (r_s : Nat) (r_r : Nat) (r_v : Nat) (r_b_s : Nat) (r_b_a : Nat) (r_b_c : Nat) (r_b_g : Nat) (gr : Int32) (lm : Int32) (lz : Int32) (ln : Nat) (r1 : Int32) (r2 : Int32) (rN : Int32) (rbB : Int64) (rbS : Nat → Int64) (rbA : Nat → Int64) (zw : Int32) (zh : Int32) (zA : Int64) (zL : Int64) (zR : Int64) (zE : Int64) (N : Nat)  (hlast : lf (ix (lz - 1)) = some r) (out : Int32) (h : F_X2_isOver N gr lm lz ln r1 r2 rN rbB rbS rbA zw zh zA zL zR zE = some out) : Met l yX2_isOver (ws_ yX2_isOver cX2_isOver 1 (some .boolean)) rm_X2_isOver (ga_P D cA [(g, .inr (2, [.ref sh, .ref al, .int gr, .ref g_b, .ref g_t])), (al, .inr (6, [.int lm, .ref ed, .int lz])), (ed, .inl (cA 5, ln, .inr (.inr (.inr (.inr lf))))), (r, .inr (5, [.int r1, .int r2, .ref r_b, .ref r_w, .int rN, .ref r_s, .ref r_r, .ref r_v])), (r_b, .inr (3, [.ref r_b_s, .ref r_b_a, .long rbB, .ref r_b_c, .ref r_b_g])), (r_b_s, .inl (cA 1, 2, .inr (.inl rbS))), (r_b_a, .inl (cA 1, 2, .inr (.inl rbA))), (sh, .inr (4, [.int zw, .int zh, .long zA, .long zL, .long zR, .long zE]))] [.ref g]) (vp_Si (fun r => out = r ∧ ga_B r)) 0 0 ga_F := by
  refine Met.ofW (cc := cX2_isOver) (maxL := 1) (ret := (some .boolean)) (by decide) rfl ?_
  intro p e s m args below meth c s₁ B hml hv
  obtain ⟨rfl, hP, hK⟩ := hv
  have C : ga_cx p m c meth s _ RX2 cX2_isOver 1 (some .boolean) := ga_cx_of B hml
  have C0 := C
  obtain ⟨hx, hb, hr, hlocks, hml, hown, hts⟩ := C0
  have hl := lv_entry ([.ref g]) (n := 1) (Nat.le_of_ble_eq_true rfl)
  rw [lg_entry_eq]
  generalize (lg_sl ([.ref g]) ++ List.replicate (1 - (lg_sl ([.ref g])).length) Slot.unset).toArray = ls at hl ⊢
  have hl : lv_has ls 1 [(0, .ref g)] := hl
  rw [F_X2_isOver] at h
  refine lv_aload_n hx hb dX2_isOver_0 rfl (lv_at hl 0 rfl) ?_
  refine lv_aload_n hx hb dX2_isOver_1 rfl (lv_at hl 0 rfl) ?_
  obtain ⟨r_1, e_2, h⟩ := ga_gb h
  refine va_csr (va_Run.run (va_runV (As := []) (rest := [.ref g]) ⟨hx, hb, hml, hown, hts⟩ (met_X2_board l D cA g sh al g_b g_t ed lf r r_b r_w r_s r_r r_v gr lm lz ln r1 r2 rN N hlast r_1 e_2) (cwV 0 hts (lw_V q384 q385 q386 q68 q387) rfl rfl rfl (by decide +kernel) ⟨Nat.le_of_ble_eq_true rfl, Nat.le_of_ble_eq_true rfl⟩) (ga_PV hK (hP.sub (ws' := [(g, .inr (2, [.ref sh, .ref al, .int gr, .ref g_b, .ref g_t])), (al, .inr (6, [.int lm, .ref ed, .int lz])), (ed, .inl (cA 5, ln, .inr (.inr (.inr (.inr lf))))), (r, .inr (5, [.int r1, .int r2, .ref r_b, .ref r_w, .int rN, .ref r_s, .ref r_r, .ref r_v]))]) [0, 1, 2, 3] rfl) (va_recv hK.1 hP (ci := 2) (q0 := 0) rfl rfl)) rfl rfl hl.1 rfl (lv_room (Nat.le_of_ble_eq_true rfl)) dX2_isOver_2 ⟨Nat.le_of_ble_eq_true rfl, Nat.le_of_ble_eq_true rfl⟩)) (fun _ _ => ?_)
  refine lv_aload_n hx hb dX2_isOver_5 rfl (lv_at hl 0 rfl) ?_
  refine vp_callSi (va_Run.run (va_runV (As := []) (rest := [.ref r_b, .ref g]) ⟨hx, hb, hml, hown, hts⟩ (met_X2_rounds l D cA g sh al g_b g_t ed gr lm lz N (lz - 1) rfl) (cwV 0 hts (lw_V q410 q411 q412 q68 q413) rfl rfl rfl (by decide +kernel) ⟨Nat.le_of_ble_eq_true rfl, Nat.le_of_ble_eq_true rfl⟩) (ga_PV hK (hP.sub (ws' := [(g, .inr (2, [.ref sh, .ref al, .int gr, .ref g_b, .ref g_t])), (al, .inr (6, [.int lm, .ref ed, .int lz]))]) [0, 1] rfl) (va_recv hK.1 hP (ci := 2) (q0 := 0) rfl rfl)) rfl rfl hl.1 rfl (lv_room (Nat.le_of_ble_eq_true rfl)) dX2_isOver_6 ⟨Nat.le_of_ble_eq_true rfl, Nat.le_of_ble_eq_true rfl⟩)) (fun z_7 w_8 => ?_)
  obtain rfl := w_8
  refine lv_aload_n hx hb dX2_isOver_9 rfl (lv_at hl 0 rfl) ?_
  refine vp_callSi (va_Run.run (va_runV (As := []) (rest := [.int (lz - 1), .ref r_b, .ref g]) ⟨hx, hb, hml, hown, hts⟩ (met_X2_rounds l D cA g sh al g_b g_t ed gr lm lz N (lz - 1) rfl) (cwV 0 hts (lw_V q410 q411 q412 q68 q413) rfl rfl rfl (by decide +kernel) ⟨Nat.le_of_ble_eq_true rfl, Nat.le_of_ble_eq_true rfl⟩) (ga_PV hK (hP.sub (ws' := [(g, .inr (2, [.ref sh, .ref al, .int gr, .ref g_b, .ref g_t])), (al, .inr (6, [.int lm, .ref ed, .int lz]))]) [0, 1] rfl) (va_recv hK.1 hP (ci := 2) (q0 := 0) rfl rfl)) rfl rfl hl.1 rfl (lv_room (Nat.le_of_ble_eq_true rfl)) dX2_isOver_10 ⟨Nat.le_of_ble_eq_true rfl, Nat.le_of_ble_eq_true rfl⟩)) (fun z_12 w_13 => ?_)
  obtain rfl := w_13
  refine lv_if_le (tgt := 30) hx hb dX2_isOver_13 (by decide) (fun c_15 => ?_) (fun c_15 => ?_)
  · replace h := ga_ift c_15 h
    refine lv_iconst (v := 0) hx hb dX2_isOver_30 (by decide) ?_
    obtain ⟨r_16, e_17, h⟩ := ga_gb h
    refine vp_callSi (va_Run.run (va_runV (As := [.ref r_b, .int (lz - 1), .int 0]) (rest := []) ⟨hx, hb, hml, hown, hts⟩ (met_X2_isOver_2_3 l D cA g sh al g_b g_t r_b r_b_s r_b_a r_b_c r_b_g gr rbB rbS rbA zw zh zA zL zR zE N (lz - 1) 0 r_16 e_17) (cwV 3 hts (lw_V q418 q420 qs3 q68 q421) rfl rfl rfl (by decide +kernel) ⟨Nat.le_of_ble_eq_true rfl, Nat.le_of_ble_eq_true rfl⟩) (ga_PV hK (hP.sub (ws' := [(g, .inr (2, [.ref sh, .ref al, .int gr, .ref g_b, .ref g_t])), (r_b, .inr (3, [.ref r_b_s, .ref r_b_a, .long rbB, .ref r_b_c, .ref r_b_g])), (r_b_s, .inl (cA 1, 2, .inr (.inl rbS))), (r_b_a, .inl (cA 1, 2, .inr (.inl rbA))), (sh, .inr (4, [.int zw, .int zh, .long zA, .long zL, .long zR, .long zE]))]) [0, 4, 5, 6, 7] rfl) (va_recv hK.1 hP (ci := 2) (q0 := 0) rfl rfl)) rfl rfl hl.1 rfl (lv_room (Nat.le_of_ble_eq_true rfl)) dX2_isOver_31 ⟨Nat.le_of_ble_eq_true rfl, Nat.le_of_ble_eq_true rfl⟩)) (fun z_18 w_19 => ?_)
    obtain ⟨rfl, b_20⟩ := w_19
    obtain rfl := Option.some.inj h
    exact W.zret hx hb hr (ga_nb (b_20)) (fun t ht hW => ⟨_, rfl, ⟨rfl, b_20⟩, ht⟩) (fun _ hq => by cases hq) dX2_isOver_34
  · replace h := ga_iff c_15 h
    refine lv_aload_n hx hb dX2_isOver_16 rfl (lv_at hl 0 rfl) ?_
    obtain ⟨r_21, e_22, h⟩ := ga_gb h
    refine va_csr (va_Run.run (va_runV (As := []) (rest := [.int (lz - 1), .ref r_b, .ref g]) ⟨hx, hb, hml, hown, hts⟩ (met_X2_last l D cA g sh al g_b g_t ed lf r r_b r_w r_s r_r r_v gr lm lz ln r1 r2 rN N hlast r_21 e_22) (cwV 0 hts (lw_V q388 q389 q390 q68 q391) rfl rfl rfl (by decide +kernel) ⟨Nat.le_of_ble_eq_true rfl, Nat.le_of_ble_eq_true rfl⟩) (ga_PV hK (hP.sub (ws' := [(g, .inr (2, [.ref sh, .ref al, .int gr, .ref g_b, .ref g_t])), (al, .inr (6, [.int lm, .ref ed, .int lz])), (ed, .inl (cA 5, ln, .inr (.inr (.inr (.inr lf))))), (r, .inr (5, [.int r1, .int r2, .ref r_b, .ref r_w, .int rN, .ref r_s, .ref r_r, .ref r_v]))]) [0, 1, 2, 3] rfl) (va_recv hK.1 hP (ci := 2) (q0 := 0) rfl rfl)) rfl rfl hl.1 rfl (lv_room (Nat.le_of_ble_eq_true rfl)) dX2_isOver_17 ⟨Nat.le_of_ble_eq_true rfl, Nat.le_of_ble_eq_true rfl⟩)) (fun _ _ => ?_)
    obtain ⟨r_25, e_26, h⟩ := ga_gb h
    refine vp_callSi (va_Run.run (va_runV (As := []) (rest := [.int (lz - 1), .ref r_b, .ref g]) ⟨hx, hb, hml, hown, hts⟩ (met_X5_isEnd l D cA r r_b r_w r_s r_r r_v r1 r2 rN N r_25 e_26) (cwV 0 hts (lw_V q414 q415 q416 q74 q417) rfl rfl rfl (by decide +kernel) ⟨Nat.le_of_ble_eq_true rfl, Nat.le_of_ble_eq_true rfl⟩) (ga_PV hK (hP.sub (ws' := [(r, .inr (5, [.int r1, .int r2, .ref r_b, .ref r_w, .int rN, .ref r_s, .ref r_r, .ref r_v]))]) [3] rfl) (va_recv hK.1 hP (ci := 5) (q0 := 3) rfl rfl)) rfl rfl hl.1 rfl (lv_room (Nat.le_of_ble_eq_true rfl)) dX2_isOver_20 ⟨Nat.le_of_ble_eq_true rfl, Nat.le_of_ble_eq_true rfl⟩)) (fun z_27 w_28 => ?_)
    obtain ⟨rfl, b_29⟩ := w_28
    refine lv_if_eq (tgt := 30) hx hb dX2_isOver_23 (by decide) (fun c_30 => ?_) (fun c_30 => ?_)
    · replace h := ga_ift c_30 h
      refine lv_iconst (v := 0) hx hb dX2_isOver_30 (by decide) ?_
      obtain ⟨r_31, e_32, h⟩ := ga_gb h
      refine vp_callSi (va_Run.run (va_runV (As := [.ref r_b, .int (lz - 1), .int 0]) (rest := []) ⟨hx, hb, hml, hown, hts⟩ (met_X2_isOver_2_3 l D cA g sh al g_b g_t r_b r_b_s r_b_a r_b_c r_b_g gr rbB rbS rbA zw zh zA zL zR zE N (lz - 1) 0 r_31 e_32) (cwV 3 hts (lw_V q418 q420 qs3 q68 q421) rfl rfl rfl (by decide +kernel) ⟨Nat.le_of_ble_eq_true rfl, Nat.le_of_ble_eq_true rfl⟩) (ga_PV hK (hP.sub (ws' := [(g, .inr (2, [.ref sh, .ref al, .int gr, .ref g_b, .ref g_t])), (r_b, .inr (3, [.ref r_b_s, .ref r_b_a, .long rbB, .ref r_b_c, .ref r_b_g])), (r_b_s, .inl (cA 1, 2, .inr (.inl rbS))), (r_b_a, .inl (cA 1, 2, .inr (.inl rbA))), (sh, .inr (4, [.int zw, .int zh, .long zA, .long zL, .long zR, .long zE]))]) [0, 4, 5, 6, 7] rfl) (va_recv hK.1 hP (ci := 2) (q0 := 0) rfl rfl)) rfl rfl hl.1 rfl (lv_room (Nat.le_of_ble_eq_true rfl)) dX2_isOver_31 ⟨Nat.le_of_ble_eq_true rfl, Nat.le_of_ble_eq_true rfl⟩)) (fun z_33 w_34 => ?_)
      obtain ⟨rfl, b_35⟩ := w_34
      obtain rfl := Option.some.inj h
      exact W.zret hx hb hr (ga_nb (b_35)) (fun t ht hW => ⟨_, rfl, ⟨rfl, b_35⟩, ht⟩) (fun _ hq => by cases hq) dX2_isOver_34
    · replace h := ga_iff c_30 h
      refine lv_iconst (v := 1) hx hb dX2_isOver_26 (by decide) ?_
      refine lv_goto (tgt := 31) hx hb dX2_isOver_27 (by decide) ?_
      obtain ⟨r_36, e_37, h⟩ := ga_gb h
      refine vp_callSi (va_Run.run (va_runV (As := [.ref r_b, .int (lz - 1), .int 1]) (rest := []) ⟨hx, hb, hml, hown, hts⟩ (met_X2_isOver_2_3 l D cA g sh al g_b g_t r_b r_b_s r_b_a r_b_c r_b_g gr rbB rbS rbA zw zh zA zL zR zE N (lz - 1) 1 r_36 e_37) (cwV 3 hts (lw_V q418 q420 qs3 q68 q421) rfl rfl rfl (by decide +kernel) ⟨Nat.le_of_ble_eq_true rfl, Nat.le_of_ble_eq_true rfl⟩) (ga_PV hK (hP.sub (ws' := [(g, .inr (2, [.ref sh, .ref al, .int gr, .ref g_b, .ref g_t])), (r_b, .inr (3, [.ref r_b_s, .ref r_b_a, .long rbB, .ref r_b_c, .ref r_b_g])), (r_b_s, .inl (cA 1, 2, .inr (.inl rbS))), (r_b_a, .inl (cA 1, 2, .inr (.inl rbA))), (sh, .inr (4, [.int zw, .int zh, .long zA, .long zL, .long zR, .long zE]))]) [0, 4, 5, 6, 7] rfl) (va_recv hK.1 hP (ci := 2) (q0 := 0) rfl rfl)) rfl rfl hl.1 rfl (lv_room (Nat.le_of_ble_eq_true rfl)) dX2_isOver_31 ⟨Nat.le_of_ble_eq_true rfl, Nat.le_of_ble_eq_true rfl⟩)) (fun z_38 w_39 => ?_)
      obtain ⟨rfl, b_40⟩ := w_39
      obtain rfl := Option.some.inj h
      exact W.zret hx hb hr (ga_nb (b_40)) (fun t ht hW => ⟨_, rfl, ⟨rfl, b_40⟩, ht⟩) (fun _ hq => by cases hq) dX2_isOver_34
abbrev rm_X2_clash : Room := { frames := 5, cells := 0, slots := 0, locals := 97 }
def F_X2_clash (N : Nat) (gr : Int32) (gB : Nat → Int32) (bB : Int64) (bA : Nat → Int64) (bC : Nat → Int32)  : Option (Int32) :=
  ((F_X2_score N gr gB bB bA bC 0).bind fun r_1 =>
  ((F_X2_score N gr gB bB bA bC 1).bind fun r_6 =>
  (if gr = 0 then
  some 5
  else
  (if gr = 1 then
  some 0
  else
  (if (r_1 - r_6) = 0 then
  some 5
  else
  (if 0 ≤ (r_1 - r_6) then
  some 2
  else
  some 1))))))
set_option maxHeartbeats 4000000 in
theorem met_X2_clash (l : Launch) (D : va_G) (cA : Nat → ClassId) (g : Nat) (sh : Nat) (al : Nat) (g_b : Nat) (g_t : Nat) (b : Nat) (b_s : Nat) (b_a : Nat) (b_c : Nat) (b_g : Nat) (gr : Int32) (gB : Nat → Int32) (bB : Int64) (bA : Nat → Int64) (bC : Nat → Int32) (N : Nat)   (out : Int32) (h : F_X2_clash N gr gB bB bA bC = some out) : Met l yX2_clash (ws_ yX2_clash cX2_clash 3 (some .int)) rm_X2_clash (ga_P D cA [(g, .inr (2, [.ref sh, .ref al, .int gr, .ref g_b, .ref g_t])), (g_b, .inl (cA 0, 2, .inl gB)), (b, .inr (3, [.ref b_s, .ref b_a, .long bB, .ref b_c, .ref b_g])), (b_a, .inl (cA 1, 2, .inr (.inl bA))), (b_c, .inl (cA 0, 2, .inl bC))] [.ref g, .ref b]) (vp_Si (fun r => out = r)) 0 0 ga_F := by
  refine Met.ofW (cc := cX2_clash) (maxL := 3) (ret := (some .int)) (by decide) rfl ?_
  intro p e s m args below meth c s₁ B hml hv
  obtain ⟨rfl, hP, hK⟩ := hv
  have C : ga_cx p m c meth s _ RX2 cX2_clash 3 (some .int) := ga_cx_of B hml
  have C0 := C
  obtain ⟨hx, hb, hr, hlocks, hml, hown, hts⟩ := C0
  have hl := lv_entry ([.ref g, .ref b]) (n := 3) (Nat.le_of_ble_eq_true rfl)
  rw [lg_entry_eq]
  generalize (lg_sl ([.ref g, .ref b]) ++ List.replicate (3 - (lg_sl ([.ref g, .ref b])).length) Slot.unset).toArray = ls at hl ⊢
  have hl : lv_has ls 3 [(0, .ref g), (1, .ref b)] := hl
  rw [F_X2_clash] at h
  refine lv_aload_n hx hb dX2_clash_0 rfl (lv_at hl 0 rfl) ?_
  refine lv_aload_n hx hb dX2_clash_1 rfl (lv_at hl 1 rfl) ?_
  refine lv_iconst (v := 0) hx hb dX2_clash_2 (by decide) ?_
  obtain ⟨r_1, e_2, h⟩ := ga_gb h
  refine vp_callSi (va_Run.run (va_runV (As := [.ref b, .int 0]) (rest := []) ⟨hx, hb, hml, hown, hts⟩ (met_X2_score l D cA g sh al g_b g_t b b_s b_a b_c b_g gr gB bB bA bC N 0 r_1 e_2) (cwV 2 hts (lw_V q804 q805 q806 q68 q807) rfl rfl rfl (by decide +kernel) ⟨Nat.le_of_ble_eq_true rfl, Nat.le_of_ble_eq_true rfl⟩) (ga_PV hK (hP.sub (ws' := [(g, .inr (2, [.ref sh, .ref al, .int gr, .ref g_b, .ref g_t])), (g_b, .inl (cA 0, 2, .inl gB)), (b, .inr (3, [.ref b_s, .ref b_a, .long bB, .ref b_c, .ref b_g])), (b_a, .inl (cA 1, 2, .inr (.inl bA))), (b_c, .inl (cA 0, 2, .inl bC))]) [0, 1, 2, 3, 4] rfl) (va_recv hK.1 hP (ci := 2) (q0 := 0) rfl rfl)) rfl rfl hl.1 rfl (lv_room (Nat.le_of_ble_eq_true rfl)) dX2_clash_3 ⟨Nat.le_of_ble_eq_true rfl, Nat.le_of_ble_eq_true rfl⟩)) (fun z_3 w_4 => ?_)
  obtain rfl := w_4
  refine lv_aload_n hx hb dX2_clash_6 rfl (lv_at hl 0 rfl) ?_
  refine lv_aload_n hx hb dX2_clash_7 rfl (lv_at hl 1 rfl) ?_
  refine lv_iconst (v := 1) hx hb dX2_clash_8 (by decide) ?_
  obtain ⟨r_6, e_7, h⟩ := ga_gb h
  refine vp_callSi (va_Run.run (va_runV (As := [.ref b, .int 1]) (rest := [.int r_1]) ⟨hx, hb, hml, hown, hts⟩ (met_X2_score l D cA g sh al g_b g_t b b_s b_a b_c b_g gr gB bB bA bC N 1 r_6 e_7) (cwV 2 hts (lw_V q804 q805 q806 q68 q807) rfl rfl rfl (by decide +kernel) ⟨Nat.le_of_ble_eq_true rfl, Nat.le_of_ble_eq_true rfl⟩) (ga_PV hK (hP.sub (ws' := [(g, .inr (2, [.ref sh, .ref al, .int gr, .ref g_b, .ref g_t])), (g_b, .inl (cA 0, 2, .inl gB)), (b, .inr (3, [.ref b_s, .ref b_a, .long bB, .ref b_c, .ref b_g])), (b_a, .inl (cA 1, 2, .inr (.inl bA))), (b_c, .inl (cA 0, 2, .inl bC))]) [0, 1, 2, 3, 4] rfl) (va_recv hK.1 hP (ci := 2) (q0 := 0) rfl rfl)) rfl rfl hl.1 rfl (lv_room (Nat.le_of_ble_eq_true rfl)) dX2_clash_9 ⟨Nat.le_of_ble_eq_true rfl, Nat.le_of_ble_eq_true rfl⟩)) (fun z_8 w_9 => ?_)
  obtain rfl := w_9
  refine lv_isub hx hb dX2_clash_12 ?_
  refine lv_istore_n (lv' := [(2, .int (r_1 - r_6)), (0, .ref g), (1, .ref b)]) hx hb dX2_clash_13 rfl hl (by decide) rfl (fun ls hl => ?_)
  refine lv_aload_n hx hb dX2_clash_14 rfl (lv_at hl 1 rfl) ?_
  refine va_get hx hb hts in_X2 hown hK.1 hP 0 (fs := [.ref sh, .ref al, .int gr, .ref g_b, .ref g_t]) rfl rfl 2 (by decide) (hts _ q332) (fun _ hh => hh) (v := .int gr) rfl dX2_clash_15 ?_
  refine lv_if_eq (tgt := 33) hx hb dX2_clash_18 (by decide) (fun c_11 => ?_) (fun c_11 => ?_)
  · replace h := ga_ift c_11 h
    refine lv_iconst (v := 5) hx hb dX2_clash_33 (by decide) ?_
    obtain rfl := Option.some.inj h
    exact W.iret hx hb hr (fun t ht hW => ⟨_, rfl, rfl, ht⟩) (fun _ hq => by cases hq) dX2_clash_34
  · replace h := ga_iff c_11 h
    refine lv_aload_n hx hb dX2_clash_21 rfl (lv_at hl 1 rfl) ?_
    refine va_get hx hb hts in_X2 hown hK.1 hP 0 (fs := [.ref sh, .ref al, .int gr, .ref g_b, .ref g_t]) rfl rfl 2 (by decide) (hts _ q332) (fun _ hh => hh) (v := .int gr) rfl dX2_clash_22 ?_
    refine lv_iconst (v := 1) hx hb dX2_clash_25 (by decide) ?_
    refine lv_icmp_eq (tgt := 35) hx hb dX2_clash_26 (by decide) (fun c_12 => ?_) (fun c_12 => ?_)
    · replace h := ga_ift c_12 h
      refine lv_aload_n hx hb dX2_clash_35 rfl (lv_at hl 1 rfl) ?_
      refine va_get hx hb hts in_X2 hown hK.1 hP 0 (fs := [.ref sh, .ref al, .int gr, .ref g_b, .ref g_t]) rfl rfl 2 (by decide) (hts _ q332) (fun _ hh => hh) (v := .int gr) rfl dX2_clash_36 ?_
      refine lv_iconst (v := 1) hx hb dX2_clash_39 (by decide) ?_
      refine lv_icmp_ne (tgt := 47) hx hb dX2_clash_40 (by decide) (fun c_13 => absurd c_12 c_13) (fun _ => ?_)
      refine lv_iconst (v := 0) hx hb dX2_clash_43 (by decide) ?_
      refine lv_goto (tgt := 56) hx hb dX2_clash_44 (by decide) ?_
      obtain rfl := Option.some.inj h
      exact W.iret hx hb hr (fun t ht hW => ⟨_, rfl, rfl, ht⟩) (fun _ hq => by cases hq) dX2_clash_56
    · replace h := ga_iff c_12 h
      refine lv_iload_n hx hb dX2_clash_29 rfl (lv_at hl 0 rfl) ?_
      refine lv_if_ne (tgt := 35) hx hb dX2_clash_30 (by decide) (fun c_14 => ?_) (fun c_14 => ?_)
      · replace h := ga_iff c_14 h
        refine lv_aload_n hx hb dX2_clash_35 rfl (lv_at hl 1 rfl) ?_
        refine va_get hx hb hts in_X2 hown hK.1 hP 0 (fs := [.ref sh, .ref al, .int gr, .ref g_b, .ref g_t]) rfl rfl 2 (by decide) (hts _ q332) (fun _ hh => hh) (v := .int gr) rfl dX2_clash_36 ?_
        refine lv_iconst (v := 1) hx hb dX2_clash_39 (by decide) ?_
        refine lv_icmp_ne (tgt := 47) hx hb dX2_clash_40 (by decide) (fun _ => ?_) (fun c_15 => absurd c_15 c_12)
        refine lv_iload_n hx hb dX2_clash_47 rfl (lv_at hl 0 rfl) ?_
        refine lv_if_ge (tgt := 55) hx hb dX2_clash_48 (by decide) (fun c_16 => ?_) (fun c_16 => ?_)
        · replace h := ga_ift c_16 h
          refine lv_iconst (v := 2) hx hb dX2_clash_55 (by decide) ?_
          obtain rfl := Option.some.inj h
          exact W.iret hx hb hr (fun t ht hW => ⟨_, rfl, rfl, ht⟩) (fun _ hq => by cases hq) dX2_clash_56
        · replace h := ga_iff c_16 h
          refine lv_iconst (v := 1) hx hb dX2_clash_51 (by decide) ?_
          refine lv_goto (tgt := 56) hx hb dX2_clash_52 (by decide) ?_
          obtain rfl := Option.some.inj h
          exact W.iret hx hb hr (fun t ht hW => ⟨_, rfl, rfl, ht⟩) (fun _ hq => by cases hq) dX2_clash_56
      · replace h := ga_ift c_14 h
        refine lv_iconst (v := 5) hx hb dX2_clash_33 (by decide) ?_
        obtain rfl := Option.some.inj h
        exact W.iret hx hb hr (fun t ht hW => ⟨_, rfl, rfl, ht⟩) (fun _ hq => by cases hq) dX2_clash_34
abbrev rm_X2_outcome : Room := { frames := 5, cells := 0, slots := 0, locals := 97 }
def F_X2_outcome (N : Nat) (gr : Int32) (gB : Nat → Int32) (bB : Int64) (bA : Nat → Int64) (bC : Nat → Int32) (x2 : Int32) : Option (Int32) :=
  ((F_X2_score N gr gB bB bA bC x2).bind fun r_1 =>
  ((F_X2_score N gr gB bB bA bC (1 - x2)).bind fun r_6 =>
  some (r_1 - r_6)))
set_option maxHeartbeats 4000000 in
theorem met_X2_outcome (l : Launch) (D : va_G) (cA : Nat → ClassId) (g : Nat) (sh : Nat) (al : Nat) (g_b : Nat) (g_t : Nat) (b : Nat) (b_s : Nat) (b_a : Nat) (b_c : Nat) (b_g : Nat) (gr : Int32) (gB : Nat → Int32) (bB : Int64) (bA : Nat → Int64) (bC : Nat → Int32) (N : Nat) (x2 : Int32)  (out : Int32) (h : F_X2_outcome N gr gB bB bA bC x2 = some out) : Met l yX2_outcome (ws_ yX2_outcome cX2_outcome 3 (some .int)) rm_X2_outcome (ga_P D cA [(g, .inr (2, [.ref sh, .ref al, .int gr, .ref g_b, .ref g_t])), (g_b, .inl (cA 0, 2, .inl gB)), (b, .inr (3, [.ref b_s, .ref b_a, .long bB, .ref b_c, .ref b_g])), (b_a, .inl (cA 1, 2, .inr (.inl bA))), (b_c, .inl (cA 0, 2, .inl bC))] [.ref g, .ref b, .int x2]) (vp_Si (fun r => out = r)) 0 0 ga_F := by
  refine Met.ofW (cc := cX2_outcome) (maxL := 3) (ret := (some .int)) (by decide) rfl ?_
  intro p e s m args below meth c s₁ B hml hv
  obtain ⟨rfl, hP, hK⟩ := hv
  have C : ga_cx p m c meth s _ RX2 cX2_outcome 3 (some .int) := ga_cx_of B hml
  have C0 := C
  obtain ⟨hx, hb, hr, hlocks, hml, hown, hts⟩ := C0
  have hl := lv_entry ([.ref g, .ref b, .int x2]) (n := 3) (Nat.le_of_ble_eq_true rfl)
  rw [lg_entry_eq]
  generalize (lg_sl ([.ref g, .ref b, .int x2]) ++ List.replicate (3 - (lg_sl ([.ref g, .ref b, .int x2])).length) Slot.unset).toArray = ls at hl ⊢
  have hl : lv_has ls 3 [(0, .ref g), (1, .ref b), (2, .int x2)] := hl
  rw [F_X2_outcome] at h
  refine lv_aload_n hx hb dX2_outcome_0 rfl (lv_at hl 0 rfl) ?_
  refine lv_aload_n hx hb dX2_outcome_1 rfl (lv_at hl 1 rfl) ?_
  refine lv_iload_n hx hb dX2_outcome_2 rfl (lv_at hl 2 rfl) ?_
  obtain ⟨r_1, e_2, h⟩ := ga_gb h
  refine vp_callSi (va_Run.run (va_runV (As := [.ref b, .int x2]) (rest := []) ⟨hx, hb, hml, hown, hts⟩ (met_X2_score l D cA g sh al g_b g_t b b_s b_a b_c b_g gr gB bB bA bC N x2 r_1 e_2) (cwV 2 hts (lw_V q804 q805 q806 q68 q807) rfl rfl rfl (by decide +kernel) ⟨Nat.le_of_ble_eq_true rfl, Nat.le_of_ble_eq_true rfl⟩) (ga_PV hK (hP.sub (ws' := [(g, .inr (2, [.ref sh, .ref al, .int gr, .ref g_b, .ref g_t])), (g_b, .inl (cA 0, 2, .inl gB)), (b, .inr (3, [.ref b_s, .ref b_a, .long bB, .ref b_c, .ref b_g])), (b_a, .inl (cA 1, 2, .inr (.inl bA))), (b_c, .inl (cA 0, 2, .inl bC))]) [0, 1, 2, 3, 4] rfl) (va_recv hK.1 hP (ci := 2) (q0 := 0) rfl rfl)) rfl rfl hl.1 rfl (lv_room (Nat.le_of_ble_eq_true rfl)) dX2_outcome_3 ⟨Nat.le_of_ble_eq_true rfl, Nat.le_of_ble_eq_true rfl⟩)) (fun z_3 w_4 => ?_)
  obtain rfl := w_4
  refine lv_aload_n hx hb dX2_outcome_6 rfl (lv_at hl 0 rfl) ?_
  refine lv_aload_n hx hb dX2_outcome_7 rfl (lv_at hl 1 rfl) ?_
  refine lv_iconst (v := 1) hx hb dX2_outcome_8 (by decide) ?_
  refine lv_iload_n hx hb dX2_outcome_9 rfl (lv_at hl 2 rfl) ?_
  refine lv_isub hx hb dX2_outcome_10 ?_
  obtain ⟨r_6, e_7, h⟩ := ga_gb h
  refine vp_callSi (va_Run.run (va_runV (As := [.ref b, .int (1 - x2)]) (rest := [.int r_1]) ⟨hx, hb, hml, hown, hts⟩ (met_X2_score l D cA g sh al g_b g_t b b_s b_a b_c b_g gr gB bB bA bC N (1 - x2) r_6 e_7) (cwV 2 hts (lw_V q804 q805 q806 q68 q807) rfl rfl rfl (by decide +kernel) ⟨Nat.le_of_ble_eq_true rfl, Nat.le_of_ble_eq_true rfl⟩) (ga_PV hK (hP.sub (ws' := [(g, .inr (2, [.ref sh, .ref al, .int gr, .ref g_b, .ref g_t])), (g_b, .inl (cA 0, 2, .inl gB)), (b, .inr (3, [.ref b_s, .ref b_a, .long bB, .ref b_c, .ref b_g])), (b_a, .inl (cA 1, 2, .inr (.inl bA))), (b_c, .inl (cA 0, 2, .inl bC))]) [0, 1, 2, 3, 4] rfl) (va_recv hK.1 hP (ci := 2) (q0 := 0) rfl rfl)) rfl rfl hl.1 rfl (lv_room (Nat.le_of_ble_eq_true rfl)) dX2_outcome_11 ⟨Nat.le_of_ble_eq_true rfl, Nat.le_of_ble_eq_true rfl⟩)) (fun z_8 w_9 => ?_)
  obtain rfl := w_9
  refine lv_isub hx hb dX2_outcome_14 ?_
  obtain rfl := Option.some.inj h
  exact W.iret hx hb hr (fun t ht hW => ⟨_, rfl, rfl, ht⟩) (fun _ hq => by cases hq) dX2_outcome_15
abbrev rm_X2_isEnclosed : Room := { frames := 6, cells := 0, slots := 0, locals := 116 }
def F_X2_isEnclosed (N : Nat) (gr : Int32) (lm : Int32) (lz : Int32) (ln : Nat) (r1 : Int32) (r2 : Int32) (rN : Int32) (rbB : Int64) (rbS : Nat → Int64) (rbA : Nat → Int64) (zw : Int32) (zh : Int32) (zA : Int64) (zL : Int64) (zR : Int64) (zE : Int64) (x1 : Int32) (x2 : Int32) (x3 : Int64) : Option (Int32) :=
  ((F_X2_board N gr lm lz ln r1 r2 rN).bind fun r_1 =>
  ((F_X3_open N rbB rbS rbA zw zh zA zL zR zE x1).bind fun r_5 =>
  ((F_X1_has N (r_5 &&& (x3 ^^^ (-1))) x2).bind fun r_10 =>
  (if r_10 = 0 then
  some 0
  else
  ((F_X4_connected N zw zh zA zL zR zE x2 (r_5 &&& (x3 ^^^ (-1)))).bind fun r_16 =>
  ((F_X4_isInside N zw zh zA zL zR zE r_16).bind fun r_21 =>
  (if r_21 = 0 then
  some 0
  else
  some 1)))))))
set_option maxHeartbeats 4000000 in
theorem met_X2_isEnclosed (l : Launch) (D : va_G) (cA : Nat → ClassId) (g : Nat) (sh : Nat) (al : Nat) (g_b : Nat) (g_t : Nat) (ed : Nat) (lf : Nat → Option Nat) (r : Nat) (r_b : Nat) (r_w : Nat) (r_s : Nat) (r_r : Nat) (r_v : Nat) (r_b_s : Nat) (r_b_a : Nat) (r_b_c : Nat) (r_b_g : Nat) (gr : Int32) (lm : Int32) (lz : Int32) (ln : Nat) (r1 : Int32) (r2 : Int32) (rN : Int32) (rbB : Int64) (rbS : Nat → Int64) (rbA : Nat → Int64) (zw : Int32) (zh : Int32) (zA : Int64) (zL : Int64) (zR : Int64) (zE : Int64) (N : Nat) (x1 : Int32) (x2 : Int32) (x3 : Int64) (hlast : lf (ix (lz - 1)) = some r) (out : Int32) (h : F_X2_isEnclosed N gr lm lz ln r1 r2 rN rbB rbS rbA zw zh zA zL zR zE x1 x2 x3 = some out) : Met l yX2_isEnclosed (ws_ yX2_isEnclosed cX2_isEnclosed 7 (some .boolean)) rm_X2_isEnclosed (ga_P D cA [(g, .inr (2, [.ref sh, .ref al, .int gr, .ref g_b, .ref g_t])), (al, .inr (6, [.int lm, .ref ed, .int lz])), (ed, .inl (cA 5, ln, .inr (.inr (.inr (.inr lf))))), (r, .inr (5, [.int r1, .int r2, .ref r_b, .ref r_w, .int rN, .ref r_s, .ref r_r, .ref r_v])), (r_b, .inr (3, [.ref r_b_s, .ref r_b_a, .long rbB, .ref r_b_c, .ref r_b_g])), (r_b_s, .inl (cA 1, 2, .inr (.inl rbS))), (r_b_a, .inl (cA 1, 2, .inr (.inl rbA))), (sh, .inr (4, [.int zw, .int zh, .long zA, .long zL, .long zR, .long zE]))] [.ref g, .int x1, .int x2, .long x3]) (vp_Si (fun r => out = r ∧ ga_B r)) 0 0 ga_F := by
  refine Met.ofW (cc := cX2_isEnclosed) (maxL := 7) (ret := (some .boolean)) (by decide) rfl ?_
  intro p e s m args below meth c s₁ B hml hv
  obtain ⟨rfl, hP, hK⟩ := hv
  have C : ga_cx p m c meth s _ RX2 cX2_isEnclosed 7 (some .boolean) := ga_cx_of B hml
  have C0 := C
  obtain ⟨hx, hb, hr, hlocks, hml, hown, hts⟩ := C0
  have hl := lv_entry ([.ref g, .int x1, .int x2, .long x3]) (n := 7) (Nat.le_of_ble_eq_true rfl)
  rw [lg_entry_eq]
  generalize (lg_sl ([.ref g, .int x1, .int x2, .long x3]) ++ List.replicate (7 - (lg_sl ([.ref g, .int x1, .int x2, .long x3])).length) Slot.unset).toArray = ls at hl ⊢
  have hl : lv_has ls 7 [(0, .ref g), (1, .int x1), (2, .int x2), (3, .long x3)] := hl
  rw [F_X2_isEnclosed] at h
  refine lv_aload_n hx hb dX2_isEnclosed_0 rfl (lv_at hl 0 rfl) ?_
  obtain ⟨r_1, e_2, h⟩ := ga_gb h
  refine va_csr (va_Run.run (va_runV (As := []) (rest := []) ⟨hx, hb, hml, hown, hts⟩ (met_X2_board l D cA g sh al g_b g_t ed lf r r_b r_w r_s r_r r_v gr lm lz ln r1 r2 rN N hlast r_1 e_2) (cwV 0 hts (lw_V q384 q385 q386 q68 q387) rfl rfl rfl (by decide +kernel) ⟨Nat.le_of_ble_eq_true rfl, Nat.le_of_ble_eq_true rfl⟩) (ga_PV hK (hP.sub (ws' := [(g, .inr (2, [.ref sh, .ref al, .int gr, .ref g_b, .ref g_t])), (al, .inr (6, [.int lm, .ref ed, .int lz])), (ed, .inl (cA 5, ln, .inr (.inr (.inr (.inr lf))))), (r, .inr (5, [.int r1, .int r2, .ref r_b, .ref r_w, .int rN, .ref r_s, .ref r_r, .ref r_v]))]) [0, 1, 2, 3] rfl) (va_recv hK.1 hP (ci := 2) (q0 := 0) rfl rfl)) rfl rfl hl.1 rfl (lv_room (Nat.le_of_ble_eq_true rfl)) dX2_isEnclosed_1 ⟨Nat.le_of_ble_eq_true rfl, Nat.le_of_ble_eq_true rfl⟩)) (fun _ _ => ?_)
  refine lv_aload_n hx hb dX2_isEnclosed_4 rfl (lv_at hl 0 rfl) ?_
  refine va_get hx hb hts in_X2 hown hK.1 hP 0 (fs := [.ref sh, .ref al, .int gr, .ref g_b, .ref g_t]) rfl rfl 0 (by decide) (hts _ q327) (fun _ hh => hh) (v := .ref sh) rfl dX2_isEnclosed_5 ?_
  refine lv_iload_n hx hb dX2_isEnclosed_8 rfl (lv_at hl 1 rfl) ?_
  obtain ⟨r_5, e_6, h⟩ := ga_gb h
  refine vp_callSl (va_Run.run (va_runV (As := [.ref sh, .int x1]) (rest := []) ⟨hx, hb, hml, hown, hts⟩ (met_X3_open l D cA r_b r_b_s r_b_a r_b_c r_b_g sh rbB rbS rbA zw zh zA zL zR zE N x1 r_5 e_6) (cwV 2 hts (lw_V q1012 q839 q840 q72 q841) rfl rfl rfl (by decide +kernel) ⟨Nat.le_of_ble_eq_true rfl, Nat.le_of_ble_eq_true rfl⟩) (ga_PV hK (hP.sub (ws' := [(r_b, .inr (3, [.ref r_b_s, .ref r_b_a, .long rbB, .ref r_b_c, .ref r_b_g])), (r_b_s, .inl (cA 1, 2, .inr (.inl rbS))), (r_b_a, .inl (cA 1, 2, .inr (.inl rbA))), (sh, .inr (4, [.int zw, .int zh, .long zA, .long zL, .long zR, .long zE]))]) [4, 5, 6, 7] rfl) (va_recv hK.1 hP (ci := 3) (q0 := 4) rfl rfl)) rfl rfl hl.1 rfl (lv_room (Nat.le_of_ble_eq_true rfl)) dX2_isEnclosed_9 ⟨Nat.le_of_ble_eq_true rfl, Nat.le_of_ble_eq_true rfl⟩)) (fun z_7 w_8 => ?_)
  obtain rfl := w_8
  refine lv_lload_n hx hb dX2_isEnclosed_12 rfl (lv_at hl 3 rfl) ?_
  refine lv_ldc2 hx hb hown (hts _ q1013) dX2_isEnclosed_13 ?_
  refine lv_lxor hx hb dX2_isEnclosed_16 ?_
  refine lv_land hx hb dX2_isEnclosed_17 ?_
  refine lv_lstore (lv' := [(5, .long (r_5 &&& (x3 ^^^ (-1)))), (0, .ref g), (1, .int x1), (2, .int x2), (3, .long x3)]) hx hb dX2_isEnclosed_18 hl (by decide) rfl (fun ls hl => ?_)
  refine lv_lload hx hb dX2_isEnclosed_20 (lv_at hl 0 rfl) ?_
  refine lv_iload_n hx hb dX2_isEnclosed_22 rfl (lv_at hl 3 rfl) ?_
  obtain ⟨r_10, e_11, h⟩ := ga_gb h
  refine vp_callSi (va_Run.run (va_runSN (As := [.long (r_5 &&& (x3 ^^^ (-1))), .int x2]) (rest := []) ⟨hx, hb, hml, hown, hts⟩ (met_X1_has l D cA N (r_5 &&& (x3 ^^^ (-1))) x2 r_10 e_11) (⟨va_cnB 2 hts (lw_meth q708) rfl rfl rfl (hK.2.1 _ q1014 rfl) (hts _ q67) (by decide +kernel) ⟨Nat.le_of_ble_eq_true rfl, Nat.le_of_ble_eq_true rfl⟩, hts _ q707, trivial⟩) (ga_PS hK ga_P0) rfl rfl hl.1 rfl (lv_room (Nat.le_of_ble_eq_true rfl)) dX2_isEnclosed_23 ⟨Nat.le_of_ble_eq_true rfl, Nat.le_of_ble_eq_true rfl⟩)) (fun z_12 w_13 => ?_)
  obtain ⟨rfl, b_14⟩ := w_13
  refine lv_if_eq (tgt := 53) hx hb dX2_isEnclosed_26 (by decide) (fun c_15 => ?_) (fun c_15 => ?_)
  · replace h := ga_ift c_15 h
    refine lv_iconst (v := 0) hx hb dX2_isEnclosed_53 (by decide) ?_
    obtain rfl := Option.some.inj h
    exact W.zret hx hb hr (ga_nb (Or.inl rfl)) (fun t ht hW => ⟨_, rfl, ⟨rfl, Or.inl rfl⟩, ht⟩) (fun _ hq => by cases hq) dX2_isEnclosed_54
  · replace h := ga_iff c_15 h
    refine lv_aload_n hx hb dX2_isEnclosed_29 rfl (lv_at hl 1 rfl) ?_
    refine va_get hx hb hts in_X2 hown hK.1 hP 0 (fs := [.ref sh, .ref al, .int gr, .ref g_b, .ref g_t]) rfl rfl 0 (by decide) (hts _ q327) (fun _ hh => hh) (v := .ref sh) rfl dX2_isEnclosed_30 ?_
    refine lv_aload_n hx hb dX2_isEnclosed_33 rfl (lv_at hl 1 rfl) ?_
    refine va_get hx hb hts in_X2 hown hK.1 hP 0 (fs := [.ref sh, .ref al, .int gr, .ref g_b, .ref g_t]) rfl rfl 0 (by decide) (hts _ q327) (fun _ hh => hh) (v := .ref sh) rfl dX2_isEnclosed_34 ?_
    refine lv_iload_n hx hb dX2_isEnclosed_37 rfl (lv_at hl 3 rfl) ?_
    refine lv_lload hx hb dX2_isEnclosed_38 (lv_at hl 0 rfl) ?_
    obtain ⟨r_16, e_17, h⟩ := ga_gb h
    refine vp_callSl (va_Run.run (va_runV (As := [.int x2, .long (r_5 &&& (x3 ^^^ (-1)))]) (rest := [.ref sh]) ⟨hx, hb, hml, hown, hts⟩ (met_X4_connected l D cA sh zw zh zA zL zR zE N x2 (r_5 &&& (x3 ^^^ (-1))) r_16 e_17) (cwV 2 hts (lw_V q1015 q843 q844 q73 q845) rfl rfl rfl (by decide +kernel) ⟨Nat.le_of_ble_eq_true rfl, Nat.le_of_ble_eq_true rfl⟩) (ga_PV hK (hP.sub (ws' := [(sh, .inr (4, [.int zw, .int zh, .long zA, .long zL, .long zR, .long zE]))]) [7] rfl) (va_recv hK.1 hP (ci := 4) (q0 := 7) rfl rfl)) rfl rfl hl.1 rfl (lv_room (Nat.le_of_ble_eq_true rfl)) dX2_isEnclosed_40 ⟨Nat.le_of_ble_eq_true rfl, Nat.le_of_ble_eq_true rfl⟩)) (fun z_18 w_19 => ?_)
    obtain rfl := w_19
    obtain ⟨r_21, e_22, h⟩ := ga_gb h
    refine vp_callSi (va_Run.run (va_runV (As := [.long r_16]) (rest := []) ⟨hx, hb, hml, hown, hts⟩ (met_X4_isInside l D cA sh zw zh zA zL zR zE N r_16 r_21 e_22) (cwV 1 hts (lw_V q1016 q852 q853 q73 q854) rfl rfl rfl (by decide +kernel) ⟨Nat.le_of_ble_eq_true rfl, Nat.le_of_ble_eq_true rfl⟩) (ga_PV hK (hP.sub (ws' := [(sh, .inr (4, [.int zw, .int zh, .long zA, .long zL, .long zR, .long zE]))]) [7] rfl) (va_recv hK.1 hP (ci := 4) (q0 := 7) rfl rfl)) rfl rfl hl.1 rfl (lv_room (Nat.le_of_ble_eq_true rfl)) dX2_isEnclosed_43 ⟨Nat.le_of_ble_eq_true rfl, Nat.le_of_ble_eq_true rfl⟩)) (fun z_23 w_24 => ?_)
    obtain ⟨rfl, b_25⟩ := w_24
    refine lv_if_eq (tgt := 53) hx hb dX2_isEnclosed_46 (by decide) (fun c_26 => ?_) (fun c_26 => ?_)
    · replace h := ga_ift c_26 h
      refine lv_iconst (v := 0) hx hb dX2_isEnclosed_53 (by decide) ?_
      obtain rfl := Option.some.inj h
      exact W.zret hx hb hr (ga_nb (Or.inl rfl)) (fun t ht hW => ⟨_, rfl, ⟨rfl, Or.inl rfl⟩, ht⟩) (fun _ hq => by cases hq) dX2_isEnclosed_54
    · replace h := ga_iff c_26 h
      refine lv_iconst (v := 1) hx hb dX2_isEnclosed_49 (by decide) ?_
      refine lv_goto (tgt := 54) hx hb dX2_isEnclosed_50 (by decide) ?_
      obtain rfl := Option.some.inj h
      exact W.zret hx hb hr (ga_nb (Or.inr rfl)) (fun t ht hW => ⟨_, rfl, ⟨rfl, Or.inr rfl⟩, ht⟩) (fun _ hq => by cases hq) dX2_isEnclosed_54
abbrev rm_X2_stonesToEnclose : Room := { frames := 7, cells := 0, slots := 0, locals := 142 }
def lp_X2_stonesToEnclose_30 (N : Nat) (gr : Int32) (lm : Int32) (lz : Int32) (ln : Nat) (r1 : Int32) (r2 : Int32) (rN : Int32) (rbB : Int64) (rbS : Nat → Int64) (rbA : Nat → Int64) (zw : Int32) (zh : Int32) (zA : Int64) (zL : Int64) (zR : Int64) (zE : Int64) (x1 : Int32) (x2 : Int32) : Nat → Nat → (Int64) → (Int32) → (Int32) → (Int32) → Option (Int32)
  | 0, _, _, _, _, _ => none
  | n+1, 0, x3, x5, x6, x7 =>
    (if (zw * zh) ≤ x6 then
    some x5
    else
    (if x5 = 1 then
    some x5
    else
    lp_X2_stonesToEnclose_30 N gr lm lz ln r1 r2 rN rbB rbS rbA zw zh zA zL zR zE x1 x2 n 1 x3 x5 x6 x6))
  | n+1, _+1, x3, x5, x6, x7 =>
    (if (zw * zh) ≤ x7 then
    lp_X2_stonesToEnclose_30 N gr lm lz ln r1 r2 rN rbB rbS rbA zw zh zA zL zR zE x1 x2 n 0 x3 x5 (x6 + 1) 0
    else
    ((F_X1_has N x3 x6).bind fun r_29 =>
    (if r_29 = 0 then
    lp_X2_stonesToEnclose_30 N gr lm lz ln r1 r2 rN rbB rbS rbA zw zh zA zL zR zE x1 x2 n 0 x3 x5 (x6 + 1) 0
    else
    (if x5 = 1 then
    lp_X2_stonesToEnclose_30 N gr lm lz ln r1 r2 rN rbB rbS rbA zw zh zA zL zR zE x1 x2 n 0 x3 x5 (x6 + 1) 0
    else
    ((F_X1_has N x3 x7).bind fun r_36 =>
    (if r_36 = 0 then
    lp_X2_stonesToEnclose_30 N gr lm lz ln r1 r2 rN rbB rbS rbA zw zh zA zL zR zE x1 x2 n 1 x3 x5 x6 (x7 + 1)
    else
    ((F_X2_isEnclosed N gr lm lz ln r1 r2 rN rbB rbS rbA zw zh zA zL zR zE x1 x2 ((jlshl 1 x6) ||| (jlshl 1 x7))).bind fun r_52 =>
    (if r_52 = 0 then
    lp_X2_stonesToEnclose_30 N gr lm lz ln r1 r2 rN rbB rbS rbA zw zh zA zL zR zE x1 x2 n 1 x3 x5 x6 (x7 + 1)
    else
    (if x6 = x7 then
    lp_X2_stonesToEnclose_30 N gr lm lz ln r1 r2 rN rbB rbS rbA zw zh zA zL zR zE x1 x2 n 1 x3 1 x6 (x7 + 1)
    else
    lp_X2_stonesToEnclose_30 N gr lm lz ln r1 r2 rN rbB rbS rbA zw zh zA zL zR zE x1 x2 n 1 x3 2 x6 (x7 + 1))))))))))
set_option maxHeartbeats 4000000 in
theorem w_X2_stonesToEnclose_30 {p : Program} {l : Launch} {e : Env} {s : State} {m : MethodId} {args : Array Value} {below : List Frame} {meth : Method} {c : Code} {D : va_G} {cA : Nat → ClassId} {g : Nat} {sh : Nat} {al : Nat} {g_b : Nat} {g_t : Nat} {ed : Nat} {lf : Nat → Option Nat} {r : Nat} {r_b : Nat} {r_w : Nat} {r_s : Nat} {r_r : Nat} {r_v : Nat} {r_b_s : Nat} {r_b_a : Nat} {r_b_c : Nat} {r_b_g : Nat} {N : Nat} {gr : Int32} {lm : Int32} {lz : Int32} {ln : Nat} {r1 : Int32} {r2 : Int32} {rN : Int32} {rbB : Int64} {rbS : Nat → Int64} {rbA : Nat → Int64} {zw : Int32} {zh : Int32} {zA : Int64} {zL : Int64} {zR : Int64} {zE : Int64} {x1 : Int32} {x2 : Int32} (hlast : lf (ix (lz - 1)) = some r) (C : ga_cx p m c meth s args RX2 cX2_stonesToEnclose 8 (some .int)) (hK : ga_K D cA s) (hP : va_P D ga_cl [(g, .inr (2, [.ref sh, .ref al, .int gr, .ref g_b, .ref g_t])), (al, .inr (6, [.int lm, .ref ed, .int lz])), (ed, .inl (cA 5, ln, .inr (.inr (.inr (.inr lf))))), (r, .inr (5, [.int r1, .int r2, .ref r_b, .ref r_w, .int rN, .ref r_s, .ref r_r, .ref r_v])), (r_b, .inr (3, [.ref r_b_s, .ref r_b_a, .long rbB, .ref r_b_c, .ref r_b_g])), (r_b_s, .inl (cA 1, 2, .inr (.inl rbS))), (r_b_a, .inl (cA 1, 2, .inr (.inl rbA))), (sh, .inr (4, [.int zw, .int zh, .long zA, .long zL, .long zR, .long zE]))] s.heap) {out : Int32} : ∀ n : Nat, (∀ (x3 : Int64) (x5 : Int32) (x6 : Int32), lp_X2_stonesToEnclose_30 N gr lm lz ln r1 r2 rN rbB rbS rbA zw zh zA zL zR zE x1 x2 n 0 x3 x5 x6 0 = some out → ∀ ls : Array Slot, lv_has ls 8 [(0, .ref g), (1, .int x1), (2, .int x2), (3, .long x3), (5, .int x5), (6, .int x6)] → W p l e (headSpec (ws_ yX2_stonesToEnclose cX2_stonesToEnclose 8 (some .int)) rm_X2_stonesToEnclose).room s m args below meth c s.heap [] 0 0 (MQ below (vp_Si (fun r => out = r)) args s 0 0 ga_F) (F0 m 30 ls [])) ∧ (∀ (x3 : Int64) (x5 : Int32) (x6 : Int32) (x7 : Int32), lp_X2_stonesToEnclose_30 N gr lm lz ln r1 r2 rN rbB rbS rbA zw zh zA zL zR zE x1 x2 n 1 x3 x5 x6 x7 = some out → ∀ ls : Array Slot, lv_has ls 8 [(0, .ref g), (1, .int x1), (2, .int x2), (3, .long x3), (5, .int x5), (6, .int x6), (7, .int x7)] → W p l e (headSpec (ws_ yX2_stonesToEnclose cX2_stonesToEnclose 8 (some .int)) rm_X2_stonesToEnclose).room s m args below meth c s.heap [] 0 0 (MQ below (vp_Si (fun r => out = r)) args s 0 0 ga_F) (F0 m 52 ls [])) := by
  have C0 := C
  obtain ⟨hx, hb, hr, hlocks, hml, hown, hts⟩ := C0
  intro n
  induction n with
  | zero =>
    refine ⟨?_, ?_⟩
    · intro x3 x5 x6 h
      rw [lp_X2_stonesToEnclose_30.eq_1] at h
      cases h
    · intro x3 x5 x6 x7 h
      rw [lp_X2_stonesToEnclose_30.eq_1] at h
      cases h
  | succ n ih =>
    refine ⟨?_, ?_⟩
    · intro x3 x5 x6 h ls hl
      rw [lp_X2_stonesToEnclose_30.eq_2] at h
      refine lv_iload hx hb dX2_stonesToEnclose_30 (lv_at hl 5 rfl) ?_
      refine lv_aload_n hx hb dX2_stonesToEnclose_32 rfl (lv_at hl 0 rfl) ?_
      refine va_get hx hb hts in_X2 hown hK.1 hP 0 (fs := [.ref sh, .ref al, .int gr, .ref g_b, .ref g_t]) rfl rfl 0 (by decide) (hts _ q327) (fun _ hh => hh) (v := .ref sh) rfl dX2_stonesToEnclose_33 ?_
      refine vp_callSi (va_Run.run (va_runV (As := []) (rest := [.int x6]) ⟨hx, hb, hml, hown, hts⟩ (met_X4_cells l D cA sh zw zh zA zL zR zE N (zw * zh) rfl) (cwV 0 hts (lw_V q1017 q662 q663 q73 q664) rfl rfl rfl (by decide +kernel) ⟨Nat.le_of_ble_eq_true rfl, Nat.le_of_ble_eq_true rfl⟩) (ga_PV hK (hP.sub (ws' := [(sh, .inr (4, [.int zw, .int zh, .long zA, .long zL, .long zR, .long zE]))]) [7] rfl) (va_recv hK.1 hP (ci := 4) (q0 := 7) rfl rfl)) rfl rfl hl.1 rfl (lv_room (Nat.le_of_ble_eq_true rfl)) dX2_stonesToEnclose_36 ⟨Nat.le_of_ble_eq_true rfl, Nat.le_of_ble_eq_true rfl⟩)) (fun z_18 w_19 => ?_)
      obtain rfl := w_19
      refine lv_icmp_ge (tgt := 134) hx hb dX2_stonesToEnclose_39 (by decide) (fun c_21 => ?_) (fun c_21 => ?_)
      · replace h := ga_ift c_21 h
        refine lv_iload hx hb dX2_stonesToEnclose_134 (lv_at hl 4 rfl) ?_
        obtain rfl := Option.some.inj h
        exact W.iret hx hb hr (fun t ht hW => ⟨_, rfl, rfl, ht⟩) (fun _ hq => by cases hq) dX2_stonesToEnclose_136
      · replace h := ga_iff c_21 h
        refine lv_iload hx hb dX2_stonesToEnclose_42 (lv_at hl 4 rfl) ?_
        refine lv_iconst (v := 1) hx hb dX2_stonesToEnclose_44 (by decide) ?_
        refine lv_icmp_eq (tgt := 134) hx hb dX2_stonesToEnclose_45 (by decide) (fun c_22 => ?_) (fun c_22 => ?_)
        · replace h := ga_ift c_22 h
          refine lv_iload hx hb dX2_stonesToEnclose_134 (lv_at hl 4 rfl) ?_
          obtain rfl := Option.some.inj h
          exact W.iret hx hb hr (fun t ht hW => ⟨_, rfl, rfl, ht⟩) (fun _ hq => by cases hq) dX2_stonesToEnclose_136
        · replace h := ga_iff c_22 h
          refine lv_iload hx hb dX2_stonesToEnclose_48 (lv_at hl 5 rfl) ?_
          refine lv_istore (lv' := [(7, .int x6), (0, .ref g), (1, .int x1), (2, .int x2), (3, .long x3), (5, .int x5), (6, .int x6)]) hx hb dX2_stonesToEnclose_50 hl (by decide) rfl (fun ls hl => ?_)
          exact ih.2 x3 x5 x6 x6 h _ (lv_sub hl [1, 2, 3, 4, 5, 6, 0] rfl)
    · intro x3 x5 x6 x7 h ls hl
      rw [lp_X2_stonesToEnclose_30.eq_3] at h
      refine lv_iload hx hb dX2_stonesToEnclose_52 (lv_at hl 6 rfl) ?_
      refine lv_aload_n hx hb dX2_stonesToEnclose_54 rfl (lv_at hl 0 rfl) ?_
      refine va_get hx hb hts in_X2 hown hK.1 hP 0 (fs := [.ref sh, .ref al, .int gr, .ref g_b, .ref g_t]) rfl rfl 0 (by decide) (hts _ q327) (fun _ hh => hh) (v := .ref sh) rfl dX2_stonesToEnclose_55 ?_
      refine vp_callSi (va_Run.run (va_runV (As := []) (rest := [.int x7]) ⟨hx, hb, hml, hown, hts⟩ (met_X4_cells l D cA sh zw zh zA zL zR zE N (zw * zh) rfl) (cwV 0 hts (lw_V q1017 q662 q663 q73 q664) rfl rfl rfl (by decide +kernel) ⟨Nat.le_of_ble_eq_true rfl, Nat.le_of_ble_eq_true rfl⟩) (ga_PV hK (hP.sub (ws' := [(sh, .inr (4, [.int zw, .int zh, .long zA, .long zL, .long zR, .long zE]))]) [7] rfl) (va_recv hK.1 hP (ci := 4) (q0 := 7) rfl rfl)) rfl rfl hl.1 rfl (lv_room (Nat.le_of_ble_eq_true rfl)) dX2_stonesToEnclose_58 ⟨Nat.le_of_ble_eq_true rfl, Nat.le_of_ble_eq_true rfl⟩)) (fun z_25 w_26 => ?_)
      obtain rfl := w_26
      refine lv_icmp_ge (tgt := 128) hx hb dX2_stonesToEnclose_61 (by decide) (fun c_28 => ?_) (fun c_28 => ?_)
      · replace h := ga_ift c_28 h
        refine lv_iinc (v := (x6 + 1)) (lv' := [(6, .int (x6 + 1)), (0, .ref g), (1, .int x1), (2, .int x2), (3, .long x3), (5, .int x5), (7, .int x7)]) hx hb dX2_stonesToEnclose_128 hl (k := 5) rfl rfl (by decide) rfl (fun ls hl => ?_)
        refine lv_goto (tgt := 30) hx hb dX2_stonesToEnclose_131 (by decide) ?_
        exact ih.1 x3 x5 (x6 + 1) h _ (lv_sub hl [1, 2, 3, 4, 5, 0] rfl)
      · replace h := ga_iff c_28 h
        refine lv_lload_n hx hb dX2_stonesToEnclose_64 rfl (lv_at hl 3 rfl) ?_
        refine lv_iload hx hb dX2_stonesToEnclose_65 (lv_at hl 5 rfl) ?_
        obtain ⟨r_29, e_30, h⟩ := ga_gb h
        refine vp_callSi (va_Run.run (va_runSN (As := [.long x3, .int x6]) (rest := []) ⟨hx, hb, hml, hown, hts⟩ (met_X1_has l D cA N x3 x6 r_29 e_30) (⟨va_cnB 2 hts (lw_meth q708) rfl rfl rfl (hK.2.1 _ q1014 rfl) (hts _ q67) (by decide +kernel) ⟨Nat.le_of_ble_eq_true rfl, Nat.le_of_ble_eq_true rfl⟩, hts _ q707, trivial⟩) (ga_PS hK ga_P0) rfl rfl hl.1 rfl (lv_room (Nat.le_of_ble_eq_true rfl)) dX2_stonesToEnclose_67 ⟨Nat.le_of_ble_eq_true rfl, Nat.le_of_ble_eq_true rfl⟩)) (fun z_31 w_32 => ?_)
        obtain ⟨rfl, b_33⟩ := w_32
        refine lv_if_eq (tgt := 128) hx hb dX2_stonesToEnclose_70 (by decide) (fun c_34 => ?_) (fun c_34 => ?_)
        · replace h := ga_ift c_34 h
          refine lv_iinc (v := (x6 + 1)) (lv' := [(6, .int (x6 + 1)), (0, .ref g), (1, .int x1), (2, .int x2), (3, .long x3), (5, .int x5), (7, .int x7)]) hx hb dX2_stonesToEnclose_128 hl (k := 5) rfl rfl (by decide) rfl (fun ls hl => ?_)
          refine lv_goto (tgt := 30) hx hb dX2_stonesToEnclose_131 (by decide) ?_
          exact ih.1 x3 x5 (x6 + 1) h _ (lv_sub hl [1, 2, 3, 4, 5, 0] rfl)
        · replace h := ga_iff c_34 h
          refine lv_iload hx hb dX2_stonesToEnclose_73 (lv_at hl 4 rfl) ?_
          refine lv_iconst (v := 1) hx hb dX2_stonesToEnclose_75 (by decide) ?_
          refine lv_icmp_eq (tgt := 128) hx hb dX2_stonesToEnclose_76 (by decide) (fun c_35 => ?_) (fun c_35 => ?_)
          · replace h := ga_ift c_35 h
            refine lv_iinc (v := (x6 + 1)) (lv' := [(6, .int (x6 + 1)), (0, .ref g), (1, .int x1), (2, .int x2), (3, .long x3), (5, .int x5), (7, .int x7)]) hx hb dX2_stonesToEnclose_128 hl (k := 5) rfl rfl (by decide) rfl (fun ls hl => ?_)
            refine lv_goto (tgt := 30) hx hb dX2_stonesToEnclose_131 (by decide) ?_
            exact ih.1 x3 x5 (x6 + 1) h _ (lv_sub hl [1, 2, 3, 4, 5, 0] rfl)
          · replace h := ga_iff c_35 h
            refine lv_lload_n hx hb dX2_stonesToEnclose_79 rfl (lv_at hl 3 rfl) ?_
            refine lv_iload hx hb dX2_stonesToEnclose_80 (lv_at hl 6 rfl) ?_
            obtain ⟨r_36, e_37, h⟩ := ga_gb h
            refine vp_callSi (va_Run.run (va_runSN (As := [.long x3, .int x7]) (rest := []) ⟨hx, hb, hml, hown, hts⟩ (met_X1_has l D cA N x3 x7 r_36 e_37) (⟨va_cnB 2 hts (lw_meth q708) rfl rfl rfl (hK.2.1 _ q1014 rfl) (hts _ q67) (by decide +kernel) ⟨Nat.le_of_ble_eq_true rfl, Nat.le_of_ble_eq_true rfl⟩, hts _ q707, trivial⟩) (ga_PS hK ga_P0) rfl rfl hl.1 rfl (lv_room (Nat.le_of_ble_eq_true rfl)) dX2_stonesToEnclose_82 ⟨Nat.le_of_ble_eq_true rfl, Nat.le_of_ble_eq_true rfl⟩)) (fun z_38 w_39 => ?_)
            obtain ⟨rfl, b_40⟩ := w_39
            refine lv_if_eq (tgt := 122) hx hb dX2_stonesToEnclose_85 (by decide) (fun c_41 => ?_) (fun c_41 => ?_)
            · replace h := ga_ift c_41 h
              refine lv_iinc (v := (x7 + 1)) (lv' := [(7, .int (x7 + 1)), (0, .ref g), (1, .int x1), (2, .int x2), (3, .long x3), (5, .int x5), (6, .int x6)]) hx hb dX2_stonesToEnclose_122 hl (k := 6) rfl rfl (by decide) rfl (fun ls hl => ?_)
              refine lv_goto (tgt := 52) hx hb dX2_stonesToEnclose_125 (by decide) ?_
              exact ih.2 x3 x5 x6 (x7 + 1) h _ (lv_sub hl [1, 2, 3, 4, 5, 6, 0] rfl)
            · replace h := ga_iff c_41 h
              refine lv_aload_n hx hb dX2_stonesToEnclose_88 rfl (lv_at hl 0 rfl) ?_
              refine lv_iload_n hx hb dX2_stonesToEnclose_89 rfl (lv_at hl 1 rfl) ?_
              refine lv_iload_n hx hb dX2_stonesToEnclose_90 rfl (lv_at hl 2 rfl) ?_
              refine lv_iload hx hb dX2_stonesToEnclose_91 (lv_at hl 5 rfl) ?_
              refine vp_callSl (va_Run.run (va_runSN (As := [.int x6]) (rest := [.int x2, .int x1, .ref g]) ⟨hx, hb, hml, hown, hts⟩ (met_X1_bit l D cA N x6 (jlshl 1 x6) rfl) (⟨va_cnB 1 hts (lw_meth q186) rfl rfl rfl (hK.2.1 _ q1018 rfl) (hts _ q67) (by decide +kernel) ⟨Nat.le_of_ble_eq_true rfl, Nat.le_of_ble_eq_true rfl⟩, hts _ q185, trivial⟩) (ga_PS hK ga_P0) rfl rfl hl.1 rfl (lv_room (Nat.le_of_ble_eq_true rfl)) dX2_stonesToEnclose_93 ⟨Nat.le_of_ble_eq_true rfl, Nat.le_of_ble_eq_true rfl⟩)) (fun z_44 w_45 => ?_)
              obtain rfl := w_45
              refine lv_iload hx hb dX2_stonesToEnclose_96 (lv_at hl 6 rfl) ?_
              refine vp_callSl (va_Run.run (va_runSN (As := [.int x7]) (rest := [.long (jlshl 1 x6), .int x2, .int x1, .ref g]) ⟨hx, hb, hml, hown, hts⟩ (met_X1_bit l D cA N x7 (jlshl 1 x7) rfl) (⟨va_cnB 1 hts (lw_meth q186) rfl rfl rfl (hK.2.1 _ q1018 rfl) (hts _ q67) (by decide +kernel) ⟨Nat.le_of_ble_eq_true rfl, Nat.le_of_ble_eq_true rfl⟩, hts _ q185, trivial⟩) (ga_PS hK ga_P0) rfl rfl hl.1 rfl (lv_room (Nat.le_of_ble_eq_true rfl)) dX2_stonesToEnclose_98 ⟨Nat.le_of_ble_eq_true rfl, Nat.le_of_ble_eq_true rfl⟩)) (fun z_49 w_50 => ?_)
              obtain rfl := w_50
              refine lv_lor hx hb dX2_stonesToEnclose_101 ?_
              obtain ⟨r_52, e_53, h⟩ := ga_gb h
              refine vp_callSi (va_Run.run (va_runV (As := [.int x1, .int x2, .long ((jlshl 1 x6) ||| (jlshl 1 x7))]) (rest := []) ⟨hx, hb, hml, hown, hts⟩ (met_X2_isEnclosed l D cA g sh al g_b g_t ed lf r r_b r_w r_s r_r r_v r_b_s r_b_a r_b_c r_b_g gr lm lz ln r1 r2 rN rbB rbS rbA zw zh zA zL zR zE N x1 x2 ((jlshl 1 x6) ||| (jlshl 1 x7)) hlast r_52 e_53) (cwV 3 hts (lw_V q1008 q1010 qs16 q68 q1011) rfl rfl rfl (by decide +kernel) ⟨Nat.le_of_ble_eq_true rfl, Nat.le_of_ble_eq_true rfl⟩) (ga_PV hK (hP.sub (ws' := [(g, .inr (2, [.ref sh, .ref al, .int gr, .ref g_b, .ref g_t])), (al, .inr (6, [.int lm, .ref ed, .int lz])), (ed, .inl (cA 5, ln, .inr (.inr (.inr (.inr lf))))), (r, .inr (5, [.int r1, .int r2, .ref r_b, .ref r_w, .int rN, .ref r_s, .ref r_r, .ref r_v])), (r_b, .inr (3, [.ref r_b_s, .ref r_b_a, .long rbB, .ref r_b_c, .ref r_b_g])), (r_b_s, .inl (cA 1, 2, .inr (.inl rbS))), (r_b_a, .inl (cA 1, 2, .inr (.inl rbA))), (sh, .inr (4, [.int zw, .int zh, .long zA, .long zL, .long zR, .long zE]))]) [0, 1, 2, 3, 4, 5, 6, 7] rfl) (va_recv hK.1 hP (ci := 2) (q0 := 0) rfl rfl)) rfl rfl hl.1 rfl (lv_room (Nat.le_of_ble_eq_true rfl)) dX2_stonesToEnclose_102 ⟨Nat.le_of_ble_eq_true rfl, Nat.le_of_ble_eq_true rfl⟩)) (fun z_54 w_55 => ?_)
              obtain ⟨rfl, b_56⟩ := w_55
              refine lv_if_eq (tgt := 122) hx hb dX2_stonesToEnclose_105 (by decide) (fun c_57 => ?_) (fun c_57 => ?_)
              · replace h := ga_ift c_57 h
                refine lv_iinc (v := (x7 + 1)) (lv' := [(7, .int (x7 + 1)), (0, .ref g), (1, .int x1), (2, .int x2), (3, .long x3), (5, .int x5), (6, .int x6)]) hx hb dX2_stonesToEnclose_122 hl (k := 6) rfl rfl (by decide) rfl (fun ls hl => ?_)
                refine lv_goto (tgt := 52) hx hb dX2_stonesToEnclose_125 (by decide) ?_
                exact ih.2 x3 x5 x6 (x7 + 1) h _ (lv_sub hl [1, 2, 3, 4, 5, 6, 0] rfl)
              · replace h := ga_iff c_57 h
                refine lv_iload hx hb dX2_stonesToEnclose_108 (lv_at hl 5 rfl) ?_
                refine lv_iload hx hb dX2_stonesToEnclose_110 (lv_at hl 6 rfl) ?_
                refine lv_icmp_ne (tgt := 119) hx hb dX2_stonesToEnclose_112 (by decide) (fun c_58 => ?_) (fun c_58 => ?_)
                · replace h := ga_iff c_58 h
                  refine lv_iconst (v := 2) hx hb dX2_stonesToEnclose_119 (by decide) ?_
                  refine lv_istore (lv' := [(5, .int 2), (0, .ref g), (1, .int x1), (2, .int x2), (3, .long x3), (6, .int x6), (7, .int x7)]) hx hb dX2_stonesToEnclose_120 hl (by decide) rfl (fun ls hl => ?_)
                  refine lv_iinc (v := (x7 + 1)) (lv' := [(7, .int (x7 + 1)), (5, .int 2), (0, .ref g), (1, .int x1), (2, .int x2), (3, .long x3), (6, .int x6)]) hx hb dX2_stonesToEnclose_122 hl (k := 6) rfl rfl (by decide) rfl (fun ls hl => ?_)
                  refine lv_goto (tgt := 52) hx hb dX2_stonesToEnclose_125 (by decide) ?_
                  exact ih.2 x3 2 x6 (x7 + 1) h _ (lv_sub hl [2, 3, 4, 5, 1, 6, 0] rfl)
                · replace h := ga_ift c_58 h
                  refine lv_iconst (v := 1) hx hb dX2_stonesToEnclose_115 (by decide) ?_
                  refine lv_goto (tgt := 120) hx hb dX2_stonesToEnclose_116 (by decide) ?_
                  refine lv_istore (lv' := [(5, .int 1), (0, .ref g), (1, .int x1), (2, .int x2), (3, .long x3), (6, .int x6), (7, .int x7)]) hx hb dX2_stonesToEnclose_120 hl (by decide) rfl (fun ls hl => ?_)
                  refine lv_iinc (v := (x7 + 1)) (lv' := [(7, .int (x7 + 1)), (5, .int 1), (0, .ref g), (1, .int x1), (2, .int x2), (3, .long x3), (6, .int x6)]) hx hb dX2_stonesToEnclose_122 hl (k := 6) rfl rfl (by decide) rfl (fun ls hl => ?_)
                  refine lv_goto (tgt := 52) hx hb dX2_stonesToEnclose_125 (by decide) ?_
                  exact ih.2 x3 1 x6 (x7 + 1) h _ (lv_sub hl [2, 3, 4, 5, 1, 6, 0] rfl)
def F_X2_stonesToEnclose (N : Nat) (gr : Int32) (lm : Int32) (lz : Int32) (ln : Nat) (r1 : Int32) (r2 : Int32) (rN : Int32) (rbB : Int64) (rbS : Nat → Int64) (rbA : Nat → Int64) (zw : Int32) (zh : Int32) (zA : Int64) (zL : Int64) (zR : Int64) (zE : Int64) (x1 : Int32) (x2 : Int32) : Option (Int32) :=
  ((F_X2_isEnclosed N gr lm lz ln r1 r2 rN rbB rbS rbA zw zh zA zL zR zE x1 x2 0).bind fun r_1 =>
  (if r_1 = 0 then
  ((F_X2_board N gr lm lz ln r1 r2 rN).bind fun r_7 =>
  ((F_X3_empty N rbB rbS rbA zw zh zA zL zR zE).bind fun r_11 =>
  lp_X2_stonesToEnclose_30 N gr lm lz ln r1 r2 rN rbB rbS rbA zw zh zA zL zR zE x1 x2 N 0 r_11 (-1) 0 0))
  else
  some 0))
set_option maxHeartbeats 4000000 in
theorem met_X2_stonesToEnclose (l : Launch) (D : va_G) (cA : Nat → ClassId) (g : Nat) (sh : Nat) (al : Nat) (g_b : Nat) (g_t : Nat) (ed : Nat) (lf : Nat → Option Nat) (r : Nat) (r_b : Nat) (r_w : Nat) (r_s : Nat) (r_r : Nat) (r_v : Nat) (r_b_s : Nat) (r_b_a : Nat) (r_b_c : Nat) (r_b_g : Nat) (gr : Int32) (lm : Int32) (lz : Int32) (ln : Nat) (r1 : Int32) (r2 : Int32) (rN : Int32) (rbB : Int64) (rbS : Nat → Int64) (rbA : Nat → Int64) (zw : Int32) (zh : Int32) (zA : Int64) (zL : Int64) (zR : Int64) (zE : Int64) (N : Nat) (x1 : Int32) (x2 : Int32) (hlast : lf (ix (lz - 1)) = some r) (out : Int32) (h : F_X2_stonesToEnclose N gr lm lz ln r1 r2 rN rbB rbS rbA zw zh zA zL zR zE x1 x2 = some out) : Met l yX2_stonesToEnclose (ws_ yX2_stonesToEnclose cX2_stonesToEnclose 8 (some .int)) rm_X2_stonesToEnclose (ga_P D cA [(g, .inr (2, [.ref sh, .ref al, .int gr, .ref g_b, .ref g_t])), (al, .inr (6, [.int lm, .ref ed, .int lz])), (ed, .inl (cA 5, ln, .inr (.inr (.inr (.inr lf))))), (r, .inr (5, [.int r1, .int r2, .ref r_b, .ref r_w, .int rN, .ref r_s, .ref r_r, .ref r_v])), (r_b, .inr (3, [.ref r_b_s, .ref r_b_a, .long rbB, .ref r_b_c, .ref r_b_g])), (r_b_s, .inl (cA 1, 2, .inr (.inl rbS))), (r_b_a, .inl (cA 1, 2, .inr (.inl rbA))), (sh, .inr (4, [.int zw, .int zh, .long zA, .long zL, .long zR, .long zE]))] [.ref g, .int x1, .int x2]) (vp_Si (fun r => out = r)) 0 0 ga_F := by
  refine Met.ofW (cc := cX2_stonesToEnclose) (maxL := 8) (ret := (some .int)) (by decide) rfl ?_
  intro p e s m args below meth c s₁ B hml hv
  obtain ⟨rfl, hP, hK⟩ := hv
  have C : ga_cx p m c meth s _ RX2 cX2_stonesToEnclose 8 (some .int) := ga_cx_of B hml
  have C0 := C
  obtain ⟨hx, hb, hr, hlocks, hml, hown, hts⟩ := C0
  have hl := lv_entry ([.ref g, .int x1, .int x2]) (n := 8) (Nat.le_of_ble_eq_true rfl)
  rw [lg_entry_eq]
  generalize (lg_sl ([.ref g, .int x1, .int x2]) ++ List.replicate (8 - (lg_sl ([.ref g, .int x1, .int x2])).length) Slot.unset).toArray = ls at hl ⊢
  have hl : lv_has ls 8 [(0, .ref g), (1, .int x1), (2, .int x2)] := hl
  rw [F_X2_stonesToEnclose] at h
  refine lv_aload_n hx hb dX2_stonesToEnclose_0 rfl (lv_at hl 0 rfl) ?_
  refine lv_iload_n hx hb dX2_stonesToEnclose_1 rfl (lv_at hl 1 rfl) ?_
  refine lv_iload_n hx hb dX2_stonesToEnclose_2 rfl (lv_at hl 2 rfl) ?_
  refine lv_lconst (v := 0) hx hb dX2_stonesToEnclose_3 (by decide) ?_
  obtain ⟨r_1, e_2, h⟩ := ga_gb h
  refine vp_callSi (va_Run.run (va_runV (As := [.int x1, .int x2, .long 0]) (rest := []) ⟨hx, hb, hml, hown, hts⟩ (met_X2_isEnclosed l D cA g sh al g_b g_t ed lf r r_b r_w r_s r_r r_v r_b_s r_b_a r_b_c r_b_g gr lm lz ln r1 r2 rN rbB rbS rbA zw zh zA zL zR zE N x1 x2 0 hlast r_1 e_2) (cwV 3 hts (lw_V q1008 q1010 qs16 q68 q1011) rfl rfl rfl (by decide +kernel) ⟨Nat.le_of_ble_eq_true rfl, Nat.le_of_ble_eq_true rfl⟩) (ga_PV hK (hP.sub (ws' := [(g, .inr (2, [.ref sh, .ref al, .int gr, .ref g_b, .ref g_t])), (al, .inr (6, [.int lm, .ref ed, .int lz])), (ed, .inl (cA 5, ln, .inr (.inr (.inr (.inr lf))))), (r, .inr (5, [.int r1, .int r2, .ref r_b, .ref r_w, .int rN, .ref r_s, .ref r_r, .ref r_v])), (r_b, .inr (3, [.ref r_b_s, .ref r_b_a, .long rbB, .ref r_b_c, .ref r_b_g])), (r_b_s, .inl (cA 1, 2, .inr (.inl rbS))), (r_b_a, .inl (cA 1, 2, .inr (.inl rbA))), (sh, .inr (4, [.int zw, .int zh, .long zA, .long zL, .long zR, .long zE]))]) [0, 1, 2, 3, 4, 5, 6, 7] rfl) (va_recv hK.1 hP (ci := 2) (q0 := 0) rfl rfl)) rfl rfl hl.1 rfl (lv_room (Nat.le_of_ble_eq_true rfl)) dX2_stonesToEnclose_4 ⟨Nat.le_of_ble_eq_true rfl, Nat.le_of_ble_eq_true rfl⟩)) (fun z_3 w_4 => ?_)
  obtain ⟨rfl, b_5⟩ := w_4
  refine lv_if_eq (tgt := 12) hx hb dX2_stonesToEnclose_7 (by decide) (fun c_6 => ?_) (fun c_6 => ?_)
  · replace h := ga_ift c_6 h
    refine lv_aload_n hx hb dX2_stonesToEnclose_12 rfl (lv_at hl 0 rfl) ?_
    obtain ⟨r_7, e_8, h⟩ := ga_gb h
    refine va_csr (va_Run.run (va_runV (As := []) (rest := []) ⟨hx, hb, hml, hown, hts⟩ (met_X2_board l D cA g sh al g_b g_t ed lf r r_b r_w r_s r_r r_v gr lm lz ln r1 r2 rN N hlast r_7 e_8) (cwV 0 hts (lw_V q384 q385 q386 q68 q387) rfl rfl rfl (by decide +kernel) ⟨Nat.le_of_ble_eq_true rfl, Nat.le_of_ble_eq_true rfl⟩) (ga_PV hK (hP.sub (ws' := [(g, .inr (2, [.ref sh, .ref al, .int gr, .ref g_b, .ref g_t])), (al, .inr (6, [.int lm, .ref ed, .int lz])), (ed, .inl (cA 5, ln, .inr (.inr (.inr (.inr lf))))), (r, .inr (5, [.int r1, .int r2, .ref r_b, .ref r_w, .int rN, .ref r_s, .ref r_r, .ref r_v]))]) [0, 1, 2, 3] rfl) (va_recv hK.1 hP (ci := 2) (q0 := 0) rfl rfl)) rfl rfl hl.1 rfl (lv_room (Nat.le_of_ble_eq_true rfl)) dX2_stonesToEnclose_13 ⟨Nat.le_of_ble_eq_true rfl, Nat.le_of_ble_eq_true rfl⟩)) (fun _ _ => ?_)
    refine lv_aload_n hx hb dX2_stonesToEnclose_16 rfl (lv_at hl 0 rfl) ?_
    refine va_get hx hb hts in_X2 hown hK.1 hP 0 (fs := [.ref sh, .ref al, .int gr, .ref g_b, .ref g_t]) rfl rfl 0 (by decide) (hts _ q327) (fun _ hh => hh) (v := .ref sh) rfl dX2_stonesToEnclose_17 ?_
    obtain ⟨r_11, e_12, h⟩ := ga_gb h
    refine vp_callSl (va_Run.run (va_runV (As := [.ref sh]) (rest := []) ⟨hx, hb, hml, hown, hts⟩ (met_X3_empty l D cA r_b r_b_s r_b_a r_b_c r_b_g sh rbB rbS rbA zw zh zA zL zR zE N r_11 e_12) (cwV 1 hts (lw_V q422 q423 q424 q72 q425) rfl rfl rfl (by decide +kernel) ⟨Nat.le_of_ble_eq_true rfl, Nat.le_of_ble_eq_true rfl⟩) (ga_PV hK (hP.sub (ws' := [(r_b, .inr (3, [.ref r_b_s, .ref r_b_a, .long rbB, .ref r_b_c, .ref r_b_g])), (r_b_s, .inl (cA 1, 2, .inr (.inl rbS))), (r_b_a, .inl (cA 1, 2, .inr (.inl rbA))), (sh, .inr (4, [.int zw, .int zh, .long zA, .long zL, .long zR, .long zE]))]) [4, 5, 6, 7] rfl) (va_recv hK.1 hP (ci := 3) (q0 := 4) rfl rfl)) rfl rfl hl.1 rfl (lv_room (Nat.le_of_ble_eq_true rfl)) dX2_stonesToEnclose_20 ⟨Nat.le_of_ble_eq_true rfl, Nat.le_of_ble_eq_true rfl⟩)) (fun z_13 w_14 => ?_)
    obtain rfl := w_14
    refine lv_lstore_n (lv' := [(3, .long r_11), (0, .ref g), (1, .int x1), (2, .int x2)]) hx hb dX2_stonesToEnclose_23 rfl hl (by decide) rfl (fun ls hl => ?_)
    refine lv_iconst (v := (-1)) hx hb dX2_stonesToEnclose_24 (by decide) ?_
    refine lv_istore (lv' := [(5, .int (-1)), (3, .long r_11), (0, .ref g), (1, .int x1), (2, .int x2)]) hx hb dX2_stonesToEnclose_25 hl (by decide) rfl (fun ls hl => ?_)
    refine lv_iconst (v := 0) hx hb dX2_stonesToEnclose_27 (by decide) ?_
    refine lv_istore (lv' := [(6, .int 0), (5, .int (-1)), (3, .long r_11), (0, .ref g), (1, .int x1), (2, .int x2)]) hx hb dX2_stonesToEnclose_28 hl (by decide) rfl (fun ls hl => ?_)
    exact (w_X2_stonesToEnclose_30 hlast C hK hP N).1 r_11 (-1) 0 h _ (lv_sub hl [3, 4, 5, 2, 1, 0] rfl)
  · replace h := ga_iff c_6 h
    refine lv_iconst (v := 0) hx hb dX2_stonesToEnclose_10 (by decide) ?_
    obtain rfl := Option.some.inj h
    exact W.iret hx hb hr (fun t ht hW => ⟨_, rfl, rfl, ht⟩) (fun _ hq => by cases hq) dX2_stonesToEnclose_11
