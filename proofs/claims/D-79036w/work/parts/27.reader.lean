abbrev rm_X12_init : Room := { frames := 4, cells := 1, slots := 3, locals := 72 }
def F_X12_init (N : Nat)   : Option (Unit) :=
  ((F_J2_init N).bind fun r_7 =>
  some ())
set_option maxHeartbeats 4000000 in
theorem met_X12_init (l : Launch) (D : va_G) (cA : Nat → ClassId) (A : Nat → Prop) (rd : Nat) (zs : Nat → Nat) (x : Nat)  (N : Nat)   (out : Unit) (h : F_X12_init N = some out) : Met l yX12_init (ws_ yX12_init cX12_init 2 none) rm_X12_init (ga_X D cA zs A [(rd, .inr (7, [.int 0, .null, .null]))] [.ref rd, .ref x]) (va_Qv (fun (u : Unit × (Nat → Nat)) => out = u.1) (fun (u : Unit × (Nat → Nat)) (t : State) => va_P D ga_cl [(rd, .inr (7, [.int 0, .ref (u.2 0), .ref x])), ((u.2 0), .inr (6, [.int 0, .ref (zs 0), .int 0]))] t.heap ∧ ga_K D cA t ∧ va_D A [(rd, .inr (7, [.int 0, .ref (u.2 0), .ref x])), ((u.2 0), .inr (6, [.int 0, .ref (zs 0), .int 0]))]) A) 1 3 A := by
  refine Met.ofW (cc := cX12_init) (maxL := 2) (ret := none) (by decide) rfl ?_
  intro p e s m args below meth c s₁ B hml hv
  obtain ⟨rfl, hP, hK, hD, hA, hST⟩ := hv
  have hS : va_S A s.heap s.heap [] := va_S.rf
  have hin : meth.name = "<init>" := (name_of_methodNamed B.named B.method).1
  have C : ga_cx p m c meth s _ RX12 cX12_init 2 none := ga_cx_of B hml
  have C0 := C
  obtain ⟨hx, hb, hr, hlocks, hml, hown, hts⟩ := C0
  have hl := lv_entry ([.ref rd, .ref x]) (n := 2) (Nat.le_of_ble_eq_true rfl)
  rw [lg_entry_eq]
  generalize (lg_sl ([.ref rd, .ref x]) ++ List.replicate (2 - (lg_sl ([.ref rd, .ref x])).length) Slot.unset).toArray = ls at hl ⊢
  have hl : lv_has ls 2 [(0, .ref rd), (1, .ref x)] := hl
  rw [F_X12_init] at h
  refine lv_aload_n hx hb dX12_init_0 rfl (lv_at hl 0 rfl) ?_
  refine lv_aload_n hx hb dX12_init_1 rfl (lv_at hl 1 rfl) ?_
  refine va_putF hx hb hts in_X12 tyX12 tyX12_ok nmX12 hown hK.1 hP hD hS 0 (fs := [.int 0, .null, .null]) rfl rfl 2 (by decide) (hts _ q1139) (fun _ hh => hh) rfl hin rfl (v := .ref x) rfl rfl rfl (show 2 < 3 by decide) dX12_init_2 (fun H_1 locs hP hD hS => ?_)
  have hP : va_P D ga_cl [(rd, .inr (7, [.int 0, .null, .ref x]))] H_1 := hP
  have hD : va_D A [(rd, .inr (7, [.int 0, .null, .ref x]))] := hD
  refine lv_aload_n hx hb dX12_init_5 rfl (lv_at hl 0 rfl) ?_
  refine W.objInit hx hb hown (hts _ q1133) (hts _ q113) (hts _ q114) rfl (by rw [hml]; exact hl.1) rfl dX12_init_6 (Nat.le_of_ble_eq_true rfl) (Nat.le_of_ble_eq_true rfl) ?_
  refine W.eq (g2 := F0 m 9 ls []) rfl ?_
  refine lv_aload_n hx hb dX12_init_9 rfl (lv_at hl 0 rfl) ?_
  refine va_new (ci := 6) (fs := [.int 0, .null, .int 0]) (C := RJ2) (T := TJ2) (N := 3) hx hb hts in_J2 tyJ2 tyJ2_ok hown (hts _ q1134) (hts _ q122) (hts _ q71) hK.1 hP hD hS hA rfl nw_J2 (Nat.le_of_ble_eq_true rfl) (Nat.le_of_ble_eq_true rfl) dX12_init_10 (fun q_3 H_4 hP hD hS => ?_)
  have hP : va_P D ga_cl [(rd, .inr (7, [.int 0, .null, .ref x])), (q_3, .inr (6, [.int 0, .null, .int 0]))] H_4 := hP
  have hD : va_D A [(rd, .inr (7, [.int 0, .null, .ref x])), (q_3, .inr (6, [.int 0, .null, .int 0]))] := hD
  refine W.cs (cells' := 1) (slots' := 3) rfl rfl ?_
  refine lv_dup hx hb dX12_init_13 rfl ?_
  obtain ⟨r_7, e_8, h⟩ := ga_gb h
  have hFc := va_free (wc := [(q_3, .inr (6, [.int 0, .null, .int 0]))]) hD hS hA [1] rfl
  refine va_callv (va_runI (As := []) (rest := [.ref q_3, .ref rd]) ⟨hx, hb, hml, hown, hts⟩ (met_J2_init l D cA (va_A [(q_3, .inr (6, [.int 0, .null, .int 0]))] H_4.size) q_3 zs N r_7 e_8) (cwI 0 hts (lw_meth q125) rfl rfl rfl (hts _ q71) (hts _ q1135) (hts _ q124) rfl (by decide +kernel) ⟨Nat.le_of_ble_eq_true rfl, Nat.le_of_ble_eq_true rfl⟩) (ga_XS hK (hP.sub (ws' := [(q_3, .inr (6, [.int 0, .null, .int 0]))]) [1] rfl) (hD.sub (ws' := [(q_3, .inr (6, [.int 0, .null, .int 0]))]) [1] (by decide) rfl).self (fun _ hq => Or.inr hq) (hST.at hS hFc)) rfl rfl hl.1 rfl (lv_room (Nat.le_of_ble_eq_true rfl)) dX12_init_14 ⟨Nat.le_of_ble_eq_true rfl, Nat.le_of_ble_eq_true rfl⟩) hS (fun q _ hq => hFc q hq) hFc (fun u_12 t H_11 locs ht _ w_10 hB _ hk hS => ?_)
  obtain ⟨hP1, -, hD1⟩ := hB
  obtain rfl := w_10
  rw [ht] at hP1
  obtain ⟨hP, hD⟩ := va_join (wr := [(rd, .inr (7, [.int 0, .null, .ref x]))]) (w1 := [(q_3, .inr (6, [.int 0, .ref (zs 0), .int 0]))]) hP hD [1] [0] rfl rfl (by decide) (by decide) hk hFc hP1 hD1
  have hP : va_P D ga_cl [(rd, .inr (7, [.int 0, .null, .ref x])), (q_3, .inr (6, [.int 0, .ref (zs 0), .int 0]))] H_11 := hP
  have hD : va_D A [(rd, .inr (7, [.int 0, .null, .ref x])), (q_3, .inr (6, [.int 0, .ref (zs 0), .int 0]))] := hD
  refine va_putF hx hb hts in_X12 tyX12 tyX12_ok nmX12 hown hK.1 hP hD hS 0 (fs := [.int 0, .null, .ref x]) rfl rfl 1 (by decide) (hts _ q1137) (fun _ hh => hh) rfl hin rfl (v := .ref q_3) rfl rfl rfl (show 1 < 3 by decide) dX12_init_17 (fun H_14 locs hP hD hS => ?_)
  have hP : va_P D ga_cl [(rd, .inr (7, [.int 0, .ref q_3, .ref x])), (q_3, .inr (6, [.int 0, .ref (zs 0), .int 0]))] H_14 := hP
  have hD : va_D A [(rd, .inr (7, [.int 0, .ref q_3, .ref x])), (q_3, .inr (6, [.int 0, .ref (zs 0), .int 0]))] := hD
  have hP9 := hP.sub (ws' := [(rd, .inr (7, [.int 0, .ref q_3, .ref x])), (q_3, .inr (6, [.int 0, .ref (zs 0), .int 0]))]) [0, 1] rfl
  have hD9 := hD.sub (ws' := [(rd, .inr (7, [.int 0, .ref q_3, .ref x])), (q_3, .inr (6, [.int 0, .ref (zs 0), .int 0]))]) [0, 1] (by decide) rfl
  obtain rfl := Option.some.inj h
  exact W.vret hx hb hr (fun t ht hW => ⟨⟨((), ga_ad [q_3]), rfl, rfl, ⟨by rw [ht]; exact hP9, hK.warm hW, hD9⟩⟩, hS.F ht⟩) hS.2.2 dX12_init_20
abbrev rm_X12_next : Room := { frames := 1, cells := 0, slots := 0, locals := 12 }
def F_X12_next (N : Nat) (rp : Int32) (xl : Int32) (xI : Nat → Int32)  : Option (Int32) :=
  (if xl ≤ rp then
  some 0
  else
  (if inb rp 80 = true then
  some (xI (ix rp))
  else none))
set_option maxHeartbeats 4000000 in
theorem met_X12_next (l : Launch) (D : va_G) (cA : Nat → ClassId) (rd : Nat) (cl : Nat) (x : Nat) (g : Nat) (xs : Value) (xp : Value) (xi : Nat) (xr : Value) (xq : Value) (rp : Int32) (xl : Int32) (xI : Nat → Int32) (N : Nat)   (out : Int32) (h : F_X12_next N rp xl xI = some out) : Met l yX12_next (ws_ yX12_next cX12_next 1 (some .int)) rm_X12_next (ga_P D cA [(rd, .inr (7, [.int rp, .ref cl, .ref x])), (x, .inr (1, [.ref g, xs, xp, .ref xi, .int xl, xr, xq])), (xi, .inl (cA 2, 80, .inl xI))] [.ref rd]) (vp_Si (fun r => out = r)) 0 0 ga_F := by
  refine Met.ofW (cc := cX12_next) (maxL := 1) (ret := (some .int)) (by decide) rfl ?_
  intro p e s m args below meth c s₁ B hml hv
  obtain ⟨rfl, hP, hK⟩ := hv
  have C : ga_cx p m c meth s _ RX12 cX12_next 1 (some .int) := ga_cx_of B hml
  have C0 := C
  obtain ⟨hx, hb, hr, hlocks, hml, hown, hts⟩ := C0
  have hl := lv_entry ([.ref rd]) (n := 1) (Nat.le_of_ble_eq_true rfl)
  rw [lg_entry_eq]
  generalize (lg_sl ([.ref rd]) ++ List.replicate (1 - (lg_sl ([.ref rd])).length) Slot.unset).toArray = ls at hl ⊢
  have hl : lv_has ls 1 [(0, .ref rd)] := hl
  rw [F_X12_next] at h
  refine lv_aload_n hx hb dX12_next_0 rfl (lv_at hl 0 rfl) ?_
  refine va_get hx hb hts in_X12 hown hK.1 hP 0 (fs := [.int rp, .ref cl, .ref x]) rfl rfl 0 (by decide) (hts _ q1136) (fun _ hh => hh) (v := .int rp) rfl dX12_next_1 ?_
  refine lv_aload_n hx hb dX12_next_4 rfl (lv_at hl 0 rfl) ?_
  refine va_get hx hb hts in_X12 hown hK.1 hP 0 (fs := [.int rp, .ref cl, .ref x]) rfl rfl 2 (by decide) (hts _ q1139) (fun _ hh => hh) (v := .ref x) rfl dX12_next_5 ?_
  refine va_getN hx hb hts in_X1 hown hK.1 hP 1 (fs := [.ref g, xs, xp, .ref xi, .int xl, xr, xq]) rfl rfl 4 (by decide) (ga_nu hK q355 rfl) (fun _ hh => hh) (v := .int xl) rfl dX12_next_8 ?_
  refine lv_icmp_ge (tgt := 29) hx hb dX12_next_11 (by decide) (fun c_1 => ?_) (fun c_1 => ?_)
  · replace h := ga_ift c_1 h
    refine lv_iconst (v := 0) hx hb dX12_next_29 (by decide) ?_
    obtain rfl := Option.some.inj h
    exact W.iret hx hb hr (fun t ht hW => ⟨_, rfl, rfl, ht⟩) (fun _ hq => by cases hq) dX12_next_30
  · replace h := ga_iff c_1 h
    refine lv_aload_n hx hb dX12_next_14 rfl (lv_at hl 0 rfl) ?_
    refine va_get hx hb hts in_X12 hown hK.1 hP 0 (fs := [.int rp, .ref cl, .ref x]) rfl rfl 2 (by decide) (hts _ q1139) (fun _ hh => hh) (v := .ref x) rfl dX12_next_15 ?_
    refine va_getN hx hb hts in_X1 hown hK.1 hP 1 (fs := [.ref g, xs, xp, .ref xi, .int xl, xr, xq]) rfl rfl 3 (by decide) (ga_nu hK q353 rfl) (fun _ hh => hh) (v := .ref xi) rfl dX12_next_18 ?_
    refine lv_aload_n hx hb dX12_next_21 rfl (lv_at hl 0 rfl) ?_
    refine va_get hx hb hts in_X12 hown hK.1 hP 0 (fs := [.int rp, .ref cl, .ref x]) rfl rfl 0 (by decide) (hts _ q1136) (fun _ hh => hh) (v := .int rp) rfl dX12_next_22 ?_
    obtain ⟨i_2, h⟩ := ga_gif h
    refine va_cald hx hb hK.1 hP 2 2 (f := xI) rfl rfl (ga_in i_2) dX12_next_25 ?_
    refine lv_goto (tgt := 30) hx hb dX12_next_26 (by decide) ?_
    obtain rfl := Option.some.inj h
    exact W.iret hx hb hr (fun t ht hW => ⟨_, rfl, rfl, ht⟩) (fun _ hq => by cases hq) dX12_next_30
abbrev rm_X12_need : Room := { frames := 4, cells := 1, slots := 7, locals := 81 }
def F_X12_need (N : Nat) (rp : Int32) (x1 : Int32) : Option (Unit ⊕ (Nat × (Nat → Int32))) :=
  (if x1 = 0 then
  ((F_X13_init_Te N rp).bind fun r_6 =>
  some (.inr (9, ga_xd [r_6])))
  else
  some (.inl ()))
set_option maxHeartbeats 4000000 in
theorem met_X12_need (l : Launch) (D : va_G) (cA : Nat → ClassId) (A : Nat → Prop) (rd : Nat) (cl : Nat) (x : Nat) (zs : Nat → Nat) (rp : Int32) (N : Nat) (x1 : Int32)  (hstk : l.stackTraces = false) (out : Unit ⊕ (Nat × (Nat → Int32))) (h : F_X12_need N rp x1 = some out) : vx_Met l yX12_need (ws_ yX12_need cX12_need 2 none) rm_X12_need (ga_X D cA zs A [(rd, .inr (7, [.int rp, .ref cl, .ref x]))] [.ref rd, .int x1]) (va_Qv (fun (u : Unit) => ∃ v, out = .inl v ∧ v = u) (fun (u : Unit) (t : State) => va_P D ga_cl [(rd, .inr (7, [.int rp, .ref cl, .ref x]))] t.heap ∧ ga_K D cA t ∧ va_D A [(rd, .inr (7, [.int rp, .ref cl, .ref x]))]) A) (vx_X (fun (u : (Nat × (Nat → Int32)) × (Nat → Nat)) => out = .inr u.1) (fun (E : String) (q9 : Nat) (u : (Nat × (Nat → Int32)) × (Nat → Nat)) (t : State) => E = ga_en u.1.1 ∧ va_P D ga_cl (if u.1.1 = 9 then [(q9, .inr (14, [.null, .null, .null, .null, .null, .int 0, .int (u.1.2 0)]))] else [(rd, .inr (7, [.int rp, .ref cl, .ref x]))]) t.heap ∧ va_D A (if u.1.1 = 9 then [(q9, .inr (14, [.null, .null, .null, .null, .null, .int 0, .int (u.1.2 0)]))] else [(rd, .inr (7, [.int rp, .ref cl, .ref x]))]) ∧ (∀ a ∈ (if u.1.1 = 9 then ([] : List Nat) else ([] : List Nat)), ga_M a t.heap)) A) 1 7 A := by
  refine vx_ofW (cc := cX12_need) (maxL := 2) (ret := none) (by decide) rfl ?_
  intro p e s m args below meth c s₁ B hml htab hv
  have hX : ga_cx2 c l := ⟨htab, hstk⟩
  obtain ⟨rfl, hP, hK, hD, hA, hST⟩ := hv
  have hS : va_S A s.heap s.heap [] := va_S.rf
  have C : ga_cx p m c meth s _ RX12 cX12_need 2 none := ga_cx_of B hml
  have C0 := C
  obtain ⟨hx, hb, hr, hlocks, hml, hown, hts⟩ := C0
  have hl := lv_entry ([.ref rd, .int x1]) (n := 2) (Nat.le_of_ble_eq_true rfl)
  rw [lg_entry_eq]
  generalize (lg_sl ([.ref rd, .int x1]) ++ List.replicate (2 - (lg_sl ([.ref rd, .int x1])).length) Slot.unset).toArray = ls at hl ⊢
  have hl : lv_has ls 2 [(0, .ref rd), (1, .int x1)] := hl
  rw [F_X12_need] at h
  refine lv_iload_n hx hb dX12_need_0 rfl (lv_at hl 1 rfl) ?_
  refine lv_if_ne (tgt := 16) hx hb dX12_need_1 (by decide) (fun c_1 => ?_) (fun c_1 => ?_)
  · replace h := ga_iff c_1 h
    have hP9 := hP.sub (ws' := [(rd, .inr (7, [.int rp, .ref cl, .ref x]))]) [0] rfl
    have hD9 := hD.sub (ws' := [(rd, .inr (7, [.int rp, .ref cl, .ref x]))]) [0] (by decide) rfl
    obtain rfl := Option.some.inj h
    refine W.widen (k := 1) (n := 7) (by decide) (by decide) ?_
    refine vx_ret ?_
    exact W.vret hx hb hr (fun t ht hW => ⟨⟨(), rfl, ⟨_, rfl, rfl⟩, ⟨by rw [ht]; exact hP9, hK.warm hW, hD9⟩⟩, hS.F ht⟩) hS.2.2 dX12_need_16
  · replace h := ga_ift c_1 h
    refine va_new (ci := 14) (fs := [.null, .null, .null, .null, .null, .int 0, .int 0]) (C := RX13) (T := TX13) (N := 7) hx hb hts in_X13 tyX13 tyX13_ok hown (hts _ q1168) (hts _ q1169) (hts _ q101) hK.1 hP hD hS hA rfl nw_X13 (Nat.le_of_ble_eq_true rfl) (Nat.le_of_ble_eq_true rfl) dX12_need_4 (fun q_2 H_3 hP hD hS => ?_)
    have hP : va_P D ga_cl [(rd, .inr (7, [.int rp, .ref cl, .ref x])), (q_2, .inr (14, [.null, .null, .null, .null, .null, .int 0, .int 0]))] H_3 := hP
    have hD : va_D A [(rd, .inr (7, [.int rp, .ref cl, .ref x])), (q_2, .inr (14, [.null, .null, .null, .null, .null, .int 0, .int 0]))] := hD
    refine W.cs (cells' := 1) (slots' := 7) rfl rfl ?_
    refine lv_dup hx hb dX12_need_7 rfl ?_
    refine lv_aload_n hx hb dX12_need_8 rfl (lv_at hl 0 rfl) ?_
    refine va_get hx hb hts in_X12 hown hK.1 hP 0 (fs := [.int rp, .ref cl, .ref x]) rfl rfl 0 (by decide) (hts _ q1136) (fun _ hh => hh) (v := .int rp) rfl dX12_need_9 ?_
    obtain ⟨r_6, e_7, h⟩ := ga_gb h
    have hFc := va_free (wc := [(q_2, .inr (14, [.null, .null, .null, .null, .null, .int 0, .int 0]))]) hD hS hA [1] rfl
    refine va_callv (va_runI (As := [.int rp]) (rest := [.ref q_2]) ⟨hx, hb, hml, hown, hts⟩ (met_X13_init_Te l D cA (va_A [(q_2, .inr (14, [.null, .null, .null, .null, .null, .int 0, .int 0]))] H_3.size) q_2 zs N rp r_6 e_7) (cwI 1 hts (lw_meth q1179) rfl rfl rfl (hts _ q101) (hts _ q1177) (hts _ q1178) rfl (by decide +kernel) ⟨Nat.le_of_ble_eq_true rfl, Nat.le_of_ble_eq_true rfl⟩) (ga_XS hK (hP.sub (ws' := [(q_2, .inr (14, [.null, .null, .null, .null, .null, .int 0, .int 0]))]) [1] rfl) (hD.sub (ws' := [(q_2, .inr (14, [.null, .null, .null, .null, .null, .int 0, .int 0]))]) [1] (by decide) rfl).self (fun _ hq => Or.inr hq) (hST.at hS hFc)) rfl rfl hl.1 rfl (lv_room (Nat.le_of_ble_eq_true rfl)) dX12_need_12 ⟨Nat.le_of_ble_eq_true rfl, Nat.le_of_ble_eq_true rfl⟩) hS (fun q _ hq => hFc q hq) hFc (fun u_11 t H_10 locs ht _ w_9 hB _ hk hS => ?_)
    obtain ⟨hP1, -, hD1⟩ := hB
    obtain rfl := w_9
    rw [ht] at hP1
    obtain ⟨hP, hD⟩ := va_join (wr := [(rd, .inr (7, [.int rp, .ref cl, .ref x]))]) (w1 := [(q_2, .inr (14, [.null, .null, .null, .null, .null, .int 0, .int r_6]))]) hP hD [1] [0] rfl rfl (by decide) (by decide) hk hFc hP1 hD1
    have hP : va_P D ga_cl [(rd, .inr (7, [.int rp, .ref cl, .ref x])), (q_2, .inr (14, [.null, .null, .null, .null, .null, .int 0, .int r_6]))] H_10 := hP
    have hD : va_D A [(rd, .inr (7, [.int rp, .ref cl, .ref x])), (q_2, .inr (14, [.null, .null, .null, .null, .null, .int 0, .int r_6]))] := hD
    have hP9 := hP.sub (ws' := [(q_2, .inr (14, [.null, .null, .null, .null, .null, .int 0, .int r_6]))]) [1] rfl
    have hD9 := hD.sub (ws' := [(q_2, .inr (14, [.null, .null, .null, .null, .null, .int 0, .int r_6]))]) [1] (by decide) rfl
    have hM9 : (∀ a ∈ ([] : List Nat), ga_M a H_10) := (fun _ hz => nomatch hz)
    obtain rfl := Option.some.inj h
    obtain ⟨ce, hce, hcv, hcl⟩ := ga_exc hK hP (ci := 14) (q0 := 1) rfl rfl
    refine vx_athrow hx hb dX12_need_15 ?_
    exact vx_out (fun x hx9 => (hX.1 x hx9).elim) hlocks hce hcv hcl (fun t ht _ => ⟨((9, ga_xd [r_6]), ga_ad []), rfl, ⟨rfl, by rw [ht]; exact hP9, hD9, by rw [ht]; exact hM9⟩, hS.F ht⟩) hS.2.2 (by decide) (by decide)
abbrev rm_X12_take : Room := { frames := 1, cells := 0, slots := 0, locals := 12 }
def F_X12_take (N : Nat) (rp : Int32)  : Option (Int32) :=
  some (rp + 1)
set_option maxHeartbeats 4000000 in
theorem met_X12_take (l : Launch) (D : va_G) (cA : Nat → ClassId) (A : Nat → Prop) (rd : Nat) (cl : Nat) (x : Nat) (rp : Int32) (N : Nat)   (out : Int32) (h : F_X12_take N rp = some out) : Met l yX12_take (ws_ yX12_take cX12_take 1 none) rm_X12_take (ga_L D cA A [(rd, .inr (7, [.int rp, .ref cl, .ref x]))] [.ref rd]) (va_Qv (fun (u : Int32) => out = u) (fun (u : Int32) (t : State) => va_P D ga_cl [(rd, .inr (7, [.int u, .ref cl, .ref x]))] t.heap ∧ ga_K D cA t ∧ va_D A [(rd, .inr (7, [.int u, .ref cl, .ref x]))]) A) 0 0 A := by
  refine Met.ofW (cc := cX12_take) (maxL := 1) (ret := none) (by decide) rfl ?_
  intro p e s m args below meth c s₁ B hml hv
  obtain ⟨rfl, hP, hK, hD, hA⟩ := hv
  have hS : va_S A s.heap s.heap [] := va_S.rf
  have C : ga_cx p m c meth s _ RX12 cX12_take 1 none := ga_cx_of B hml
  have C0 := C
  obtain ⟨hx, hb, hr, hlocks, hml, hown, hts⟩ := C0
  have hl := lv_entry ([.ref rd]) (n := 1) (Nat.le_of_ble_eq_true rfl)
  rw [lg_entry_eq]
  generalize (lg_sl ([.ref rd]) ++ List.replicate (1 - (lg_sl ([.ref rd])).length) Slot.unset).toArray = ls at hl ⊢
  have hl : lv_has ls 1 [(0, .ref rd)] := hl
  rw [F_X12_take] at h
  refine lv_aload_n hx hb dX12_take_0 rfl (lv_at hl 0 rfl) ?_
  refine lv_dup hx hb dX12_take_1 rfl ?_
  refine va_get hx hb hts in_X12 hown hK.1 hP 0 (fs := [.int rp, .ref cl, .ref x]) rfl rfl 0 (by decide) (hts _ q1136) (fun _ hh => hh) (v := .int rp) rfl dX12_take_2 ?_
  refine lv_iconst (v := 1) hx hb dX12_take_5 (by decide) ?_
  refine lv_iadd hx hb dX12_take_6 ?_
  refine va_put hx hb hts in_X12 tyX12 tyX12_ok nmX12 hown hK.1 hP hD hS 0 (fs := [.int rp, .ref cl, .ref x]) rfl rfl 0 (by decide) (hts _ q1136) (fun _ hh => hh) rfl (v := .int (rp + 1)) rfl rfl rfl (show 0 < 3 by decide) dX12_take_7 (fun H_1 locs hP hD hS => ?_)
  have hP : va_P D ga_cl [(rd, .inr (7, [.int (rp + 1), .ref cl, .ref x]))] H_1 := hP
  have hD : va_D A [(rd, .inr (7, [.int (rp + 1), .ref cl, .ref x]))] := hD
  have hP9 := hP.sub (ws' := [(rd, .inr (7, [.int (rp + 1), .ref cl, .ref x]))]) [0] rfl
  have hD9 := hD.sub (ws' := [(rd, .inr (7, [.int (rp + 1), .ref cl, .ref x]))]) [0] (by decide) rfl
  obtain rfl := Option.some.inj h
  exact W.vret hx hb hr (fun t ht hW => ⟨⟨(rp + 1), rfl, rfl, ⟨by rw [ht]; exact hP9, hK.warm hW, hD9⟩⟩, hS.F ht⟩) hS.2.2 dX12_take_10
abbrev rm_X12_choice : Room := { frames := 5, cells := 2, slots := 14, locals := 102 }
def F_X12_choice (N : Nat) (rp : Int32) (xl : Int32) (gr : Int32) (zw : Int32) (zh : Int32) (zA : Int64) (zL : Int64) (zR : Int64) (zE : Int64) (xI : Nat → Int32)  : Option ((Int32 × Int32) ⊕ (Nat × (Nat → Int32))) :=
  ((F_X12_next N rp xl xI).bind fun r_1 =>
  (if r_1 = 45 then
  ((F_X12_take N rp).bind fun r_69 =>
  some (.inl ((-1), r_69)))
  else
  ((F_X12_next N rp xl xI).bind fun r_7 =>
  ((F_X1_inRange N (r_7 - 97) 0 (zw - 1)).bind fun r_12 =>
  ((F_X12_need N rp r_12).bind fun r_17 => ga_sw r_17 (fun v_27 =>
  ((F_X12_take N rp).bind fun r_31 =>
  ((F_X12_next N r_31 xl xI).bind fun r_38 =>
  ((F_X1_inRange N (r_38 - 49) 0 (zh - 1)).bind fun r_43 =>
  ((F_X12_need N r_31 r_43).bind fun r_48 => ga_sw r_48 (fun v_58 =>
  ((F_X12_take N r_31).bind fun r_62 =>
  some (.inl (((zw * (r_38 - 49)) + (r_7 - 97)), r_62)))) (fun u_53 =>
  (if u_53.1 = 9 then
  some (.inr (9, ga_xd [(u_53.2 0)]))
  else
  none))))))) (fun u_22 =>
  (if u_22.1 = 9 then
  some (.inr (9, ga_xd [(u_22.2 0)]))
  else
  none)))))))
set_option maxHeartbeats 4000000 in
theorem met_X12_choice (l : Launch) (D : va_G) (cA : Nat → ClassId) (A : Nat → Prop) (rd : Nat) (cl : Nat) (x : Nat) (g : Nat) (xs : Value) (xp : Value) (xi : Nat) (xr : Value) (xq : Value) (sh : Nat) (al : Nat) (g_b : Nat) (g_t : Nat) (zs : Nat → Nat) (rp : Int32) (xl : Int32) (gr : Int32) (zw : Int32) (zh : Int32) (zA : Int64) (zL : Int64) (zR : Int64) (zE : Int64) (xI : Nat → Int32) (N : Nat)   (hstk : l.stackTraces = false) (out : (Int32 × Int32) ⊕ (Nat × (Nat → Int32))) (h : F_X12_choice N rp xl gr zw zh zA zL zR zE xI = some out) : vx_Met l yX12_choice (ws_ yX12_choice cX12_choice 3 (some .int)) rm_X12_choice (ga_X D cA zs A [(rd, .inr (7, [.int rp, .ref cl, .ref x])), (x, .inr (1, [.ref g, xs, xp, .ref xi, .int xl, xr, xq])), (g, .inr (2, [.ref sh, .ref al, .int gr, .ref g_b, .ref g_t])), (sh, .inr (4, [.int zw, .int zh, .long zA, .long zL, .long zR, .long zE])), (xi, .inl (cA 2, 80, .inl xI))] [.ref rd]) (va_Qi (fun (r : Int32) (u : Int32) => ∃ v, out = .inl v ∧ (v.1 = r) ∧ v.2 = u) (fun (u : Int32) (t : State) => va_P D ga_cl [(rd, .inr (7, [.int u, .ref cl, .ref x])), (x, .inr (1, [.ref g, xs, xp, .ref xi, .int xl, xr, xq])), (g, .inr (2, [.ref sh, .ref al, .int gr, .ref g_b, .ref g_t])), (sh, .inr (4, [.int zw, .int zh, .long zA, .long zL, .long zR, .long zE])), (xi, .inl (cA 2, 80, .inl xI))] t.heap ∧ ga_K D cA t ∧ va_D A [(rd, .inr (7, [.int u, .ref cl, .ref x])), (x, .inr (1, [.ref g, xs, xp, .ref xi, .int xl, xr, xq])), (g, .inr (2, [.ref sh, .ref al, .int gr, .ref g_b, .ref g_t])), (sh, .inr (4, [.int zw, .int zh, .long zA, .long zL, .long zR, .long zE])), (xi, .inl (cA 2, 80, .inl xI))]) A) (vx_X (fun (u : (Nat × (Nat → Int32)) × (Nat → Nat)) => out = .inr u.1) (fun (E : String) (q9 : Nat) (u : (Nat × (Nat → Int32)) × (Nat → Nat)) (t : State) => E = ga_en u.1.1 ∧ va_P D ga_cl (if u.1.1 = 9 then [(x, .inr (1, [.ref g, xs, xp, .ref xi, .int xl, xr, xq])), (g, .inr (2, [.ref sh, .ref al, .int gr, .ref g_b, .ref g_t])), (sh, .inr (4, [.int zw, .int zh, .long zA, .long zL, .long zR, .long zE])), (xi, .inl (cA 2, 80, .inl xI)), (q9, .inr (14, [.null, .null, .null, .null, .null, .int 0, .int (u.1.2 0)]))] else [(rd, .inr (7, [.int rp, .ref cl, .ref x])), (x, .inr (1, [.ref g, xs, xp, .ref xi, .int xl, xr, xq])), (g, .inr (2, [.ref sh, .ref al, .int gr, .ref g_b, .ref g_t])), (sh, .inr (4, [.int zw, .int zh, .long zA, .long zL, .long zR, .long zE])), (xi, .inl (cA 2, 80, .inl xI))]) t.heap ∧ va_D A (if u.1.1 = 9 then [(x, .inr (1, [.ref g, xs, xp, .ref xi, .int xl, xr, xq])), (g, .inr (2, [.ref sh, .ref al, .int gr, .ref g_b, .ref g_t])), (sh, .inr (4, [.int zw, .int zh, .long zA, .long zL, .long zR, .long zE])), (xi, .inl (cA 2, 80, .inl xI)), (q9, .inr (14, [.null, .null, .null, .null, .null, .int 0, .int (u.1.2 0)]))] else [(rd, .inr (7, [.int rp, .ref cl, .ref x])), (x, .inr (1, [.ref g, xs, xp, .ref xi, .int xl, xr, xq])), (g, .inr (2, [.ref sh, .ref al, .int gr, .ref g_b, .ref g_t])), (sh, .inr (4, [.int zw, .int zh, .long zA, .long zL, .long zR, .long zE])), (xi, .inl (cA 2, 80, .inl xI))]) ∧ (∀ a ∈ (if u.1.1 = 9 then ([] : List Nat) else ([] : List Nat)), ga_M a t.heap)) A) 2 14 A := by
  refine vx_ofW (cc := cX12_choice) (maxL := 3) (ret := (some .int)) (by decide) rfl ?_
  intro p e s m args below meth c s₁ B hml htab hv
  have hX : ga_cx2 c l := ⟨htab, hstk⟩
  obtain ⟨rfl, hP, hK, hD, hA, hST⟩ := hv
  have hS : va_S A s.heap s.heap [] := va_S.rf
  have C : ga_cx p m c meth s _ RX12 cX12_choice 3 (some .int) := ga_cx_of B hml
  have C0 := C
  obtain ⟨hx, hb, hr, hlocks, hml, hown, hts⟩ := C0
  have hl := lv_entry ([.ref rd]) (n := 3) (Nat.le_of_ble_eq_true rfl)
  rw [lg_entry_eq]
  generalize (lg_sl ([.ref rd]) ++ List.replicate (3 - (lg_sl ([.ref rd])).length) Slot.unset).toArray = ls at hl ⊢
  have hl : lv_has ls 3 [(0, .ref rd)] := hl
  rw [F_X12_choice] at h
  refine lv_aload_n hx hb dX12_choice_0 rfl (lv_at hl 0 rfl) ?_
  obtain ⟨r_1, e_2, h⟩ := ga_gb h
  refine vp_callSi (va_Run.run (va_runV (As := []) (rest := []) ⟨hx, hb, hml, hown, hts⟩ (met_X12_next l D cA rd cl x g xs xp xi xr xq rp xl xI N r_1 e_2) (cwV 0 hts (lw_V q1155 q1157 qs24 q100 q1158) rfl rfl rfl (by decide +kernel) ⟨Nat.le_of_ble_eq_true rfl, Nat.le_of_ble_eq_true rfl⟩) (ga_PV hK (hP.sub (ws' := [(rd, .inr (7, [.int rp, .ref cl, .ref x])), (x, .inr (1, [.ref g, xs, xp, .ref xi, .int xl, xr, xq])), (xi, .inl (cA 2, 80, .inl xI))]) [0, 1, 4] rfl) (va_recv hK.1 hP (ci := 7) (q0 := 0) rfl rfl)) rfl rfl hl.1 rfl (lv_room (Nat.le_of_ble_eq_true rfl)) dX12_choice_1 ⟨Nat.le_of_ble_eq_true rfl, Nat.le_of_ble_eq_true rfl⟩)) (fun z_3 w_4 => ?_)
  obtain rfl := w_4
  refine lv_bipush (v := 45) hx hb dX12_choice_4 (by decide) ?_
  refine lv_icmp_ne (tgt := 15) hx hb dX12_choice_6 (by decide) (fun c_6 => ?_) (fun c_6 => ?_)
  · replace h := ga_iff c_6 h
    refine lv_aload_n hx hb dX12_choice_15 rfl (lv_at hl 0 rfl) ?_
    obtain ⟨r_7, e_8, h⟩ := ga_gb h
    refine vp_callSi (va_Run.run (va_runV (As := []) (rest := []) ⟨hx, hb, hml, hown, hts⟩ (met_X12_next l D cA rd cl x g xs xp xi xr xq rp xl xI N r_7 e_8) (cwV 0 hts (lw_V q1155 q1157 qs24 q100 q1158) rfl rfl rfl (by decide +kernel) ⟨Nat.le_of_ble_eq_true rfl, Nat.le_of_ble_eq_true rfl⟩) (ga_PV hK (hP.sub (ws' := [(rd, .inr (7, [.int rp, .ref cl, .ref x])), (x, .inr (1, [.ref g, xs, xp, .ref xi, .int xl, xr, xq])), (xi, .inl (cA 2, 80, .inl xI))]) [0, 1, 4] rfl) (va_recv hK.1 hP (ci := 7) (q0 := 0) rfl rfl)) rfl rfl hl.1 rfl (lv_room (Nat.le_of_ble_eq_true rfl)) dX12_choice_16 ⟨Nat.le_of_ble_eq_true rfl, Nat.le_of_ble_eq_true rfl⟩)) (fun z_9 w_10 => ?_)
    obtain rfl := w_10
    refine lv_bipush (v := 97) hx hb dX12_choice_19 (by decide) ?_
    refine lv_isub hx hb dX12_choice_21 ?_
    refine lv_istore_n (lv' := [(1, .int (r_7 - 97)), (0, .ref rd)]) hx hb dX12_choice_22 rfl hl (by decide) rfl (fun ls hl => ?_)
    refine lv_aload_n hx hb dX12_choice_23 rfl (lv_at hl 1 rfl) ?_
    refine lv_iload_n hx hb dX12_choice_24 rfl (lv_at hl 0 rfl) ?_
    refine lv_iconst (v := 0) hx hb dX12_choice_25 (by decide) ?_
    refine lv_aload_n hx hb dX12_choice_26 rfl (lv_at hl 1 rfl) ?_
    refine va_get hx hb hts in_X12 hown hK.1 hP 0 (fs := [.int rp, .ref cl, .ref x]) rfl rfl 2 (by decide) (hts _ q1139) (fun _ hh => hh) (v := .ref x) rfl dX12_choice_27 ?_
    refine va_getN hx hb hts in_X1 hown hK.1 hP 1 (fs := [.ref g, xs, xp, .ref xi, .int xl, xr, xq]) rfl rfl 0 (by decide) (ga_nu hK q349 rfl) (fun _ hh => hh) (v := .ref g) rfl dX12_choice_30 ?_
    refine va_getN hx hb hts in_X2 hown hK.1 hP 2 (fs := [.ref sh, .ref al, .int gr, .ref g_b, .ref g_t]) rfl rfl 0 (by decide) (ga_nu hK q328 rfl) (fun _ hh => hh) (v := .ref sh) rfl dX12_choice_33 ?_
    refine va_getN hx hb hts in_X4 hown hK.1 hP 3 (fs := [.int zw, .int zh, .long zA, .long zL, .long zR, .long zE]) rfl rfl 0 (by decide) (ga_nu hK q188 rfl) (fun _ hh => hh) (v := .int zw) rfl dX12_choice_36 ?_
    refine lv_iconst (v := 1) hx hb dX12_choice_39 (by decide) ?_
    refine lv_isub hx hb dX12_choice_40 ?_
    obtain ⟨r_12, e_13, h⟩ := ga_gb h
    refine vp_callSi (va_Run.run (va_runSN (As := [.int (r_7 - 97), .int 0, .int (zw - 1)]) (rest := [.ref rd]) ⟨hx, hb, hml, hown, hts⟩ (met_X1_inRange l D cA N (r_7 - 97) 0 (zw - 1) r_12 e_13) (⟨va_cnB 3 hts (lw_meth q489) rfl rfl rfl (hK.2.1 _ q1163 rfl) (hts _ q67) (by decide +kernel) ⟨Nat.le_of_ble_eq_true rfl, Nat.le_of_ble_eq_true rfl⟩, hts _ q488, trivial⟩) (ga_PS hK ga_P0) rfl rfl hl.1 rfl (lv_room (Nat.le_of_ble_eq_true rfl)) dX12_choice_41 ⟨Nat.le_of_ble_eq_true rfl, Nat.le_of_ble_eq_true rfl⟩)) (fun z_14 w_15 => ?_)
    obtain ⟨rfl, b_16⟩ := w_15
    obtain ⟨r_17, e_18, h⟩ := ga_gb h
    have hFc := va_free (wc := [(rd, .inr (7, [.int rp, .ref cl, .ref x]))]) hD hS hA [0] rfl
    refine vx_callv (vx_runV (As := [.int r_12]) (rest := []) ⟨hx, hb, hml, hown, hts⟩ (met_X12_need l D cA (va_A [(rd, .inr (7, [.int rp, .ref cl, .ref x]))] s.heap.size) rd cl x zs rp N r_12 hX.2 r_17 e_18) (cwV 1 hts (lw_V q1164 q1166 qs26 q100 q1167) rfl rfl rfl (by decide +kernel) ⟨Nat.le_of_ble_eq_true rfl, Nat.le_of_ble_eq_true rfl⟩) (ga_XV hK (hP.sub (ws' := [(rd, .inr (7, [.int rp, .ref cl, .ref x]))]) [0] rfl) (hD.sub (ws' := [(rd, .inr (7, [.int rp, .ref cl, .ref x]))]) [0] (by decide) rfl).self (fun _ hq => Or.inr hq) (hST.at hS hFc) (va_recv hK.1 hP (ci := 7) (q0 := 0) rfl rfl)) rfl rfl hl.1 rfl (lv_room (Nat.le_of_ble_eq_true rfl)) dX12_choice_44 ⟨Nat.le_of_ble_eq_true rfl, Nat.le_of_ble_eq_true rfl⟩) hS (fun q _ hq => hFc q hq) hFc (fun q _ hq => hFc q hq) (fun E_24 ce q_25 u_26 t H_23 locs ht _ w_20 hB _ hk hS hce hcv hcl => ?_) (fun u_22 t H_21 locs ht _ w_20 hB _ hk hS => ?_)
    · obtain ⟨u_22, n_28⟩ := u_26
      replace h := ga_swr w_20 h
      obtain ⟨eE, hP1, hD1, hM1⟩ := hB
      rw [ht] at hP1 hM1
      have eE : E_24 = ga_en u_22.1 := eE
      have hP1 : va_P D ga_cl (if u_22.1 = 9 then [(q_25, .inr (14, [.null, .null, .null, .null, .null, .int 0, .int (u_22.2 0)]))] else [(rd, .inr (7, [.int rp, .ref cl, .ref x]))]) H_23 := hP1
      have hD1 : va_D _ (if u_22.1 = 9 then [(q_25, .inr (14, [.null, .null, .null, .null, .null, .int 0, .int (u_22.2 0)]))] else [(rd, .inr (7, [.int rp, .ref cl, .ref x]))]) := hD1
      have hM1 : ∀ a ∈ (if u_22.1 = 9 then ([] : List Nat) else ([] : List Nat)), ga_M a H_23 := hM1
      by_cases c_29 : u_22.1 = 9
      · replace h := ga_ift c_29 h
        have eE : E_24 = "EnclosureReferee$TextException" := by rw [eE, c_29]; rfl
        subst eE
        rw [c_29, if_pos rfl] at hP1 hD1 hM1
        obtain ⟨hP, hD⟩ := va_join (wr := [(x, .inr (1, [.ref g, xs, xp, .ref xi, .int xl, xr, xq])), (g, .inr (2, [.ref sh, .ref al, .int gr, .ref g_b, .ref g_t])), (sh, .inr (4, [.int zw, .int zh, .long zA, .long zL, .long zR, .long zE])), (xi, .inl (cA 2, 80, .inl xI))]) (w1 := [(q_25, .inr (14, [.null, .null, .null, .null, .null, .int 0, .int (u_22.2 0)]))]) hP hD [0] [1, 2, 3, 4] rfl rfl (by decide) (by decide) hk hFc hP1 hD1
        have hP : va_P D ga_cl [(x, .inr (1, [.ref g, xs, xp, .ref xi, .int xl, xr, xq])), (g, .inr (2, [.ref sh, .ref al, .int gr, .ref g_b, .ref g_t])), (sh, .inr (4, [.int zw, .int zh, .long zA, .long zL, .long zR, .long zE])), (xi, .inl (cA 2, 80, .inl xI)), (q_25, .inr (14, [.null, .null, .null, .null, .null, .int 0, .int (u_22.2 0)]))] H_23 := hP
        have hD : va_D A [(x, .inr (1, [.ref g, xs, xp, .ref xi, .int xl, xr, xq])), (g, .inr (2, [.ref sh, .ref al, .int gr, .ref g_b, .ref g_t])), (sh, .inr (4, [.int zw, .int zh, .long zA, .long zL, .long zR, .long zE])), (xi, .inl (cA 2, 80, .inl xI)), (q_25, .inr (14, [.null, .null, .null, .null, .null, .int 0, .int (u_22.2 0)]))] := hD
        have hP9 := hP.sub (ws' := [(x, .inr (1, [.ref g, xs, xp, .ref xi, .int xl, xr, xq])), (g, .inr (2, [.ref sh, .ref al, .int gr, .ref g_b, .ref g_t])), (sh, .inr (4, [.int zw, .int zh, .long zA, .long zL, .long zR, .long zE])), (xi, .inl (cA 2, 80, .inl xI)), (q_25, .inr (14, [.null, .null, .null, .null, .null, .int 0, .int (u_22.2 0)]))]) [0, 1, 2, 3, 4] rfl
        have hD9 := hD.sub (ws' := [(x, .inr (1, [.ref g, xs, xp, .ref xi, .int xl, xr, xq])), (g, .inr (2, [.ref sh, .ref al, .int gr, .ref g_b, .ref g_t])), (sh, .inr (4, [.int zw, .int zh, .long zA, .long zL, .long zR, .long zE])), (xi, .inl (cA 2, 80, .inl xI)), (q_25, .inr (14, [.null, .null, .null, .null, .null, .int 0, .int (u_22.2 0)]))]) [0, 1, 2, 3, 4] (by decide) rfl
        have hM9 : (∀ a ∈ ([] : List Nat), ga_M a H_23) := (fun _ hz => nomatch hz)
        obtain rfl := Option.some.inj h
        exact vx_outP hown hlocks (fun x hx9 => (hX.1 x hx9).elim) hce hcv hcl (fun t ht _ => ⟨((9, ga_xd [(u_22.2 0)]), ga_ad []), rfl, ⟨rfl, by rw [ht]; exact hP9, hD9, by rw [ht]; exact hM9⟩, hS.F ht⟩) hS.2.2 (by decide) (by decide)
      · replace h := ga_iff c_29 h
        cases h
    · obtain ⟨v_27, ev_27, hv9⟩ := w_20
      replace h := ga_swl ev_27 h
      obtain rfl := hv9
      obtain ⟨hP1, -, hD1⟩ := hB
      rw [ht] at hP1
      obtain ⟨hP, hD⟩ := va_join (wr := [(x, .inr (1, [.ref g, xs, xp, .ref xi, .int xl, xr, xq])), (g, .inr (2, [.ref sh, .ref al, .int gr, .ref g_b, .ref g_t])), (sh, .inr (4, [.int zw, .int zh, .long zA, .long zL, .long zR, .long zE])), (xi, .inl (cA 2, 80, .inl xI))]) (w1 := [(rd, .inr (7, [.int rp, .ref cl, .ref x]))]) hP hD [0] [1, 2, 3, 4] rfl rfl (by decide) (by decide) hk hFc hP1 hD1
      have hP : va_P D ga_cl [(x, .inr (1, [.ref g, xs, xp, .ref xi, .int xl, xr, xq])), (g, .inr (2, [.ref sh, .ref al, .int gr, .ref g_b, .ref g_t])), (sh, .inr (4, [.int zw, .int zh, .long zA, .long zL, .long zR, .long zE])), (xi, .inl (cA 2, 80, .inl xI)), (rd, .inr (7, [.int rp, .ref cl, .ref x]))] H_21 := hP
      have hD : va_D A [(x, .inr (1, [.ref g, xs, xp, .ref xi, .int xl, xr, xq])), (g, .inr (2, [.ref sh, .ref al, .int gr, .ref g_b, .ref g_t])), (sh, .inr (4, [.int zw, .int zh, .long zA, .long zL, .long zR, .long zE])), (xi, .inl (cA 2, 80, .inl xI)), (rd, .inr (7, [.int rp, .ref cl, .ref x]))] := hD
      refine W.cs (cells' := 1) (slots' := 7) rfl rfl ?_
      refine lv_aload_n hx hb dX12_choice_47 rfl (lv_at hl 1 rfl) ?_
      obtain ⟨r_31, e_32, h⟩ := ga_gb h
      have hFc := va_free (wc := [(rd, .inr (7, [.int rp, .ref cl, .ref x]))]) hD hS hA [4] rfl
      refine va_callv (va_runV (As := []) (rest := []) ⟨hx, hb, hml, hown, hts⟩ (met_X12_take l D cA (va_A [(rd, .inr (7, [.int rp, .ref cl, .ref x]))] H_21.size) rd cl x rp N r_31 e_32) (cwV 0 hts (lw_V q1159 q1161 qs25 q100 q1162) rfl rfl rfl (by decide +kernel) ⟨Nat.le_of_ble_eq_true rfl, Nat.le_of_ble_eq_true rfl⟩) (ga_LV hK (hP.sub (ws' := [(rd, .inr (7, [.int rp, .ref cl, .ref x]))]) [4] rfl) (hD.sub (ws' := [(rd, .inr (7, [.int rp, .ref cl, .ref x]))]) [4] (by decide) rfl).self (fun _ hq => Or.inr hq) (va_recv hK.1 hP (ci := 7) (q0 := 4) rfl rfl)) rfl rfl hl.1 rfl (lv_room (Nat.le_of_ble_eq_true rfl)) dX12_choice_48 ⟨Nat.le_of_ble_eq_true rfl, Nat.le_of_ble_eq_true rfl⟩) hS (fun q _ hq => hFc q hq) hFc (fun u_36 t H_35 locs ht _ w_34 hB _ hk hS => ?_)
      obtain ⟨hP1, -, hD1⟩ := hB
      obtain rfl := w_34
      rw [ht] at hP1
      obtain ⟨hP, hD⟩ := va_join (wr := [(x, .inr (1, [.ref g, xs, xp, .ref xi, .int xl, xr, xq])), (g, .inr (2, [.ref sh, .ref al, .int gr, .ref g_b, .ref g_t])), (sh, .inr (4, [.int zw, .int zh, .long zA, .long zL, .long zR, .long zE])), (xi, .inl (cA 2, 80, .inl xI))]) (w1 := [(rd, .inr (7, [.int r_31, .ref cl, .ref x]))]) hP hD [4] [0, 1, 2, 3] rfl rfl (by decide) (by decide) hk hFc hP1 hD1
      have hP : va_P D ga_cl [(x, .inr (1, [.ref g, xs, xp, .ref xi, .int xl, xr, xq])), (g, .inr (2, [.ref sh, .ref al, .int gr, .ref g_b, .ref g_t])), (sh, .inr (4, [.int zw, .int zh, .long zA, .long zL, .long zR, .long zE])), (xi, .inl (cA 2, 80, .inl xI)), (rd, .inr (7, [.int r_31, .ref cl, .ref x]))] H_35 := hP
      have hD : va_D A [(x, .inr (1, [.ref g, xs, xp, .ref xi, .int xl, xr, xq])), (g, .inr (2, [.ref sh, .ref al, .int gr, .ref g_b, .ref g_t])), (sh, .inr (4, [.int zw, .int zh, .long zA, .long zL, .long zR, .long zE])), (xi, .inl (cA 2, 80, .inl xI)), (rd, .inr (7, [.int r_31, .ref cl, .ref x]))] := hD
      refine lv_aload_n hx hb dX12_choice_51 rfl (lv_at hl 1 rfl) ?_
      obtain ⟨r_38, e_39, h⟩ := ga_gb h
      refine vp_callSi (va_Run.run (va_runV (As := []) (rest := []) ⟨hx, hb, hml, hown, hts⟩ (met_X12_next l D cA rd cl x g xs xp xi xr xq r_31 xl xI N r_38 e_39) (cwV 0 hts (lw_V q1155 q1157 qs24 q100 q1158) rfl rfl rfl (by decide +kernel) ⟨Nat.le_of_ble_eq_true rfl, Nat.le_of_ble_eq_true rfl⟩) (ga_PV hK (hP.sub (ws' := [(rd, .inr (7, [.int r_31, .ref cl, .ref x])), (x, .inr (1, [.ref g, xs, xp, .ref xi, .int xl, xr, xq])), (xi, .inl (cA 2, 80, .inl xI))]) [4, 0, 3] rfl) (va_recv hK.1 hP (ci := 7) (q0 := 4) rfl rfl)) rfl rfl hl.1 rfl (lv_room (Nat.le_of_ble_eq_true rfl)) dX12_choice_52 ⟨Nat.le_of_ble_eq_true rfl, Nat.le_of_ble_eq_true rfl⟩)) (fun z_40 w_41 => ?_)
      obtain rfl := w_41
      refine lv_bipush (v := 49) hx hb dX12_choice_55 (by decide) ?_
      refine lv_isub hx hb dX12_choice_57 ?_
      refine lv_istore_n (lv' := [(2, .int (r_38 - 49)), (1, .int (r_7 - 97)), (0, .ref rd)]) hx hb dX12_choice_58 rfl hl (by decide) rfl (fun ls hl => ?_)
      refine lv_aload_n hx hb dX12_choice_59 rfl (lv_at hl 2 rfl) ?_
      refine lv_iload_n hx hb dX12_choice_60 rfl (lv_at hl 0 rfl) ?_
      refine lv_iconst (v := 0) hx hb dX12_choice_61 (by decide) ?_
      refine lv_aload_n hx hb dX12_choice_62 rfl (lv_at hl 2 rfl) ?_
      refine va_get hx hb hts in_X12 hown hK.1 hP 4 (fs := [.int r_31, .ref cl, .ref x]) rfl rfl 2 (by decide) (hts _ q1139) (fun _ hh => hh) (v := .ref x) rfl dX12_choice_63 ?_
      refine va_getN hx hb hts in_X1 hown hK.1 hP 0 (fs := [.ref g, xs, xp, .ref xi, .int xl, xr, xq]) rfl rfl 0 (by decide) (ga_nu hK q349 rfl) (fun _ hh => hh) (v := .ref g) rfl dX12_choice_66 ?_
      refine va_getN hx hb hts in_X2 hown hK.1 hP 1 (fs := [.ref sh, .ref al, .int gr, .ref g_b, .ref g_t]) rfl rfl 0 (by decide) (ga_nu hK q328 rfl) (fun _ hh => hh) (v := .ref sh) rfl dX12_choice_69 ?_
      refine va_getN hx hb hts in_X4 hown hK.1 hP 2 (fs := [.int zw, .int zh, .long zA, .long zL, .long zR, .long zE]) rfl rfl 1 (by decide) (ga_nu hK q191 rfl) (fun _ hh => hh) (v := .int zh) rfl dX12_choice_72 ?_
      refine lv_iconst (v := 1) hx hb dX12_choice_75 (by decide) ?_
      refine lv_isub hx hb dX12_choice_76 ?_
      obtain ⟨r_43, e_44, h⟩ := ga_gb h
      refine vp_callSi (va_Run.run (va_runSN (As := [.int (r_38 - 49), .int 0, .int (zh - 1)]) (rest := [.ref rd]) ⟨hx, hb, hml, hown, hts⟩ (met_X1_inRange l D cA N (r_38 - 49) 0 (zh - 1) r_43 e_44) (⟨va_cnB 3 hts (lw_meth q489) rfl rfl rfl (hK.2.1 _ q1163 rfl) (hts _ q67) (by decide +kernel) ⟨Nat.le_of_ble_eq_true rfl, Nat.le_of_ble_eq_true rfl⟩, hts _ q488, trivial⟩) (ga_PS hK ga_P0) rfl rfl hl.1 rfl (lv_room (Nat.le_of_ble_eq_true rfl)) dX12_choice_77 ⟨Nat.le_of_ble_eq_true rfl, Nat.le_of_ble_eq_true rfl⟩)) (fun z_45 w_46 => ?_)
      obtain ⟨rfl, b_47⟩ := w_46
      obtain ⟨r_48, e_49, h⟩ := ga_gb h
      have hFc := va_free (wc := [(rd, .inr (7, [.int r_31, .ref cl, .ref x]))]) hD hS hA [4] rfl
      refine vx_callv (vx_runV (As := [.int r_43]) (rest := []) ⟨hx, hb, hml, hown, hts⟩ (met_X12_need l D cA (va_A [(rd, .inr (7, [.int r_31, .ref cl, .ref x]))] H_35.size) rd cl x zs r_31 N r_43 hX.2 r_48 e_49) (cwV 1 hts (lw_V q1164 q1166 qs26 q100 q1167) rfl rfl rfl (by decide +kernel) ⟨Nat.le_of_ble_eq_true rfl, Nat.le_of_ble_eq_true rfl⟩) (ga_XV hK (hP.sub (ws' := [(rd, .inr (7, [.int r_31, .ref cl, .ref x]))]) [4] rfl) (hD.sub (ws' := [(rd, .inr (7, [.int r_31, .ref cl, .ref x]))]) [4] (by decide) rfl).self (fun _ hq => Or.inr hq) (hST.at hS hFc) (va_recv hK.1 hP (ci := 7) (q0 := 4) rfl rfl)) rfl rfl hl.1 rfl (lv_room (Nat.le_of_ble_eq_true rfl)) dX12_choice_80 ⟨Nat.le_of_ble_eq_true rfl, Nat.le_of_ble_eq_true rfl⟩) hS (fun q _ hq => hFc q hq) hFc (fun q _ hq => hFc q hq) (fun E_55 ce q_56 u_57 t H_54 locs ht _ w_51 hB _ hk hS hce hcv hcl => ?_) (fun u_53 t H_52 locs ht _ w_51 hB _ hk hS => ?_)
      · obtain ⟨u_53, n_59⟩ := u_57
        replace h := ga_swr w_51 h
        obtain ⟨eE, hP1, hD1, hM1⟩ := hB
        rw [ht] at hP1 hM1
        have eE : E_55 = ga_en u_53.1 := eE
        have hP1 : va_P D ga_cl (if u_53.1 = 9 then [(q_56, .inr (14, [.null, .null, .null, .null, .null, .int 0, .int (u_53.2 0)]))] else [(rd, .inr (7, [.int r_31, .ref cl, .ref x]))]) H_54 := hP1
        have hD1 : va_D _ (if u_53.1 = 9 then [(q_56, .inr (14, [.null, .null, .null, .null, .null, .int 0, .int (u_53.2 0)]))] else [(rd, .inr (7, [.int r_31, .ref cl, .ref x]))]) := hD1
        have hM1 : ∀ a ∈ (if u_53.1 = 9 then ([] : List Nat) else ([] : List Nat)), ga_M a H_54 := hM1
        by_cases c_60 : u_53.1 = 9
        · replace h := ga_ift c_60 h
          have eE : E_55 = "EnclosureReferee$TextException" := by rw [eE, c_60]; rfl
          subst eE
          rw [c_60, if_pos rfl] at hP1 hD1 hM1
          obtain ⟨hP, hD⟩ := va_join (wr := [(x, .inr (1, [.ref g, xs, xp, .ref xi, .int xl, xr, xq])), (g, .inr (2, [.ref sh, .ref al, .int gr, .ref g_b, .ref g_t])), (sh, .inr (4, [.int zw, .int zh, .long zA, .long zL, .long zR, .long zE])), (xi, .inl (cA 2, 80, .inl xI))]) (w1 := [(q_56, .inr (14, [.null, .null, .null, .null, .null, .int 0, .int (u_53.2 0)]))]) hP hD [4] [0, 1, 2, 3] rfl rfl (by decide) (by decide) hk hFc hP1 hD1
          have hP : va_P D ga_cl [(x, .inr (1, [.ref g, xs, xp, .ref xi, .int xl, xr, xq])), (g, .inr (2, [.ref sh, .ref al, .int gr, .ref g_b, .ref g_t])), (sh, .inr (4, [.int zw, .int zh, .long zA, .long zL, .long zR, .long zE])), (xi, .inl (cA 2, 80, .inl xI)), (q_56, .inr (14, [.null, .null, .null, .null, .null, .int 0, .int (u_53.2 0)]))] H_54 := hP
          have hD : va_D A [(x, .inr (1, [.ref g, xs, xp, .ref xi, .int xl, xr, xq])), (g, .inr (2, [.ref sh, .ref al, .int gr, .ref g_b, .ref g_t])), (sh, .inr (4, [.int zw, .int zh, .long zA, .long zL, .long zR, .long zE])), (xi, .inl (cA 2, 80, .inl xI)), (q_56, .inr (14, [.null, .null, .null, .null, .null, .int 0, .int (u_53.2 0)]))] := hD
          have hP9 := hP.sub (ws' := [(x, .inr (1, [.ref g, xs, xp, .ref xi, .int xl, xr, xq])), (g, .inr (2, [.ref sh, .ref al, .int gr, .ref g_b, .ref g_t])), (sh, .inr (4, [.int zw, .int zh, .long zA, .long zL, .long zR, .long zE])), (xi, .inl (cA 2, 80, .inl xI)), (q_56, .inr (14, [.null, .null, .null, .null, .null, .int 0, .int (u_53.2 0)]))]) [0, 1, 2, 3, 4] rfl
          have hD9 := hD.sub (ws' := [(x, .inr (1, [.ref g, xs, xp, .ref xi, .int xl, xr, xq])), (g, .inr (2, [.ref sh, .ref al, .int gr, .ref g_b, .ref g_t])), (sh, .inr (4, [.int zw, .int zh, .long zA, .long zL, .long zR, .long zE])), (xi, .inl (cA 2, 80, .inl xI)), (q_56, .inr (14, [.null, .null, .null, .null, .null, .int 0, .int (u_53.2 0)]))]) [0, 1, 2, 3, 4] (by decide) rfl
          have hM9 : (∀ a ∈ ([] : List Nat), ga_M a H_54) := (fun _ hz => nomatch hz)
          obtain rfl := Option.some.inj h
          exact vx_outP hown hlocks (fun x hx9 => (hX.1 x hx9).elim) hce hcv hcl (fun t ht _ => ⟨((9, ga_xd [(u_53.2 0)]), ga_ad []), rfl, ⟨rfl, by rw [ht]; exact hP9, hD9, by rw [ht]; exact hM9⟩, hS.F ht⟩) hS.2.2 (by decide) (by decide)
        · replace h := ga_iff c_60 h
          cases h
      · obtain ⟨v_58, ev_58, hv9⟩ := w_51
        replace h := ga_swl ev_58 h
        obtain rfl := hv9
        obtain ⟨hP1, -, hD1⟩ := hB
        rw [ht] at hP1
        obtain ⟨hP, hD⟩ := va_join (wr := [(x, .inr (1, [.ref g, xs, xp, .ref xi, .int xl, xr, xq])), (g, .inr (2, [.ref sh, .ref al, .int gr, .ref g_b, .ref g_t])), (sh, .inr (4, [.int zw, .int zh, .long zA, .long zL, .long zR, .long zE])), (xi, .inl (cA 2, 80, .inl xI))]) (w1 := [(rd, .inr (7, [.int r_31, .ref cl, .ref x]))]) hP hD [4] [0, 1, 2, 3] rfl rfl (by decide) (by decide) hk hFc hP1 hD1
        have hP : va_P D ga_cl [(x, .inr (1, [.ref g, xs, xp, .ref xi, .int xl, xr, xq])), (g, .inr (2, [.ref sh, .ref al, .int gr, .ref g_b, .ref g_t])), (sh, .inr (4, [.int zw, .int zh, .long zA, .long zL, .long zR, .long zE])), (xi, .inl (cA 2, 80, .inl xI)), (rd, .inr (7, [.int r_31, .ref cl, .ref x]))] H_52 := hP
        have hD : va_D A [(x, .inr (1, [.ref g, xs, xp, .ref xi, .int xl, xr, xq])), (g, .inr (2, [.ref sh, .ref al, .int gr, .ref g_b, .ref g_t])), (sh, .inr (4, [.int zw, .int zh, .long zA, .long zL, .long zR, .long zE])), (xi, .inl (cA 2, 80, .inl xI)), (rd, .inr (7, [.int r_31, .ref cl, .ref x]))] := hD
        refine W.cs (cells' := 2) (slots' := 14) rfl rfl ?_
        refine lv_aload_n hx hb dX12_choice_83 rfl (lv_at hl 2 rfl) ?_
        obtain ⟨r_62, e_63, h⟩ := ga_gb h
        have hFc := va_free (wc := [(rd, .inr (7, [.int r_31, .ref cl, .ref x]))]) hD hS hA [4] rfl
        refine va_callv (va_runV (As := []) (rest := []) ⟨hx, hb, hml, hown, hts⟩ (met_X12_take l D cA (va_A [(rd, .inr (7, [.int r_31, .ref cl, .ref x]))] H_52.size) rd cl x r_31 N r_62 e_63) (cwV 0 hts (lw_V q1159 q1161 qs25 q100 q1162) rfl rfl rfl (by decide +kernel) ⟨Nat.le_of_ble_eq_true rfl, Nat.le_of_ble_eq_true rfl⟩) (ga_LV hK (hP.sub (ws' := [(rd, .inr (7, [.int r_31, .ref cl, .ref x]))]) [4] rfl) (hD.sub (ws' := [(rd, .inr (7, [.int r_31, .ref cl, .ref x]))]) [4] (by decide) rfl).self (fun _ hq => Or.inr hq) (va_recv hK.1 hP (ci := 7) (q0 := 4) rfl rfl)) rfl rfl hl.1 rfl (lv_room (Nat.le_of_ble_eq_true rfl)) dX12_choice_84 ⟨Nat.le_of_ble_eq_true rfl, Nat.le_of_ble_eq_true rfl⟩) hS (fun q _ hq => hFc q hq) hFc (fun u_67 t H_66 locs ht _ w_65 hB _ hk hS => ?_)
        obtain ⟨hP1, -, hD1⟩ := hB
        obtain rfl := w_65
        rw [ht] at hP1
        obtain ⟨hP, hD⟩ := va_join (wr := [(x, .inr (1, [.ref g, xs, xp, .ref xi, .int xl, xr, xq])), (g, .inr (2, [.ref sh, .ref al, .int gr, .ref g_b, .ref g_t])), (sh, .inr (4, [.int zw, .int zh, .long zA, .long zL, .long zR, .long zE])), (xi, .inl (cA 2, 80, .inl xI))]) (w1 := [(rd, .inr (7, [.int r_62, .ref cl, .ref x]))]) hP hD [4] [0, 1, 2, 3] rfl rfl (by decide) (by decide) hk hFc hP1 hD1
        have hP : va_P D ga_cl [(x, .inr (1, [.ref g, xs, xp, .ref xi, .int xl, xr, xq])), (g, .inr (2, [.ref sh, .ref al, .int gr, .ref g_b, .ref g_t])), (sh, .inr (4, [.int zw, .int zh, .long zA, .long zL, .long zR, .long zE])), (xi, .inl (cA 2, 80, .inl xI)), (rd, .inr (7, [.int r_62, .ref cl, .ref x]))] H_66 := hP
        have hD : va_D A [(x, .inr (1, [.ref g, xs, xp, .ref xi, .int xl, xr, xq])), (g, .inr (2, [.ref sh, .ref al, .int gr, .ref g_b, .ref g_t])), (sh, .inr (4, [.int zw, .int zh, .long zA, .long zL, .long zR, .long zE])), (xi, .inl (cA 2, 80, .inl xI)), (rd, .inr (7, [.int r_62, .ref cl, .ref x]))] := hD
        refine lv_aload_n hx hb dX12_choice_87 rfl (lv_at hl 2 rfl) ?_
        refine va_get hx hb hts in_X12 hown hK.1 hP 4 (fs := [.int r_62, .ref cl, .ref x]) rfl rfl 2 (by decide) (hts _ q1139) (fun _ hh => hh) (v := .ref x) rfl dX12_choice_88 ?_
        refine va_getN hx hb hts in_X1 hown hK.1 hP 0 (fs := [.ref g, xs, xp, .ref xi, .int xl, xr, xq]) rfl rfl 0 (by decide) (ga_nu hK q349 rfl) (fun _ hh => hh) (v := .ref g) rfl dX12_choice_91 ?_
        refine va_getN hx hb hts in_X2 hown hK.1 hP 1 (fs := [.ref sh, .ref al, .int gr, .ref g_b, .ref g_t]) rfl rfl 0 (by decide) (ga_nu hK q328 rfl) (fun _ hh => hh) (v := .ref sh) rfl dX12_choice_94 ?_
        refine va_getN hx hb hts in_X4 hown hK.1 hP 2 (fs := [.int zw, .int zh, .long zA, .long zL, .long zR, .long zE]) rfl rfl 0 (by decide) (ga_nu hK q188 rfl) (fun _ hh => hh) (v := .int zw) rfl dX12_choice_97 ?_
        refine lv_iload_n hx hb dX12_choice_100 rfl (lv_at hl 0 rfl) ?_
        refine lv_imul hx hb dX12_choice_101 ?_
        refine lv_iload_n hx hb dX12_choice_102 rfl (lv_at hl 1 rfl) ?_
        refine lv_iadd hx hb dX12_choice_103 ?_
        have hP9 := hP.sub (ws' := [(rd, .inr (7, [.int r_62, .ref cl, .ref x])), (x, .inr (1, [.ref g, xs, xp, .ref xi, .int xl, xr, xq])), (g, .inr (2, [.ref sh, .ref al, .int gr, .ref g_b, .ref g_t])), (sh, .inr (4, [.int zw, .int zh, .long zA, .long zL, .long zR, .long zE])), (xi, .inl (cA 2, 80, .inl xI))]) [4, 0, 1, 2, 3] rfl
        have hD9 := hD.sub (ws' := [(rd, .inr (7, [.int r_62, .ref cl, .ref x])), (x, .inr (1, [.ref g, xs, xp, .ref xi, .int xl, xr, xq])), (g, .inr (2, [.ref sh, .ref al, .int gr, .ref g_b, .ref g_t])), (sh, .inr (4, [.int zw, .int zh, .long zA, .long zL, .long zR, .long zE])), (xi, .inl (cA 2, 80, .inl xI))]) [4, 0, 1, 2, 3] (by decide) rfl
        obtain rfl := Option.some.inj h
        refine vx_ret ?_
        exact W.iret hx hb hr (fun t ht hW => ⟨⟨_, r_62, rfl, ⟨_, rfl, rfl, rfl⟩, ⟨by rw [ht]; exact hP9, hK.warm hW, hD9⟩⟩, hS.F ht⟩) hS.2.2 dX12_choice_104
  · replace h := ga_ift c_6 h
    refine lv_aload_n hx hb dX12_choice_9 rfl (lv_at hl 0 rfl) ?_
    obtain ⟨r_69, e_70, h⟩ := ga_gb h
    have hFc := va_free (wc := [(rd, .inr (7, [.int rp, .ref cl, .ref x]))]) hD hS hA [0] rfl
    refine va_callv (va_runV (As := []) (rest := []) ⟨hx, hb, hml, hown, hts⟩ (met_X12_take l D cA (va_A [(rd, .inr (7, [.int rp, .ref cl, .ref x]))] s.heap.size) rd cl x rp N r_69 e_70) (cwV 0 hts (lw_V q1159 q1161 qs25 q100 q1162) rfl rfl rfl (by decide +kernel) ⟨Nat.le_of_ble_eq_true rfl, Nat.le_of_ble_eq_true rfl⟩) (ga_LV hK (hP.sub (ws' := [(rd, .inr (7, [.int rp, .ref cl, .ref x]))]) [0] rfl) (hD.sub (ws' := [(rd, .inr (7, [.int rp, .ref cl, .ref x]))]) [0] (by decide) rfl).self (fun _ hq => Or.inr hq) (va_recv hK.1 hP (ci := 7) (q0 := 0) rfl rfl)) rfl rfl hl.1 rfl (lv_room (Nat.le_of_ble_eq_true rfl)) dX12_choice_10 ⟨Nat.le_of_ble_eq_true rfl, Nat.le_of_ble_eq_true rfl⟩) hS (fun q _ hq => hFc q hq) hFc (fun u_74 t H_73 locs ht _ w_72 hB _ hk hS => ?_)
    obtain ⟨hP1, -, hD1⟩ := hB
    obtain rfl := w_72
    rw [ht] at hP1
    obtain ⟨hP, hD⟩ := va_join (wr := [(x, .inr (1, [.ref g, xs, xp, .ref xi, .int xl, xr, xq])), (g, .inr (2, [.ref sh, .ref al, .int gr, .ref g_b, .ref g_t])), (sh, .inr (4, [.int zw, .int zh, .long zA, .long zL, .long zR, .long zE])), (xi, .inl (cA 2, 80, .inl xI))]) (w1 := [(rd, .inr (7, [.int r_69, .ref cl, .ref x]))]) hP hD [0] [1, 2, 3, 4] rfl rfl (by decide) (by decide) hk hFc hP1 hD1
    have hP : va_P D ga_cl [(x, .inr (1, [.ref g, xs, xp, .ref xi, .int xl, xr, xq])), (g, .inr (2, [.ref sh, .ref al, .int gr, .ref g_b, .ref g_t])), (sh, .inr (4, [.int zw, .int zh, .long zA, .long zL, .long zR, .long zE])), (xi, .inl (cA 2, 80, .inl xI)), (rd, .inr (7, [.int r_69, .ref cl, .ref x]))] H_73 := hP
    have hD : va_D A [(x, .inr (1, [.ref g, xs, xp, .ref xi, .int xl, xr, xq])), (g, .inr (2, [.ref sh, .ref al, .int gr, .ref g_b, .ref g_t])), (sh, .inr (4, [.int zw, .int zh, .long zA, .long zL, .long zR, .long zE])), (xi, .inl (cA 2, 80, .inl xI)), (rd, .inr (7, [.int r_69, .ref cl, .ref x]))] := hD
    refine lv_iconst (v := (-1)) hx hb dX12_choice_13 (by decide) ?_
    have hP9 := hP.sub (ws' := [(rd, .inr (7, [.int r_69, .ref cl, .ref x])), (x, .inr (1, [.ref g, xs, xp, .ref xi, .int xl, xr, xq])), (g, .inr (2, [.ref sh, .ref al, .int gr, .ref g_b, .ref g_t])), (sh, .inr (4, [.int zw, .int zh, .long zA, .long zL, .long zR, .long zE])), (xi, .inl (cA 2, 80, .inl xI))]) [4, 0, 1, 2, 3] rfl
    have hD9 := hD.sub (ws' := [(rd, .inr (7, [.int r_69, .ref cl, .ref x])), (x, .inr (1, [.ref g, xs, xp, .ref xi, .int xl, xr, xq])), (g, .inr (2, [.ref sh, .ref al, .int gr, .ref g_b, .ref g_t])), (sh, .inr (4, [.int zw, .int zh, .long zA, .long zL, .long zR, .long zE])), (xi, .inl (cA 2, 80, .inl xI))]) [4, 0, 1, 2, 3] (by decide) rfl
    obtain rfl := Option.some.inj h
    refine W.widen (k := 2) (n := 14) (by decide) (by decide) ?_
    refine vx_ret ?_
    exact W.iret hx hb hr (fun t ht hW => ⟨⟨_, r_69, rfl, ⟨_, rfl, rfl, rfl⟩, ⟨by rw [ht]; exact hP9, hK.warm hW, hD9⟩⟩, hS.F ht⟩) hS.2.2 dX12_choice_14
abbrev rm_X12_read_0 : Room := { frames := 1, cells := 0, slots := 0, locals := 12 }
def F_X12_read_0 (N : Nat) (rp : Int32) (xl : Int32) (gr : Int32) (zw : Int32) (zh : Int32) (zA : Int64) (zL : Int64) (zR : Int64) (zE : Int64) (xI : Nat → Int32) (cm : Int32)  : Option (Unit ⊕ (Nat × (Nat → Int32))) :=
  (if xl ≤ rp then
  some (.inl ())
  else
  none)
set_option maxHeartbeats 4000000 in
theorem met_X12_read_0 (l : Launch) (D : va_G) (cA : Nat → ClassId) (A : Nat → Prop) (rd : Nat) (cl : Nat) (x : Nat) (g : Nat) (xs : Value) (xp : Value) (xi : Nat) (xr : Value) (xq : Value) (sh : Nat) (al : Nat) (g_b : Nat) (g_t : Nat) (zs : Nat → Nat) (rp : Int32) (xl : Int32) (gr : Int32) (zw : Int32) (zh : Int32) (zA : Int64) (zL : Int64) (zR : Int64) (zE : Int64) (xI : Nat → Int32) (cm : Int32) (N : Nat)   (hstk : l.stackTraces = false) (out : Unit ⊕ (Nat × (Nat → Int32))) (h : F_X12_read_0 N rp xl gr zw zh zA zL zR zE xI cm = some out) : vx_Met l yX12_read (ws_ yX12_read cX12_read 2 none) rm_X12_read_0 (ga_X D cA zs A [(rd, .inr (7, [.int rp, .ref cl, .ref x])), (x, .inr (1, [.ref g, xs, xp, .ref xi, .int xl, xr, xq])), (g, .inr (2, [.ref sh, .ref al, .int gr, .ref g_b, .ref g_t])), (sh, .inr (4, [.int zw, .int zh, .long zA, .long zL, .long zR, .long zE])), (xi, .inl (cA 2, 80, .inl xI)), (cl, .inr (6, [.int cm, .ref (zs 0), .int 0]))] [.ref rd]) (va_Qv (fun (u : Unit) => ∃ v, out = .inl v ∧ v = u) (fun (u : Unit) (t : State) => va_P D ga_cl [(rd, .inr (7, [.int rp, .ref cl, .ref x])), (x, .inr (1, [.ref g, xs, xp, .ref xi, .int xl, xr, xq])), (g, .inr (2, [.ref sh, .ref al, .int gr, .ref g_b, .ref g_t])), (sh, .inr (4, [.int zw, .int zh, .long zA, .long zL, .long zR, .long zE])), (xi, .inl (cA 2, 80, .inl xI)), (cl, .inr (6, [.int cm, .ref (zs 0), .int 0]))] t.heap ∧ ga_K D cA t ∧ va_D A [(rd, .inr (7, [.int rp, .ref cl, .ref x])), (x, .inr (1, [.ref g, xs, xp, .ref xi, .int xl, xr, xq])), (g, .inr (2, [.ref sh, .ref al, .int gr, .ref g_b, .ref g_t])), (sh, .inr (4, [.int zw, .int zh, .long zA, .long zL, .long zR, .long zE])), (xi, .inl (cA 2, 80, .inl xI)), (cl, .inr (6, [.int cm, .ref (zs 0), .int 0]))]) A) (vx_X (fun (u : (Nat × (Nat → Int32)) × (Nat → Nat)) => out = .inr u.1) (fun (E : String) (q9 : Nat) (u : (Nat × (Nat → Int32)) × (Nat → Nat)) (t : State) => E = ga_en u.1.1 ∧ va_P D ga_cl (if u.1.1 = 9 then [(x, .inr (1, [.ref g, xs, xp, .ref xi, .int xl, xr, xq])), (g, .inr (2, [.ref sh, .ref al, .int gr, .ref g_b, .ref g_t])), (sh, .inr (4, [.int zw, .int zh, .long zA, .long zL, .long zR, .long zE])), (xi, .inl (cA 2, 80, .inl xI)), (q9, .inr (14, [.null, .null, .null, .null, .null, .int 0, .int (u.1.2 0)]))] else [(rd, .inr (7, [.int rp, .ref cl, .ref x])), (x, .inr (1, [.ref g, xs, xp, .ref xi, .int xl, xr, xq])), (g, .inr (2, [.ref sh, .ref al, .int gr, .ref g_b, .ref g_t])), (sh, .inr (4, [.int zw, .int zh, .long zA, .long zL, .long zR, .long zE])), (xi, .inl (cA 2, 80, .inl xI)), (cl, .inr (6, [.int cm, .ref (zs 0), .int 0]))]) t.heap ∧ va_D A (if u.1.1 = 9 then [(x, .inr (1, [.ref g, xs, xp, .ref xi, .int xl, xr, xq])), (g, .inr (2, [.ref sh, .ref al, .int gr, .ref g_b, .ref g_t])), (sh, .inr (4, [.int zw, .int zh, .long zA, .long zL, .long zR, .long zE])), (xi, .inl (cA 2, 80, .inl xI)), (q9, .inr (14, [.null, .null, .null, .null, .null, .int 0, .int (u.1.2 0)]))] else [(rd, .inr (7, [.int rp, .ref cl, .ref x])), (x, .inr (1, [.ref g, xs, xp, .ref xi, .int xl, xr, xq])), (g, .inr (2, [.ref sh, .ref al, .int gr, .ref g_b, .ref g_t])), (sh, .inr (4, [.int zw, .int zh, .long zA, .long zL, .long zR, .long zE])), (xi, .inl (cA 2, 80, .inl xI)), (cl, .inr (6, [.int cm, .ref (zs 0), .int 0]))]) ∧ (∀ a ∈ (if u.1.1 = 9 then ([] : List Nat) else ([] : List Nat)), ga_M a t.heap)) A) 0 0 A := by
  refine vx_ofW (cc := cX12_read) (maxL := 2) (ret := none) (by decide) rfl ?_
  intro p e s m args below meth c s₁ B hml htab hv
  have hX : ga_cx2 c l := ⟨htab, hstk⟩
  obtain ⟨rfl, hP, hK, hD, hA, hST⟩ := hv
  have hS : va_S A s.heap s.heap [] := va_S.rf
  have C : ga_cx p m c meth s _ RX12 cX12_read 2 none := ga_cx_of B hml
  have C0 := C
  obtain ⟨hx, hb, hr, hlocks, hml, hown, hts⟩ := C0
  have hl := lv_entry ([.ref rd]) (n := 2) (Nat.le_of_ble_eq_true rfl)
  rw [lg_entry_eq]
  generalize (lg_sl ([.ref rd]) ++ List.replicate (2 - (lg_sl ([.ref rd])).length) Slot.unset).toArray = ls at hl ⊢
  have hl : lv_has ls 2 [(0, .ref rd)] := hl
  rw [F_X12_read_0] at h
  refine lv_aload_n hx hb dX12_read_0 rfl (lv_at hl 0 rfl) ?_
  refine va_get hx hb hts in_X12 hown hK.1 hP 0 (fs := [.int rp, .ref cl, .ref x]) rfl rfl 0 (by decide) (hts _ q1136) (fun _ hh => hh) (v := .int rp) rfl dX12_read_1 ?_
  refine lv_aload_n hx hb dX12_read_4 rfl (lv_at hl 0 rfl) ?_
  refine va_get hx hb hts in_X12 hown hK.1 hP 0 (fs := [.int rp, .ref cl, .ref x]) rfl rfl 2 (by decide) (hts _ q1139) (fun _ hh => hh) (v := .ref x) rfl dX12_read_5 ?_
  refine va_getN hx hb hts in_X1 hown hK.1 hP 1 (fs := [.ref g, xs, xp, .ref xi, .int xl, xr, xq]) rfl rfl 4 (by decide) (ga_nu hK q355 rfl) (fun _ hh => hh) (v := .int xl) rfl dX12_read_8 ?_
  refine lv_icmp_ge (tgt := 69) hx hb dX12_read_11 (by decide) (fun c_1 => ?_) (fun c_1 => ?_)
  · replace h := ga_ift c_1 h
    have hP9 := hP.sub (ws' := [(rd, .inr (7, [.int rp, .ref cl, .ref x])), (x, .inr (1, [.ref g, xs, xp, .ref xi, .int xl, xr, xq])), (g, .inr (2, [.ref sh, .ref al, .int gr, .ref g_b, .ref g_t])), (sh, .inr (4, [.int zw, .int zh, .long zA, .long zL, .long zR, .long zE])), (xi, .inl (cA 2, 80, .inl xI)), (cl, .inr (6, [.int cm, .ref (zs 0), .int 0]))]) [0, 1, 2, 3, 4, 5] rfl
    have hD9 := hD.sub (ws' := [(rd, .inr (7, [.int rp, .ref cl, .ref x])), (x, .inr (1, [.ref g, xs, xp, .ref xi, .int xl, xr, xq])), (g, .inr (2, [.ref sh, .ref al, .int gr, .ref g_b, .ref g_t])), (sh, .inr (4, [.int zw, .int zh, .long zA, .long zL, .long zR, .long zE])), (xi, .inl (cA 2, 80, .inl xI)), (cl, .inr (6, [.int cm, .ref (zs 0), .int 0]))]) [0, 1, 2, 3, 4, 5] (by decide) rfl
    obtain rfl := Option.some.inj h
    refine vx_ret ?_
    exact W.vret hx hb hr (fun t ht hW => ⟨⟨(), rfl, ⟨_, rfl, rfl⟩, ⟨by rw [ht]; exact hP9, hK.warm hW, hD9⟩⟩, hS.F ht⟩) hS.2.2 dX12_read_69
  · cases ga_iff c_1 h
abbrev rm_X12_read_1 : Room := { frames := 8, cells := 600, slots := 20000, locals := 171 }
def lp_X12_read_1_0 (N : Nat) (xl : Int32) (gr : Int32) (zw : Int32) (zh : Int32) (zA : Int64) (zL : Int64) (zR : Int64) (zE : Int64) (xI : Nat → Int32) (cm : Int32) : Nat → (Int32) → (Int32) → (Nat → Int32) → (Nat) → (Nat) → (Int32) → Option ((Int32 × Int32 × Int32 × Nat × (Nat → Int32) × Nat) ⊕ (Nat × (Nat → Int32)))
  | 0, _, _, _, _, _, _ => none
  | n+1, k0, k1, k2, k3, k4, rp =>
    (if 0 ≤ rp ∧ ix rp < 81 then
    (if xl ≤ rp then
    some (.inl (rp, k0, k1, k4, k2, k3))
    else
    ((F_X12_choice N rp xl gr zw zh zA zL zR zE xI).bind fun r_119 => ga_sw r_119 (fun v_129 =>
    ((F_J19_valueOf N v_129.1).bind fun r_133 =>
    ((F_J2_add N k0 k1 k4).bind fun r_140 =>
    (if ix k1 = k3 ∧ k3 ≤ k4 then
    ((F_X12_choice N v_129.2 xl gr zw zh zA zL zR zE xI).bind fun r_155 => ga_sw r_155 (fun v_165 =>
    ((F_J19_valueOf N v_165.1).bind fun r_169 =>
    ((F_J2_add N r_140.2.1 r_140.2.2.1 r_140.2.2.2).bind fun r_176 =>
    (if ix r_140.2.2.1 = (k3 + 1) ∧ (k3 + 1) ≤ r_140.2.2.2 then
    ((F_X12_next N v_165.2 xl xI).bind fun r_191 =>
    (if r_191 = 59 then
    ((F_X12_need N v_165.2 1).bind fun r_218 => ga_sw r_218 (fun v_228 =>
    ((F_X12_take N v_165.2).bind fun r_232 =>
    (if ix rp < ix r_232 then
    lp_X12_read_1_0 N xl gr zw zh zA zL zR zE xI cm n r_176.2.1 r_176.2.2.1 (upd (upd k2 k3 v_129.1) (k3 + 1) v_165.1) ((k3 + 1) + 1) r_176.2.2.2 r_232
    else none))) (fun u_223 =>
    (if u_223.1 = 9 then
    some (.inr (9, ga_xd [(u_223.2 0)]))
    else
    none)))
    else
    ((F_X12_need N v_165.2 0).bind fun r_197 => ga_sw r_197 (fun v_207 =>
    ((F_X12_take N v_165.2).bind fun r_211 =>
    (if ix rp < ix r_211 then
    lp_X12_read_1_0 N xl gr zw zh zA zL zR zE xI cm n r_176.2.1 r_176.2.2.1 (upd (upd k2 k3 v_129.1) (k3 + 1) v_165.1) ((k3 + 1) + 1) r_176.2.2.2 r_211
    else none))) (fun u_202 =>
    (if u_202.1 = 9 then
    some (.inr (9, ga_xd [(u_202.2 0)]))
    else
    none)))))
    else none)))) (fun u_160 =>
    (if u_160.1 = 9 then
    some (.inr (9, ga_xd [(u_160.2 0)]))
    else
    none)))
    else none)))) (fun u_124 =>
    (if u_124.1 = 9 then
    some (.inr (9, ga_xd [(u_124.2 0)]))
    else
    none))))
    else none)
set_option maxHeartbeats 4000000 in
theorem w_X12_read_1_0 {p : Program} {l : Launch} {e : Env} {s : State} {m : MethodId} {args : Array Value} {below : List Frame} {meth : Method} {c : Code} {D : va_G} {cA : Nat → ClassId} {A : Nat → Prop} {rd : Nat} {cl : Nat} {x : Nat} {g : Nat} {xs : Value} {xp : Value} {xi : Nat} {xr : Value} {xq : Value} {sh : Nat} {al : Nat} {g_b : Nat} {g_t : Nat} {zs : Nat → Nat} {N : Nat} {xl : Int32} {gr : Int32} {zw : Int32} {zh : Int32} {zA : Int64} {zL : Int64} {zR : Int64} {zE : Int64} {xI : Nat → Int32} {cm : Int32}  (C : ga_cx p m c meth s args RX12 cX12_read 2 none) (hK : ga_K D cA s) (hA : ∀ q : Nat, s.heap.size ≤ q → A q) (hST : ga_ST zs A s s.heap) (hX : ga_cx2 c l) {out : (Int32 × Int32 × Int32 × Nat × (Nat → Int32) × Nat) ⊕ (Nat × (Nat → Int32))} : ∀ n : Nat, ∀ (kc ks : Nat) (n0 : Nat) (k0 : Int32) (k1 : Int32) (k2 : Nat → Int32) (k3 : Nat) (k4 : Nat) (rp : Int32), (kc + 7 * (81 - ix rp) ≤ 600) → (ks + 235 * (81 - ix rp) ≤ 20000) → lp_X12_read_1_0 N xl gr zw zh zA zL zR zE xI cm n k0 k1 k2 k3 k4 rp = some out → ∀ (H : Heap) (locs : List Loc), va_P D ga_cl [(x, .inr (1, [.ref g, xs, xp, .ref xi, .int xl, xr, xq])), (g, .inr (2, [.ref sh, .ref al, .int gr, .ref g_b, .ref g_t])), (sh, .inr (4, [.int zw, .int zh, .long zA, .long zL, .long zR, .long zE])), (xi, .inl (cA 2, 80, .inl xI)), (cl, .inr (6, [.int k0, .ref n0, .int k1])), (n0, .inl (cA 5, k4, .inr (.inr (.inr (.inr (ga_il zs k2 k3)))))), (rd, .inr (7, [.int rp, .ref cl, .ref x]))] H → va_D A [(x, .inr (1, [.ref g, xs, xp, .ref xi, .int xl, xr, xq])), (g, .inr (2, [.ref sh, .ref al, .int gr, .ref g_b, .ref g_t])), (sh, .inr (4, [.int zw, .int zh, .long zA, .long zL, .long zR, .long zE])), (xi, .inl (cA 2, 80, .inl xI)), (cl, .inr (6, [.int k0, .ref n0, .int k1])), (n0, .inl (cA 5, k4, .inr (.inr (.inr (.inr (ga_il zs k2 k3)))))), (rd, .inr (7, [.int rp, .ref cl, .ref x]))] → va_S A s.heap H locs → ∀ ls : Array Slot, lv_has ls 2 [(0, .ref rd)] → W p l e (headSpec (ws_ yX12_read cX12_read 2 none) rm_X12_read_1).room s m args below meth c H locs kc ks (vx_MQ below (va_Qv (fun (u : (Int32 × Int32 × Int32 × Nat × (Nat → Int32) × Nat) × (Nat → Nat)) => ∃ v, out = .inl v ∧ v = u.1) (fun (u : (Int32 × Int32 × Int32 × Nat × (Nat → Int32) × Nat) × (Nat → Nat)) (t : State) => va_P D ga_cl [(rd, .inr (7, [.int u.1.1, .ref cl, .ref x])), (x, .inr (1, [.ref g, xs, xp, .ref xi, .int xl, xr, xq])), (g, .inr (2, [.ref sh, .ref al, .int gr, .ref g_b, .ref g_t])), (sh, .inr (4, [.int zw, .int zh, .long zA, .long zL, .long zR, .long zE])), (xi, .inl (cA 2, 80, .inl xI)), (cl, .inr (6, [.int u.1.2.1, .ref (u.2 0), .int u.1.2.2.1])), ((u.2 0), .inl (cA 5, u.1.2.2.2.1, .inr (.inr (.inr (.inr (ga_il zs u.1.2.2.2.2.1 u.1.2.2.2.2.2))))))] t.heap ∧ ga_K D cA t ∧ va_D A [(rd, .inr (7, [.int u.1.1, .ref cl, .ref x])), (x, .inr (1, [.ref g, xs, xp, .ref xi, .int xl, xr, xq])), (g, .inr (2, [.ref sh, .ref al, .int gr, .ref g_b, .ref g_t])), (sh, .inr (4, [.int zw, .int zh, .long zA, .long zL, .long zR, .long zE])), (xi, .inl (cA 2, 80, .inl xI)), (cl, .inr (6, [.int u.1.2.1, .ref (u.2 0), .int u.1.2.2.1])), ((u.2 0), .inl (cA 5, u.1.2.2.2.1, .inr (.inr (.inr (.inr (ga_il zs u.1.2.2.2.2.1 u.1.2.2.2.2.2))))))]) A) (vx_X (fun (u : (Nat × (Nat → Int32)) × (Nat → Nat)) => out = .inr u.1) (fun (E : String) (q9 : Nat) (u : (Nat × (Nat → Int32)) × (Nat → Nat)) (t : State) => E = ga_en u.1.1 ∧ va_P D ga_cl (if u.1.1 = 9 then [(x, .inr (1, [.ref g, xs, xp, .ref xi, .int xl, xr, xq])), (g, .inr (2, [.ref sh, .ref al, .int gr, .ref g_b, .ref g_t])), (sh, .inr (4, [.int zw, .int zh, .long zA, .long zL, .long zR, .long zE])), (xi, .inl (cA 2, 80, .inl xI)), (q9, .inr (14, [.null, .null, .null, .null, .null, .int 0, .int (u.1.2 0)]))] else []) t.heap ∧ va_D A (if u.1.1 = 9 then [(x, .inr (1, [.ref g, xs, xp, .ref xi, .int xl, xr, xq])), (g, .inr (2, [.ref sh, .ref al, .int gr, .ref g_b, .ref g_t])), (sh, .inr (4, [.int zw, .int zh, .long zA, .long zL, .long zR, .long zE])), (xi, .inl (cA 2, 80, .inl xI)), (q9, .inr (14, [.null, .null, .null, .null, .null, .int 0, .int (u.1.2 0)]))] else []) ∧ (∀ a ∈ (if u.1.1 = 9 then ([] : List Nat) else ([] : List Nat)), ga_M a t.heap)) A) args s 600 20000 A) (F0 m 0 ls []) := by
  have C0 := C
  obtain ⟨hx, hb, hr, hlocks, hml, hown, hts⟩ := C0
  intro n
  induction n with
  | zero =>
    intro kc ks n0 k0 k1 k2 k3 k4 rp hkc hks h
    rw [lp_X12_read_1_0.eq_1] at h
    cases h
  | succ n ih =>
    intro kc ks n0 k0 k1 k2 k3 k4 rp hkc hks h H locs hP hD hS ls hl
    rw [lp_X12_read_1_0.eq_2] at h
    obtain ⟨⟨lgA0, lgB0⟩, h⟩ := ga_gif h
    refine lv_aload_n hx hb dX12_read_0 rfl (lv_at hl 0 rfl) ?_
    refine va_get hx hb hts in_X12 hown hK.1 hP 6 (fs := [.int rp, .ref cl, .ref x]) rfl rfl 0 (by decide) (hts _ q1136) (fun _ hh => hh) (v := .int rp) rfl dX12_read_1 ?_
    refine lv_aload_n hx hb dX12_read_4 rfl (lv_at hl 0 rfl) ?_
    refine va_get hx hb hts in_X12 hown hK.1 hP 6 (fs := [.int rp, .ref cl, .ref x]) rfl rfl 2 (by decide) (hts _ q1139) (fun _ hh => hh) (v := .ref x) rfl dX12_read_5 ?_
    refine va_getN hx hb hts in_X1 hown hK.1 hP 0 (fs := [.ref g, xs, xp, .ref xi, .int xl, xr, xq]) rfl rfl 4 (by decide) (ga_nu hK q355 rfl) (fun _ hh => hh) (v := .int xl) rfl dX12_read_8 ?_
    refine lv_icmp_ge (tgt := 69) hx hb dX12_read_11 (by decide) (fun c_118 => ?_) (fun c_118 => ?_)
    · replace h := ga_ift c_118 h
      have hP9 := hP.sub (ws' := [(rd, .inr (7, [.int rp, .ref cl, .ref x])), (x, .inr (1, [.ref g, xs, xp, .ref xi, .int xl, xr, xq])), (g, .inr (2, [.ref sh, .ref al, .int gr, .ref g_b, .ref g_t])), (sh, .inr (4, [.int zw, .int zh, .long zA, .long zL, .long zR, .long zE])), (xi, .inl (cA 2, 80, .inl xI)), (cl, .inr (6, [.int k0, .ref n0, .int k1])), (n0, .inl (cA 5, k4, .inr (.inr (.inr (.inr (ga_il zs k2 k3))))))]) [6, 0, 1, 2, 3, 4, 5] rfl
      have hD9 := hD.sub (ws' := [(rd, .inr (7, [.int rp, .ref cl, .ref x])), (x, .inr (1, [.ref g, xs, xp, .ref xi, .int xl, xr, xq])), (g, .inr (2, [.ref sh, .ref al, .int gr, .ref g_b, .ref g_t])), (sh, .inr (4, [.int zw, .int zh, .long zA, .long zL, .long zR, .long zE])), (xi, .inl (cA 2, 80, .inl xI)), (cl, .inr (6, [.int k0, .ref n0, .int k1])), (n0, .inl (cA 5, k4, .inr (.inr (.inr (.inr (ga_il zs k2 k3))))))]) [6, 0, 1, 2, 3, 4, 5] (by decide) rfl
      obtain rfl := Option.some.inj h
      refine W.widen (k := 600) (n := 20000) (by omega) (by omega) ?_
      refine vx_ret ?_
      exact W.vret hx hb hr (fun t ht hW => ⟨⟨((rp, k0, k1, k4, k2, k3), ga_ad [n0]), rfl, ⟨_, rfl, rfl⟩, ⟨by rw [ht]; exact hP9, hK.warm hW, hD9⟩⟩, hS.F ht⟩) hS.2.2 dX12_read_69
    · replace h := ga_iff c_118 h
      refine lv_aload_n hx hb dX12_read_14 rfl (lv_at hl 0 rfl) ?_
      refine va_get hx hb hts in_X12 hown hK.1 hP 6 (fs := [.int rp, .ref cl, .ref x]) rfl rfl 1 (by decide) (hts _ q1137) (fun _ hh => hh) (v := .ref cl) rfl dX12_read_15 ?_
      refine lv_aload_n hx hb dX12_read_18 rfl (lv_at hl 0 rfl) ?_
      obtain ⟨r_119, e_120, h⟩ := ga_gb h
      have hFc := va_free (wc := [(rd, .inr (7, [.int rp, .ref cl, .ref x])), (x, .inr (1, [.ref g, xs, xp, .ref xi, .int xl, xr, xq])), (g, .inr (2, [.ref sh, .ref al, .int gr, .ref g_b, .ref g_t])), (sh, .inr (4, [.int zw, .int zh, .long zA, .long zL, .long zR, .long zE])), (xi, .inl (cA 2, 80, .inl xI))]) hD hS hA [6, 0, 1, 2, 3] rfl
      refine vx_calli (vx_runV (As := []) (rest := [.ref cl]) ⟨hx, hb, hml, hown, hts⟩ (met_X12_choice l D cA (va_A [(rd, .inr (7, [.int rp, .ref cl, .ref x])), (x, .inr (1, [.ref g, xs, xp, .ref xi, .int xl, xr, xq])), (g, .inr (2, [.ref sh, .ref al, .int gr, .ref g_b, .ref g_t])), (sh, .inr (4, [.int zw, .int zh, .long zA, .long zL, .long zR, .long zE])), (xi, .inl (cA 2, 80, .inl xI))] H.size) rd cl x g xs xp xi xr xq sh al g_b g_t zs rp xl gr zw zh zA zL zR zE xI N hX.2 r_119 e_120) (cwV 0 hts (lw_V q1151 q1153 qs23 q100 q1154) rfl rfl rfl (by decide +kernel) ⟨Nat.le_of_ble_eq_true rfl, Nat.le_of_ble_eq_true rfl⟩) (ga_XV hK (hP.sub (ws' := [(rd, .inr (7, [.int rp, .ref cl, .ref x])), (x, .inr (1, [.ref g, xs, xp, .ref xi, .int xl, xr, xq])), (g, .inr (2, [.ref sh, .ref al, .int gr, .ref g_b, .ref g_t])), (sh, .inr (4, [.int zw, .int zh, .long zA, .long zL, .long zR, .long zE])), (xi, .inl (cA 2, 80, .inl xI))]) [6, 0, 1, 2, 3] rfl) (hD.sub (ws' := [(rd, .inr (7, [.int rp, .ref cl, .ref x])), (x, .inr (1, [.ref g, xs, xp, .ref xi, .int xl, xr, xq])), (g, .inr (2, [.ref sh, .ref al, .int gr, .ref g_b, .ref g_t])), (sh, .inr (4, [.int zw, .int zh, .long zA, .long zL, .long zR, .long zE])), (xi, .inl (cA 2, 80, .inl xI))]) [6, 0, 1, 2, 3] (by decide) rfl).self (fun _ hq => Or.inr hq) (hST.at hS hFc) (va_recv hK.1 hP (ci := 7) (q0 := 6) rfl rfl)) rfl rfl hl.1 rfl (lv_room (Nat.le_of_ble_eq_true rfl)) dX12_read_19 ⟨(show kc + 0 + 2 ≤ 600 by omega), (show ks + 0 + 14 ≤ 20000 by omega)⟩) hS (fun q _ hq => hFc q hq) hFc (fun q _ hq => hFc q hq) (fun E_126 ce q_127 u_128 t H_125 locs ht _ w_122 hB _ hk hS hce hcv hcl => ?_) (fun z_121 u_124 t H_123 locs ht _ w_122 hB _ hk hS => ?_)
      · obtain ⟨u_124, n_130⟩ := u_128
        replace h := ga_swr w_122 h
        obtain ⟨eE, hP1, hD1, hM1⟩ := hB
        rw [ht] at hP1 hM1
        have eE : E_126 = ga_en u_124.1 := eE
        have hP1 : va_P D ga_cl (if u_124.1 = 9 then [(x, .inr (1, [.ref g, xs, xp, .ref xi, .int xl, xr, xq])), (g, .inr (2, [.ref sh, .ref al, .int gr, .ref g_b, .ref g_t])), (sh, .inr (4, [.int zw, .int zh, .long zA, .long zL, .long zR, .long zE])), (xi, .inl (cA 2, 80, .inl xI)), (q_127, .inr (14, [.null, .null, .null, .null, .null, .int 0, .int (u_124.2 0)]))] else [(rd, .inr (7, [.int rp, .ref cl, .ref x])), (x, .inr (1, [.ref g, xs, xp, .ref xi, .int xl, xr, xq])), (g, .inr (2, [.ref sh, .ref al, .int gr, .ref g_b, .ref g_t])), (sh, .inr (4, [.int zw, .int zh, .long zA, .long zL, .long zR, .long zE])), (xi, .inl (cA 2, 80, .inl xI))]) H_125 := hP1
        have hD1 : va_D _ (if u_124.1 = 9 then [(x, .inr (1, [.ref g, xs, xp, .ref xi, .int xl, xr, xq])), (g, .inr (2, [.ref sh, .ref al, .int gr, .ref g_b, .ref g_t])), (sh, .inr (4, [.int zw, .int zh, .long zA, .long zL, .long zR, .long zE])), (xi, .inl (cA 2, 80, .inl xI)), (q_127, .inr (14, [.null, .null, .null, .null, .null, .int 0, .int (u_124.2 0)]))] else [(rd, .inr (7, [.int rp, .ref cl, .ref x])), (x, .inr (1, [.ref g, xs, xp, .ref xi, .int xl, xr, xq])), (g, .inr (2, [.ref sh, .ref al, .int gr, .ref g_b, .ref g_t])), (sh, .inr (4, [.int zw, .int zh, .long zA, .long zL, .long zR, .long zE])), (xi, .inl (cA 2, 80, .inl xI))]) := hD1
        have hM1 : ∀ a ∈ (if u_124.1 = 9 then ([] : List Nat) else ([] : List Nat)), ga_M a H_125 := hM1
        by_cases c_131 : u_124.1 = 9
        · replace h := ga_ift c_131 h
          have eE : E_126 = "EnclosureReferee$TextException" := by rw [eE, c_131]; rfl
          subst eE
          rw [c_131, if_pos rfl] at hP1 hD1 hM1
          obtain ⟨hP, hD⟩ := va_join (wr := [(cl, .inr (6, [.int k0, .ref n0, .int k1])), (n0, .inl (cA 5, k4, .inr (.inr (.inr (.inr (ga_il zs k2 k3))))))]) (w1 := [(x, .inr (1, [.ref g, xs, xp, .ref xi, .int xl, xr, xq])), (g, .inr (2, [.ref sh, .ref al, .int gr, .ref g_b, .ref g_t])), (sh, .inr (4, [.int zw, .int zh, .long zA, .long zL, .long zR, .long zE])), (xi, .inl (cA 2, 80, .inl xI)), (q_127, .inr (14, [.null, .null, .null, .null, .null, .int 0, .int (u_124.2 0)]))]) hP hD [6, 0, 1, 2, 3] [4, 5] rfl rfl (by decide) (by decide) hk hFc hP1 hD1
          have hP : va_P D ga_cl [(cl, .inr (6, [.int k0, .ref n0, .int k1])), (n0, .inl (cA 5, k4, .inr (.inr (.inr (.inr (ga_il zs k2 k3)))))), (x, .inr (1, [.ref g, xs, xp, .ref xi, .int xl, xr, xq])), (g, .inr (2, [.ref sh, .ref al, .int gr, .ref g_b, .ref g_t])), (sh, .inr (4, [.int zw, .int zh, .long zA, .long zL, .long zR, .long zE])), (xi, .inl (cA 2, 80, .inl xI)), (q_127, .inr (14, [.null, .null, .null, .null, .null, .int 0, .int (u_124.2 0)]))] H_125 := hP
          have hD : va_D A [(cl, .inr (6, [.int k0, .ref n0, .int k1])), (n0, .inl (cA 5, k4, .inr (.inr (.inr (.inr (ga_il zs k2 k3)))))), (x, .inr (1, [.ref g, xs, xp, .ref xi, .int xl, xr, xq])), (g, .inr (2, [.ref sh, .ref al, .int gr, .ref g_b, .ref g_t])), (sh, .inr (4, [.int zw, .int zh, .long zA, .long zL, .long zR, .long zE])), (xi, .inl (cA 2, 80, .inl xI)), (q_127, .inr (14, [.null, .null, .null, .null, .null, .int 0, .int (u_124.2 0)]))] := hD
          have hP9 := hP.sub (ws' := [(x, .inr (1, [.ref g, xs, xp, .ref xi, .int xl, xr, xq])), (g, .inr (2, [.ref sh, .ref al, .int gr, .ref g_b, .ref g_t])), (sh, .inr (4, [.int zw, .int zh, .long zA, .long zL, .long zR, .long zE])), (xi, .inl (cA 2, 80, .inl xI)), (q_127, .inr (14, [.null, .null, .null, .null, .null, .int 0, .int (u_124.2 0)]))]) [2, 3, 4, 5, 6] rfl
          have hD9 := hD.sub (ws' := [(x, .inr (1, [.ref g, xs, xp, .ref xi, .int xl, xr, xq])), (g, .inr (2, [.ref sh, .ref al, .int gr, .ref g_b, .ref g_t])), (sh, .inr (4, [.int zw, .int zh, .long zA, .long zL, .long zR, .long zE])), (xi, .inl (cA 2, 80, .inl xI)), (q_127, .inr (14, [.null, .null, .null, .null, .null, .int 0, .int (u_124.2 0)]))]) [2, 3, 4, 5, 6] (by decide) rfl
          have hM9 : (∀ a ∈ ([] : List Nat), ga_M a H_125) := (fun _ hz => nomatch hz)
          obtain rfl := Option.some.inj h
          exact vx_outP hown hlocks (fun x hx9 => (hX.1 x hx9).elim) hce hcv hcl (fun t ht _ => ⟨((9, ga_xd [(u_124.2 0)]), ga_ad []), rfl, ⟨rfl, by rw [ht]; exact hP9, hD9, by rw [ht]; exact hM9⟩, hS.F ht⟩) hS.2.2 (by omega) (by omega)
        · replace h := ga_iff c_131 h
          cases h
      · obtain ⟨v_129, ev_129, hv9⟩ := w_122
        replace h := ga_swl ev_129 h
        obtain ⟨rfl, rfl⟩ := hv9
        obtain ⟨hP1, -, hD1⟩ := hB
        rw [ht] at hP1
        obtain ⟨hP, hD⟩ := va_join (wr := [(cl, .inr (6, [.int k0, .ref n0, .int k1])), (n0, .inl (cA 5, k4, .inr (.inr (.inr (.inr (ga_il zs k2 k3))))))]) (w1 := [(rd, .inr (7, [.int v_129.2, .ref cl, .ref x])), (x, .inr (1, [.ref g, xs, xp, .ref xi, .int xl, xr, xq])), (g, .inr (2, [.ref sh, .ref al, .int gr, .ref g_b, .ref g_t])), (sh, .inr (4, [.int zw, .int zh, .long zA, .long zL, .long zR, .long zE])), (xi, .inl (cA 2, 80, .inl xI))]) hP hD [6, 0, 1, 2, 3] [4, 5] rfl rfl (by decide) (by decide) hk hFc hP1 hD1
        have hP : va_P D ga_cl [(cl, .inr (6, [.int k0, .ref n0, .int k1])), (n0, .inl (cA 5, k4, .inr (.inr (.inr (.inr (ga_il zs k2 k3)))))), (rd, .inr (7, [.int v_129.2, .ref cl, .ref x])), (x, .inr (1, [.ref g, xs, xp, .ref xi, .int xl, xr, xq])), (g, .inr (2, [.ref sh, .ref al, .int gr, .ref g_b, .ref g_t])), (sh, .inr (4, [.int zw, .int zh, .long zA, .long zL, .long zR, .long zE])), (xi, .inl (cA 2, 80, .inl xI))] H_123 := hP
        have hD : va_D A [(cl, .inr (6, [.int k0, .ref n0, .int k1])), (n0, .inl (cA 5, k4, .inr (.inr (.inr (.inr (ga_il zs k2 k3)))))), (rd, .inr (7, [.int v_129.2, .ref cl, .ref x])), (x, .inr (1, [.ref g, xs, xp, .ref xi, .int xl, xr, xq])), (g, .inr (2, [.ref sh, .ref al, .int gr, .ref g_b, .ref g_t])), (sh, .inr (4, [.int zw, .int zh, .long zA, .long zL, .long zR, .long zE])), (xi, .inl (cA 2, 80, .inl xI))] := hD
        refine W.cs (cells' := kc + 2) (slots' := ks + 14) (by omega) (by omega) ?_
        obtain ⟨r_133, e_134, h⟩ := ga_gb h
        have hFc := va_free (wc := []) hD hS hA [] rfl
        refine va_callr (va_runS (As := [.int v_129.1]) (rest := [.ref cl]) ⟨hx, hb, hml, hown, hts⟩ (met_J19_valueOf l D cA (va_A [] H_123.size) zs N v_129.1 r_133 e_134) (va_cwS 1 hts (lw_S q1187 q1188 q98 q1189) rfl rfl rfl (by decide +kernel) ⟨Nat.le_of_ble_eq_true rfl, Nat.le_of_ble_eq_true rfl⟩) (ga_XS hK ga_P0 (hD.sub (ws' := []) [] (by decide) rfl).self (fun _ hq => Or.inr hq) (hST.at hS hFc)) rfl rfl hl.1 rfl (lv_room (Nat.le_of_ble_eq_true rfl)) dX12_read_22 ⟨(show kc + 2 + 0 ≤ 600 by omega), (show ks + 14 + 0 ≤ 20000 by omega)⟩) hS (fun q _ hq => hFc q hq) hFc (fun u_138 a_139 t H_137 locs ht _ w_136 hB _ hk hS => ?_)
        obtain rfl := w_136
        obtain ⟨ea, hP1, -, hD1⟩ := hB
        subst ea
        rw [ht] at hP1
        obtain ⟨hP, hD⟩ := va_join (wr := [(cl, .inr (6, [.int k0, .ref n0, .int k1])), (n0, .inl (cA 5, k4, .inr (.inr (.inr (.inr (ga_il zs k2 k3)))))), (rd, .inr (7, [.int v_129.2, .ref cl, .ref x])), (x, .inr (1, [.ref g, xs, xp, .ref xi, .int xl, xr, xq])), (g, .inr (2, [.ref sh, .ref al, .int gr, .ref g_b, .ref g_t])), (sh, .inr (4, [.int zw, .int zh, .long zA, .long zL, .long zR, .long zE])), (xi, .inl (cA 2, 80, .inl xI))]) (w1 := []) hP hD [] [0, 1, 2, 3, 4, 5, 6] rfl rfl (by decide) (by decide) hk hFc hP1 hD1
        have hP : va_P D ga_cl [(cl, .inr (6, [.int k0, .ref n0, .int k1])), (n0, .inl (cA 5, k4, .inr (.inr (.inr (.inr (ga_il zs k2 k3)))))), (rd, .inr (7, [.int v_129.2, .ref cl, .ref x])), (x, .inr (1, [.ref g, xs, xp, .ref xi, .int xl, xr, xq])), (g, .inr (2, [.ref sh, .ref al, .int gr, .ref g_b, .ref g_t])), (sh, .inr (4, [.int zw, .int zh, .long zA, .long zL, .long zR, .long zE])), (xi, .inl (cA 2, 80, .inl xI))] H_137 := hP
        have hD : va_D A [(cl, .inr (6, [.int k0, .ref n0, .int k1])), (n0, .inl (cA 5, k4, .inr (.inr (.inr (.inr (ga_il zs k2 k3)))))), (rd, .inr (7, [.int v_129.2, .ref cl, .ref x])), (x, .inr (1, [.ref g, xs, xp, .ref xi, .int xl, xr, xq])), (g, .inr (2, [.ref sh, .ref al, .int gr, .ref g_b, .ref g_t])), (sh, .inr (4, [.int zw, .int zh, .long zA, .long zL, .long zR, .long zE])), (xi, .inl (cA 2, 80, .inl xI))] := hD
        obtain ⟨r_140, e_141, h⟩ := ga_gb h
        have hFc := va_free (wc := [(cl, .inr (6, [.int k0, .ref n0, .int k1])), (n0, .inl (cA 5, k4, .inr (.inr (.inr (.inr (ga_il zs k2 k3))))))]) hD hS hA [0, 1] rfl
        refine va_calli (va_runV (As := [.ref (ga_iv zs v_129.1)]) (rest := []) ⟨hx, hb, hml, hown, hts⟩ (met_J2_add l D cA (va_A [(cl, .inr (6, [.int k0, .ref n0, .int k1])), (n0, .inl (cA 5, k4, .inr (.inr (.inr (.inr (ga_il zs k2 k3))))))] H_137.size) cl n0 (ga_il zs k2 k3) ("java/lang/Integer") (ga_iv zs v_129.1) zs k0 k1 k4 N q1914 r_140 e_141) (cwV 1 hts (lw_V q1207 q259 q260 q71 q261) rfl rfl rfl (by decide +kernel) ⟨Nat.le_of_ble_eq_true rfl, Nat.le_of_ble_eq_true rfl⟩) (ga_XRV ga_eaK ⟨ga_ilel (hST.at hS hFc).2.2.2.2.2.2.2.1, ga_ivO (hST.at hS hFc).2.2.2.2.2.2.2.1⟩ hK (hP.sub (ws' := [(cl, .inr (6, [.int k0, .ref n0, .int k1])), (n0, .inl (cA 5, k4, .inr (.inr (.inr (.inr (ga_il zs k2 k3))))))]) [0, 1] rfl) (hD.sub (ws' := [(cl, .inr (6, [.int k0, .ref n0, .int k1])), (n0, .inl (cA 5, k4, .inr (.inr (.inr (.inr (ga_il zs k2 k3))))))]) [0, 1] (by decide) rfl).self (fun _ hq => Or.inr hq) (hST.at hS hFc) (va_recv hK.1 hP (ci := 6) (q0 := 0) rfl rfl)) rfl rfl hl.1 rfl (lv_room (Nat.le_of_ble_eq_true rfl)) dX12_read_25 ⟨(show kc + 2 + 1 ≤ 600 by omega), (show ks + 14 + 100 ≤ 20000 by omega)⟩) hS (fun q _ hq => hFc q hq) hFc (fun z_142 u_145 t H_144 locs ht _ w_143 hB _ hk hS => ?_)
        obtain ⟨hP1, -, hD1, f_146, f_147, f_148⟩ := hB
        obtain ⟨⟨rfl, b_149⟩, w_143⟩ := w_143
        rw [show u_145.1 = r_140.2 from w_143.symm] at hP1 hD1
        have f_150 : (u_145.2.2 0) (ix k1) = some (ga_iv zs v_129.1) := by first | exact f_146 | (rw [show u_145.1 = r_140.2 from w_143.symm] at f_146; exact f_146)
        have f_151 : ∀ j : Nat, j < k4 → j ≠ ix k1 → (u_145.2.2 0) j = (ga_il zs k2 k3) j := by first | exact f_147 | (rw [show u_145.1 = r_140.2 from w_143.symm] at f_147; exact f_147)
        have f_152 : ∀ (j y : Nat), j ≠ ix k1 → (u_145.2.2 0) j = some y → (ga_il zs k2 k3) j = some y := by first | exact f_148 | (rw [show u_145.1 = r_140.2 from w_143.symm] at f_148; exact f_148)
        rw [ht] at hP1
        obtain ⟨hP, hD⟩ := va_join (wr := [(rd, .inr (7, [.int v_129.2, .ref cl, .ref x])), (x, .inr (1, [.ref g, xs, xp, .ref xi, .int xl, xr, xq])), (g, .inr (2, [.ref sh, .ref al, .int gr, .ref g_b, .ref g_t])), (sh, .inr (4, [.int zw, .int zh, .long zA, .long zL, .long zR, .long zE])), (xi, .inl (cA 2, 80, .inl xI))]) (w1 := [(cl, .inr (6, [.int r_140.2.1, .ref (u_145.2.1 0), .int r_140.2.2.1])), ((u_145.2.1 0), .inl (cA 5, r_140.2.2.2, .inr (.inr (.inr (.inr (u_145.2.2 0))))))]) hP hD [0, 1] [2, 3, 4, 5, 6] rfl rfl (by decide) (by decide) hk hFc hP1 hD1
        have hP : va_P D ga_cl [(rd, .inr (7, [.int v_129.2, .ref cl, .ref x])), (x, .inr (1, [.ref g, xs, xp, .ref xi, .int xl, xr, xq])), (g, .inr (2, [.ref sh, .ref al, .int gr, .ref g_b, .ref g_t])), (sh, .inr (4, [.int zw, .int zh, .long zA, .long zL, .long zR, .long zE])), (xi, .inl (cA 2, 80, .inl xI)), (cl, .inr (6, [.int r_140.2.1, .ref (u_145.2.1 0), .int r_140.2.2.1])), ((u_145.2.1 0), .inl (cA 5, r_140.2.2.2, .inr (.inr (.inr (.inr (u_145.2.2 0))))))] H_144 := hP
        have hD : va_D A [(rd, .inr (7, [.int v_129.2, .ref cl, .ref x])), (x, .inr (1, [.ref g, xs, xp, .ref xi, .int xl, xr, xq])), (g, .inr (2, [.ref sh, .ref al, .int gr, .ref g_b, .ref g_t])), (sh, .inr (4, [.int zw, .int zh, .long zA, .long zL, .long zR, .long zE])), (xi, .inl (cA 2, 80, .inl xI)), (cl, .inr (6, [.int r_140.2.1, .ref (u_145.2.1 0), .int r_140.2.2.1])), ((u_145.2.1 0), .inl (cA 5, r_140.2.2.2, .inr (.inr (.inr (.inr (u_145.2.2 0))))))] := hD
        obtain ⟨⟨lg_153, lg_154⟩, h⟩ := ga_gif h
        replace hP := ga_cong (g := (ga_il zs (upd k2 k3 v_129.1) (k3 + 1))) hP (i := 6) rfl (ga_ilnS f_150 f_151 f_152 lg_153 lg_154)
        replace hD := hD.set (p := 6) (e := .inl (cA 5, r_140.2.2.2, .inr (.inr (.inr (.inr (ga_il zs (upd k2 k3 v_129.1) (k3 + 1))))))) rfl
        have hP : va_P D ga_cl [(rd, .inr (7, [.int v_129.2, .ref cl, .ref x])), (x, .inr (1, [.ref g, xs, xp, .ref xi, .int xl, xr, xq])), (g, .inr (2, [.ref sh, .ref al, .int gr, .ref g_b, .ref g_t])), (sh, .inr (4, [.int zw, .int zh, .long zA, .long zL, .long zR, .long zE])), (xi, .inl (cA 2, 80, .inl xI)), (cl, .inr (6, [.int r_140.2.1, .ref (u_145.2.1 0), .int r_140.2.2.1])), ((u_145.2.1 0), .inl (cA 5, r_140.2.2.2, .inr (.inr (.inr (.inr (ga_il zs (upd k2 k3 v_129.1) (k3 + 1)))))))] H_144 := hP
        have hD : va_D A [(rd, .inr (7, [.int v_129.2, .ref cl, .ref x])), (x, .inr (1, [.ref g, xs, xp, .ref xi, .int xl, xr, xq])), (g, .inr (2, [.ref sh, .ref al, .int gr, .ref g_b, .ref g_t])), (sh, .inr (4, [.int zw, .int zh, .long zA, .long zL, .long zR, .long zE])), (xi, .inl (cA 2, 80, .inl xI)), (cl, .inr (6, [.int r_140.2.1, .ref (u_145.2.1 0), .int r_140.2.2.1])), ((u_145.2.1 0), .inl (cA 5, r_140.2.2.2, .inr (.inr (.inr (.inr (ga_il zs (upd k2 k3 v_129.1) (k3 + 1)))))))] := hD
        refine W.cs (cells' := kc + 3) (slots' := ks + 114) (by omega) (by omega) ?_
        refine lv_istore_n (lv' := [(1, .int r_140.1), (0, .ref rd)]) hx hb dX12_read_28 rfl hl (by decide) rfl (fun ls hl => ?_)
        refine lv_aload_n hx hb dX12_read_29 rfl (lv_at hl 1 rfl) ?_
        refine va_get hx hb hts in_X12 hown hK.1 hP 0 (fs := [.int v_129.2, .ref cl, .ref x]) rfl rfl 1 (by decide) (hts _ q1137) (fun _ hh => hh) (v := .ref cl) rfl dX12_read_30 ?_
        refine lv_aload_n hx hb dX12_read_33 rfl (lv_at hl 1 rfl) ?_
        obtain ⟨r_155, e_156, h⟩ := ga_gb h
        have hFc := va_free (wc := [(rd, .inr (7, [.int v_129.2, .ref cl, .ref x])), (x, .inr (1, [.ref g, xs, xp, .ref xi, .int xl, xr, xq])), (g, .inr (2, [.ref sh, .ref al, .int gr, .ref g_b, .ref g_t])), (sh, .inr (4, [.int zw, .int zh, .long zA, .long zL, .long zR, .long zE])), (xi, .inl (cA 2, 80, .inl xI))]) hD hS hA [0, 1, 2, 3, 4] rfl
        refine vx_calli (vx_runV (As := []) (rest := [.ref cl]) ⟨hx, hb, hml, hown, hts⟩ (met_X12_choice l D cA (va_A [(rd, .inr (7, [.int v_129.2, .ref cl, .ref x])), (x, .inr (1, [.ref g, xs, xp, .ref xi, .int xl, xr, xq])), (g, .inr (2, [.ref sh, .ref al, .int gr, .ref g_b, .ref g_t])), (sh, .inr (4, [.int zw, .int zh, .long zA, .long zL, .long zR, .long zE])), (xi, .inl (cA 2, 80, .inl xI))] H_144.size) rd cl x g xs xp xi xr xq sh al g_b g_t zs v_129.2 xl gr zw zh zA zL zR zE xI N hX.2 r_155 e_156) (cwV 0 hts (lw_V q1151 q1153 qs23 q100 q1154) rfl rfl rfl (by decide +kernel) ⟨Nat.le_of_ble_eq_true rfl, Nat.le_of_ble_eq_true rfl⟩) (ga_XV hK (hP.sub (ws' := [(rd, .inr (7, [.int v_129.2, .ref cl, .ref x])), (x, .inr (1, [.ref g, xs, xp, .ref xi, .int xl, xr, xq])), (g, .inr (2, [.ref sh, .ref al, .int gr, .ref g_b, .ref g_t])), (sh, .inr (4, [.int zw, .int zh, .long zA, .long zL, .long zR, .long zE])), (xi, .inl (cA 2, 80, .inl xI))]) [0, 1, 2, 3, 4] rfl) (hD.sub (ws' := [(rd, .inr (7, [.int v_129.2, .ref cl, .ref x])), (x, .inr (1, [.ref g, xs, xp, .ref xi, .int xl, xr, xq])), (g, .inr (2, [.ref sh, .ref al, .int gr, .ref g_b, .ref g_t])), (sh, .inr (4, [.int zw, .int zh, .long zA, .long zL, .long zR, .long zE])), (xi, .inl (cA 2, 80, .inl xI))]) [0, 1, 2, 3, 4] (by decide) rfl).self (fun _ hq => Or.inr hq) (hST.at hS hFc) (va_recv hK.1 hP (ci := 7) (q0 := 0) rfl rfl)) rfl rfl hl.1 rfl (lv_room (Nat.le_of_ble_eq_true rfl)) dX12_read_34 ⟨(show kc + 3 + 2 ≤ 600 by omega), (show ks + 114 + 14 ≤ 20000 by omega)⟩) hS (fun q _ hq => hFc q hq) hFc (fun q _ hq => hFc q hq) (fun E_162 ce q_163 u_164 t H_161 locs ht _ w_158 hB _ hk hS hce hcv hcl => ?_) (fun z_157 u_160 t H_159 locs ht _ w_158 hB _ hk hS => ?_)
        · obtain ⟨u_160, n_166⟩ := u_164
          replace h := ga_swr w_158 h
          obtain ⟨eE, hP1, hD1, hM1⟩ := hB
          rw [ht] at hP1 hM1
          have eE : E_162 = ga_en u_160.1 := eE
          have hP1 : va_P D ga_cl (if u_160.1 = 9 then [(x, .inr (1, [.ref g, xs, xp, .ref xi, .int xl, xr, xq])), (g, .inr (2, [.ref sh, .ref al, .int gr, .ref g_b, .ref g_t])), (sh, .inr (4, [.int zw, .int zh, .long zA, .long zL, .long zR, .long zE])), (xi, .inl (cA 2, 80, .inl xI)), (q_163, .inr (14, [.null, .null, .null, .null, .null, .int 0, .int (u_160.2 0)]))] else [(rd, .inr (7, [.int v_129.2, .ref cl, .ref x])), (x, .inr (1, [.ref g, xs, xp, .ref xi, .int xl, xr, xq])), (g, .inr (2, [.ref sh, .ref al, .int gr, .ref g_b, .ref g_t])), (sh, .inr (4, [.int zw, .int zh, .long zA, .long zL, .long zR, .long zE])), (xi, .inl (cA 2, 80, .inl xI))]) H_161 := hP1
          have hD1 : va_D _ (if u_160.1 = 9 then [(x, .inr (1, [.ref g, xs, xp, .ref xi, .int xl, xr, xq])), (g, .inr (2, [.ref sh, .ref al, .int gr, .ref g_b, .ref g_t])), (sh, .inr (4, [.int zw, .int zh, .long zA, .long zL, .long zR, .long zE])), (xi, .inl (cA 2, 80, .inl xI)), (q_163, .inr (14, [.null, .null, .null, .null, .null, .int 0, .int (u_160.2 0)]))] else [(rd, .inr (7, [.int v_129.2, .ref cl, .ref x])), (x, .inr (1, [.ref g, xs, xp, .ref xi, .int xl, xr, xq])), (g, .inr (2, [.ref sh, .ref al, .int gr, .ref g_b, .ref g_t])), (sh, .inr (4, [.int zw, .int zh, .long zA, .long zL, .long zR, .long zE])), (xi, .inl (cA 2, 80, .inl xI))]) := hD1
          have hM1 : ∀ a ∈ (if u_160.1 = 9 then ([] : List Nat) else ([] : List Nat)), ga_M a H_161 := hM1
          by_cases c_167 : u_160.1 = 9
          · replace h := ga_ift c_167 h
            have eE : E_162 = "EnclosureReferee$TextException" := by rw [eE, c_167]; rfl
            subst eE
            rw [c_167, if_pos rfl] at hP1 hD1 hM1
            obtain ⟨hP, hD⟩ := va_join (wr := [(cl, .inr (6, [.int r_140.2.1, .ref (u_145.2.1 0), .int r_140.2.2.1])), ((u_145.2.1 0), .inl (cA 5, r_140.2.2.2, .inr (.inr (.inr (.inr (ga_il zs (upd k2 k3 v_129.1) (k3 + 1)))))))]) (w1 := [(x, .inr (1, [.ref g, xs, xp, .ref xi, .int xl, xr, xq])), (g, .inr (2, [.ref sh, .ref al, .int gr, .ref g_b, .ref g_t])), (sh, .inr (4, [.int zw, .int zh, .long zA, .long zL, .long zR, .long zE])), (xi, .inl (cA 2, 80, .inl xI)), (q_163, .inr (14, [.null, .null, .null, .null, .null, .int 0, .int (u_160.2 0)]))]) hP hD [0, 1, 2, 3, 4] [5, 6] rfl rfl (by decide) (by decide) hk hFc hP1 hD1
            have hP : va_P D ga_cl [(cl, .inr (6, [.int r_140.2.1, .ref (u_145.2.1 0), .int r_140.2.2.1])), ((u_145.2.1 0), .inl (cA 5, r_140.2.2.2, .inr (.inr (.inr (.inr (ga_il zs (upd k2 k3 v_129.1) (k3 + 1))))))), (x, .inr (1, [.ref g, xs, xp, .ref xi, .int xl, xr, xq])), (g, .inr (2, [.ref sh, .ref al, .int gr, .ref g_b, .ref g_t])), (sh, .inr (4, [.int zw, .int zh, .long zA, .long zL, .long zR, .long zE])), (xi, .inl (cA 2, 80, .inl xI)), (q_163, .inr (14, [.null, .null, .null, .null, .null, .int 0, .int (u_160.2 0)]))] H_161 := hP
            have hD : va_D A [(cl, .inr (6, [.int r_140.2.1, .ref (u_145.2.1 0), .int r_140.2.2.1])), ((u_145.2.1 0), .inl (cA 5, r_140.2.2.2, .inr (.inr (.inr (.inr (ga_il zs (upd k2 k3 v_129.1) (k3 + 1))))))), (x, .inr (1, [.ref g, xs, xp, .ref xi, .int xl, xr, xq])), (g, .inr (2, [.ref sh, .ref al, .int gr, .ref g_b, .ref g_t])), (sh, .inr (4, [.int zw, .int zh, .long zA, .long zL, .long zR, .long zE])), (xi, .inl (cA 2, 80, .inl xI)), (q_163, .inr (14, [.null, .null, .null, .null, .null, .int 0, .int (u_160.2 0)]))] := hD
            have hP9 := hP.sub (ws' := [(x, .inr (1, [.ref g, xs, xp, .ref xi, .int xl, xr, xq])), (g, .inr (2, [.ref sh, .ref al, .int gr, .ref g_b, .ref g_t])), (sh, .inr (4, [.int zw, .int zh, .long zA, .long zL, .long zR, .long zE])), (xi, .inl (cA 2, 80, .inl xI)), (q_163, .inr (14, [.null, .null, .null, .null, .null, .int 0, .int (u_160.2 0)]))]) [2, 3, 4, 5, 6] rfl
            have hD9 := hD.sub (ws' := [(x, .inr (1, [.ref g, xs, xp, .ref xi, .int xl, xr, xq])), (g, .inr (2, [.ref sh, .ref al, .int gr, .ref g_b, .ref g_t])), (sh, .inr (4, [.int zw, .int zh, .long zA, .long zL, .long zR, .long zE])), (xi, .inl (cA 2, 80, .inl xI)), (q_163, .inr (14, [.null, .null, .null, .null, .null, .int 0, .int (u_160.2 0)]))]) [2, 3, 4, 5, 6] (by decide) rfl
            have hM9 : (∀ a ∈ ([] : List Nat), ga_M a H_161) := (fun _ hz => nomatch hz)
            obtain rfl := Option.some.inj h
            exact vx_outP hown hlocks (fun x hx9 => (hX.1 x hx9).elim) hce hcv hcl (fun t ht _ => ⟨((9, ga_xd [(u_160.2 0)]), ga_ad []), rfl, ⟨rfl, by rw [ht]; exact hP9, hD9, by rw [ht]; exact hM9⟩, hS.F ht⟩) hS.2.2 (by omega) (by omega)
          · replace h := ga_iff c_167 h
            cases h
        · obtain ⟨v_165, ev_165, hv9⟩ := w_158
          replace h := ga_swl ev_165 h
          obtain ⟨rfl, rfl⟩ := hv9
          obtain ⟨hP1, -, hD1⟩ := hB
          rw [ht] at hP1
          obtain ⟨hP, hD⟩ := va_join (wr := [(cl, .inr (6, [.int r_140.2.1, .ref (u_145.2.1 0), .int r_140.2.2.1])), ((u_145.2.1 0), .inl (cA 5, r_140.2.2.2, .inr (.inr (.inr (.inr (ga_il zs (upd k2 k3 v_129.1) (k3 + 1)))))))]) (w1 := [(rd, .inr (7, [.int v_165.2, .ref cl, .ref x])), (x, .inr (1, [.ref g, xs, xp, .ref xi, .int xl, xr, xq])), (g, .inr (2, [.ref sh, .ref al, .int gr, .ref g_b, .ref g_t])), (sh, .inr (4, [.int zw, .int zh, .long zA, .long zL, .long zR, .long zE])), (xi, .inl (cA 2, 80, .inl xI))]) hP hD [0, 1, 2, 3, 4] [5, 6] rfl rfl (by decide) (by decide) hk hFc hP1 hD1
          have hP : va_P D ga_cl [(cl, .inr (6, [.int r_140.2.1, .ref (u_145.2.1 0), .int r_140.2.2.1])), ((u_145.2.1 0), .inl (cA 5, r_140.2.2.2, .inr (.inr (.inr (.inr (ga_il zs (upd k2 k3 v_129.1) (k3 + 1))))))), (rd, .inr (7, [.int v_165.2, .ref cl, .ref x])), (x, .inr (1, [.ref g, xs, xp, .ref xi, .int xl, xr, xq])), (g, .inr (2, [.ref sh, .ref al, .int gr, .ref g_b, .ref g_t])), (sh, .inr (4, [.int zw, .int zh, .long zA, .long zL, .long zR, .long zE])), (xi, .inl (cA 2, 80, .inl xI))] H_159 := hP
          have hD : va_D A [(cl, .inr (6, [.int r_140.2.1, .ref (u_145.2.1 0), .int r_140.2.2.1])), ((u_145.2.1 0), .inl (cA 5, r_140.2.2.2, .inr (.inr (.inr (.inr (ga_il zs (upd k2 k3 v_129.1) (k3 + 1))))))), (rd, .inr (7, [.int v_165.2, .ref cl, .ref x])), (x, .inr (1, [.ref g, xs, xp, .ref xi, .int xl, xr, xq])), (g, .inr (2, [.ref sh, .ref al, .int gr, .ref g_b, .ref g_t])), (sh, .inr (4, [.int zw, .int zh, .long zA, .long zL, .long zR, .long zE])), (xi, .inl (cA 2, 80, .inl xI))] := hD
          refine W.cs (cells' := kc + 5) (slots' := ks + 128) (by omega) (by omega) ?_
          obtain ⟨r_169, e_170, h⟩ := ga_gb h
          have hFc := va_free (wc := []) hD hS hA [] rfl
          refine va_callr (va_runS (As := [.int v_165.1]) (rest := [.ref cl]) ⟨hx, hb, hml, hown, hts⟩ (met_J19_valueOf l D cA (va_A [] H_159.size) zs N v_165.1 r_169 e_170) (va_cwS 1 hts (lw_S q1187 q1188 q98 q1189) rfl rfl rfl (by decide +kernel) ⟨Nat.le_of_ble_eq_true rfl, Nat.le_of_ble_eq_true rfl⟩) (ga_XS hK ga_P0 (hD.sub (ws' := []) [] (by decide) rfl).self (fun _ hq => Or.inr hq) (hST.at hS hFc)) rfl rfl hl.1 rfl (lv_room (Nat.le_of_ble_eq_true rfl)) dX12_read_37 ⟨(show kc + 5 + 0 ≤ 600 by omega), (show ks + 128 + 0 ≤ 20000 by omega)⟩) hS (fun q _ hq => hFc q hq) hFc (fun u_174 a_175 t H_173 locs ht _ w_172 hB _ hk hS => ?_)
          obtain rfl := w_172
          obtain ⟨ea, hP1, -, hD1⟩ := hB
          subst ea
          rw [ht] at hP1
          obtain ⟨hP, hD⟩ := va_join (wr := [(cl, .inr (6, [.int r_140.2.1, .ref (u_145.2.1 0), .int r_140.2.2.1])), ((u_145.2.1 0), .inl (cA 5, r_140.2.2.2, .inr (.inr (.inr (.inr (ga_il zs (upd k2 k3 v_129.1) (k3 + 1))))))), (rd, .inr (7, [.int v_165.2, .ref cl, .ref x])), (x, .inr (1, [.ref g, xs, xp, .ref xi, .int xl, xr, xq])), (g, .inr (2, [.ref sh, .ref al, .int gr, .ref g_b, .ref g_t])), (sh, .inr (4, [.int zw, .int zh, .long zA, .long zL, .long zR, .long zE])), (xi, .inl (cA 2, 80, .inl xI))]) (w1 := []) hP hD [] [0, 1, 2, 3, 4, 5, 6] rfl rfl (by decide) (by decide) hk hFc hP1 hD1
          have hP : va_P D ga_cl [(cl, .inr (6, [.int r_140.2.1, .ref (u_145.2.1 0), .int r_140.2.2.1])), ((u_145.2.1 0), .inl (cA 5, r_140.2.2.2, .inr (.inr (.inr (.inr (ga_il zs (upd k2 k3 v_129.1) (k3 + 1))))))), (rd, .inr (7, [.int v_165.2, .ref cl, .ref x])), (x, .inr (1, [.ref g, xs, xp, .ref xi, .int xl, xr, xq])), (g, .inr (2, [.ref sh, .ref al, .int gr, .ref g_b, .ref g_t])), (sh, .inr (4, [.int zw, .int zh, .long zA, .long zL, .long zR, .long zE])), (xi, .inl (cA 2, 80, .inl xI))] H_173 := hP
          have hD : va_D A [(cl, .inr (6, [.int r_140.2.1, .ref (u_145.2.1 0), .int r_140.2.2.1])), ((u_145.2.1 0), .inl (cA 5, r_140.2.2.2, .inr (.inr (.inr (.inr (ga_il zs (upd k2 k3 v_129.1) (k3 + 1))))))), (rd, .inr (7, [.int v_165.2, .ref cl, .ref x])), (x, .inr (1, [.ref g, xs, xp, .ref xi, .int xl, xr, xq])), (g, .inr (2, [.ref sh, .ref al, .int gr, .ref g_b, .ref g_t])), (sh, .inr (4, [.int zw, .int zh, .long zA, .long zL, .long zR, .long zE])), (xi, .inl (cA 2, 80, .inl xI))] := hD
          obtain ⟨r_176, e_177, h⟩ := ga_gb h
          have hFc := va_free (wc := [(cl, .inr (6, [.int r_140.2.1, .ref (u_145.2.1 0), .int r_140.2.2.1])), ((u_145.2.1 0), .inl (cA 5, r_140.2.2.2, .inr (.inr (.inr (.inr (ga_il zs (upd k2 k3 v_129.1) (k3 + 1)))))))]) hD hS hA [0, 1] rfl
          refine va_calli (va_runV (As := [.ref (ga_iv zs v_165.1)]) (rest := []) ⟨hx, hb, hml, hown, hts⟩ (met_J2_add l D cA (va_A [(cl, .inr (6, [.int r_140.2.1, .ref (u_145.2.1 0), .int r_140.2.2.1])), ((u_145.2.1 0), .inl (cA 5, r_140.2.2.2, .inr (.inr (.inr (.inr (ga_il zs (upd k2 k3 v_129.1) (k3 + 1)))))))] H_173.size) cl (u_145.2.1 0) (ga_il zs (upd k2 k3 v_129.1) (k3 + 1)) ("java/lang/Integer") (ga_iv zs v_165.1) zs r_140.2.1 r_140.2.2.1 r_140.2.2.2 N q1914 r_176 e_177) (cwV 1 hts (lw_V q1207 q259 q260 q71 q261) rfl rfl rfl (by decide +kernel) ⟨Nat.le_of_ble_eq_true rfl, Nat.le_of_ble_eq_true rfl⟩) (ga_XRV ga_eaK ⟨ga_ilel (hST.at hS hFc).2.2.2.2.2.2.2.1, ga_ivO (hST.at hS hFc).2.2.2.2.2.2.2.1⟩ hK (hP.sub (ws' := [(cl, .inr (6, [.int r_140.2.1, .ref (u_145.2.1 0), .int r_140.2.2.1])), ((u_145.2.1 0), .inl (cA 5, r_140.2.2.2, .inr (.inr (.inr (.inr (ga_il zs (upd k2 k3 v_129.1) (k3 + 1)))))))]) [0, 1] rfl) (hD.sub (ws' := [(cl, .inr (6, [.int r_140.2.1, .ref (u_145.2.1 0), .int r_140.2.2.1])), ((u_145.2.1 0), .inl (cA 5, r_140.2.2.2, .inr (.inr (.inr (.inr (ga_il zs (upd k2 k3 v_129.1) (k3 + 1)))))))]) [0, 1] (by decide) rfl).self (fun _ hq => Or.inr hq) (hST.at hS hFc) (va_recv hK.1 hP (ci := 6) (q0 := 0) rfl rfl)) rfl rfl hl.1 rfl (lv_room (Nat.le_of_ble_eq_true rfl)) dX12_read_40 ⟨(show kc + 5 + 1 ≤ 600 by omega), (show ks + 128 + 100 ≤ 20000 by omega)⟩) hS (fun q _ hq => hFc q hq) hFc (fun z_178 u_181 t H_180 locs ht _ w_179 hB _ hk hS => ?_)
          obtain ⟨hP1, -, hD1, f_182, f_183, f_184⟩ := hB
          obtain ⟨⟨rfl, b_185⟩, w_179⟩ := w_179
          rw [show u_181.1 = r_176.2 from w_179.symm] at hP1 hD1
          have f_186 : (u_181.2.2 0) (ix r_140.2.2.1) = some (ga_iv zs v_165.1) := by first | exact f_182 | (rw [show u_181.1 = r_176.2 from w_179.symm] at f_182; exact f_182)
          have f_187 : ∀ j : Nat, j < r_140.2.2.2 → j ≠ ix r_140.2.2.1 → (u_181.2.2 0) j = (ga_il zs (upd k2 k3 v_129.1) (k3 + 1)) j := by first | exact f_183 | (rw [show u_181.1 = r_176.2 from w_179.symm] at f_183; exact f_183)
          have f_188 : ∀ (j y : Nat), j ≠ ix r_140.2.2.1 → (u_181.2.2 0) j = some y → (ga_il zs (upd k2 k3 v_129.1) (k3 + 1)) j = some y := by first | exact f_184 | (rw [show u_181.1 = r_176.2 from w_179.symm] at f_184; exact f_184)
          rw [ht] at hP1
          obtain ⟨hP, hD⟩ := va_join (wr := [(rd, .inr (7, [.int v_165.2, .ref cl, .ref x])), (x, .inr (1, [.ref g, xs, xp, .ref xi, .int xl, xr, xq])), (g, .inr (2, [.ref sh, .ref al, .int gr, .ref g_b, .ref g_t])), (sh, .inr (4, [.int zw, .int zh, .long zA, .long zL, .long zR, .long zE])), (xi, .inl (cA 2, 80, .inl xI))]) (w1 := [(cl, .inr (6, [.int r_176.2.1, .ref (u_181.2.1 0), .int r_176.2.2.1])), ((u_181.2.1 0), .inl (cA 5, r_176.2.2.2, .inr (.inr (.inr (.inr (u_181.2.2 0))))))]) hP hD [0, 1] [2, 3, 4, 5, 6] rfl rfl (by decide) (by decide) hk hFc hP1 hD1
          have hP : va_P D ga_cl [(rd, .inr (7, [.int v_165.2, .ref cl, .ref x])), (x, .inr (1, [.ref g, xs, xp, .ref xi, .int xl, xr, xq])), (g, .inr (2, [.ref sh, .ref al, .int gr, .ref g_b, .ref g_t])), (sh, .inr (4, [.int zw, .int zh, .long zA, .long zL, .long zR, .long zE])), (xi, .inl (cA 2, 80, .inl xI)), (cl, .inr (6, [.int r_176.2.1, .ref (u_181.2.1 0), .int r_176.2.2.1])), ((u_181.2.1 0), .inl (cA 5, r_176.2.2.2, .inr (.inr (.inr (.inr (u_181.2.2 0))))))] H_180 := hP
          have hD : va_D A [(rd, .inr (7, [.int v_165.2, .ref cl, .ref x])), (x, .inr (1, [.ref g, xs, xp, .ref xi, .int xl, xr, xq])), (g, .inr (2, [.ref sh, .ref al, .int gr, .ref g_b, .ref g_t])), (sh, .inr (4, [.int zw, .int zh, .long zA, .long zL, .long zR, .long zE])), (xi, .inl (cA 2, 80, .inl xI)), (cl, .inr (6, [.int r_176.2.1, .ref (u_181.2.1 0), .int r_176.2.2.1])), ((u_181.2.1 0), .inl (cA 5, r_176.2.2.2, .inr (.inr (.inr (.inr (u_181.2.2 0))))))] := hD
          obtain ⟨⟨lg_189, lg_190⟩, h⟩ := ga_gif h
          replace hP := ga_cong (g := (ga_il zs (upd (upd k2 k3 v_129.1) (k3 + 1) v_165.1) ((k3 + 1) + 1))) hP (i := 6) rfl (ga_ilnS f_186 f_187 f_188 lg_189 lg_190)
          replace hD := hD.set (p := 6) (e := .inl (cA 5, r_176.2.2.2, .inr (.inr (.inr (.inr (ga_il zs (upd (upd k2 k3 v_129.1) (k3 + 1) v_165.1) ((k3 + 1) + 1))))))) rfl
          have hP : va_P D ga_cl [(rd, .inr (7, [.int v_165.2, .ref cl, .ref x])), (x, .inr (1, [.ref g, xs, xp, .ref xi, .int xl, xr, xq])), (g, .inr (2, [.ref sh, .ref al, .int gr, .ref g_b, .ref g_t])), (sh, .inr (4, [.int zw, .int zh, .long zA, .long zL, .long zR, .long zE])), (xi, .inl (cA 2, 80, .inl xI)), (cl, .inr (6, [.int r_176.2.1, .ref (u_181.2.1 0), .int r_176.2.2.1])), ((u_181.2.1 0), .inl (cA 5, r_176.2.2.2, .inr (.inr (.inr (.inr (ga_il zs (upd (upd k2 k3 v_129.1) (k3 + 1) v_165.1) ((k3 + 1) + 1)))))))] H_180 := hP
          have hD : va_D A [(rd, .inr (7, [.int v_165.2, .ref cl, .ref x])), (x, .inr (1, [.ref g, xs, xp, .ref xi, .int xl, xr, xq])), (g, .inr (2, [.ref sh, .ref al, .int gr, .ref g_b, .ref g_t])), (sh, .inr (4, [.int zw, .int zh, .long zA, .long zL, .long zR, .long zE])), (xi, .inl (cA 2, 80, .inl xI)), (cl, .inr (6, [.int r_176.2.1, .ref (u_181.2.1 0), .int r_176.2.2.1])), ((u_181.2.1 0), .inl (cA 5, r_176.2.2.2, .inr (.inr (.inr (.inr (ga_il zs (upd (upd k2 k3 v_129.1) (k3 + 1) v_165.1) ((k3 + 1) + 1)))))))] := hD
          refine W.cs (cells' := kc + 6) (slots' := ks + 228) (by omega) (by omega) ?_
          refine lv_istore_n (lv' := [(1, .int r_176.1), (0, .ref rd)]) hx hb dX12_read_43 rfl hl (by decide) rfl (fun ls hl => ?_)
          refine lv_aload_n hx hb dX12_read_44 rfl (lv_at hl 1 rfl) ?_
          refine lv_aload_n hx hb dX12_read_45 rfl (lv_at hl 1 rfl) ?_
          obtain ⟨r_191, e_192, h⟩ := ga_gb h
          refine vp_callSi (va_Run.run (va_runV (As := []) (rest := [.ref rd]) ⟨hx, hb, hml, hown, hts⟩ (met_X12_next l D cA rd cl x g xs xp xi xr xq v_165.2 xl xI N r_191 e_192) (cwV 0 hts (lw_V q1155 q1157 qs24 q100 q1158) rfl rfl rfl (by decide +kernel) ⟨Nat.le_of_ble_eq_true rfl, Nat.le_of_ble_eq_true rfl⟩) (ga_PV hK (hP.sub (ws' := [(rd, .inr (7, [.int v_165.2, .ref cl, .ref x])), (x, .inr (1, [.ref g, xs, xp, .ref xi, .int xl, xr, xq])), (xi, .inl (cA 2, 80, .inl xI))]) [0, 1, 4] rfl) (va_recv hK.1 hP (ci := 7) (q0 := 0) rfl rfl)) rfl rfl hl.1 rfl (lv_room (Nat.le_of_ble_eq_true rfl)) dX12_read_46 ⟨(show kc + 6 + 0 ≤ 600 by omega), (show ks + 228 + 0 ≤ 20000 by omega)⟩)) (fun z_193 w_194 => ?_)
          obtain rfl := w_194
          refine lv_bipush (v := 59) hx hb dX12_read_49 (by decide) ?_
          refine lv_icmp_ne (tgt := 58) hx hb dX12_read_51 (by decide) (fun c_196 => ?_) (fun c_196 => ?_)
          · replace h := ga_iff c_196 h
            refine lv_iconst (v := 0) hx hb dX12_read_58 (by decide) ?_
            obtain ⟨r_197, e_198, h⟩ := ga_gb h
            have hFc := va_free (wc := [(rd, .inr (7, [.int v_165.2, .ref cl, .ref x]))]) hD hS hA [0] rfl
            refine vx_callv (vx_runV (As := [.int 0]) (rest := []) ⟨hx, hb, hml, hown, hts⟩ (met_X12_need l D cA (va_A [(rd, .inr (7, [.int v_165.2, .ref cl, .ref x]))] H_180.size) rd cl x zs v_165.2 N 0 hX.2 r_197 e_198) (cwV 1 hts (lw_V q1164 q1166 qs26 q100 q1167) rfl rfl rfl (by decide +kernel) ⟨Nat.le_of_ble_eq_true rfl, Nat.le_of_ble_eq_true rfl⟩) (ga_XV hK (hP.sub (ws' := [(rd, .inr (7, [.int v_165.2, .ref cl, .ref x]))]) [0] rfl) (hD.sub (ws' := [(rd, .inr (7, [.int v_165.2, .ref cl, .ref x]))]) [0] (by decide) rfl).self (fun _ hq => Or.inr hq) (hST.at hS hFc) (va_recv hK.1 hP (ci := 7) (q0 := 0) rfl rfl)) rfl rfl hl.1 rfl (lv_room (Nat.le_of_ble_eq_true rfl)) dX12_read_59 ⟨(show kc + 6 + 1 ≤ 600 by omega), (show ks + 228 + 7 ≤ 20000 by omega)⟩) hS (fun q _ hq => hFc q hq) hFc (fun q _ hq => hFc q hq) (fun E_204 ce q_205 u_206 t H_203 locs ht _ w_200 hB _ hk hS hce hcv hcl => ?_) (fun u_202 t H_201 locs ht _ w_200 hB _ hk hS => ?_)
            · obtain ⟨u_202, n_208⟩ := u_206
              replace h := ga_swr w_200 h
              obtain ⟨eE, hP1, hD1, hM1⟩ := hB
              rw [ht] at hP1 hM1
              have eE : E_204 = ga_en u_202.1 := eE
              have hP1 : va_P D ga_cl (if u_202.1 = 9 then [(q_205, .inr (14, [.null, .null, .null, .null, .null, .int 0, .int (u_202.2 0)]))] else [(rd, .inr (7, [.int v_165.2, .ref cl, .ref x]))]) H_203 := hP1
              have hD1 : va_D _ (if u_202.1 = 9 then [(q_205, .inr (14, [.null, .null, .null, .null, .null, .int 0, .int (u_202.2 0)]))] else [(rd, .inr (7, [.int v_165.2, .ref cl, .ref x]))]) := hD1
              have hM1 : ∀ a ∈ (if u_202.1 = 9 then ([] : List Nat) else ([] : List Nat)), ga_M a H_203 := hM1
              by_cases c_209 : u_202.1 = 9
              · replace h := ga_ift c_209 h
                have eE : E_204 = "EnclosureReferee$TextException" := by rw [eE, c_209]; rfl
                subst eE
                rw [c_209, if_pos rfl] at hP1 hD1 hM1
                obtain ⟨hP, hD⟩ := va_join (wr := [(x, .inr (1, [.ref g, xs, xp, .ref xi, .int xl, xr, xq])), (g, .inr (2, [.ref sh, .ref al, .int gr, .ref g_b, .ref g_t])), (sh, .inr (4, [.int zw, .int zh, .long zA, .long zL, .long zR, .long zE])), (xi, .inl (cA 2, 80, .inl xI)), (cl, .inr (6, [.int r_176.2.1, .ref (u_181.2.1 0), .int r_176.2.2.1])), ((u_181.2.1 0), .inl (cA 5, r_176.2.2.2, .inr (.inr (.inr (.inr (ga_il zs (upd (upd k2 k3 v_129.1) (k3 + 1) v_165.1) ((k3 + 1) + 1)))))))]) (w1 := [(q_205, .inr (14, [.null, .null, .null, .null, .null, .int 0, .int (u_202.2 0)]))]) hP hD [0] [1, 2, 3, 4, 5, 6] rfl rfl (by decide) (by decide) hk hFc hP1 hD1
                have hP : va_P D ga_cl [(x, .inr (1, [.ref g, xs, xp, .ref xi, .int xl, xr, xq])), (g, .inr (2, [.ref sh, .ref al, .int gr, .ref g_b, .ref g_t])), (sh, .inr (4, [.int zw, .int zh, .long zA, .long zL, .long zR, .long zE])), (xi, .inl (cA 2, 80, .inl xI)), (cl, .inr (6, [.int r_176.2.1, .ref (u_181.2.1 0), .int r_176.2.2.1])), ((u_181.2.1 0), .inl (cA 5, r_176.2.2.2, .inr (.inr (.inr (.inr (ga_il zs (upd (upd k2 k3 v_129.1) (k3 + 1) v_165.1) ((k3 + 1) + 1))))))), (q_205, .inr (14, [.null, .null, .null, .null, .null, .int 0, .int (u_202.2 0)]))] H_203 := hP
                have hD : va_D A [(x, .inr (1, [.ref g, xs, xp, .ref xi, .int xl, xr, xq])), (g, .inr (2, [.ref sh, .ref al, .int gr, .ref g_b, .ref g_t])), (sh, .inr (4, [.int zw, .int zh, .long zA, .long zL, .long zR, .long zE])), (xi, .inl (cA 2, 80, .inl xI)), (cl, .inr (6, [.int r_176.2.1, .ref (u_181.2.1 0), .int r_176.2.2.1])), ((u_181.2.1 0), .inl (cA 5, r_176.2.2.2, .inr (.inr (.inr (.inr (ga_il zs (upd (upd k2 k3 v_129.1) (k3 + 1) v_165.1) ((k3 + 1) + 1))))))), (q_205, .inr (14, [.null, .null, .null, .null, .null, .int 0, .int (u_202.2 0)]))] := hD
                have hP9 := hP.sub (ws' := [(x, .inr (1, [.ref g, xs, xp, .ref xi, .int xl, xr, xq])), (g, .inr (2, [.ref sh, .ref al, .int gr, .ref g_b, .ref g_t])), (sh, .inr (4, [.int zw, .int zh, .long zA, .long zL, .long zR, .long zE])), (xi, .inl (cA 2, 80, .inl xI)), (q_205, .inr (14, [.null, .null, .null, .null, .null, .int 0, .int (u_202.2 0)]))]) [0, 1, 2, 3, 6] rfl
                have hD9 := hD.sub (ws' := [(x, .inr (1, [.ref g, xs, xp, .ref xi, .int xl, xr, xq])), (g, .inr (2, [.ref sh, .ref al, .int gr, .ref g_b, .ref g_t])), (sh, .inr (4, [.int zw, .int zh, .long zA, .long zL, .long zR, .long zE])), (xi, .inl (cA 2, 80, .inl xI)), (q_205, .inr (14, [.null, .null, .null, .null, .null, .int 0, .int (u_202.2 0)]))]) [0, 1, 2, 3, 6] (by decide) rfl
                have hM9 : (∀ a ∈ ([] : List Nat), ga_M a H_203) := (fun _ hz => nomatch hz)
                obtain rfl := Option.some.inj h
                exact vx_outP hown hlocks (fun x hx9 => (hX.1 x hx9).elim) hce hcv hcl (fun t ht _ => ⟨((9, ga_xd [(u_202.2 0)]), ga_ad []), rfl, ⟨rfl, by rw [ht]; exact hP9, hD9, by rw [ht]; exact hM9⟩, hS.F ht⟩) hS.2.2 (by omega) (by omega)
              · replace h := ga_iff c_209 h
                cases h
            · obtain ⟨v_207, ev_207, hv9⟩ := w_200
              replace h := ga_swl ev_207 h
              obtain rfl := hv9
              obtain ⟨hP1, -, hD1⟩ := hB
              rw [ht] at hP1
              obtain ⟨hP, hD⟩ := va_join (wr := [(x, .inr (1, [.ref g, xs, xp, .ref xi, .int xl, xr, xq])), (g, .inr (2, [.ref sh, .ref al, .int gr, .ref g_b, .ref g_t])), (sh, .inr (4, [.int zw, .int zh, .long zA, .long zL, .long zR, .long zE])), (xi, .inl (cA 2, 80, .inl xI)), (cl, .inr (6, [.int r_176.2.1, .ref (u_181.2.1 0), .int r_176.2.2.1])), ((u_181.2.1 0), .inl (cA 5, r_176.2.2.2, .inr (.inr (.inr (.inr (ga_il zs (upd (upd k2 k3 v_129.1) (k3 + 1) v_165.1) ((k3 + 1) + 1)))))))]) (w1 := [(rd, .inr (7, [.int v_165.2, .ref cl, .ref x]))]) hP hD [0] [1, 2, 3, 4, 5, 6] rfl rfl (by decide) (by decide) hk hFc hP1 hD1
              have hP : va_P D ga_cl [(x, .inr (1, [.ref g, xs, xp, .ref xi, .int xl, xr, xq])), (g, .inr (2, [.ref sh, .ref al, .int gr, .ref g_b, .ref g_t])), (sh, .inr (4, [.int zw, .int zh, .long zA, .long zL, .long zR, .long zE])), (xi, .inl (cA 2, 80, .inl xI)), (cl, .inr (6, [.int r_176.2.1, .ref (u_181.2.1 0), .int r_176.2.2.1])), ((u_181.2.1 0), .inl (cA 5, r_176.2.2.2, .inr (.inr (.inr (.inr (ga_il zs (upd (upd k2 k3 v_129.1) (k3 + 1) v_165.1) ((k3 + 1) + 1))))))), (rd, .inr (7, [.int v_165.2, .ref cl, .ref x]))] H_201 := hP
              have hD : va_D A [(x, .inr (1, [.ref g, xs, xp, .ref xi, .int xl, xr, xq])), (g, .inr (2, [.ref sh, .ref al, .int gr, .ref g_b, .ref g_t])), (sh, .inr (4, [.int zw, .int zh, .long zA, .long zL, .long zR, .long zE])), (xi, .inl (cA 2, 80, .inl xI)), (cl, .inr (6, [.int r_176.2.1, .ref (u_181.2.1 0), .int r_176.2.2.1])), ((u_181.2.1 0), .inl (cA 5, r_176.2.2.2, .inr (.inr (.inr (.inr (ga_il zs (upd (upd k2 k3 v_129.1) (k3 + 1) v_165.1) ((k3 + 1) + 1))))))), (rd, .inr (7, [.int v_165.2, .ref cl, .ref x]))] := hD
              refine W.cs (cells' := kc + 7) (slots' := ks + 235) (by omega) (by omega) ?_
              refine lv_aload_n hx hb dX12_read_62 rfl (lv_at hl 1 rfl) ?_
              obtain ⟨r_211, e_212, h⟩ := ga_gb h
              have hFc := va_free (wc := [(rd, .inr (7, [.int v_165.2, .ref cl, .ref x]))]) hD hS hA [6] rfl
              refine va_callv (va_runV (As := []) (rest := []) ⟨hx, hb, hml, hown, hts⟩ (met_X12_take l D cA (va_A [(rd, .inr (7, [.int v_165.2, .ref cl, .ref x]))] H_201.size) rd cl x v_165.2 N r_211 e_212) (cwV 0 hts (lw_V q1159 q1161 qs25 q100 q1162) rfl rfl rfl (by decide +kernel) ⟨Nat.le_of_ble_eq_true rfl, Nat.le_of_ble_eq_true rfl⟩) (ga_LV hK (hP.sub (ws' := [(rd, .inr (7, [.int v_165.2, .ref cl, .ref x]))]) [6] rfl) (hD.sub (ws' := [(rd, .inr (7, [.int v_165.2, .ref cl, .ref x]))]) [6] (by decide) rfl).self (fun _ hq => Or.inr hq) (va_recv hK.1 hP (ci := 7) (q0 := 6) rfl rfl)) rfl rfl hl.1 rfl (lv_room (Nat.le_of_ble_eq_true rfl)) dX12_read_63 ⟨(show kc + 7 + 0 ≤ 600 by omega), (show ks + 235 + 0 ≤ 20000 by omega)⟩) hS (fun q _ hq => hFc q hq) hFc (fun u_216 t H_215 locs ht _ w_214 hB _ hk hS => ?_)
              obtain ⟨hP1, -, hD1⟩ := hB
              obtain rfl := w_214
              rw [ht] at hP1
              obtain ⟨hP, hD⟩ := va_join (wr := [(x, .inr (1, [.ref g, xs, xp, .ref xi, .int xl, xr, xq])), (g, .inr (2, [.ref sh, .ref al, .int gr, .ref g_b, .ref g_t])), (sh, .inr (4, [.int zw, .int zh, .long zA, .long zL, .long zR, .long zE])), (xi, .inl (cA 2, 80, .inl xI)), (cl, .inr (6, [.int r_176.2.1, .ref (u_181.2.1 0), .int r_176.2.2.1])), ((u_181.2.1 0), .inl (cA 5, r_176.2.2.2, .inr (.inr (.inr (.inr (ga_il zs (upd (upd k2 k3 v_129.1) (k3 + 1) v_165.1) ((k3 + 1) + 1)))))))]) (w1 := [(rd, .inr (7, [.int r_211, .ref cl, .ref x]))]) hP hD [6] [0, 1, 2, 3, 4, 5] rfl rfl (by decide) (by decide) hk hFc hP1 hD1
              have hP : va_P D ga_cl [(x, .inr (1, [.ref g, xs, xp, .ref xi, .int xl, xr, xq])), (g, .inr (2, [.ref sh, .ref al, .int gr, .ref g_b, .ref g_t])), (sh, .inr (4, [.int zw, .int zh, .long zA, .long zL, .long zR, .long zE])), (xi, .inl (cA 2, 80, .inl xI)), (cl, .inr (6, [.int r_176.2.1, .ref (u_181.2.1 0), .int r_176.2.2.1])), ((u_181.2.1 0), .inl (cA 5, r_176.2.2.2, .inr (.inr (.inr (.inr (ga_il zs (upd (upd k2 k3 v_129.1) (k3 + 1) v_165.1) ((k3 + 1) + 1))))))), (rd, .inr (7, [.int r_211, .ref cl, .ref x]))] H_215 := hP
              have hD : va_D A [(x, .inr (1, [.ref g, xs, xp, .ref xi, .int xl, xr, xq])), (g, .inr (2, [.ref sh, .ref al, .int gr, .ref g_b, .ref g_t])), (sh, .inr (4, [.int zw, .int zh, .long zA, .long zL, .long zR, .long zE])), (xi, .inl (cA 2, 80, .inl xI)), (cl, .inr (6, [.int r_176.2.1, .ref (u_181.2.1 0), .int r_176.2.2.1])), ((u_181.2.1 0), .inl (cA 5, r_176.2.2.2, .inr (.inr (.inr (.inr (ga_il zs (upd (upd k2 k3 v_129.1) (k3 + 1) v_165.1) ((k3 + 1) + 1))))))), (rd, .inr (7, [.int r_211, .ref cl, .ref x]))] := hD
              refine lv_goto (tgt := 0) hx hb dX12_read_66 (by decide) ?_
              obtain ⟨hix9, h⟩ := ga_gif h
              exact ih (kc + 7) (ks + 235) (u_181.2.1 0) r_176.2.1 r_176.2.2.1 (upd (upd k2 k3 v_129.1) (k3 + 1) v_165.1) ((k3 + 1) + 1) r_176.2.2.2 r_211 (show kc + 7 + 7 * (81 - ix r_211) ≤ 600 by omega) (show ks + 235 + 235 * (81 - ix r_211) ≤ 20000 by omega) h _ _ (hP.sub [0, 1, 2, 3, 4, 5, 6] rfl) (hD.sub [0, 1, 2, 3, 4, 5, 6] (by decide) rfl) hS _ (lv_sub hl [1] rfl)
          · replace h := ga_ift c_196 h
            refine lv_iconst (v := 1) hx hb dX12_read_54 (by decide) ?_
            refine lv_goto (tgt := 59) hx hb dX12_read_55 (by decide) ?_
            obtain ⟨r_218, e_219, h⟩ := ga_gb h
            have hFc := va_free (wc := [(rd, .inr (7, [.int v_165.2, .ref cl, .ref x]))]) hD hS hA [0] rfl
            refine vx_callv (vx_runV (As := [.int 1]) (rest := []) ⟨hx, hb, hml, hown, hts⟩ (met_X12_need l D cA (va_A [(rd, .inr (7, [.int v_165.2, .ref cl, .ref x]))] H_180.size) rd cl x zs v_165.2 N 1 hX.2 r_218 e_219) (cwV 1 hts (lw_V q1164 q1166 qs26 q100 q1167) rfl rfl rfl (by decide +kernel) ⟨Nat.le_of_ble_eq_true rfl, Nat.le_of_ble_eq_true rfl⟩) (ga_XV hK (hP.sub (ws' := [(rd, .inr (7, [.int v_165.2, .ref cl, .ref x]))]) [0] rfl) (hD.sub (ws' := [(rd, .inr (7, [.int v_165.2, .ref cl, .ref x]))]) [0] (by decide) rfl).self (fun _ hq => Or.inr hq) (hST.at hS hFc) (va_recv hK.1 hP (ci := 7) (q0 := 0) rfl rfl)) rfl rfl hl.1 rfl (lv_room (Nat.le_of_ble_eq_true rfl)) dX12_read_59 ⟨(show kc + 6 + 1 ≤ 600 by omega), (show ks + 228 + 7 ≤ 20000 by omega)⟩) hS (fun q _ hq => hFc q hq) hFc (fun q _ hq => hFc q hq) (fun E_225 ce q_226 u_227 t H_224 locs ht _ w_221 hB _ hk hS hce hcv hcl => ?_) (fun u_223 t H_222 locs ht _ w_221 hB _ hk hS => ?_)
            · obtain ⟨u_223, n_229⟩ := u_227
              replace h := ga_swr w_221 h
              obtain ⟨eE, hP1, hD1, hM1⟩ := hB
              rw [ht] at hP1 hM1
              have eE : E_225 = ga_en u_223.1 := eE
              have hP1 : va_P D ga_cl (if u_223.1 = 9 then [(q_226, .inr (14, [.null, .null, .null, .null, .null, .int 0, .int (u_223.2 0)]))] else [(rd, .inr (7, [.int v_165.2, .ref cl, .ref x]))]) H_224 := hP1
              have hD1 : va_D _ (if u_223.1 = 9 then [(q_226, .inr (14, [.null, .null, .null, .null, .null, .int 0, .int (u_223.2 0)]))] else [(rd, .inr (7, [.int v_165.2, .ref cl, .ref x]))]) := hD1
              have hM1 : ∀ a ∈ (if u_223.1 = 9 then ([] : List Nat) else ([] : List Nat)), ga_M a H_224 := hM1
              by_cases c_230 : u_223.1 = 9
              · replace h := ga_ift c_230 h
                have eE : E_225 = "EnclosureReferee$TextException" := by rw [eE, c_230]; rfl
                subst eE
                rw [c_230, if_pos rfl] at hP1 hD1 hM1
                obtain ⟨hP, hD⟩ := va_join (wr := [(x, .inr (1, [.ref g, xs, xp, .ref xi, .int xl, xr, xq])), (g, .inr (2, [.ref sh, .ref al, .int gr, .ref g_b, .ref g_t])), (sh, .inr (4, [.int zw, .int zh, .long zA, .long zL, .long zR, .long zE])), (xi, .inl (cA 2, 80, .inl xI)), (cl, .inr (6, [.int r_176.2.1, .ref (u_181.2.1 0), .int r_176.2.2.1])), ((u_181.2.1 0), .inl (cA 5, r_176.2.2.2, .inr (.inr (.inr (.inr (ga_il zs (upd (upd k2 k3 v_129.1) (k3 + 1) v_165.1) ((k3 + 1) + 1)))))))]) (w1 := [(q_226, .inr (14, [.null, .null, .null, .null, .null, .int 0, .int (u_223.2 0)]))]) hP hD [0] [1, 2, 3, 4, 5, 6] rfl rfl (by decide) (by decide) hk hFc hP1 hD1
                have hP : va_P D ga_cl [(x, .inr (1, [.ref g, xs, xp, .ref xi, .int xl, xr, xq])), (g, .inr (2, [.ref sh, .ref al, .int gr, .ref g_b, .ref g_t])), (sh, .inr (4, [.int zw, .int zh, .long zA, .long zL, .long zR, .long zE])), (xi, .inl (cA 2, 80, .inl xI)), (cl, .inr (6, [.int r_176.2.1, .ref (u_181.2.1 0), .int r_176.2.2.1])), ((u_181.2.1 0), .inl (cA 5, r_176.2.2.2, .inr (.inr (.inr (.inr (ga_il zs (upd (upd k2 k3 v_129.1) (k3 + 1) v_165.1) ((k3 + 1) + 1))))))), (q_226, .inr (14, [.null, .null, .null, .null, .null, .int 0, .int (u_223.2 0)]))] H_224 := hP
                have hD : va_D A [(x, .inr (1, [.ref g, xs, xp, .ref xi, .int xl, xr, xq])), (g, .inr (2, [.ref sh, .ref al, .int gr, .ref g_b, .ref g_t])), (sh, .inr (4, [.int zw, .int zh, .long zA, .long zL, .long zR, .long zE])), (xi, .inl (cA 2, 80, .inl xI)), (cl, .inr (6, [.int r_176.2.1, .ref (u_181.2.1 0), .int r_176.2.2.1])), ((u_181.2.1 0), .inl (cA 5, r_176.2.2.2, .inr (.inr (.inr (.inr (ga_il zs (upd (upd k2 k3 v_129.1) (k3 + 1) v_165.1) ((k3 + 1) + 1))))))), (q_226, .inr (14, [.null, .null, .null, .null, .null, .int 0, .int (u_223.2 0)]))] := hD
                have hP9 := hP.sub (ws' := [(x, .inr (1, [.ref g, xs, xp, .ref xi, .int xl, xr, xq])), (g, .inr (2, [.ref sh, .ref al, .int gr, .ref g_b, .ref g_t])), (sh, .inr (4, [.int zw, .int zh, .long zA, .long zL, .long zR, .long zE])), (xi, .inl (cA 2, 80, .inl xI)), (q_226, .inr (14, [.null, .null, .null, .null, .null, .int 0, .int (u_223.2 0)]))]) [0, 1, 2, 3, 6] rfl
                have hD9 := hD.sub (ws' := [(x, .inr (1, [.ref g, xs, xp, .ref xi, .int xl, xr, xq])), (g, .inr (2, [.ref sh, .ref al, .int gr, .ref g_b, .ref g_t])), (sh, .inr (4, [.int zw, .int zh, .long zA, .long zL, .long zR, .long zE])), (xi, .inl (cA 2, 80, .inl xI)), (q_226, .inr (14, [.null, .null, .null, .null, .null, .int 0, .int (u_223.2 0)]))]) [0, 1, 2, 3, 6] (by decide) rfl
                have hM9 : (∀ a ∈ ([] : List Nat), ga_M a H_224) := (fun _ hz => nomatch hz)
                obtain rfl := Option.some.inj h
                exact vx_outP hown hlocks (fun x hx9 => (hX.1 x hx9).elim) hce hcv hcl (fun t ht _ => ⟨((9, ga_xd [(u_223.2 0)]), ga_ad []), rfl, ⟨rfl, by rw [ht]; exact hP9, hD9, by rw [ht]; exact hM9⟩, hS.F ht⟩) hS.2.2 (by omega) (by omega)
              · replace h := ga_iff c_230 h
                cases h
            · obtain ⟨v_228, ev_228, hv9⟩ := w_221
              replace h := ga_swl ev_228 h
              obtain rfl := hv9
              obtain ⟨hP1, -, hD1⟩ := hB
              rw [ht] at hP1
              obtain ⟨hP, hD⟩ := va_join (wr := [(x, .inr (1, [.ref g, xs, xp, .ref xi, .int xl, xr, xq])), (g, .inr (2, [.ref sh, .ref al, .int gr, .ref g_b, .ref g_t])), (sh, .inr (4, [.int zw, .int zh, .long zA, .long zL, .long zR, .long zE])), (xi, .inl (cA 2, 80, .inl xI)), (cl, .inr (6, [.int r_176.2.1, .ref (u_181.2.1 0), .int r_176.2.2.1])), ((u_181.2.1 0), .inl (cA 5, r_176.2.2.2, .inr (.inr (.inr (.inr (ga_il zs (upd (upd k2 k3 v_129.1) (k3 + 1) v_165.1) ((k3 + 1) + 1)))))))]) (w1 := [(rd, .inr (7, [.int v_165.2, .ref cl, .ref x]))]) hP hD [0] [1, 2, 3, 4, 5, 6] rfl rfl (by decide) (by decide) hk hFc hP1 hD1
              have hP : va_P D ga_cl [(x, .inr (1, [.ref g, xs, xp, .ref xi, .int xl, xr, xq])), (g, .inr (2, [.ref sh, .ref al, .int gr, .ref g_b, .ref g_t])), (sh, .inr (4, [.int zw, .int zh, .long zA, .long zL, .long zR, .long zE])), (xi, .inl (cA 2, 80, .inl xI)), (cl, .inr (6, [.int r_176.2.1, .ref (u_181.2.1 0), .int r_176.2.2.1])), ((u_181.2.1 0), .inl (cA 5, r_176.2.2.2, .inr (.inr (.inr (.inr (ga_il zs (upd (upd k2 k3 v_129.1) (k3 + 1) v_165.1) ((k3 + 1) + 1))))))), (rd, .inr (7, [.int v_165.2, .ref cl, .ref x]))] H_222 := hP
              have hD : va_D A [(x, .inr (1, [.ref g, xs, xp, .ref xi, .int xl, xr, xq])), (g, .inr (2, [.ref sh, .ref al, .int gr, .ref g_b, .ref g_t])), (sh, .inr (4, [.int zw, .int zh, .long zA, .long zL, .long zR, .long zE])), (xi, .inl (cA 2, 80, .inl xI)), (cl, .inr (6, [.int r_176.2.1, .ref (u_181.2.1 0), .int r_176.2.2.1])), ((u_181.2.1 0), .inl (cA 5, r_176.2.2.2, .inr (.inr (.inr (.inr (ga_il zs (upd (upd k2 k3 v_129.1) (k3 + 1) v_165.1) ((k3 + 1) + 1))))))), (rd, .inr (7, [.int v_165.2, .ref cl, .ref x]))] := hD
              refine W.cs (cells' := kc + 7) (slots' := ks + 235) (by omega) (by omega) ?_
              refine lv_aload_n hx hb dX12_read_62 rfl (lv_at hl 1 rfl) ?_
              obtain ⟨r_232, e_233, h⟩ := ga_gb h
              have hFc := va_free (wc := [(rd, .inr (7, [.int v_165.2, .ref cl, .ref x]))]) hD hS hA [6] rfl
              refine va_callv (va_runV (As := []) (rest := []) ⟨hx, hb, hml, hown, hts⟩ (met_X12_take l D cA (va_A [(rd, .inr (7, [.int v_165.2, .ref cl, .ref x]))] H_222.size) rd cl x v_165.2 N r_232 e_233) (cwV 0 hts (lw_V q1159 q1161 qs25 q100 q1162) rfl rfl rfl (by decide +kernel) ⟨Nat.le_of_ble_eq_true rfl, Nat.le_of_ble_eq_true rfl⟩) (ga_LV hK (hP.sub (ws' := [(rd, .inr (7, [.int v_165.2, .ref cl, .ref x]))]) [6] rfl) (hD.sub (ws' := [(rd, .inr (7, [.int v_165.2, .ref cl, .ref x]))]) [6] (by decide) rfl).self (fun _ hq => Or.inr hq) (va_recv hK.1 hP (ci := 7) (q0 := 6) rfl rfl)) rfl rfl hl.1 rfl (lv_room (Nat.le_of_ble_eq_true rfl)) dX12_read_63 ⟨(show kc + 7 + 0 ≤ 600 by omega), (show ks + 235 + 0 ≤ 20000 by omega)⟩) hS (fun q _ hq => hFc q hq) hFc (fun u_237 t H_236 locs ht _ w_235 hB _ hk hS => ?_)
              obtain ⟨hP1, -, hD1⟩ := hB
              obtain rfl := w_235
              rw [ht] at hP1
              obtain ⟨hP, hD⟩ := va_join (wr := [(x, .inr (1, [.ref g, xs, xp, .ref xi, .int xl, xr, xq])), (g, .inr (2, [.ref sh, .ref al, .int gr, .ref g_b, .ref g_t])), (sh, .inr (4, [.int zw, .int zh, .long zA, .long zL, .long zR, .long zE])), (xi, .inl (cA 2, 80, .inl xI)), (cl, .inr (6, [.int r_176.2.1, .ref (u_181.2.1 0), .int r_176.2.2.1])), ((u_181.2.1 0), .inl (cA 5, r_176.2.2.2, .inr (.inr (.inr (.inr (ga_il zs (upd (upd k2 k3 v_129.1) (k3 + 1) v_165.1) ((k3 + 1) + 1)))))))]) (w1 := [(rd, .inr (7, [.int r_232, .ref cl, .ref x]))]) hP hD [6] [0, 1, 2, 3, 4, 5] rfl rfl (by decide) (by decide) hk hFc hP1 hD1
              have hP : va_P D ga_cl [(x, .inr (1, [.ref g, xs, xp, .ref xi, .int xl, xr, xq])), (g, .inr (2, [.ref sh, .ref al, .int gr, .ref g_b, .ref g_t])), (sh, .inr (4, [.int zw, .int zh, .long zA, .long zL, .long zR, .long zE])), (xi, .inl (cA 2, 80, .inl xI)), (cl, .inr (6, [.int r_176.2.1, .ref (u_181.2.1 0), .int r_176.2.2.1])), ((u_181.2.1 0), .inl (cA 5, r_176.2.2.2, .inr (.inr (.inr (.inr (ga_il zs (upd (upd k2 k3 v_129.1) (k3 + 1) v_165.1) ((k3 + 1) + 1))))))), (rd, .inr (7, [.int r_232, .ref cl, .ref x]))] H_236 := hP
              have hD : va_D A [(x, .inr (1, [.ref g, xs, xp, .ref xi, .int xl, xr, xq])), (g, .inr (2, [.ref sh, .ref al, .int gr, .ref g_b, .ref g_t])), (sh, .inr (4, [.int zw, .int zh, .long zA, .long zL, .long zR, .long zE])), (xi, .inl (cA 2, 80, .inl xI)), (cl, .inr (6, [.int r_176.2.1, .ref (u_181.2.1 0), .int r_176.2.2.1])), ((u_181.2.1 0), .inl (cA 5, r_176.2.2.2, .inr (.inr (.inr (.inr (ga_il zs (upd (upd k2 k3 v_129.1) (k3 + 1) v_165.1) ((k3 + 1) + 1))))))), (rd, .inr (7, [.int r_232, .ref cl, .ref x]))] := hD
              refine lv_goto (tgt := 0) hx hb dX12_read_66 (by decide) ?_
              obtain ⟨hix9, h⟩ := ga_gif h
              exact ih (kc + 7) (ks + 235) (u_181.2.1 0) r_176.2.1 r_176.2.2.1 (upd (upd k2 k3 v_129.1) (k3 + 1) v_165.1) ((k3 + 1) + 1) r_176.2.2.2 r_232 (show kc + 7 + 7 * (81 - ix r_232) ≤ 600 by omega) (show ks + 235 + 235 * (81 - ix r_232) ≤ 20000 by omega) h _ _ (hP.sub [0, 1, 2, 3, 4, 5, 6] rfl) (hD.sub [0, 1, 2, 3, 4, 5, 6] (by decide) rfl) hS _ (lv_sub hl [1] rfl)
def F_X12_read_1 (N : Nat) (rp : Int32) (xl : Int32) (gr : Int32) (zw : Int32) (zh : Int32) (zA : Int64) (zL : Int64) (zR : Int64) (zE : Int64) (xI : Nat → Int32) (cm : Int32)  : Option ((Int32 × Int32 × Int32 × Nat × (Nat → Int32) × Nat) ⊕ (Nat × (Nat → Int32))) :=
  (if xl ≤ rp then
  none
  else
  ((F_X12_choice N rp xl gr zw zh zA zL zR zE xI).bind fun r_2 => ga_sw r_2 (fun v_12 =>
  ((F_J19_valueOf N v_12.1).bind fun r_16 =>
  ((F_J2_add_e N cm).bind fun r_23 =>
  ((F_X12_choice N v_12.2 xl gr zw zh zA zL zR zE xI).bind fun r_34 => ga_sw r_34 (fun v_44 =>
  ((F_J19_valueOf N v_44.1).bind fun r_48 =>
  ((F_J2_add N r_23.2.1 r_23.2.2.1 r_23.2.2.2).bind fun r_55 =>
  (if ix r_23.2.2.1 = 1 ∧ 1 ≤ r_23.2.2.2 then
  ((F_X12_next N v_44.2 xl xI).bind fun r_70 =>
  (if r_70 = 59 then
  ((F_X12_need N v_44.2 1).bind fun r_97 => ga_sw r_97 (fun v_107 =>
  ((F_X12_take N v_44.2).bind fun r_111 =>
  lp_X12_read_1_0 N xl gr zw zh zA zL zR zE xI cm N r_55.2.1 r_55.2.2.1 (upd (upd (fun _ => 0) 0 v_12.1) 1 v_44.1) (1 + 1) r_55.2.2.2 r_111)) (fun u_102 =>
  (if u_102.1 = 9 then
  some (.inr (9, ga_xd [(u_102.2 0)]))
  else
  none)))
  else
  ((F_X12_need N v_44.2 0).bind fun r_76 => ga_sw r_76 (fun v_86 =>
  ((F_X12_take N v_44.2).bind fun r_90 =>
  lp_X12_read_1_0 N xl gr zw zh zA zL zR zE xI cm N r_55.2.1 r_55.2.2.1 (upd (upd (fun _ => 0) 0 v_12.1) 1 v_44.1) (1 + 1) r_55.2.2.2 r_90)) (fun u_81 =>
  (if u_81.1 = 9 then
  some (.inr (9, ga_xd [(u_81.2 0)]))
  else
  none)))))
  else none)))) (fun u_39 =>
  (if u_39.1 = 9 then
  some (.inr (9, ga_xd [(u_39.2 0)]))
  else
  none)))))) (fun u_7 =>
  (if u_7.1 = 9 then
  some (.inr (9, ga_xd [(u_7.2 0)]))
  else
  none))))
set_option maxHeartbeats 4000000 in
theorem met_X12_read_1 (l : Launch) (D : va_G) (cA : Nat → ClassId) (A : Nat → Prop) (rd : Nat) (cl : Nat) (x : Nat) (g : Nat) (xs : Value) (xp : Value) (xi : Nat) (xr : Value) (xq : Value) (sh : Nat) (al : Nat) (g_b : Nat) (g_t : Nat) (zs : Nat → Nat) (rp : Int32) (xl : Int32) (gr : Int32) (zw : Int32) (zh : Int32) (zA : Int64) (zL : Int64) (zR : Int64) (zE : Int64) (xI : Nat → Int32) (cm : Int32) (N : Nat)   (hstk : l.stackTraces = false) (out : (Int32 × Int32 × Int32 × Nat × (Nat → Int32) × Nat) ⊕ (Nat × (Nat → Int32))) (h : F_X12_read_1 N rp xl gr zw zh zA zL zR zE xI cm = some out) : vx_Met l yX12_read (ws_ yX12_read cX12_read 2 none) rm_X12_read_1 (ga_X D cA zs A [(rd, .inr (7, [.int rp, .ref cl, .ref x])), (x, .inr (1, [.ref g, xs, xp, .ref xi, .int xl, xr, xq])), (g, .inr (2, [.ref sh, .ref al, .int gr, .ref g_b, .ref g_t])), (sh, .inr (4, [.int zw, .int zh, .long zA, .long zL, .long zR, .long zE])), (xi, .inl (cA 2, 80, .inl xI)), (cl, .inr (6, [.int cm, .ref (zs 0), .int 0]))] [.ref rd]) (va_Qv (fun (u : (Int32 × Int32 × Int32 × Nat × (Nat → Int32) × Nat) × (Nat → Nat)) => ∃ v, out = .inl v ∧ v = u.1) (fun (u : (Int32 × Int32 × Int32 × Nat × (Nat → Int32) × Nat) × (Nat → Nat)) (t : State) => va_P D ga_cl [(rd, .inr (7, [.int u.1.1, .ref cl, .ref x])), (x, .inr (1, [.ref g, xs, xp, .ref xi, .int xl, xr, xq])), (g, .inr (2, [.ref sh, .ref al, .int gr, .ref g_b, .ref g_t])), (sh, .inr (4, [.int zw, .int zh, .long zA, .long zL, .long zR, .long zE])), (xi, .inl (cA 2, 80, .inl xI)), (cl, .inr (6, [.int u.1.2.1, .ref (u.2 0), .int u.1.2.2.1])), ((u.2 0), .inl (cA 5, u.1.2.2.2.1, .inr (.inr (.inr (.inr (ga_il zs u.1.2.2.2.2.1 u.1.2.2.2.2.2))))))] t.heap ∧ ga_K D cA t ∧ va_D A [(rd, .inr (7, [.int u.1.1, .ref cl, .ref x])), (x, .inr (1, [.ref g, xs, xp, .ref xi, .int xl, xr, xq])), (g, .inr (2, [.ref sh, .ref al, .int gr, .ref g_b, .ref g_t])), (sh, .inr (4, [.int zw, .int zh, .long zA, .long zL, .long zR, .long zE])), (xi, .inl (cA 2, 80, .inl xI)), (cl, .inr (6, [.int u.1.2.1, .ref (u.2 0), .int u.1.2.2.1])), ((u.2 0), .inl (cA 5, u.1.2.2.2.1, .inr (.inr (.inr (.inr (ga_il zs u.1.2.2.2.2.1 u.1.2.2.2.2.2))))))]) A) (vx_X (fun (u : (Nat × (Nat → Int32)) × (Nat → Nat)) => out = .inr u.1) (fun (E : String) (q9 : Nat) (u : (Nat × (Nat → Int32)) × (Nat → Nat)) (t : State) => E = ga_en u.1.1 ∧ va_P D ga_cl (if u.1.1 = 9 then [(x, .inr (1, [.ref g, xs, xp, .ref xi, .int xl, xr, xq])), (g, .inr (2, [.ref sh, .ref al, .int gr, .ref g_b, .ref g_t])), (sh, .inr (4, [.int zw, .int zh, .long zA, .long zL, .long zR, .long zE])), (xi, .inl (cA 2, 80, .inl xI)), (q9, .inr (14, [.null, .null, .null, .null, .null, .int 0, .int (u.1.2 0)]))] else []) t.heap ∧ va_D A (if u.1.1 = 9 then [(x, .inr (1, [.ref g, xs, xp, .ref xi, .int xl, xr, xq])), (g, .inr (2, [.ref sh, .ref al, .int gr, .ref g_b, .ref g_t])), (sh, .inr (4, [.int zw, .int zh, .long zA, .long zL, .long zR, .long zE])), (xi, .inl (cA 2, 80, .inl xI)), (q9, .inr (14, [.null, .null, .null, .null, .null, .int 0, .int (u.1.2 0)]))] else []) ∧ (∀ a ∈ (if u.1.1 = 9 then ([] : List Nat) else ([] : List Nat)), ga_M a t.heap)) A) 600 20000 A := by
  refine vx_ofW (cc := cX12_read) (maxL := 2) (ret := none) (by decide) rfl ?_
  intro p e s m args below meth c s₁ B hml htab hv
  have hX : ga_cx2 c l := ⟨htab, hstk⟩
  obtain ⟨rfl, hP, hK, hD, hA, hST⟩ := hv
  have hS : va_S A s.heap s.heap [] := va_S.rf
  have C : ga_cx p m c meth s _ RX12 cX12_read 2 none := ga_cx_of B hml
  have C0 := C
  obtain ⟨hx, hb, hr, hlocks, hml, hown, hts⟩ := C0
  have hl := lv_entry ([.ref rd]) (n := 2) (Nat.le_of_ble_eq_true rfl)
  rw [lg_entry_eq]
  generalize (lg_sl ([.ref rd]) ++ List.replicate (2 - (lg_sl ([.ref rd])).length) Slot.unset).toArray = ls at hl ⊢
  have hl : lv_has ls 2 [(0, .ref rd)] := hl
  rw [F_X12_read_1] at h
  refine lv_aload_n hx hb dX12_read_0 rfl (lv_at hl 0 rfl) ?_
  refine va_get hx hb hts in_X12 hown hK.1 hP 0 (fs := [.int rp, .ref cl, .ref x]) rfl rfl 0 (by decide) (hts _ q1136) (fun _ hh => hh) (v := .int rp) rfl dX12_read_1 ?_
  refine lv_aload_n hx hb dX12_read_4 rfl (lv_at hl 0 rfl) ?_
  refine va_get hx hb hts in_X12 hown hK.1 hP 0 (fs := [.int rp, .ref cl, .ref x]) rfl rfl 2 (by decide) (hts _ q1139) (fun _ hh => hh) (v := .ref x) rfl dX12_read_5 ?_
  refine va_getN hx hb hts in_X1 hown hK.1 hP 1 (fs := [.ref g, xs, xp, .ref xi, .int xl, xr, xq]) rfl rfl 4 (by decide) (ga_nu hK q355 rfl) (fun _ hh => hh) (v := .int xl) rfl dX12_read_8 ?_
  refine lv_icmp_ge (tgt := 69) hx hb dX12_read_11 (by decide) (fun c_1 => ?_) (fun c_1 => ?_)
  · cases ga_ift c_1 h
  · replace h := ga_iff c_1 h
    refine lv_aload_n hx hb dX12_read_14 rfl (lv_at hl 0 rfl) ?_
    refine va_get hx hb hts in_X12 hown hK.1 hP 0 (fs := [.int rp, .ref cl, .ref x]) rfl rfl 1 (by decide) (hts _ q1137) (fun _ hh => hh) (v := .ref cl) rfl dX12_read_15 ?_
    refine lv_aload_n hx hb dX12_read_18 rfl (lv_at hl 0 rfl) ?_
    obtain ⟨r_2, e_3, h⟩ := ga_gb h
    have hFc := va_free (wc := [(rd, .inr (7, [.int rp, .ref cl, .ref x])), (x, .inr (1, [.ref g, xs, xp, .ref xi, .int xl, xr, xq])), (g, .inr (2, [.ref sh, .ref al, .int gr, .ref g_b, .ref g_t])), (sh, .inr (4, [.int zw, .int zh, .long zA, .long zL, .long zR, .long zE])), (xi, .inl (cA 2, 80, .inl xI))]) hD hS hA [0, 1, 2, 3, 4] rfl
    refine vx_calli (vx_runV (As := []) (rest := [.ref cl]) ⟨hx, hb, hml, hown, hts⟩ (met_X12_choice l D cA (va_A [(rd, .inr (7, [.int rp, .ref cl, .ref x])), (x, .inr (1, [.ref g, xs, xp, .ref xi, .int xl, xr, xq])), (g, .inr (2, [.ref sh, .ref al, .int gr, .ref g_b, .ref g_t])), (sh, .inr (4, [.int zw, .int zh, .long zA, .long zL, .long zR, .long zE])), (xi, .inl (cA 2, 80, .inl xI))] s.heap.size) rd cl x g xs xp xi xr xq sh al g_b g_t zs rp xl gr zw zh zA zL zR zE xI N hX.2 r_2 e_3) (cwV 0 hts (lw_V q1151 q1153 qs23 q100 q1154) rfl rfl rfl (by decide +kernel) ⟨Nat.le_of_ble_eq_true rfl, Nat.le_of_ble_eq_true rfl⟩) (ga_XV hK (hP.sub (ws' := [(rd, .inr (7, [.int rp, .ref cl, .ref x])), (x, .inr (1, [.ref g, xs, xp, .ref xi, .int xl, xr, xq])), (g, .inr (2, [.ref sh, .ref al, .int gr, .ref g_b, .ref g_t])), (sh, .inr (4, [.int zw, .int zh, .long zA, .long zL, .long zR, .long zE])), (xi, .inl (cA 2, 80, .inl xI))]) [0, 1, 2, 3, 4] rfl) (hD.sub (ws' := [(rd, .inr (7, [.int rp, .ref cl, .ref x])), (x, .inr (1, [.ref g, xs, xp, .ref xi, .int xl, xr, xq])), (g, .inr (2, [.ref sh, .ref al, .int gr, .ref g_b, .ref g_t])), (sh, .inr (4, [.int zw, .int zh, .long zA, .long zL, .long zR, .long zE])), (xi, .inl (cA 2, 80, .inl xI))]) [0, 1, 2, 3, 4] (by decide) rfl).self (fun _ hq => Or.inr hq) (hST.at hS hFc) (va_recv hK.1 hP (ci := 7) (q0 := 0) rfl rfl)) rfl rfl hl.1 rfl (lv_room (Nat.le_of_ble_eq_true rfl)) dX12_read_19 ⟨Nat.le_of_ble_eq_true rfl, Nat.le_of_ble_eq_true rfl⟩) hS (fun q _ hq => hFc q hq) hFc (fun q _ hq => hFc q hq) (fun E_9 ce q_10 u_11 t H_8 locs ht _ w_5 hB _ hk hS hce hcv hcl => ?_) (fun z_4 u_7 t H_6 locs ht _ w_5 hB _ hk hS => ?_)
    · obtain ⟨u_7, n_13⟩ := u_11
      replace h := ga_swr w_5 h
      obtain ⟨eE, hP1, hD1, hM1⟩ := hB
      rw [ht] at hP1 hM1
      have eE : E_9 = ga_en u_7.1 := eE
      have hP1 : va_P D ga_cl (if u_7.1 = 9 then [(x, .inr (1, [.ref g, xs, xp, .ref xi, .int xl, xr, xq])), (g, .inr (2, [.ref sh, .ref al, .int gr, .ref g_b, .ref g_t])), (sh, .inr (4, [.int zw, .int zh, .long zA, .long zL, .long zR, .long zE])), (xi, .inl (cA 2, 80, .inl xI)), (q_10, .inr (14, [.null, .null, .null, .null, .null, .int 0, .int (u_7.2 0)]))] else [(rd, .inr (7, [.int rp, .ref cl, .ref x])), (x, .inr (1, [.ref g, xs, xp, .ref xi, .int xl, xr, xq])), (g, .inr (2, [.ref sh, .ref al, .int gr, .ref g_b, .ref g_t])), (sh, .inr (4, [.int zw, .int zh, .long zA, .long zL, .long zR, .long zE])), (xi, .inl (cA 2, 80, .inl xI))]) H_8 := hP1
      have hD1 : va_D _ (if u_7.1 = 9 then [(x, .inr (1, [.ref g, xs, xp, .ref xi, .int xl, xr, xq])), (g, .inr (2, [.ref sh, .ref al, .int gr, .ref g_b, .ref g_t])), (sh, .inr (4, [.int zw, .int zh, .long zA, .long zL, .long zR, .long zE])), (xi, .inl (cA 2, 80, .inl xI)), (q_10, .inr (14, [.null, .null, .null, .null, .null, .int 0, .int (u_7.2 0)]))] else [(rd, .inr (7, [.int rp, .ref cl, .ref x])), (x, .inr (1, [.ref g, xs, xp, .ref xi, .int xl, xr, xq])), (g, .inr (2, [.ref sh, .ref al, .int gr, .ref g_b, .ref g_t])), (sh, .inr (4, [.int zw, .int zh, .long zA, .long zL, .long zR, .long zE])), (xi, .inl (cA 2, 80, .inl xI))]) := hD1
      have hM1 : ∀ a ∈ (if u_7.1 = 9 then ([] : List Nat) else ([] : List Nat)), ga_M a H_8 := hM1
      by_cases c_14 : u_7.1 = 9
      · replace h := ga_ift c_14 h
        have eE : E_9 = "EnclosureReferee$TextException" := by rw [eE, c_14]; rfl
        subst eE
        rw [c_14, if_pos rfl] at hP1 hD1 hM1
        obtain ⟨hP, hD⟩ := va_join (wr := [(cl, .inr (6, [.int cm, .ref (zs 0), .int 0]))]) (w1 := [(x, .inr (1, [.ref g, xs, xp, .ref xi, .int xl, xr, xq])), (g, .inr (2, [.ref sh, .ref al, .int gr, .ref g_b, .ref g_t])), (sh, .inr (4, [.int zw, .int zh, .long zA, .long zL, .long zR, .long zE])), (xi, .inl (cA 2, 80, .inl xI)), (q_10, .inr (14, [.null, .null, .null, .null, .null, .int 0, .int (u_7.2 0)]))]) hP hD [0, 1, 2, 3, 4] [5] rfl rfl (by decide) (by decide) hk hFc hP1 hD1
        have hP : va_P D ga_cl [(cl, .inr (6, [.int cm, .ref (zs 0), .int 0])), (x, .inr (1, [.ref g, xs, xp, .ref xi, .int xl, xr, xq])), (g, .inr (2, [.ref sh, .ref al, .int gr, .ref g_b, .ref g_t])), (sh, .inr (4, [.int zw, .int zh, .long zA, .long zL, .long zR, .long zE])), (xi, .inl (cA 2, 80, .inl xI)), (q_10, .inr (14, [.null, .null, .null, .null, .null, .int 0, .int (u_7.2 0)]))] H_8 := hP
        have hD : va_D A [(cl, .inr (6, [.int cm, .ref (zs 0), .int 0])), (x, .inr (1, [.ref g, xs, xp, .ref xi, .int xl, xr, xq])), (g, .inr (2, [.ref sh, .ref al, .int gr, .ref g_b, .ref g_t])), (sh, .inr (4, [.int zw, .int zh, .long zA, .long zL, .long zR, .long zE])), (xi, .inl (cA 2, 80, .inl xI)), (q_10, .inr (14, [.null, .null, .null, .null, .null, .int 0, .int (u_7.2 0)]))] := hD
        have hP9 := hP.sub (ws' := [(x, .inr (1, [.ref g, xs, xp, .ref xi, .int xl, xr, xq])), (g, .inr (2, [.ref sh, .ref al, .int gr, .ref g_b, .ref g_t])), (sh, .inr (4, [.int zw, .int zh, .long zA, .long zL, .long zR, .long zE])), (xi, .inl (cA 2, 80, .inl xI)), (q_10, .inr (14, [.null, .null, .null, .null, .null, .int 0, .int (u_7.2 0)]))]) [1, 2, 3, 4, 5] rfl
        have hD9 := hD.sub (ws' := [(x, .inr (1, [.ref g, xs, xp, .ref xi, .int xl, xr, xq])), (g, .inr (2, [.ref sh, .ref al, .int gr, .ref g_b, .ref g_t])), (sh, .inr (4, [.int zw, .int zh, .long zA, .long zL, .long zR, .long zE])), (xi, .inl (cA 2, 80, .inl xI)), (q_10, .inr (14, [.null, .null, .null, .null, .null, .int 0, .int (u_7.2 0)]))]) [1, 2, 3, 4, 5] (by decide) rfl
        have hM9 : (∀ a ∈ ([] : List Nat), ga_M a H_8) := (fun _ hz => nomatch hz)
        obtain rfl := Option.some.inj h
        exact vx_outP hown hlocks (fun x hx9 => (hX.1 x hx9).elim) hce hcv hcl (fun t ht _ => ⟨((9, ga_xd [(u_7.2 0)]), ga_ad []), rfl, ⟨rfl, by rw [ht]; exact hP9, hD9, by rw [ht]; exact hM9⟩, hS.F ht⟩) hS.2.2 (by decide) (by decide)
      · replace h := ga_iff c_14 h
        cases h
    · obtain ⟨v_12, ev_12, hv9⟩ := w_5
      replace h := ga_swl ev_12 h
      obtain ⟨rfl, rfl⟩ := hv9
      obtain ⟨hP1, -, hD1⟩ := hB
      rw [ht] at hP1
      obtain ⟨hP, hD⟩ := va_join (wr := [(cl, .inr (6, [.int cm, .ref (zs 0), .int 0]))]) (w1 := [(rd, .inr (7, [.int v_12.2, .ref cl, .ref x])), (x, .inr (1, [.ref g, xs, xp, .ref xi, .int xl, xr, xq])), (g, .inr (2, [.ref sh, .ref al, .int gr, .ref g_b, .ref g_t])), (sh, .inr (4, [.int zw, .int zh, .long zA, .long zL, .long zR, .long zE])), (xi, .inl (cA 2, 80, .inl xI))]) hP hD [0, 1, 2, 3, 4] [5] rfl rfl (by decide) (by decide) hk hFc hP1 hD1
      have hP : va_P D ga_cl [(cl, .inr (6, [.int cm, .ref (zs 0), .int 0])), (rd, .inr (7, [.int v_12.2, .ref cl, .ref x])), (x, .inr (1, [.ref g, xs, xp, .ref xi, .int xl, xr, xq])), (g, .inr (2, [.ref sh, .ref al, .int gr, .ref g_b, .ref g_t])), (sh, .inr (4, [.int zw, .int zh, .long zA, .long zL, .long zR, .long zE])), (xi, .inl (cA 2, 80, .inl xI))] H_6 := hP
      have hD : va_D A [(cl, .inr (6, [.int cm, .ref (zs 0), .int 0])), (rd, .inr (7, [.int v_12.2, .ref cl, .ref x])), (x, .inr (1, [.ref g, xs, xp, .ref xi, .int xl, xr, xq])), (g, .inr (2, [.ref sh, .ref al, .int gr, .ref g_b, .ref g_t])), (sh, .inr (4, [.int zw, .int zh, .long zA, .long zL, .long zR, .long zE])), (xi, .inl (cA 2, 80, .inl xI))] := hD
      refine W.cs (cells' := 2) (slots' := 14) rfl rfl ?_
      obtain ⟨r_16, e_17, h⟩ := ga_gb h
      have hFc := va_free (wc := []) hD hS hA [] rfl
      refine va_callr (va_runS (As := [.int v_12.1]) (rest := [.ref cl]) ⟨hx, hb, hml, hown, hts⟩ (met_J19_valueOf l D cA (va_A [] H_6.size) zs N v_12.1 r_16 e_17) (va_cwS 1 hts (lw_S q1187 q1188 q98 q1189) rfl rfl rfl (by decide +kernel) ⟨Nat.le_of_ble_eq_true rfl, Nat.le_of_ble_eq_true rfl⟩) (ga_XS hK ga_P0 (hD.sub (ws' := []) [] (by decide) rfl).self (fun _ hq => Or.inr hq) (hST.at hS hFc)) rfl rfl hl.1 rfl (lv_room (Nat.le_of_ble_eq_true rfl)) dX12_read_22 ⟨Nat.le_of_ble_eq_true rfl, Nat.le_of_ble_eq_true rfl⟩) hS (fun q _ hq => hFc q hq) hFc (fun u_21 a_22 t H_20 locs ht _ w_19 hB _ hk hS => ?_)
      obtain rfl := w_19
      obtain ⟨ea, hP1, -, hD1⟩ := hB
      subst ea
      rw [ht] at hP1
      obtain ⟨hP, hD⟩ := va_join (wr := [(cl, .inr (6, [.int cm, .ref (zs 0), .int 0])), (rd, .inr (7, [.int v_12.2, .ref cl, .ref x])), (x, .inr (1, [.ref g, xs, xp, .ref xi, .int xl, xr, xq])), (g, .inr (2, [.ref sh, .ref al, .int gr, .ref g_b, .ref g_t])), (sh, .inr (4, [.int zw, .int zh, .long zA, .long zL, .long zR, .long zE])), (xi, .inl (cA 2, 80, .inl xI))]) (w1 := []) hP hD [] [0, 1, 2, 3, 4, 5] rfl rfl (by decide) (by decide) hk hFc hP1 hD1
      have hP : va_P D ga_cl [(cl, .inr (6, [.int cm, .ref (zs 0), .int 0])), (rd, .inr (7, [.int v_12.2, .ref cl, .ref x])), (x, .inr (1, [.ref g, xs, xp, .ref xi, .int xl, xr, xq])), (g, .inr (2, [.ref sh, .ref al, .int gr, .ref g_b, .ref g_t])), (sh, .inr (4, [.int zw, .int zh, .long zA, .long zL, .long zR, .long zE])), (xi, .inl (cA 2, 80, .inl xI))] H_20 := hP
      have hD : va_D A [(cl, .inr (6, [.int cm, .ref (zs 0), .int 0])), (rd, .inr (7, [.int v_12.2, .ref cl, .ref x])), (x, .inr (1, [.ref g, xs, xp, .ref xi, .int xl, xr, xq])), (g, .inr (2, [.ref sh, .ref al, .int gr, .ref g_b, .ref g_t])), (sh, .inr (4, [.int zw, .int zh, .long zA, .long zL, .long zR, .long zE])), (xi, .inl (cA 2, 80, .inl xI))] := hD
      obtain ⟨r_23, e_24, h⟩ := ga_gb h
      have hFc := va_free (wc := [(cl, .inr (6, [.int cm, .ref (zs 0), .int 0]))]) hD hS hA [0] rfl
      refine va_calli (va_runV (As := [.ref (ga_iv zs v_12.1)]) (rest := []) ⟨hx, hb, hml, hown, hts⟩ (met_J2_add_e l D cA (va_A [(cl, .inr (6, [.int cm, .ref (zs 0), .int 0]))] H_20.size) cl ("java/lang/Integer") (ga_iv zs v_12.1) zs cm N q1914 r_23 e_24) (cwV 1 hts (lw_V q1207 q259 q260 q71 q261) rfl rfl rfl (by decide +kernel) ⟨Nat.le_of_ble_eq_true rfl, Nat.le_of_ble_eq_true rfl⟩) (ga_XRV ga_e1K (ga_ivO (hST.at hS hFc).2.2.2.2.2.2.2.1) hK (hP.sub (ws' := [(cl, .inr (6, [.int cm, .ref (zs 0), .int 0]))]) [0] rfl) (hD.sub (ws' := [(cl, .inr (6, [.int cm, .ref (zs 0), .int 0]))]) [0] (by decide) rfl).self (fun _ hq => Or.inr hq) (hST.at hS hFc) (va_recv hK.1 hP (ci := 6) (q0 := 0) rfl rfl)) rfl rfl hl.1 rfl (lv_room (Nat.le_of_ble_eq_true rfl)) dX12_read_25 ⟨Nat.le_of_ble_eq_true rfl, Nat.le_of_ble_eq_true rfl⟩) hS (fun q _ hq => hFc q hq) hFc (fun z_25 u_28 t H_27 locs ht _ w_26 hB _ hk hS => ?_)
      obtain ⟨hP1, -, hD1, f_29, f_30⟩ := hB
      obtain ⟨⟨rfl, b_31⟩, w_26⟩ := w_26
      rw [show u_28.1 = r_23.2 from w_26.symm] at hP1 hD1
      have f_32 : (u_28.2.2 0) (ix 0) = some (ga_iv zs v_12.1) := by first | exact f_29 | (rw [show u_28.1 = r_23.2 from w_26.symm] at f_29; exact f_29)
      have f_33 : ∀ (j y : Nat), j ≠ ix 0 → ¬ (u_28.2.2 0) j = some y := by first | exact f_30 | (rw [show u_28.1 = r_23.2 from w_26.symm] at f_30; exact f_30)
      rw [ht] at hP1
      obtain ⟨hP, hD⟩ := va_join (wr := [(rd, .inr (7, [.int v_12.2, .ref cl, .ref x])), (x, .inr (1, [.ref g, xs, xp, .ref xi, .int xl, xr, xq])), (g, .inr (2, [.ref sh, .ref al, .int gr, .ref g_b, .ref g_t])), (sh, .inr (4, [.int zw, .int zh, .long zA, .long zL, .long zR, .long zE])), (xi, .inl (cA 2, 80, .inl xI))]) (w1 := [(cl, .inr (6, [.int r_23.2.1, .ref (u_28.2.1 0), .int r_23.2.2.1])), ((u_28.2.1 0), .inl (cA 5, r_23.2.2.2, .inr (.inr (.inr (.inr (u_28.2.2 0))))))]) hP hD [0] [1, 2, 3, 4, 5] rfl rfl (by decide) (by decide) hk hFc hP1 hD1
      have hP : va_P D ga_cl [(rd, .inr (7, [.int v_12.2, .ref cl, .ref x])), (x, .inr (1, [.ref g, xs, xp, .ref xi, .int xl, xr, xq])), (g, .inr (2, [.ref sh, .ref al, .int gr, .ref g_b, .ref g_t])), (sh, .inr (4, [.int zw, .int zh, .long zA, .long zL, .long zR, .long zE])), (xi, .inl (cA 2, 80, .inl xI)), (cl, .inr (6, [.int r_23.2.1, .ref (u_28.2.1 0), .int r_23.2.2.1])), ((u_28.2.1 0), .inl (cA 5, r_23.2.2.2, .inr (.inr (.inr (.inr (u_28.2.2 0))))))] H_27 := hP
      have hD : va_D A [(rd, .inr (7, [.int v_12.2, .ref cl, .ref x])), (x, .inr (1, [.ref g, xs, xp, .ref xi, .int xl, xr, xq])), (g, .inr (2, [.ref sh, .ref al, .int gr, .ref g_b, .ref g_t])), (sh, .inr (4, [.int zw, .int zh, .long zA, .long zL, .long zR, .long zE])), (xi, .inl (cA 2, 80, .inl xI)), (cl, .inr (6, [.int r_23.2.1, .ref (u_28.2.1 0), .int r_23.2.2.1])), ((u_28.2.1 0), .inl (cA 5, r_23.2.2.2, .inr (.inr (.inr (.inr (u_28.2.2 0))))))] := hD
      replace hP := ga_cong (g := (ga_il zs (upd (fun _ => 0) 0 v_12.1) 1)) hP (i := 6) rfl (ga_iln0 f_32 f_33)
      replace hD := hD.set (p := 6) (e := .inl (cA 5, r_23.2.2.2, .inr (.inr (.inr (.inr (ga_il zs (upd (fun _ => 0) 0 v_12.1) 1)))))) rfl
      have hP : va_P D ga_cl [(rd, .inr (7, [.int v_12.2, .ref cl, .ref x])), (x, .inr (1, [.ref g, xs, xp, .ref xi, .int xl, xr, xq])), (g, .inr (2, [.ref sh, .ref al, .int gr, .ref g_b, .ref g_t])), (sh, .inr (4, [.int zw, .int zh, .long zA, .long zL, .long zR, .long zE])), (xi, .inl (cA 2, 80, .inl xI)), (cl, .inr (6, [.int r_23.2.1, .ref (u_28.2.1 0), .int r_23.2.2.1])), ((u_28.2.1 0), .inl (cA 5, r_23.2.2.2, .inr (.inr (.inr (.inr (ga_il zs (upd (fun _ => 0) 0 v_12.1) 1))))))] H_27 := hP
      have hD : va_D A [(rd, .inr (7, [.int v_12.2, .ref cl, .ref x])), (x, .inr (1, [.ref g, xs, xp, .ref xi, .int xl, xr, xq])), (g, .inr (2, [.ref sh, .ref al, .int gr, .ref g_b, .ref g_t])), (sh, .inr (4, [.int zw, .int zh, .long zA, .long zL, .long zR, .long zE])), (xi, .inl (cA 2, 80, .inl xI)), (cl, .inr (6, [.int r_23.2.1, .ref (u_28.2.1 0), .int r_23.2.2.1])), ((u_28.2.1 0), .inl (cA 5, r_23.2.2.2, .inr (.inr (.inr (.inr (ga_il zs (upd (fun _ => 0) 0 v_12.1) 1))))))] := hD
      refine W.cs (cells' := 3) (slots' := 114) rfl rfl ?_
      refine lv_istore_n (lv' := [(1, .int r_23.1), (0, .ref rd)]) hx hb dX12_read_28 rfl hl (by decide) rfl (fun ls hl => ?_)
      refine lv_aload_n hx hb dX12_read_29 rfl (lv_at hl 1 rfl) ?_
      refine va_get hx hb hts in_X12 hown hK.1 hP 0 (fs := [.int v_12.2, .ref cl, .ref x]) rfl rfl 1 (by decide) (hts _ q1137) (fun _ hh => hh) (v := .ref cl) rfl dX12_read_30 ?_
      refine lv_aload_n hx hb dX12_read_33 rfl (lv_at hl 1 rfl) ?_
      obtain ⟨r_34, e_35, h⟩ := ga_gb h
      have hFc := va_free (wc := [(rd, .inr (7, [.int v_12.2, .ref cl, .ref x])), (x, .inr (1, [.ref g, xs, xp, .ref xi, .int xl, xr, xq])), (g, .inr (2, [.ref sh, .ref al, .int gr, .ref g_b, .ref g_t])), (sh, .inr (4, [.int zw, .int zh, .long zA, .long zL, .long zR, .long zE])), (xi, .inl (cA 2, 80, .inl xI))]) hD hS hA [0, 1, 2, 3, 4] rfl
      refine vx_calli (vx_runV (As := []) (rest := [.ref cl]) ⟨hx, hb, hml, hown, hts⟩ (met_X12_choice l D cA (va_A [(rd, .inr (7, [.int v_12.2, .ref cl, .ref x])), (x, .inr (1, [.ref g, xs, xp, .ref xi, .int xl, xr, xq])), (g, .inr (2, [.ref sh, .ref al, .int gr, .ref g_b, .ref g_t])), (sh, .inr (4, [.int zw, .int zh, .long zA, .long zL, .long zR, .long zE])), (xi, .inl (cA 2, 80, .inl xI))] H_27.size) rd cl x g xs xp xi xr xq sh al g_b g_t zs v_12.2 xl gr zw zh zA zL zR zE xI N hX.2 r_34 e_35) (cwV 0 hts (lw_V q1151 q1153 qs23 q100 q1154) rfl rfl rfl (by decide +kernel) ⟨Nat.le_of_ble_eq_true rfl, Nat.le_of_ble_eq_true rfl⟩) (ga_XV hK (hP.sub (ws' := [(rd, .inr (7, [.int v_12.2, .ref cl, .ref x])), (x, .inr (1, [.ref g, xs, xp, .ref xi, .int xl, xr, xq])), (g, .inr (2, [.ref sh, .ref al, .int gr, .ref g_b, .ref g_t])), (sh, .inr (4, [.int zw, .int zh, .long zA, .long zL, .long zR, .long zE])), (xi, .inl (cA 2, 80, .inl xI))]) [0, 1, 2, 3, 4] rfl) (hD.sub (ws' := [(rd, .inr (7, [.int v_12.2, .ref cl, .ref x])), (x, .inr (1, [.ref g, xs, xp, .ref xi, .int xl, xr, xq])), (g, .inr (2, [.ref sh, .ref al, .int gr, .ref g_b, .ref g_t])), (sh, .inr (4, [.int zw, .int zh, .long zA, .long zL, .long zR, .long zE])), (xi, .inl (cA 2, 80, .inl xI))]) [0, 1, 2, 3, 4] (by decide) rfl).self (fun _ hq => Or.inr hq) (hST.at hS hFc) (va_recv hK.1 hP (ci := 7) (q0 := 0) rfl rfl)) rfl rfl hl.1 rfl (lv_room (Nat.le_of_ble_eq_true rfl)) dX12_read_34 ⟨Nat.le_of_ble_eq_true rfl, Nat.le_of_ble_eq_true rfl⟩) hS (fun q _ hq => hFc q hq) hFc (fun q _ hq => hFc q hq) (fun E_41 ce q_42 u_43 t H_40 locs ht _ w_37 hB _ hk hS hce hcv hcl => ?_) (fun z_36 u_39 t H_38 locs ht _ w_37 hB _ hk hS => ?_)
      · obtain ⟨u_39, n_45⟩ := u_43
        replace h := ga_swr w_37 h
        obtain ⟨eE, hP1, hD1, hM1⟩ := hB
        rw [ht] at hP1 hM1
        have eE : E_41 = ga_en u_39.1 := eE
        have hP1 : va_P D ga_cl (if u_39.1 = 9 then [(x, .inr (1, [.ref g, xs, xp, .ref xi, .int xl, xr, xq])), (g, .inr (2, [.ref sh, .ref al, .int gr, .ref g_b, .ref g_t])), (sh, .inr (4, [.int zw, .int zh, .long zA, .long zL, .long zR, .long zE])), (xi, .inl (cA 2, 80, .inl xI)), (q_42, .inr (14, [.null, .null, .null, .null, .null, .int 0, .int (u_39.2 0)]))] else [(rd, .inr (7, [.int v_12.2, .ref cl, .ref x])), (x, .inr (1, [.ref g, xs, xp, .ref xi, .int xl, xr, xq])), (g, .inr (2, [.ref sh, .ref al, .int gr, .ref g_b, .ref g_t])), (sh, .inr (4, [.int zw, .int zh, .long zA, .long zL, .long zR, .long zE])), (xi, .inl (cA 2, 80, .inl xI))]) H_40 := hP1
        have hD1 : va_D _ (if u_39.1 = 9 then [(x, .inr (1, [.ref g, xs, xp, .ref xi, .int xl, xr, xq])), (g, .inr (2, [.ref sh, .ref al, .int gr, .ref g_b, .ref g_t])), (sh, .inr (4, [.int zw, .int zh, .long zA, .long zL, .long zR, .long zE])), (xi, .inl (cA 2, 80, .inl xI)), (q_42, .inr (14, [.null, .null, .null, .null, .null, .int 0, .int (u_39.2 0)]))] else [(rd, .inr (7, [.int v_12.2, .ref cl, .ref x])), (x, .inr (1, [.ref g, xs, xp, .ref xi, .int xl, xr, xq])), (g, .inr (2, [.ref sh, .ref al, .int gr, .ref g_b, .ref g_t])), (sh, .inr (4, [.int zw, .int zh, .long zA, .long zL, .long zR, .long zE])), (xi, .inl (cA 2, 80, .inl xI))]) := hD1
        have hM1 : ∀ a ∈ (if u_39.1 = 9 then ([] : List Nat) else ([] : List Nat)), ga_M a H_40 := hM1
        by_cases c_46 : u_39.1 = 9
        · replace h := ga_ift c_46 h
          have eE : E_41 = "EnclosureReferee$TextException" := by rw [eE, c_46]; rfl
          subst eE
          rw [c_46, if_pos rfl] at hP1 hD1 hM1
          obtain ⟨hP, hD⟩ := va_join (wr := [(cl, .inr (6, [.int r_23.2.1, .ref (u_28.2.1 0), .int r_23.2.2.1])), ((u_28.2.1 0), .inl (cA 5, r_23.2.2.2, .inr (.inr (.inr (.inr (ga_il zs (upd (fun _ => 0) 0 v_12.1) 1))))))]) (w1 := [(x, .inr (1, [.ref g, xs, xp, .ref xi, .int xl, xr, xq])), (g, .inr (2, [.ref sh, .ref al, .int gr, .ref g_b, .ref g_t])), (sh, .inr (4, [.int zw, .int zh, .long zA, .long zL, .long zR, .long zE])), (xi, .inl (cA 2, 80, .inl xI)), (q_42, .inr (14, [.null, .null, .null, .null, .null, .int 0, .int (u_39.2 0)]))]) hP hD [0, 1, 2, 3, 4] [5, 6] rfl rfl (by decide) (by decide) hk hFc hP1 hD1
          have hP : va_P D ga_cl [(cl, .inr (6, [.int r_23.2.1, .ref (u_28.2.1 0), .int r_23.2.2.1])), ((u_28.2.1 0), .inl (cA 5, r_23.2.2.2, .inr (.inr (.inr (.inr (ga_il zs (upd (fun _ => 0) 0 v_12.1) 1)))))), (x, .inr (1, [.ref g, xs, xp, .ref xi, .int xl, xr, xq])), (g, .inr (2, [.ref sh, .ref al, .int gr, .ref g_b, .ref g_t])), (sh, .inr (4, [.int zw, .int zh, .long zA, .long zL, .long zR, .long zE])), (xi, .inl (cA 2, 80, .inl xI)), (q_42, .inr (14, [.null, .null, .null, .null, .null, .int 0, .int (u_39.2 0)]))] H_40 := hP
          have hD : va_D A [(cl, .inr (6, [.int r_23.2.1, .ref (u_28.2.1 0), .int r_23.2.2.1])), ((u_28.2.1 0), .inl (cA 5, r_23.2.2.2, .inr (.inr (.inr (.inr (ga_il zs (upd (fun _ => 0) 0 v_12.1) 1)))))), (x, .inr (1, [.ref g, xs, xp, .ref xi, .int xl, xr, xq])), (g, .inr (2, [.ref sh, .ref al, .int gr, .ref g_b, .ref g_t])), (sh, .inr (4, [.int zw, .int zh, .long zA, .long zL, .long zR, .long zE])), (xi, .inl (cA 2, 80, .inl xI)), (q_42, .inr (14, [.null, .null, .null, .null, .null, .int 0, .int (u_39.2 0)]))] := hD
          have hP9 := hP.sub (ws' := [(x, .inr (1, [.ref g, xs, xp, .ref xi, .int xl, xr, xq])), (g, .inr (2, [.ref sh, .ref al, .int gr, .ref g_b, .ref g_t])), (sh, .inr (4, [.int zw, .int zh, .long zA, .long zL, .long zR, .long zE])), (xi, .inl (cA 2, 80, .inl xI)), (q_42, .inr (14, [.null, .null, .null, .null, .null, .int 0, .int (u_39.2 0)]))]) [2, 3, 4, 5, 6] rfl
          have hD9 := hD.sub (ws' := [(x, .inr (1, [.ref g, xs, xp, .ref xi, .int xl, xr, xq])), (g, .inr (2, [.ref sh, .ref al, .int gr, .ref g_b, .ref g_t])), (sh, .inr (4, [.int zw, .int zh, .long zA, .long zL, .long zR, .long zE])), (xi, .inl (cA 2, 80, .inl xI)), (q_42, .inr (14, [.null, .null, .null, .null, .null, .int 0, .int (u_39.2 0)]))]) [2, 3, 4, 5, 6] (by decide) rfl
          have hM9 : (∀ a ∈ ([] : List Nat), ga_M a H_40) := (fun _ hz => nomatch hz)
          obtain rfl := Option.some.inj h
          exact vx_outP hown hlocks (fun x hx9 => (hX.1 x hx9).elim) hce hcv hcl (fun t ht _ => ⟨((9, ga_xd [(u_39.2 0)]), ga_ad []), rfl, ⟨rfl, by rw [ht]; exact hP9, hD9, by rw [ht]; exact hM9⟩, hS.F ht⟩) hS.2.2 (by decide) (by decide)
        · replace h := ga_iff c_46 h
          cases h
      · obtain ⟨v_44, ev_44, hv9⟩ := w_37
        replace h := ga_swl ev_44 h
        obtain ⟨rfl, rfl⟩ := hv9
        obtain ⟨hP1, -, hD1⟩ := hB
        rw [ht] at hP1
        obtain ⟨hP, hD⟩ := va_join (wr := [(cl, .inr (6, [.int r_23.2.1, .ref (u_28.2.1 0), .int r_23.2.2.1])), ((u_28.2.1 0), .inl (cA 5, r_23.2.2.2, .inr (.inr (.inr (.inr (ga_il zs (upd (fun _ => 0) 0 v_12.1) 1))))))]) (w1 := [(rd, .inr (7, [.int v_44.2, .ref cl, .ref x])), (x, .inr (1, [.ref g, xs, xp, .ref xi, .int xl, xr, xq])), (g, .inr (2, [.ref sh, .ref al, .int gr, .ref g_b, .ref g_t])), (sh, .inr (4, [.int zw, .int zh, .long zA, .long zL, .long zR, .long zE])), (xi, .inl (cA 2, 80, .inl xI))]) hP hD [0, 1, 2, 3, 4] [5, 6] rfl rfl (by decide) (by decide) hk hFc hP1 hD1
        have hP : va_P D ga_cl [(cl, .inr (6, [.int r_23.2.1, .ref (u_28.2.1 0), .int r_23.2.2.1])), ((u_28.2.1 0), .inl (cA 5, r_23.2.2.2, .inr (.inr (.inr (.inr (ga_il zs (upd (fun _ => 0) 0 v_12.1) 1)))))), (rd, .inr (7, [.int v_44.2, .ref cl, .ref x])), (x, .inr (1, [.ref g, xs, xp, .ref xi, .int xl, xr, xq])), (g, .inr (2, [.ref sh, .ref al, .int gr, .ref g_b, .ref g_t])), (sh, .inr (4, [.int zw, .int zh, .long zA, .long zL, .long zR, .long zE])), (xi, .inl (cA 2, 80, .inl xI))] H_38 := hP
        have hD : va_D A [(cl, .inr (6, [.int r_23.2.1, .ref (u_28.2.1 0), .int r_23.2.2.1])), ((u_28.2.1 0), .inl (cA 5, r_23.2.2.2, .inr (.inr (.inr (.inr (ga_il zs (upd (fun _ => 0) 0 v_12.1) 1)))))), (rd, .inr (7, [.int v_44.2, .ref cl, .ref x])), (x, .inr (1, [.ref g, xs, xp, .ref xi, .int xl, xr, xq])), (g, .inr (2, [.ref sh, .ref al, .int gr, .ref g_b, .ref g_t])), (sh, .inr (4, [.int zw, .int zh, .long zA, .long zL, .long zR, .long zE])), (xi, .inl (cA 2, 80, .inl xI))] := hD
        refine W.cs (cells' := 5) (slots' := 128) rfl rfl ?_
        obtain ⟨r_48, e_49, h⟩ := ga_gb h
        have hFc := va_free (wc := []) hD hS hA [] rfl
        refine va_callr (va_runS (As := [.int v_44.1]) (rest := [.ref cl]) ⟨hx, hb, hml, hown, hts⟩ (met_J19_valueOf l D cA (va_A [] H_38.size) zs N v_44.1 r_48 e_49) (va_cwS 1 hts (lw_S q1187 q1188 q98 q1189) rfl rfl rfl (by decide +kernel) ⟨Nat.le_of_ble_eq_true rfl, Nat.le_of_ble_eq_true rfl⟩) (ga_XS hK ga_P0 (hD.sub (ws' := []) [] (by decide) rfl).self (fun _ hq => Or.inr hq) (hST.at hS hFc)) rfl rfl hl.1 rfl (lv_room (Nat.le_of_ble_eq_true rfl)) dX12_read_37 ⟨Nat.le_of_ble_eq_true rfl, Nat.le_of_ble_eq_true rfl⟩) hS (fun q _ hq => hFc q hq) hFc (fun u_53 a_54 t H_52 locs ht _ w_51 hB _ hk hS => ?_)
        obtain rfl := w_51
        obtain ⟨ea, hP1, -, hD1⟩ := hB
        subst ea
        rw [ht] at hP1
        obtain ⟨hP, hD⟩ := va_join (wr := [(cl, .inr (6, [.int r_23.2.1, .ref (u_28.2.1 0), .int r_23.2.2.1])), ((u_28.2.1 0), .inl (cA 5, r_23.2.2.2, .inr (.inr (.inr (.inr (ga_il zs (upd (fun _ => 0) 0 v_12.1) 1)))))), (rd, .inr (7, [.int v_44.2, .ref cl, .ref x])), (x, .inr (1, [.ref g, xs, xp, .ref xi, .int xl, xr, xq])), (g, .inr (2, [.ref sh, .ref al, .int gr, .ref g_b, .ref g_t])), (sh, .inr (4, [.int zw, .int zh, .long zA, .long zL, .long zR, .long zE])), (xi, .inl (cA 2, 80, .inl xI))]) (w1 := []) hP hD [] [0, 1, 2, 3, 4, 5, 6] rfl rfl (by decide) (by decide) hk hFc hP1 hD1
        have hP : va_P D ga_cl [(cl, .inr (6, [.int r_23.2.1, .ref (u_28.2.1 0), .int r_23.2.2.1])), ((u_28.2.1 0), .inl (cA 5, r_23.2.2.2, .inr (.inr (.inr (.inr (ga_il zs (upd (fun _ => 0) 0 v_12.1) 1)))))), (rd, .inr (7, [.int v_44.2, .ref cl, .ref x])), (x, .inr (1, [.ref g, xs, xp, .ref xi, .int xl, xr, xq])), (g, .inr (2, [.ref sh, .ref al, .int gr, .ref g_b, .ref g_t])), (sh, .inr (4, [.int zw, .int zh, .long zA, .long zL, .long zR, .long zE])), (xi, .inl (cA 2, 80, .inl xI))] H_52 := hP
        have hD : va_D A [(cl, .inr (6, [.int r_23.2.1, .ref (u_28.2.1 0), .int r_23.2.2.1])), ((u_28.2.1 0), .inl (cA 5, r_23.2.2.2, .inr (.inr (.inr (.inr (ga_il zs (upd (fun _ => 0) 0 v_12.1) 1)))))), (rd, .inr (7, [.int v_44.2, .ref cl, .ref x])), (x, .inr (1, [.ref g, xs, xp, .ref xi, .int xl, xr, xq])), (g, .inr (2, [.ref sh, .ref al, .int gr, .ref g_b, .ref g_t])), (sh, .inr (4, [.int zw, .int zh, .long zA, .long zL, .long zR, .long zE])), (xi, .inl (cA 2, 80, .inl xI))] := hD
        obtain ⟨r_55, e_56, h⟩ := ga_gb h
        have hFc := va_free (wc := [(cl, .inr (6, [.int r_23.2.1, .ref (u_28.2.1 0), .int r_23.2.2.1])), ((u_28.2.1 0), .inl (cA 5, r_23.2.2.2, .inr (.inr (.inr (.inr (ga_il zs (upd (fun _ => 0) 0 v_12.1) 1))))))]) hD hS hA [0, 1] rfl
        refine va_calli (va_runV (As := [.ref (ga_iv zs v_44.1)]) (rest := []) ⟨hx, hb, hml, hown, hts⟩ (met_J2_add l D cA (va_A [(cl, .inr (6, [.int r_23.2.1, .ref (u_28.2.1 0), .int r_23.2.2.1])), ((u_28.2.1 0), .inl (cA 5, r_23.2.2.2, .inr (.inr (.inr (.inr (ga_il zs (upd (fun _ => 0) 0 v_12.1) 1))))))] H_52.size) cl (u_28.2.1 0) (ga_il zs (upd (fun _ => 0) 0 v_12.1) 1) ("java/lang/Integer") (ga_iv zs v_44.1) zs r_23.2.1 r_23.2.2.1 r_23.2.2.2 N q1914 r_55 e_56) (cwV 1 hts (lw_V q1207 q259 q260 q71 q261) rfl rfl rfl (by decide +kernel) ⟨Nat.le_of_ble_eq_true rfl, Nat.le_of_ble_eq_true rfl⟩) (ga_XRV ga_eaK ⟨ga_ilel (hST.at hS hFc).2.2.2.2.2.2.2.1, ga_ivO (hST.at hS hFc).2.2.2.2.2.2.2.1⟩ hK (hP.sub (ws' := [(cl, .inr (6, [.int r_23.2.1, .ref (u_28.2.1 0), .int r_23.2.2.1])), ((u_28.2.1 0), .inl (cA 5, r_23.2.2.2, .inr (.inr (.inr (.inr (ga_il zs (upd (fun _ => 0) 0 v_12.1) 1))))))]) [0, 1] rfl) (hD.sub (ws' := [(cl, .inr (6, [.int r_23.2.1, .ref (u_28.2.1 0), .int r_23.2.2.1])), ((u_28.2.1 0), .inl (cA 5, r_23.2.2.2, .inr (.inr (.inr (.inr (ga_il zs (upd (fun _ => 0) 0 v_12.1) 1))))))]) [0, 1] (by decide) rfl).self (fun _ hq => Or.inr hq) (hST.at hS hFc) (va_recv hK.1 hP (ci := 6) (q0 := 0) rfl rfl)) rfl rfl hl.1 rfl (lv_room (Nat.le_of_ble_eq_true rfl)) dX12_read_40 ⟨Nat.le_of_ble_eq_true rfl, Nat.le_of_ble_eq_true rfl⟩) hS (fun q _ hq => hFc q hq) hFc (fun z_57 u_60 t H_59 locs ht _ w_58 hB _ hk hS => ?_)
        obtain ⟨hP1, -, hD1, f_61, f_62, f_63⟩ := hB
        obtain ⟨⟨rfl, b_64⟩, w_58⟩ := w_58
        rw [show u_60.1 = r_55.2 from w_58.symm] at hP1 hD1
        have f_65 : (u_60.2.2 0) (ix r_23.2.2.1) = some (ga_iv zs v_44.1) := by first | exact f_61 | (rw [show u_60.1 = r_55.2 from w_58.symm] at f_61; exact f_61)
        have f_66 : ∀ j : Nat, j < r_23.2.2.2 → j ≠ ix r_23.2.2.1 → (u_60.2.2 0) j = (ga_il zs (upd (fun _ => 0) 0 v_12.1) 1) j := by first | exact f_62 | (rw [show u_60.1 = r_55.2 from w_58.symm] at f_62; exact f_62)
        have f_67 : ∀ (j y : Nat), j ≠ ix r_23.2.2.1 → (u_60.2.2 0) j = some y → (ga_il zs (upd (fun _ => 0) 0 v_12.1) 1) j = some y := by first | exact f_63 | (rw [show u_60.1 = r_55.2 from w_58.symm] at f_63; exact f_63)
        rw [ht] at hP1
        obtain ⟨hP, hD⟩ := va_join (wr := [(rd, .inr (7, [.int v_44.2, .ref cl, .ref x])), (x, .inr (1, [.ref g, xs, xp, .ref xi, .int xl, xr, xq])), (g, .inr (2, [.ref sh, .ref al, .int gr, .ref g_b, .ref g_t])), (sh, .inr (4, [.int zw, .int zh, .long zA, .long zL, .long zR, .long zE])), (xi, .inl (cA 2, 80, .inl xI))]) (w1 := [(cl, .inr (6, [.int r_55.2.1, .ref (u_60.2.1 0), .int r_55.2.2.1])), ((u_60.2.1 0), .inl (cA 5, r_55.2.2.2, .inr (.inr (.inr (.inr (u_60.2.2 0))))))]) hP hD [0, 1] [2, 3, 4, 5, 6] rfl rfl (by decide) (by decide) hk hFc hP1 hD1
        have hP : va_P D ga_cl [(rd, .inr (7, [.int v_44.2, .ref cl, .ref x])), (x, .inr (1, [.ref g, xs, xp, .ref xi, .int xl, xr, xq])), (g, .inr (2, [.ref sh, .ref al, .int gr, .ref g_b, .ref g_t])), (sh, .inr (4, [.int zw, .int zh, .long zA, .long zL, .long zR, .long zE])), (xi, .inl (cA 2, 80, .inl xI)), (cl, .inr (6, [.int r_55.2.1, .ref (u_60.2.1 0), .int r_55.2.2.1])), ((u_60.2.1 0), .inl (cA 5, r_55.2.2.2, .inr (.inr (.inr (.inr (u_60.2.2 0))))))] H_59 := hP
        have hD : va_D A [(rd, .inr (7, [.int v_44.2, .ref cl, .ref x])), (x, .inr (1, [.ref g, xs, xp, .ref xi, .int xl, xr, xq])), (g, .inr (2, [.ref sh, .ref al, .int gr, .ref g_b, .ref g_t])), (sh, .inr (4, [.int zw, .int zh, .long zA, .long zL, .long zR, .long zE])), (xi, .inl (cA 2, 80, .inl xI)), (cl, .inr (6, [.int r_55.2.1, .ref (u_60.2.1 0), .int r_55.2.2.1])), ((u_60.2.1 0), .inl (cA 5, r_55.2.2.2, .inr (.inr (.inr (.inr (u_60.2.2 0))))))] := hD
        obtain ⟨⟨lg_68, lg_69⟩, h⟩ := ga_gif h
        replace hP := ga_cong (g := (ga_il zs (upd (upd (fun _ => 0) 0 v_12.1) 1 v_44.1) (1 + 1))) hP (i := 6) rfl (ga_ilnS f_65 f_66 f_67 lg_68 lg_69)
        replace hD := hD.set (p := 6) (e := .inl (cA 5, r_55.2.2.2, .inr (.inr (.inr (.inr (ga_il zs (upd (upd (fun _ => 0) 0 v_12.1) 1 v_44.1) (1 + 1))))))) rfl
        have hP : va_P D ga_cl [(rd, .inr (7, [.int v_44.2, .ref cl, .ref x])), (x, .inr (1, [.ref g, xs, xp, .ref xi, .int xl, xr, xq])), (g, .inr (2, [.ref sh, .ref al, .int gr, .ref g_b, .ref g_t])), (sh, .inr (4, [.int zw, .int zh, .long zA, .long zL, .long zR, .long zE])), (xi, .inl (cA 2, 80, .inl xI)), (cl, .inr (6, [.int r_55.2.1, .ref (u_60.2.1 0), .int r_55.2.2.1])), ((u_60.2.1 0), .inl (cA 5, r_55.2.2.2, .inr (.inr (.inr (.inr (ga_il zs (upd (upd (fun _ => 0) 0 v_12.1) 1 v_44.1) (1 + 1)))))))] H_59 := hP
        have hD : va_D A [(rd, .inr (7, [.int v_44.2, .ref cl, .ref x])), (x, .inr (1, [.ref g, xs, xp, .ref xi, .int xl, xr, xq])), (g, .inr (2, [.ref sh, .ref al, .int gr, .ref g_b, .ref g_t])), (sh, .inr (4, [.int zw, .int zh, .long zA, .long zL, .long zR, .long zE])), (xi, .inl (cA 2, 80, .inl xI)), (cl, .inr (6, [.int r_55.2.1, .ref (u_60.2.1 0), .int r_55.2.2.1])), ((u_60.2.1 0), .inl (cA 5, r_55.2.2.2, .inr (.inr (.inr (.inr (ga_il zs (upd (upd (fun _ => 0) 0 v_12.1) 1 v_44.1) (1 + 1)))))))] := hD
        refine W.cs (cells' := 6) (slots' := 228) rfl rfl ?_
        refine lv_istore_n (lv' := [(1, .int r_55.1), (0, .ref rd)]) hx hb dX12_read_43 rfl hl (by decide) rfl (fun ls hl => ?_)
        refine lv_aload_n hx hb dX12_read_44 rfl (lv_at hl 1 rfl) ?_
        refine lv_aload_n hx hb dX12_read_45 rfl (lv_at hl 1 rfl) ?_
        obtain ⟨r_70, e_71, h⟩ := ga_gb h
        refine vp_callSi (va_Run.run (va_runV (As := []) (rest := [.ref rd]) ⟨hx, hb, hml, hown, hts⟩ (met_X12_next l D cA rd cl x g xs xp xi xr xq v_44.2 xl xI N r_70 e_71) (cwV 0 hts (lw_V q1155 q1157 qs24 q100 q1158) rfl rfl rfl (by decide +kernel) ⟨Nat.le_of_ble_eq_true rfl, Nat.le_of_ble_eq_true rfl⟩) (ga_PV hK (hP.sub (ws' := [(rd, .inr (7, [.int v_44.2, .ref cl, .ref x])), (x, .inr (1, [.ref g, xs, xp, .ref xi, .int xl, xr, xq])), (xi, .inl (cA 2, 80, .inl xI))]) [0, 1, 4] rfl) (va_recv hK.1 hP (ci := 7) (q0 := 0) rfl rfl)) rfl rfl hl.1 rfl (lv_room (Nat.le_of_ble_eq_true rfl)) dX12_read_46 ⟨Nat.le_of_ble_eq_true rfl, Nat.le_of_ble_eq_true rfl⟩)) (fun z_72 w_73 => ?_)
        obtain rfl := w_73
        refine lv_bipush (v := 59) hx hb dX12_read_49 (by decide) ?_
        refine lv_icmp_ne (tgt := 58) hx hb dX12_read_51 (by decide) (fun c_75 => ?_) (fun c_75 => ?_)
        · replace h := ga_iff c_75 h
          refine lv_iconst (v := 0) hx hb dX12_read_58 (by decide) ?_
          obtain ⟨r_76, e_77, h⟩ := ga_gb h
          have hFc := va_free (wc := [(rd, .inr (7, [.int v_44.2, .ref cl, .ref x]))]) hD hS hA [0] rfl
          refine vx_callv (vx_runV (As := [.int 0]) (rest := []) ⟨hx, hb, hml, hown, hts⟩ (met_X12_need l D cA (va_A [(rd, .inr (7, [.int v_44.2, .ref cl, .ref x]))] H_59.size) rd cl x zs v_44.2 N 0 hX.2 r_76 e_77) (cwV 1 hts (lw_V q1164 q1166 qs26 q100 q1167) rfl rfl rfl (by decide +kernel) ⟨Nat.le_of_ble_eq_true rfl, Nat.le_of_ble_eq_true rfl⟩) (ga_XV hK (hP.sub (ws' := [(rd, .inr (7, [.int v_44.2, .ref cl, .ref x]))]) [0] rfl) (hD.sub (ws' := [(rd, .inr (7, [.int v_44.2, .ref cl, .ref x]))]) [0] (by decide) rfl).self (fun _ hq => Or.inr hq) (hST.at hS hFc) (va_recv hK.1 hP (ci := 7) (q0 := 0) rfl rfl)) rfl rfl hl.1 rfl (lv_room (Nat.le_of_ble_eq_true rfl)) dX12_read_59 ⟨Nat.le_of_ble_eq_true rfl, Nat.le_of_ble_eq_true rfl⟩) hS (fun q _ hq => hFc q hq) hFc (fun q _ hq => hFc q hq) (fun E_83 ce q_84 u_85 t H_82 locs ht _ w_79 hB _ hk hS hce hcv hcl => ?_) (fun u_81 t H_80 locs ht _ w_79 hB _ hk hS => ?_)
          · obtain ⟨u_81, n_87⟩ := u_85
            replace h := ga_swr w_79 h
            obtain ⟨eE, hP1, hD1, hM1⟩ := hB
            rw [ht] at hP1 hM1
            have eE : E_83 = ga_en u_81.1 := eE
            have hP1 : va_P D ga_cl (if u_81.1 = 9 then [(q_84, .inr (14, [.null, .null, .null, .null, .null, .int 0, .int (u_81.2 0)]))] else [(rd, .inr (7, [.int v_44.2, .ref cl, .ref x]))]) H_82 := hP1
            have hD1 : va_D _ (if u_81.1 = 9 then [(q_84, .inr (14, [.null, .null, .null, .null, .null, .int 0, .int (u_81.2 0)]))] else [(rd, .inr (7, [.int v_44.2, .ref cl, .ref x]))]) := hD1
            have hM1 : ∀ a ∈ (if u_81.1 = 9 then ([] : List Nat) else ([] : List Nat)), ga_M a H_82 := hM1
            by_cases c_88 : u_81.1 = 9
            · replace h := ga_ift c_88 h
              have eE : E_83 = "EnclosureReferee$TextException" := by rw [eE, c_88]; rfl
              subst eE
              rw [c_88, if_pos rfl] at hP1 hD1 hM1
              obtain ⟨hP, hD⟩ := va_join (wr := [(x, .inr (1, [.ref g, xs, xp, .ref xi, .int xl, xr, xq])), (g, .inr (2, [.ref sh, .ref al, .int gr, .ref g_b, .ref g_t])), (sh, .inr (4, [.int zw, .int zh, .long zA, .long zL, .long zR, .long zE])), (xi, .inl (cA 2, 80, .inl xI)), (cl, .inr (6, [.int r_55.2.1, .ref (u_60.2.1 0), .int r_55.2.2.1])), ((u_60.2.1 0), .inl (cA 5, r_55.2.2.2, .inr (.inr (.inr (.inr (ga_il zs (upd (upd (fun _ => 0) 0 v_12.1) 1 v_44.1) (1 + 1)))))))]) (w1 := [(q_84, .inr (14, [.null, .null, .null, .null, .null, .int 0, .int (u_81.2 0)]))]) hP hD [0] [1, 2, 3, 4, 5, 6] rfl rfl (by decide) (by decide) hk hFc hP1 hD1
              have hP : va_P D ga_cl [(x, .inr (1, [.ref g, xs, xp, .ref xi, .int xl, xr, xq])), (g, .inr (2, [.ref sh, .ref al, .int gr, .ref g_b, .ref g_t])), (sh, .inr (4, [.int zw, .int zh, .long zA, .long zL, .long zR, .long zE])), (xi, .inl (cA 2, 80, .inl xI)), (cl, .inr (6, [.int r_55.2.1, .ref (u_60.2.1 0), .int r_55.2.2.1])), ((u_60.2.1 0), .inl (cA 5, r_55.2.2.2, .inr (.inr (.inr (.inr (ga_il zs (upd (upd (fun _ => 0) 0 v_12.1) 1 v_44.1) (1 + 1))))))), (q_84, .inr (14, [.null, .null, .null, .null, .null, .int 0, .int (u_81.2 0)]))] H_82 := hP
              have hD : va_D A [(x, .inr (1, [.ref g, xs, xp, .ref xi, .int xl, xr, xq])), (g, .inr (2, [.ref sh, .ref al, .int gr, .ref g_b, .ref g_t])), (sh, .inr (4, [.int zw, .int zh, .long zA, .long zL, .long zR, .long zE])), (xi, .inl (cA 2, 80, .inl xI)), (cl, .inr (6, [.int r_55.2.1, .ref (u_60.2.1 0), .int r_55.2.2.1])), ((u_60.2.1 0), .inl (cA 5, r_55.2.2.2, .inr (.inr (.inr (.inr (ga_il zs (upd (upd (fun _ => 0) 0 v_12.1) 1 v_44.1) (1 + 1))))))), (q_84, .inr (14, [.null, .null, .null, .null, .null, .int 0, .int (u_81.2 0)]))] := hD
              have hP9 := hP.sub (ws' := [(x, .inr (1, [.ref g, xs, xp, .ref xi, .int xl, xr, xq])), (g, .inr (2, [.ref sh, .ref al, .int gr, .ref g_b, .ref g_t])), (sh, .inr (4, [.int zw, .int zh, .long zA, .long zL, .long zR, .long zE])), (xi, .inl (cA 2, 80, .inl xI)), (q_84, .inr (14, [.null, .null, .null, .null, .null, .int 0, .int (u_81.2 0)]))]) [0, 1, 2, 3, 6] rfl
              have hD9 := hD.sub (ws' := [(x, .inr (1, [.ref g, xs, xp, .ref xi, .int xl, xr, xq])), (g, .inr (2, [.ref sh, .ref al, .int gr, .ref g_b, .ref g_t])), (sh, .inr (4, [.int zw, .int zh, .long zA, .long zL, .long zR, .long zE])), (xi, .inl (cA 2, 80, .inl xI)), (q_84, .inr (14, [.null, .null, .null, .null, .null, .int 0, .int (u_81.2 0)]))]) [0, 1, 2, 3, 6] (by decide) rfl
              have hM9 : (∀ a ∈ ([] : List Nat), ga_M a H_82) := (fun _ hz => nomatch hz)
              obtain rfl := Option.some.inj h
              exact vx_outP hown hlocks (fun x hx9 => (hX.1 x hx9).elim) hce hcv hcl (fun t ht _ => ⟨((9, ga_xd [(u_81.2 0)]), ga_ad []), rfl, ⟨rfl, by rw [ht]; exact hP9, hD9, by rw [ht]; exact hM9⟩, hS.F ht⟩) hS.2.2 (by decide) (by decide)
            · replace h := ga_iff c_88 h
              cases h
          · obtain ⟨v_86, ev_86, hv9⟩ := w_79
            replace h := ga_swl ev_86 h
            obtain rfl := hv9
            obtain ⟨hP1, -, hD1⟩ := hB
            rw [ht] at hP1
            obtain ⟨hP, hD⟩ := va_join (wr := [(x, .inr (1, [.ref g, xs, xp, .ref xi, .int xl, xr, xq])), (g, .inr (2, [.ref sh, .ref al, .int gr, .ref g_b, .ref g_t])), (sh, .inr (4, [.int zw, .int zh, .long zA, .long zL, .long zR, .long zE])), (xi, .inl (cA 2, 80, .inl xI)), (cl, .inr (6, [.int r_55.2.1, .ref (u_60.2.1 0), .int r_55.2.2.1])), ((u_60.2.1 0), .inl (cA 5, r_55.2.2.2, .inr (.inr (.inr (.inr (ga_il zs (upd (upd (fun _ => 0) 0 v_12.1) 1 v_44.1) (1 + 1)))))))]) (w1 := [(rd, .inr (7, [.int v_44.2, .ref cl, .ref x]))]) hP hD [0] [1, 2, 3, 4, 5, 6] rfl rfl (by decide) (by decide) hk hFc hP1 hD1
            have hP : va_P D ga_cl [(x, .inr (1, [.ref g, xs, xp, .ref xi, .int xl, xr, xq])), (g, .inr (2, [.ref sh, .ref al, .int gr, .ref g_b, .ref g_t])), (sh, .inr (4, [.int zw, .int zh, .long zA, .long zL, .long zR, .long zE])), (xi, .inl (cA 2, 80, .inl xI)), (cl, .inr (6, [.int r_55.2.1, .ref (u_60.2.1 0), .int r_55.2.2.1])), ((u_60.2.1 0), .inl (cA 5, r_55.2.2.2, .inr (.inr (.inr (.inr (ga_il zs (upd (upd (fun _ => 0) 0 v_12.1) 1 v_44.1) (1 + 1))))))), (rd, .inr (7, [.int v_44.2, .ref cl, .ref x]))] H_80 := hP
            have hD : va_D A [(x, .inr (1, [.ref g, xs, xp, .ref xi, .int xl, xr, xq])), (g, .inr (2, [.ref sh, .ref al, .int gr, .ref g_b, .ref g_t])), (sh, .inr (4, [.int zw, .int zh, .long zA, .long zL, .long zR, .long zE])), (xi, .inl (cA 2, 80, .inl xI)), (cl, .inr (6, [.int r_55.2.1, .ref (u_60.2.1 0), .int r_55.2.2.1])), ((u_60.2.1 0), .inl (cA 5, r_55.2.2.2, .inr (.inr (.inr (.inr (ga_il zs (upd (upd (fun _ => 0) 0 v_12.1) 1 v_44.1) (1 + 1))))))), (rd, .inr (7, [.int v_44.2, .ref cl, .ref x]))] := hD
            refine W.cs (cells' := 7) (slots' := 235) rfl rfl ?_
            refine lv_aload_n hx hb dX12_read_62 rfl (lv_at hl 1 rfl) ?_
            obtain ⟨r_90, e_91, h⟩ := ga_gb h
            have hFc := va_free (wc := [(rd, .inr (7, [.int v_44.2, .ref cl, .ref x]))]) hD hS hA [6] rfl
            refine va_callv (va_runV (As := []) (rest := []) ⟨hx, hb, hml, hown, hts⟩ (met_X12_take l D cA (va_A [(rd, .inr (7, [.int v_44.2, .ref cl, .ref x]))] H_80.size) rd cl x v_44.2 N r_90 e_91) (cwV 0 hts (lw_V q1159 q1161 qs25 q100 q1162) rfl rfl rfl (by decide +kernel) ⟨Nat.le_of_ble_eq_true rfl, Nat.le_of_ble_eq_true rfl⟩) (ga_LV hK (hP.sub (ws' := [(rd, .inr (7, [.int v_44.2, .ref cl, .ref x]))]) [6] rfl) (hD.sub (ws' := [(rd, .inr (7, [.int v_44.2, .ref cl, .ref x]))]) [6] (by decide) rfl).self (fun _ hq => Or.inr hq) (va_recv hK.1 hP (ci := 7) (q0 := 6) rfl rfl)) rfl rfl hl.1 rfl (lv_room (Nat.le_of_ble_eq_true rfl)) dX12_read_63 ⟨Nat.le_of_ble_eq_true rfl, Nat.le_of_ble_eq_true rfl⟩) hS (fun q _ hq => hFc q hq) hFc (fun u_95 t H_94 locs ht _ w_93 hB _ hk hS => ?_)
            obtain ⟨hP1, -, hD1⟩ := hB
            obtain rfl := w_93
            rw [ht] at hP1
            obtain ⟨hP, hD⟩ := va_join (wr := [(x, .inr (1, [.ref g, xs, xp, .ref xi, .int xl, xr, xq])), (g, .inr (2, [.ref sh, .ref al, .int gr, .ref g_b, .ref g_t])), (sh, .inr (4, [.int zw, .int zh, .long zA, .long zL, .long zR, .long zE])), (xi, .inl (cA 2, 80, .inl xI)), (cl, .inr (6, [.int r_55.2.1, .ref (u_60.2.1 0), .int r_55.2.2.1])), ((u_60.2.1 0), .inl (cA 5, r_55.2.2.2, .inr (.inr (.inr (.inr (ga_il zs (upd (upd (fun _ => 0) 0 v_12.1) 1 v_44.1) (1 + 1)))))))]) (w1 := [(rd, .inr (7, [.int r_90, .ref cl, .ref x]))]) hP hD [6] [0, 1, 2, 3, 4, 5] rfl rfl (by decide) (by decide) hk hFc hP1 hD1
            have hP : va_P D ga_cl [(x, .inr (1, [.ref g, xs, xp, .ref xi, .int xl, xr, xq])), (g, .inr (2, [.ref sh, .ref al, .int gr, .ref g_b, .ref g_t])), (sh, .inr (4, [.int zw, .int zh, .long zA, .long zL, .long zR, .long zE])), (xi, .inl (cA 2, 80, .inl xI)), (cl, .inr (6, [.int r_55.2.1, .ref (u_60.2.1 0), .int r_55.2.2.1])), ((u_60.2.1 0), .inl (cA 5, r_55.2.2.2, .inr (.inr (.inr (.inr (ga_il zs (upd (upd (fun _ => 0) 0 v_12.1) 1 v_44.1) (1 + 1))))))), (rd, .inr (7, [.int r_90, .ref cl, .ref x]))] H_94 := hP
            have hD : va_D A [(x, .inr (1, [.ref g, xs, xp, .ref xi, .int xl, xr, xq])), (g, .inr (2, [.ref sh, .ref al, .int gr, .ref g_b, .ref g_t])), (sh, .inr (4, [.int zw, .int zh, .long zA, .long zL, .long zR, .long zE])), (xi, .inl (cA 2, 80, .inl xI)), (cl, .inr (6, [.int r_55.2.1, .ref (u_60.2.1 0), .int r_55.2.2.1])), ((u_60.2.1 0), .inl (cA 5, r_55.2.2.2, .inr (.inr (.inr (.inr (ga_il zs (upd (upd (fun _ => 0) 0 v_12.1) 1 v_44.1) (1 + 1))))))), (rd, .inr (7, [.int r_90, .ref cl, .ref x]))] := hD
            refine lv_goto (tgt := 0) hx hb dX12_read_66 (by decide) ?_
            exact w_X12_read_1_0 C hK hA hST hX N (7) (235) (u_60.2.1 0) r_55.2.1 r_55.2.2.1 (upd (upd (fun _ => 0) 0 v_12.1) 1 v_44.1) (1 + 1) r_55.2.2.2 r_90 (show 7 + 7 * (81 - ix r_90) ≤ 600 by omega) (show 235 + 235 * (81 - ix r_90) ≤ 20000 by omega) h _ _ (hP.sub [0, 1, 2, 3, 4, 5, 6] rfl) (hD.sub [0, 1, 2, 3, 4, 5, 6] (by decide) rfl) hS _ (lv_sub hl [1] rfl)
        · replace h := ga_ift c_75 h
          refine lv_iconst (v := 1) hx hb dX12_read_54 (by decide) ?_
          refine lv_goto (tgt := 59) hx hb dX12_read_55 (by decide) ?_
          obtain ⟨r_97, e_98, h⟩ := ga_gb h
          have hFc := va_free (wc := [(rd, .inr (7, [.int v_44.2, .ref cl, .ref x]))]) hD hS hA [0] rfl
          refine vx_callv (vx_runV (As := [.int 1]) (rest := []) ⟨hx, hb, hml, hown, hts⟩ (met_X12_need l D cA (va_A [(rd, .inr (7, [.int v_44.2, .ref cl, .ref x]))] H_59.size) rd cl x zs v_44.2 N 1 hX.2 r_97 e_98) (cwV 1 hts (lw_V q1164 q1166 qs26 q100 q1167) rfl rfl rfl (by decide +kernel) ⟨Nat.le_of_ble_eq_true rfl, Nat.le_of_ble_eq_true rfl⟩) (ga_XV hK (hP.sub (ws' := [(rd, .inr (7, [.int v_44.2, .ref cl, .ref x]))]) [0] rfl) (hD.sub (ws' := [(rd, .inr (7, [.int v_44.2, .ref cl, .ref x]))]) [0] (by decide) rfl).self (fun _ hq => Or.inr hq) (hST.at hS hFc) (va_recv hK.1 hP (ci := 7) (q0 := 0) rfl rfl)) rfl rfl hl.1 rfl (lv_room (Nat.le_of_ble_eq_true rfl)) dX12_read_59 ⟨Nat.le_of_ble_eq_true rfl, Nat.le_of_ble_eq_true rfl⟩) hS (fun q _ hq => hFc q hq) hFc (fun q _ hq => hFc q hq) (fun E_104 ce q_105 u_106 t H_103 locs ht _ w_100 hB _ hk hS hce hcv hcl => ?_) (fun u_102 t H_101 locs ht _ w_100 hB _ hk hS => ?_)
          · obtain ⟨u_102, n_108⟩ := u_106
            replace h := ga_swr w_100 h
            obtain ⟨eE, hP1, hD1, hM1⟩ := hB
            rw [ht] at hP1 hM1
            have eE : E_104 = ga_en u_102.1 := eE
            have hP1 : va_P D ga_cl (if u_102.1 = 9 then [(q_105, .inr (14, [.null, .null, .null, .null, .null, .int 0, .int (u_102.2 0)]))] else [(rd, .inr (7, [.int v_44.2, .ref cl, .ref x]))]) H_103 := hP1
            have hD1 : va_D _ (if u_102.1 = 9 then [(q_105, .inr (14, [.null, .null, .null, .null, .null, .int 0, .int (u_102.2 0)]))] else [(rd, .inr (7, [.int v_44.2, .ref cl, .ref x]))]) := hD1
            have hM1 : ∀ a ∈ (if u_102.1 = 9 then ([] : List Nat) else ([] : List Nat)), ga_M a H_103 := hM1
            by_cases c_109 : u_102.1 = 9
            · replace h := ga_ift c_109 h
              have eE : E_104 = "EnclosureReferee$TextException" := by rw [eE, c_109]; rfl
              subst eE
              rw [c_109, if_pos rfl] at hP1 hD1 hM1
              obtain ⟨hP, hD⟩ := va_join (wr := [(x, .inr (1, [.ref g, xs, xp, .ref xi, .int xl, xr, xq])), (g, .inr (2, [.ref sh, .ref al, .int gr, .ref g_b, .ref g_t])), (sh, .inr (4, [.int zw, .int zh, .long zA, .long zL, .long zR, .long zE])), (xi, .inl (cA 2, 80, .inl xI)), (cl, .inr (6, [.int r_55.2.1, .ref (u_60.2.1 0), .int r_55.2.2.1])), ((u_60.2.1 0), .inl (cA 5, r_55.2.2.2, .inr (.inr (.inr (.inr (ga_il zs (upd (upd (fun _ => 0) 0 v_12.1) 1 v_44.1) (1 + 1)))))))]) (w1 := [(q_105, .inr (14, [.null, .null, .null, .null, .null, .int 0, .int (u_102.2 0)]))]) hP hD [0] [1, 2, 3, 4, 5, 6] rfl rfl (by decide) (by decide) hk hFc hP1 hD1
              have hP : va_P D ga_cl [(x, .inr (1, [.ref g, xs, xp, .ref xi, .int xl, xr, xq])), (g, .inr (2, [.ref sh, .ref al, .int gr, .ref g_b, .ref g_t])), (sh, .inr (4, [.int zw, .int zh, .long zA, .long zL, .long zR, .long zE])), (xi, .inl (cA 2, 80, .inl xI)), (cl, .inr (6, [.int r_55.2.1, .ref (u_60.2.1 0), .int r_55.2.2.1])), ((u_60.2.1 0), .inl (cA 5, r_55.2.2.2, .inr (.inr (.inr (.inr (ga_il zs (upd (upd (fun _ => 0) 0 v_12.1) 1 v_44.1) (1 + 1))))))), (q_105, .inr (14, [.null, .null, .null, .null, .null, .int 0, .int (u_102.2 0)]))] H_103 := hP
              have hD : va_D A [(x, .inr (1, [.ref g, xs, xp, .ref xi, .int xl, xr, xq])), (g, .inr (2, [.ref sh, .ref al, .int gr, .ref g_b, .ref g_t])), (sh, .inr (4, [.int zw, .int zh, .long zA, .long zL, .long zR, .long zE])), (xi, .inl (cA 2, 80, .inl xI)), (cl, .inr (6, [.int r_55.2.1, .ref (u_60.2.1 0), .int r_55.2.2.1])), ((u_60.2.1 0), .inl (cA 5, r_55.2.2.2, .inr (.inr (.inr (.inr (ga_il zs (upd (upd (fun _ => 0) 0 v_12.1) 1 v_44.1) (1 + 1))))))), (q_105, .inr (14, [.null, .null, .null, .null, .null, .int 0, .int (u_102.2 0)]))] := hD
              have hP9 := hP.sub (ws' := [(x, .inr (1, [.ref g, xs, xp, .ref xi, .int xl, xr, xq])), (g, .inr (2, [.ref sh, .ref al, .int gr, .ref g_b, .ref g_t])), (sh, .inr (4, [.int zw, .int zh, .long zA, .long zL, .long zR, .long zE])), (xi, .inl (cA 2, 80, .inl xI)), (q_105, .inr (14, [.null, .null, .null, .null, .null, .int 0, .int (u_102.2 0)]))]) [0, 1, 2, 3, 6] rfl
              have hD9 := hD.sub (ws' := [(x, .inr (1, [.ref g, xs, xp, .ref xi, .int xl, xr, xq])), (g, .inr (2, [.ref sh, .ref al, .int gr, .ref g_b, .ref g_t])), (sh, .inr (4, [.int zw, .int zh, .long zA, .long zL, .long zR, .long zE])), (xi, .inl (cA 2, 80, .inl xI)), (q_105, .inr (14, [.null, .null, .null, .null, .null, .int 0, .int (u_102.2 0)]))]) [0, 1, 2, 3, 6] (by decide) rfl
              have hM9 : (∀ a ∈ ([] : List Nat), ga_M a H_103) := (fun _ hz => nomatch hz)
              obtain rfl := Option.some.inj h
              exact vx_outP hown hlocks (fun x hx9 => (hX.1 x hx9).elim) hce hcv hcl (fun t ht _ => ⟨((9, ga_xd [(u_102.2 0)]), ga_ad []), rfl, ⟨rfl, by rw [ht]; exact hP9, hD9, by rw [ht]; exact hM9⟩, hS.F ht⟩) hS.2.2 (by decide) (by decide)
            · replace h := ga_iff c_109 h
              cases h
          · obtain ⟨v_107, ev_107, hv9⟩ := w_100
            replace h := ga_swl ev_107 h
            obtain rfl := hv9
            obtain ⟨hP1, -, hD1⟩ := hB
            rw [ht] at hP1
            obtain ⟨hP, hD⟩ := va_join (wr := [(x, .inr (1, [.ref g, xs, xp, .ref xi, .int xl, xr, xq])), (g, .inr (2, [.ref sh, .ref al, .int gr, .ref g_b, .ref g_t])), (sh, .inr (4, [.int zw, .int zh, .long zA, .long zL, .long zR, .long zE])), (xi, .inl (cA 2, 80, .inl xI)), (cl, .inr (6, [.int r_55.2.1, .ref (u_60.2.1 0), .int r_55.2.2.1])), ((u_60.2.1 0), .inl (cA 5, r_55.2.2.2, .inr (.inr (.inr (.inr (ga_il zs (upd (upd (fun _ => 0) 0 v_12.1) 1 v_44.1) (1 + 1)))))))]) (w1 := [(rd, .inr (7, [.int v_44.2, .ref cl, .ref x]))]) hP hD [0] [1, 2, 3, 4, 5, 6] rfl rfl (by decide) (by decide) hk hFc hP1 hD1
            have hP : va_P D ga_cl [(x, .inr (1, [.ref g, xs, xp, .ref xi, .int xl, xr, xq])), (g, .inr (2, [.ref sh, .ref al, .int gr, .ref g_b, .ref g_t])), (sh, .inr (4, [.int zw, .int zh, .long zA, .long zL, .long zR, .long zE])), (xi, .inl (cA 2, 80, .inl xI)), (cl, .inr (6, [.int r_55.2.1, .ref (u_60.2.1 0), .int r_55.2.2.1])), ((u_60.2.1 0), .inl (cA 5, r_55.2.2.2, .inr (.inr (.inr (.inr (ga_il zs (upd (upd (fun _ => 0) 0 v_12.1) 1 v_44.1) (1 + 1))))))), (rd, .inr (7, [.int v_44.2, .ref cl, .ref x]))] H_101 := hP
            have hD : va_D A [(x, .inr (1, [.ref g, xs, xp, .ref xi, .int xl, xr, xq])), (g, .inr (2, [.ref sh, .ref al, .int gr, .ref g_b, .ref g_t])), (sh, .inr (4, [.int zw, .int zh, .long zA, .long zL, .long zR, .long zE])), (xi, .inl (cA 2, 80, .inl xI)), (cl, .inr (6, [.int r_55.2.1, .ref (u_60.2.1 0), .int r_55.2.2.1])), ((u_60.2.1 0), .inl (cA 5, r_55.2.2.2, .inr (.inr (.inr (.inr (ga_il zs (upd (upd (fun _ => 0) 0 v_12.1) 1 v_44.1) (1 + 1))))))), (rd, .inr (7, [.int v_44.2, .ref cl, .ref x]))] := hD
            refine W.cs (cells' := 7) (slots' := 235) rfl rfl ?_
            refine lv_aload_n hx hb dX12_read_62 rfl (lv_at hl 1 rfl) ?_
            obtain ⟨r_111, e_112, h⟩ := ga_gb h
            have hFc := va_free (wc := [(rd, .inr (7, [.int v_44.2, .ref cl, .ref x]))]) hD hS hA [6] rfl
            refine va_callv (va_runV (As := []) (rest := []) ⟨hx, hb, hml, hown, hts⟩ (met_X12_take l D cA (va_A [(rd, .inr (7, [.int v_44.2, .ref cl, .ref x]))] H_101.size) rd cl x v_44.2 N r_111 e_112) (cwV 0 hts (lw_V q1159 q1161 qs25 q100 q1162) rfl rfl rfl (by decide +kernel) ⟨Nat.le_of_ble_eq_true rfl, Nat.le_of_ble_eq_true rfl⟩) (ga_LV hK (hP.sub (ws' := [(rd, .inr (7, [.int v_44.2, .ref cl, .ref x]))]) [6] rfl) (hD.sub (ws' := [(rd, .inr (7, [.int v_44.2, .ref cl, .ref x]))]) [6] (by decide) rfl).self (fun _ hq => Or.inr hq) (va_recv hK.1 hP (ci := 7) (q0 := 6) rfl rfl)) rfl rfl hl.1 rfl (lv_room (Nat.le_of_ble_eq_true rfl)) dX12_read_63 ⟨Nat.le_of_ble_eq_true rfl, Nat.le_of_ble_eq_true rfl⟩) hS (fun q _ hq => hFc q hq) hFc (fun u_116 t H_115 locs ht _ w_114 hB _ hk hS => ?_)
            obtain ⟨hP1, -, hD1⟩ := hB
            obtain rfl := w_114
            rw [ht] at hP1
            obtain ⟨hP, hD⟩ := va_join (wr := [(x, .inr (1, [.ref g, xs, xp, .ref xi, .int xl, xr, xq])), (g, .inr (2, [.ref sh, .ref al, .int gr, .ref g_b, .ref g_t])), (sh, .inr (4, [.int zw, .int zh, .long zA, .long zL, .long zR, .long zE])), (xi, .inl (cA 2, 80, .inl xI)), (cl, .inr (6, [.int r_55.2.1, .ref (u_60.2.1 0), .int r_55.2.2.1])), ((u_60.2.1 0), .inl (cA 5, r_55.2.2.2, .inr (.inr (.inr (.inr (ga_il zs (upd (upd (fun _ => 0) 0 v_12.1) 1 v_44.1) (1 + 1)))))))]) (w1 := [(rd, .inr (7, [.int r_111, .ref cl, .ref x]))]) hP hD [6] [0, 1, 2, 3, 4, 5] rfl rfl (by decide) (by decide) hk hFc hP1 hD1
            have hP : va_P D ga_cl [(x, .inr (1, [.ref g, xs, xp, .ref xi, .int xl, xr, xq])), (g, .inr (2, [.ref sh, .ref al, .int gr, .ref g_b, .ref g_t])), (sh, .inr (4, [.int zw, .int zh, .long zA, .long zL, .long zR, .long zE])), (xi, .inl (cA 2, 80, .inl xI)), (cl, .inr (6, [.int r_55.2.1, .ref (u_60.2.1 0), .int r_55.2.2.1])), ((u_60.2.1 0), .inl (cA 5, r_55.2.2.2, .inr (.inr (.inr (.inr (ga_il zs (upd (upd (fun _ => 0) 0 v_12.1) 1 v_44.1) (1 + 1))))))), (rd, .inr (7, [.int r_111, .ref cl, .ref x]))] H_115 := hP
            have hD : va_D A [(x, .inr (1, [.ref g, xs, xp, .ref xi, .int xl, xr, xq])), (g, .inr (2, [.ref sh, .ref al, .int gr, .ref g_b, .ref g_t])), (sh, .inr (4, [.int zw, .int zh, .long zA, .long zL, .long zR, .long zE])), (xi, .inl (cA 2, 80, .inl xI)), (cl, .inr (6, [.int r_55.2.1, .ref (u_60.2.1 0), .int r_55.2.2.1])), ((u_60.2.1 0), .inl (cA 5, r_55.2.2.2, .inr (.inr (.inr (.inr (ga_il zs (upd (upd (fun _ => 0) 0 v_12.1) 1 v_44.1) (1 + 1))))))), (rd, .inr (7, [.int r_111, .ref cl, .ref x]))] := hD
            refine lv_goto (tgt := 0) hx hb dX12_read_66 (by decide) ?_
            exact w_X12_read_1_0 C hK hA hST hX N (7) (235) (u_60.2.1 0) r_55.2.1 r_55.2.2.1 (upd (upd (fun _ => 0) 0 v_12.1) 1 v_44.1) (1 + 1) r_55.2.2.2 r_111 (show 7 + 7 * (81 - ix r_111) ≤ 600 by omega) (show 235 + 235 * (81 - ix r_111) ≤ 20000 by omega) h _ _ (hP.sub [0, 1, 2, 3, 4, 5, 6] rfl) (hD.sub [0, 1, 2, 3, 4, 5, 6] (by decide) rfl) hS _ (lv_sub hl [1] rfl)
