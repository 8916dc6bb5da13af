abbrev rm_J21_getValue : Room := { frames := 1, cells := 0, slots := 0, locals := 12 }
def F_J21_getValue (N : Nat) (sc : Int32)  : Option (Unit) :=
  some ()
set_option maxHeartbeats 4000000 in
theorem met_J21_getValue (l : Launch) (D : va_G) (cA : Nat → ClassId) (sb : Nat) (sv : Nat) (sc : Int32) (N : Nat)   (out : Unit) (h : F_J21_getValue N sc = some out) : Met l yJ21_getValue (ws_ yJ21_getValue cJ21_getValue 1 (Option.some (.array .byte))) rm_J21_getValue (ga_P D cA [(sb, .inr (8, [.ref sv, .int 0, .int 0, .int sc]))] [.ref sb]) (va_Sr (fun _ => True) (fun _ => .ref sv)) 0 0 ga_F := by
  refine Met.ofW (cc := cJ21_getValue) (maxL := 1) (ret := (Option.some (.array .byte))) (by decide) rfl ?_
  intro p e s m args below meth c s₁ B hml hv
  obtain ⟨rfl, hP, hK⟩ := hv
  have C : ga_cx p m c meth s _ RJ21 cJ21_getValue 1 (Option.some (.array .byte)) := ga_cx_of B hml
  have C0 := C
  obtain ⟨hx, hb, hr, hlocks, hml, hown, hts⟩ := C0
  have hl := lv_entry ([.ref sb]) (n := 1) (Nat.le_of_ble_eq_true rfl)
  rw [lg_entry_eq]
  generalize (lg_sl ([.ref sb]) ++ List.replicate (1 - (lg_sl ([.ref sb])).length) Slot.unset).toArray = ls at hl ⊢
  have hl : lv_has ls 1 [(0, .ref sb)] := hl
  rw [F_J21_getValue] at h
  refine lv_aload_n hx hb dJ21_getValue_0 rfl (lv_at hl 0 rfl) ?_
  refine va_get hx hb hts in_J22 hown hK.1 hP 0 (fs := [.ref sv, .int 0, .int 0, .int sc]) rfl rfl 0 (by decide) (hts _ q1248) (fun _ hh => hh) (v := .ref sv) rfl dJ21_getValue_1 ?_
  obtain rfl := Option.some.inj h
  exact W.aret hx hb hr (Or.inr ⟨_, rfl⟩) (Or.inr ⟨_, rfl⟩) (fun t ht hW => ⟨0, rfl, trivial, ht⟩) (fun _ hq => by cases hq) dJ21_getValue_4
abbrev rm_J21_length : Room := { frames := 1, cells := 0, slots := 0, locals := 12 }
def F_J21_length (N : Nat) (sc : Int32)  : Option (Int32) :=
  some sc
set_option maxHeartbeats 4000000 in
theorem met_J21_length (l : Launch) (D : va_G) (cA : Nat → ClassId) (sb : Nat) (sv : Nat) (sc : Int32) (N : Nat)   (out : Int32) (h : F_J21_length N sc = some out) : Met l yJ21_length (ws_ yJ21_length cJ21_length 1 (some .int)) rm_J21_length (ga_P D cA [(sb, .inr (8, [.ref sv, .int 0, .int 0, .int sc]))] [.ref sb]) (vp_Si (fun r => out = r)) 0 0 ga_F := by
  refine Met.ofW (cc := cJ21_length) (maxL := 1) (ret := (some .int)) (by decide) rfl ?_
  intro p e s m args below meth c s₁ B hml hv
  obtain ⟨rfl, hP, hK⟩ := hv
  have C : ga_cx p m c meth s _ RJ21 cJ21_length 1 (some .int) := ga_cx_of B hml
  have C0 := C
  obtain ⟨hx, hb, hr, hlocks, hml, hown, hts⟩ := C0
  have hl := lv_entry ([.ref sb]) (n := 1) (Nat.le_of_ble_eq_true rfl)
  rw [lg_entry_eq]
  generalize (lg_sl ([.ref sb]) ++ List.replicate (1 - (lg_sl ([.ref sb])).length) Slot.unset).toArray = ls at hl ⊢
  have hl : lv_has ls 1 [(0, .ref sb)] := hl
  rw [F_J21_length] at h
  refine lv_aload_n hx hb dJ21_length_0 rfl (lv_at hl 0 rfl) ?_
  refine va_get hx hb hts in_J22 hown hK.1 hP 0 (fs := [.ref sv, .int 0, .int 0, .int sc]) rfl rfl 3 (by decide) (hts _ q1251) (fun _ hh => hh) (v := .int sc) rfl dJ21_length_1 ?_
  obtain rfl := Option.some.inj h
  exact W.iret hx hb hr (fun t ht hW => ⟨_, rfl, rfl, ht⟩) (fun _ hq => by cases hq) dJ21_length_4
abbrev rm_J22_length : Room := { frames := 2, cells := 0, slots := 0, locals := 32 }
def F_J22_length (N : Nat) (sc : Int32)  : Option (Int32) :=
  some sc
set_option maxHeartbeats 4000000 in
theorem met_J22_length (l : Launch) (D : va_G) (cA : Nat → ClassId) (sb : Nat) (sv : Nat) (sc : Int32) (N : Nat)   (out : Int32) (h : F_J22_length N sc = some out) : Met l yJ22_length (ws_ yJ22_length cJ22_length 1 (some .int)) rm_J22_length (ga_P D cA [(sb, .inr (8, [.ref sv, .int 0, .int 0, .int sc]))] [.ref sb]) (vp_Si (fun r => out = r)) 0 0 ga_F := by
  refine Met.ofW (cc := cJ22_length) (maxL := 1) (ret := (some .int)) (by decide) rfl ?_
  intro p e s m args below meth c s₁ B hml hv
  obtain ⟨rfl, hP, hK⟩ := hv
  have C : ga_cx p m c meth s _ RJ22 cJ22_length 1 (some .int) := ga_cx_of B hml
  have C0 := C
  obtain ⟨hx, hb, hr, hlocks, hml, hown, hts⟩ := C0
  have hl := lv_entry ([.ref sb]) (n := 1) (Nat.le_of_ble_eq_true rfl)
  rw [lg_entry_eq]
  generalize (lg_sl ([.ref sb]) ++ List.replicate (1 - (lg_sl ([.ref sb])).length) Slot.unset).toArray = ls at hl ⊢
  have hl : lv_has ls 1 [(0, .ref sb)] := hl
  rw [F_J22_length] at h
  refine lv_aload_n hx hb dJ22_length_0 rfl (lv_at hl 0 rfl) ?_
  refine vp_callSi (va_Run.run (ga_runU (As := []) (rest := []) ⟨hx, hb, hml, hown, hts⟩ (met_J21_length l D cA sb sv sc N sc rfl) (⟨callB_of 0 hts (lw_meth q1367) rfl rfl rfl (hts _ q103) (hts _ q1366) (by decide +kernel) ⟨Nat.le_of_ble_eq_true rfl, Nat.le_of_ble_eq_true rfl⟩, hts _ q1361, hts _ q1362, hts _ q1260, by decide⟩) (ga_PV hK (hP.sub (ws' := [(sb, .inr (8, [.ref sv, .int 0, .int 0, .int sc]))]) [0] rfl) (va_recv hK.1 hP (ci := 8) (q0 := 0) rfl rfl)) rfl rfl hl.1 rfl (lv_room (Nat.le_of_ble_eq_true rfl)) dJ22_length_1 ⟨Nat.le_of_ble_eq_true rfl, Nat.le_of_ble_eq_true rfl⟩)) (fun z_3 w_4 => ?_)
  obtain rfl := w_4
  obtain rfl := Option.some.inj h
  exact W.iret hx hb hr (fun t ht hW => ⟨_, rfl, rfl, ht⟩) (fun _ hq => by cases hq) dJ22_length_4
abbrev rm_J5_checkLength : Room := { frames := 1, cells := 0, slots := 0, locals := 12 }
def F_J5_checkLength (N : Nat)  (x0 : Int32) (x1 : Int32) : Option (Unit) :=
  (if x0 ≤ x1 then
  some ()
  else
  none)
set_option maxHeartbeats 4000000 in
theorem met_J5_checkLength (l : Launch) (D : va_G) (cA : Nat → ClassId)   (N : Nat) (x0 : Int32) (x1 : Int32)  (out : Unit) (h : F_J5_checkLength N x0 x1 = some out) : Met l yJ5_checkLength (ws_ yJ5_checkLength cJ5_checkLength 2 none) rm_J5_checkLength (ga_P D cA [] [.int x0, .int x1]) (va_Sv (fun _ => True)) 0 0 ga_F := by
  refine Met.ofW (cc := cJ5_checkLength) (maxL := 2) (ret := none) (by decide) rfl ?_
  intro p e s m args below meth c s₁ B hml hv
  obtain ⟨rfl, hP, hK⟩ := hv
  have C : ga_cx p m c meth s _ RJ5 cJ5_checkLength 2 none := ga_cx_of B hml
  have C0 := C
  obtain ⟨hx, hb, hr, hlocks, hml, hown, hts⟩ := C0
  have hl := lv_entry ([.int x0, .int x1]) (n := 2) (Nat.le_of_ble_eq_true rfl)
  rw [lg_entry_eq]
  generalize (lg_sl ([.int x0, .int x1]) ++ List.replicate (2 - (lg_sl ([.int x0, .int x1])).length) Slot.unset).toArray = ls at hl ⊢
  have hl : lv_has ls 2 [(0, .int x0), (1, .int x1)] := hl
  rw [F_J5_checkLength] at h
  refine lv_iload_n hx hb dJ5_checkLength_0 rfl (lv_at hl 1 rfl) ?_
  refine lv_iload_n hx hb dJ5_checkLength_1 rfl (lv_at hl 0 rfl) ?_
  refine lv_icmp_ge (tgt := 37) hx hb dJ5_checkLength_2 (by decide) (fun c_1 => ?_) (fun c_1 => ?_)
  · replace h := ga_ift c_1 h
    obtain rfl := Option.some.inj h
    exact W.vret hx hb hr (fun t ht hW => ⟨rfl, trivial, ht⟩) (fun _ hq => by cases hq) dJ5_checkLength_37
  · replace h := ga_iff c_1 h
    cases h
abbrev rm_J5_copyOfRangeByte (nc ns : Nat) : Room := { frames := 2, cells := nc, slots := ns, locals := 40 }
def F_J5_copyOfRangeByte (N : Nat) (sn : Nat) (sF : Nat → Int32) (x2 : Int32) : Option (Nat × (Nat → Int32)) :=
  ((F_J5_checkLength N 0 x2).bind fun r_1 =>
  (if ¬ (x2 - 0) < 0 ∧ (0 + 1 ≤ 1 ∧ 0 + (ix (x2 - 0)) ≤ (ix x2)) ∧ ix (x2 - 0) ≤ 65536 then
  (if ¬ (jimin ((Int32.ofNat sn) - 0) (x2 - 0)) < 0 ∧ ix (jimin ((Int32.ofNat sn) - 0) (x2 - 0)) ≤ sn ∧ ix (jimin ((Int32.ofNat sn) - 0) (x2 - 0)) ≤ (ix (x2 - 0)) then
  (if (0 + 1) ≤ 1 ∧ (0 + (ix (x2 - 0))) ≤ (ix x2) then
  some ((ix (x2 - 0)), (va_cpy sF (fun _ => 0) (ix 0) (ix 0) (ix (jimin ((Int32.ofNat sn) - 0) (x2 - 0)))))
  else none)
  else none)
  else none))
set_option maxHeartbeats 4000000 in
theorem met_J5_copyOfRangeByte (l : Launch) (D : va_G) (cA : Nat → ClassId) (A : Nat → Prop) (sv : Nat) (zs : Nat → Nat) (sn : Nat) (sF : Nat → Int32) (N : Nat) (x2 : Int32) (hfit : ga_Fb sF) (out : Nat × (Nat → Int32)) (h : F_J5_copyOfRangeByte N sn sF x2 = some out) : Met l yJ5_copyOfRangeByte (ws_ yJ5_copyOfRangeByte cJ5_copyOfRangeByte 5 (Option.some (.array .byte))) (rm_J5_copyOfRangeByte 1 (ix x2)) (ga_X D cA zs A [(sv, .inl (cA 3, sn, .inl sF))] [.ref sv, .int 0, .int x2]) (va_Qr (fun (u : (Nat × (Nat → Int32)) × (Nat → Nat)) => out = u.1) (fun (u : (Nat × (Nat → Int32)) × (Nat → Nat)) (a : Nat) (t : State) => (u.2 0) = a ∧ (fun (u : (Nat × (Nat → Int32)) × (Nat → Nat)) (t : State) => va_P D ga_cl [(sv, .inl (cA 3, sn, .inl sF)), ((u.2 0), .inl (cA 3, u.1.1, .inl u.1.2))] t.heap ∧ ga_K D cA t ∧ va_D A [(sv, .inl (cA 3, sn, .inl sF)), ((u.2 0), .inl (cA 3, u.1.1, .inl u.1.2))] ∧ (ga_Fb u.1.2)) u t) A) 1 (ix x2) A := by
  refine Met.ofW (cc := cJ5_copyOfRangeByte) (maxL := 5) (ret := (Option.some (.array .byte))) (by decide) rfl ?_
  intro p e s m args below meth c s₁ B hml hv
  obtain ⟨rfl, hP, hK, hD, hA, hST⟩ := hv
  have hS : va_S A s.heap s.heap [] := va_S.rf
  have C : ga_cx p m c meth s _ RJ5 cJ5_copyOfRangeByte 5 (Option.some (.array .byte)) := ga_cx_of B hml
  have C0 := C
  obtain ⟨hx, hb, hr, hlocks, hml, hown, hts⟩ := C0
  have hl := lv_entry ([.ref sv, .int 0, .int x2]) (n := 5) (Nat.le_of_ble_eq_true rfl)
  rw [lg_entry_eq]
  generalize (lg_sl ([.ref sv, .int 0, .int x2]) ++ List.replicate (5 - (lg_sl ([.ref sv, .int 0, .int x2])).length) Slot.unset).toArray = ls at hl ⊢
  have hl : lv_has ls 5 [(0, .ref sv), (1, .int 0), (2, .int x2)] := hl
  rw [F_J5_copyOfRangeByte] at h
  refine lv_iload_n hx hb dJ5_copyOfRangeByte_0 rfl (lv_at hl 1 rfl) ?_
  refine lv_iload_n hx hb dJ5_copyOfRangeByte_1 rfl (lv_at hl 2 rfl) ?_
  obtain ⟨r_1, e_2, h⟩ := ga_gb h
  refine va_csv (va_Run.run (va_runS (As := [.int 0, .int x2]) (rest := []) ⟨hx, hb, hml, hown, hts⟩ (met_J5_checkLength l D cA N 0 x2 r_1 e_2) (va_cwS 2 hts (lw_S q1375 q1376 q77 q1377) rfl rfl rfl (by decide +kernel) ⟨Nat.le_of_ble_eq_true rfl, Nat.le_of_ble_eq_true rfl⟩) (ga_PS hK ga_P0) rfl rfl hl.1 rfl (lv_room (Nat.le_of_ble_eq_true rfl)) dJ5_copyOfRangeByte_2 ⟨Nat.zero_le _, Nat.zero_le _⟩)) (fun _ => ?_)
  refine lv_iload_n hx hb dJ5_copyOfRangeByte_5 rfl (lv_at hl 2 rfl) ?_
  refine lv_iload_n hx hb dJ5_copyOfRangeByte_6 rfl (lv_at hl 1 rfl) ?_
  refine lv_isub hx hb dJ5_copyOfRangeByte_7 ?_
  refine lv_istore_n (lv' := [(3, .int (x2 - 0)), (0, .ref sv), (1, .int 0), (2, .int x2)]) hx hb dJ5_copyOfRangeByte_8 rfl hl (by decide) rfl (fun ls hl => ?_)
  refine lv_iload_n hx hb dJ5_copyOfRangeByte_9 rfl (lv_at hl 0 rfl) ?_
  obtain ⟨i_5, h⟩ := ga_gif h
  refine va_newa (atype := .byte) (a0 := (ix (x2 - 0), .inl (fun _ => 0))) hx hb (hts _ q375) rfl hK.1 hP hD hS hA (fun _ => rfl) i_5.1 rfl (by have := i_5.2.2; show _ * 1 ≤ _; omega) i_5.2.1.1 i_5.2.1.2 dJ5_copyOfRangeByte_10 (fun q_6 k_8 H_7 hK9 hP hD hS => ?_)
  obtain rfl := ga_tyqB hK9
  have hP : va_P D ga_cl [(sv, .inl (cA 3, sn, .inl sF)), (q_6, .inl (cA 3, (ix (x2 - 0)), .inl (fun _ => 0)))] H_7 := hP
  have hD : va_D A [(sv, .inl (cA 3, sn, .inl sF)), (q_6, .inl (cA 3, (ix (x2 - 0)), .inl (fun _ => 0)))] := hD
  refine lv_astore (lv' := [(4, .ref q_6), (3, .int (x2 - 0)), (0, .ref sv), (1, .int 0), (2, .int x2)]) hx hb dJ5_copyOfRangeByte_12 hl (by decide) rfl (fun ls hl => ?_)
  refine lv_aload_n hx hb dJ5_copyOfRangeByte_14 rfl (lv_at hl 2 rfl) ?_
  refine lv_iload_n hx hb dJ5_copyOfRangeByte_15 rfl (lv_at hl 3 rfl) ?_
  refine lv_aload hx hb dJ5_copyOfRangeByte_16 (lv_at hl 0 rfl) ?_
  refine lv_iconst (v := 0) hx hb dJ5_copyOfRangeByte_18 (by decide) ?_
  refine lv_aload_n hx hb dJ5_copyOfRangeByte_19 rfl (lv_at hl 2 rfl) ?_
  refine va_alen (v := (Int32.ofNat sn)) hx hb hK.1 hP 0 3 rfl rfl rfl dJ5_copyOfRangeByte_20 ?_
  refine lv_iload_n hx hb dJ5_copyOfRangeByte_21 rfl (lv_at hl 3 rfl) ?_
  refine lv_isub hx hb dJ5_copyOfRangeByte_22 ?_
  refine lv_iload_n hx hb dJ5_copyOfRangeByte_23 rfl (lv_at hl 1 rfl) ?_
  refine ga_mmin hx hb (hml.trans hl.1.symm) hown (hts _ q319) (hts _ q320) (hts _ q76) (hts _ q321) (Nat.le_of_ble_eq_true rfl) (Nat.le_of_ble_eq_true rfl) (Nat.le_of_ble_eq_true rfl) (Nat.le_of_ble_eq_true rfl) dJ5_copyOfRangeByte_24 ?_
  obtain ⟨i_9, h⟩ := ga_gif h
  refine va_copyi hx hb (hml.trans hl.1.symm) hown (hts _ q322) (hts _ q324) (hts _ q323) (hts _ q78) hK.1 hP hD hS 0 1 3 3 (f := sF) (g := (fun _ => 0)) rfl rfl rfl rfl rfl (by decide) (by decide) i_9.1 (by rw [ga_c0]; have := i_9.2.1; exact (Nat.zero_add _).symm ▸ this) (by rw [ga_c0]; have := i_9.2.2; exact (Nat.zero_add _).symm ▸ this) (fun _ _ => hfit _) (Nat.le_of_ble_eq_true rfl) (by decide +kernel) dJ5_copyOfRangeByte_27 (fun H_10 locs hP hD hS => ?_)
  have f_11 : ga_Fb (va_cpy sF (fun _ => 0) (ix 0) (ix 0) (ix (jimin ((Int32.ofNat sn) - 0) (x2 - 0)))) := ga_Fbc hfit ga_Fb0 _ _ _
  have hP : va_P D ga_cl [(sv, .inl (cA 3, sn, .inl sF)), (q_6, .inl (cA 3, (ix (x2 - 0)), .inl (va_cpy sF (fun _ => 0) (ix 0) (ix 0) (ix (jimin ((Int32.ofNat sn) - 0) (x2 - 0))))))] H_10 := hP
  have hD : va_D A [(sv, .inl (cA 3, sn, .inl sF)), (q_6, .inl (cA 3, (ix (x2 - 0)), .inl (va_cpy sF (fun _ => 0) (ix 0) (ix 0) (ix (jimin ((Int32.ofNat sn) - 0) (x2 - 0))))))] := hD
  refine lv_aload hx hb dJ5_copyOfRangeByte_30 (lv_at hl 0 rfl) ?_
  obtain ⟨dg_12, h⟩ := ga_gif h
  refine W.widen (k := 1) (n := (ix x2)) dg_12.1 dg_12.2 ?_
  have g_13 : ga_Fb (va_cpy sF (fun _ => 0) (ix 0) (ix 0) (ix (jimin ((Int32.ofNat sn) - 0) (x2 - 0)))) := by first | exact f_11
  have hP9 := hP.sub (ws' := [(sv, .inl (cA 3, sn, .inl sF)), (q_6, .inl (cA 3, (ix (x2 - 0)), .inl (va_cpy sF (fun _ => 0) (ix 0) (ix 0) (ix (jimin ((Int32.ofNat sn) - 0) (x2 - 0))))))]) [0, 1] rfl
  have hD9 := hD.sub (ws' := [(sv, .inl (cA 3, sn, .inl sF)), (q_6, .inl (cA 3, (ix (x2 - 0)), .inl (va_cpy sF (fun _ => 0) (ix 0) (ix 0) (ix (jimin ((Int32.ofNat sn) - 0) (x2 - 0))))))]) [0, 1] (by decide) rfl
  obtain rfl := Option.some.inj h
  exact W.aret hx hb hr (Or.inr ⟨_, rfl⟩) (Or.inr ⟨_, rfl⟩) (fun t ht hW => ⟨⟨(((ix (x2 - 0)), (va_cpy sF (fun _ => 0) (ix 0) (ix 0) (ix (jimin ((Int32.ofNat sn) - 0) (x2 - 0))))), ga_ad [q_6]), _, rfl, rfl, rfl, ⟨by rw [ht]; exact hP9, hK.warm hW, hD9, g_13⟩⟩, hS.F ht⟩) hS.2.2 dJ5_copyOfRangeByte_32
abbrev rm_J5_copyOfRange (nc ns : Nat) : Room := { frames := 3, cells := nc, slots := ns, locals := 64 }
def F_J5_copyOfRange (N : Nat) (sn : Nat) (sF : Nat → Int32) (x2 : Int32) : Option (Nat × (Nat → Int32)) :=
  (if x2 = (Int32.ofNat sn) then
  (if 0 + 1 ≤ 1 ∧ 0 + sn ≤ (ix x2) then
  (if (0 + 1) ≤ 1 ∧ (0 + sn) ≤ (ix x2) then
  some (sn, sF)
  else none)
  else none)
  else
  (if 0 + 1 ≤ 1 ∧ 0 + (ix x2) ≤ (ix x2) then
  ((F_J5_copyOfRangeByte N sn sF x2).bind fun r_9 =>
  (if (0 + 1) ≤ 1 ∧ (0 + (ix x2)) ≤ (ix x2) then
  some (r_9.1, r_9.2)
  else none))
  else none))
set_option maxHeartbeats 4000000 in
theorem met_J5_copyOfRange (l : Launch) (D : va_G) (cA : Nat → ClassId) (A : Nat → Prop) (sv : Nat) (zs : Nat → Nat) (sn : Nat) (sF : Nat → Int32) (N : Nat) (x2 : Int32) (hfit : ga_Fb sF) (out : Nat × (Nat → Int32)) (h : F_J5_copyOfRange N sn sF x2 = some out) : Met l yJ5_copyOfRange (ws_ yJ5_copyOfRange cJ5_copyOfRange 3 (Option.some (.array .byte))) (rm_J5_copyOfRange 1 (ix x2)) (ga_X D cA zs A [(sv, .inl (cA 3, sn, .inl sF))] [.ref sv, .int 0, .int x2]) (va_Qr (fun (u : (Nat × (Nat → Int32)) × (Nat → Nat)) => out = u.1) (fun (u : (Nat × (Nat → Int32)) × (Nat → Nat)) (a : Nat) (t : State) => (u.2 0) = a ∧ (fun (u : (Nat × (Nat → Int32)) × (Nat → Nat)) (t : State) => va_P D ga_cl [(sv, .inl (cA 3, sn, .inl sF)), ((u.2 0), .inl (cA 3, u.1.1, .inl u.1.2))] t.heap ∧ ga_K D cA t ∧ va_D A [(sv, .inl (cA 3, sn, .inl sF)), ((u.2 0), .inl (cA 3, u.1.1, .inl u.1.2))] ∧ (ga_Fb u.1.2)) u t) A) 1 (ix x2) A := by
  refine Met.ofW (cc := cJ5_copyOfRange) (maxL := 3) (ret := (Option.some (.array .byte))) (by decide) rfl ?_
  intro p e s m args below meth c s₁ B hml hv
  obtain ⟨rfl, hP, hK, hD, hA, hST⟩ := hv
  have hS : va_S A s.heap s.heap [] := va_S.rf
  have C : ga_cx p m c meth s _ RJ5 cJ5_copyOfRange 3 (Option.some (.array .byte)) := ga_cx_of B hml
  have C0 := C
  obtain ⟨hx, hb, hr, hlocks, hml, hown, hts⟩ := C0
  have hl := lv_entry ([.ref sv, .int 0, .int x2]) (n := 3) (Nat.le_of_ble_eq_true rfl)
  rw [lg_entry_eq]
  generalize (lg_sl ([.ref sv, .int 0, .int x2]) ++ List.replicate (3 - (lg_sl ([.ref sv, .int 0, .int x2])).length) Slot.unset).toArray = ls at hl ⊢
  have hl : lv_has ls 3 [(0, .ref sv), (1, .int 0), (2, .int x2)] := hl
  rw [F_J5_copyOfRange] at h
  refine lv_iload_n hx hb dJ5_copyOfRange_0 rfl (lv_at hl 1 rfl) ?_
  refine lv_if_ne (tgt := 10) hx hb dJ5_copyOfRange_1 (by decide) (fun c_1 => absurd (by decide) c_1) (fun _ => ?_)
  refine lv_iload_n hx hb dJ5_copyOfRange_4 rfl (lv_at hl 2 rfl) ?_
  refine lv_aload_n hx hb dJ5_copyOfRange_5 rfl (lv_at hl 0 rfl) ?_
  refine va_alen (v := (Int32.ofNat sn)) hx hb hK.1 hP 0 3 rfl rfl rfl dJ5_copyOfRange_6 ?_
  refine lv_icmp_eq (tgt := 17) hx hb dJ5_copyOfRange_7 (by decide) (fun c_2 => ?_) (fun c_2 => ?_)
  · replace h := ga_ift c_2 h
    refine lv_aload_n hx hb dJ5_copyOfRange_17 rfl (lv_at hl 0 rfl) ?_
    obtain ⟨dg_5, h⟩ := ga_gif h
    refine va_clone hx hb (hml.trans hl.1.symm) (ad := "[B") hown (hts _ q1285) (hts _ q1286) (hts _ q1287) (hts _ q1288) (hts _ q1289) (hK.2.1 _ q1290 rfl) hK.1 hP hD hS hA 0 3 rfl rfl (ga_tyqB9 hK) (ga_FbC hfit) (Nat.le_of_ble_eq_true rfl) (Nat.le_of_ble_eq_true rfl) dg_5.1 dg_5.2 dJ5_copyOfRange_18 (fun q_3 H_4 hK9 hP hD hS => ?_)
    have hP : va_P D ga_cl [(sv, .inl (cA 3, sn, .inl sF)), (q_3, .inl (cA 3, sn, .inl sF))] H_4 := hP
    have hD : va_D A [(sv, .inl (cA 3, sn, .inl sF)), (q_3, .inl (cA 3, sn, .inl sF))] := hD
    refine va_castA hx hb hown (hts _ q1291) hP 1 rfl (ga_tyqB9 hK) dJ5_copyOfRange_21 ?_
    obtain ⟨dg_6, h⟩ := ga_gif h
    refine W.widen (k := 1) (n := (ix x2)) dg_6.1 dg_6.2 ?_
    have g_7 : ga_Fb sF := by first | fail
    have hP9 := hP.sub (ws' := [(sv, .inl (cA 3, sn, .inl sF)), (q_3, .inl (cA 3, sn, .inl sF))]) [0, 1] rfl
    have hD9 := hD.sub (ws' := [(sv, .inl (cA 3, sn, .inl sF)), (q_3, .inl (cA 3, sn, .inl sF))]) [0, 1] (by decide) rfl
    obtain rfl := Option.some.inj h
    exact W.aret hx hb hr (Or.inr ⟨_, rfl⟩) (Or.inr ⟨_, rfl⟩) (fun t ht hW => ⟨⟨((sn, sF), ga_ad [q_3]), _, rfl, rfl, rfl, ⟨by rw [ht]; exact hP9, hK.warm hW, hD9, g_7⟩⟩, hS.F ht⟩) hS.2.2 dJ5_copyOfRange_24
  · replace h := ga_iff c_2 h
    refine lv_aload_n hx hb dJ5_copyOfRange_10 rfl (lv_at hl 0 rfl) ?_
    refine lv_iload_n hx hb dJ5_copyOfRange_11 rfl (lv_at hl 1 rfl) ?_
    refine lv_iload_n hx hb dJ5_copyOfRange_12 rfl (lv_at hl 2 rfl) ?_
    obtain ⟨dg_8, h⟩ := ga_gif h
    obtain ⟨r_9, e_10, h⟩ := ga_gb h
    have hFc := va_free (wc := [(sv, .inl (cA 3, sn, .inl sF))]) hD hS hA [0] rfl
    refine va_callr (va_runS (As := [.ref sv, .int 0, .int x2]) (rest := []) ⟨hx, hb, hml, hown, hts⟩ (met_J5_copyOfRangeByte l D cA (va_A [(sv, .inl (cA 3, sn, .inl sF))] s.heap.size) sv zs sn sF N x2 hfit r_9 e_10) (va_cwS 3 hts (lw_S q1372 q1373 q77 q1374) rfl rfl rfl (by decide +kernel) ⟨Nat.le_of_ble_eq_true rfl, Nat.le_of_ble_eq_true rfl⟩) (ga_XS hK (hP.sub (ws' := [(sv, .inl (cA 3, sn, .inl sF))]) [0] rfl) (hD.sub (ws' := [(sv, .inl (cA 3, sn, .inl sF))]) [0] (by decide) rfl).self (fun _ hq => Or.inr hq) (hST.at hS hFc)) rfl rfl hl.1 rfl (lv_room (Nat.le_of_ble_eq_true rfl)) dJ5_copyOfRange_13 dg_8) hS (fun q _ hq => hFc q hq) hFc (fun u_14 a_16 t H_13 locs ht _ w_12 hB _ hk hS => ?_)
    obtain ⟨ea, hP1, -, hD1, f_15⟩ := hB
    subst ea
    rw [show u_14.1 = r_9 from w_12.symm] at hP1 hD1
    have f_17 : ga_Fb r_9.2 := by first | exact f_15 | (rw [show u_14.1 = r_9 from w_12.symm] at f_15; exact f_15)
    rw [ht] at hP1
    obtain ⟨hP, hD⟩ := va_join (wr := []) (w1 := [(sv, .inl (cA 3, sn, .inl sF)), ((u_14.2 0), .inl (cA 3, r_9.1, .inl r_9.2))]) hP hD [0] [] rfl rfl (by decide) (by decide) hk hFc hP1 hD1
    have hP : va_P D ga_cl [(sv, .inl (cA 3, sn, .inl sF)), ((u_14.2 0), .inl (cA 3, r_9.1, .inl r_9.2))] H_13 := hP
    have hD : va_D A [(sv, .inl (cA 3, sn, .inl sF)), ((u_14.2 0), .inl (cA 3, r_9.1, .inl r_9.2))] := hD
    obtain ⟨dg_18, h⟩ := ga_gif h
    refine W.widen (k := 1) (n := (ix x2)) dg_18.1 dg_18.2 ?_
    have g_19 : ga_Fb r_9.2 := by first | exact f_17
    have hP9 := hP.sub (ws' := [(sv, .inl (cA 3, sn, .inl sF)), ((u_14.2 0), .inl (cA 3, r_9.1, .inl r_9.2))]) [0, 1] rfl
    have hD9 := hD.sub (ws' := [(sv, .inl (cA 3, sn, .inl sF)), ((u_14.2 0), .inl (cA 3, r_9.1, .inl r_9.2))]) [0, 1] (by decide) rfl
    obtain rfl := Option.some.inj h
    exact W.aret hx hb hr (Or.inr ⟨_, rfl⟩) (Or.inr ⟨_, rfl⟩) (fun t ht hW => ⟨⟨((r_9.1, r_9.2), ga_ad [(u_14.2 0)]), _, rfl, rfl, rfl, ⟨by rw [ht]; exact hP9, hK.warm hW, hD9, g_19⟩⟩, hS.F ht⟩) hS.2.2 dJ5_copyOfRange_16
abbrev rm_J16_init_2 (nc ns : Nat) : Room := { frames := 4, cells := nc, slots := ns, locals := 86 }
def F_J16_init_2 (N : Nat) (sc : Int32) (sn : Nat) (sF : Nat → Int32)  : Option (Nat × (Nat → Int32)) :=
  ((F_J21_isLatin1 N sc).bind fun r_10 =>
  (if r_10.1 = 0 then
  none
  else
  (if 0 + 1 ≤ 1 ∧ 0 + (ix sc) ≤ (ix sc) then
  ((F_J5_copyOfRange N sn sF sc).bind fun r_21 =>
  (if (0 + 1) ≤ 1 ∧ (0 + (ix sc)) ≤ (ix sc) then
  some (r_21.1, r_21.2)
  else none))
  else none)))
set_option maxHeartbeats 4000000 in
theorem met_J16_init_2 (l : Launch) (D : va_G) (cA : Nat → ClassId) (A : Nat → Prop) (so : Nat) (sb : Nat) (sv : Nat) (zs : Nat → Nat) (sc : Int32) (sn : Nat) (sF : Nat → Int32) (N : Nat)  (hfit : ga_Fb sF) (out : Nat × (Nat → Int32)) (h : F_J16_init_2 N sc sn sF = some out) : Met l yJ16_init_2 (ws_ yJ16_init_2 cJ16_init_2 5 none) (rm_J16_init_2 1 (ix sc)) (ga_X D cA zs A [(so, .inr (9, [.null, .int 0, .int 0, .int 0])), (sb, .inr (8, [.ref sv, .int 0, .int 0, .int sc])), (sv, .inl (cA 3, sn, .inl sF))] [.ref so, .ref sb, .null]) (va_Qv (fun (u : (Nat × (Nat → Int32)) × (Nat → Nat)) => out = u.1) (fun (u : (Nat × (Nat → Int32)) × (Nat → Nat)) (t : State) => va_P D ga_cl [(so, .inr (9, [.ref (u.2 0), .int 0, .int 0, .int 0])), ((u.2 0), .inl (cA 3, u.1.1, .inl u.1.2)), (sb, .inr (8, [.ref sv, .int 0, .int 0, .int sc])), (sv, .inl (cA 3, sn, .inl sF))] t.heap ∧ ga_K D cA t ∧ va_D A [(so, .inr (9, [.ref (u.2 0), .int 0, .int 0, .int 0])), ((u.2 0), .inl (cA 3, u.1.1, .inl u.1.2)), (sb, .inr (8, [.ref sv, .int 0, .int 0, .int sc])), (sv, .inl (cA 3, sn, .inl sF))] ∧ (ga_Fb u.1.2)) A) 1 (ix sc) A := by
  refine Met.ofW (cc := cJ16_init_2) (maxL := 5) (ret := none) (by decide) rfl ?_
  intro p e s m args below meth c s₁ B hml hv
  obtain ⟨rfl, hP, hK, hD, hA, hST⟩ := hv
  have hS : va_S A s.heap s.heap [] := va_S.rf
  have hin : meth.name = "<init>" := (name_of_methodNamed B.named B.method).1
  have C : ga_cx p m c meth s _ RJ16 cJ16_init_2 5 none := ga_cx_of B hml
  have C0 := C
  obtain ⟨hx, hb, hr, hlocks, hml, hown, hts⟩ := C0
  have hl := lv_entry ([.ref so, .ref sb, .null]) (n := 5) (Nat.le_of_ble_eq_true rfl)
  rw [lg_entry_eq]
  generalize (lg_sl ([.ref so, .ref sb, .null]) ++ List.replicate (5 - (lg_sl ([.ref so, .ref sb, .null])).length) Slot.unset).toArray = ls at hl ⊢
  have hl : lv_has ls 5 [(0, .ref so), (1, .ref sb), (2, .null)] := hl
  rw [F_J16_init_2] at h
  refine lv_aload_n hx hb dJ16_init_2_0 rfl (lv_at hl 0 rfl) ?_
  refine W.objInit hx hb hown (hts _ q1354) (hts _ q113) (hts _ q114) rfl (by rw [hml]; exact hl.1) rfl dJ16_init_2_1 (Nat.le_of_ble_eq_true rfl) (Nat.le_of_ble_eq_true rfl) ?_
  refine W.eq (g2 := F0 m 4 ls []) rfl ?_
  refine lv_aload_n hx hb dJ16_init_2_4 rfl (lv_at hl 1 rfl) ?_
  refine va_csr (va_Run.run (va_runV (As := []) (rest := []) ⟨hx, hb, hml, hown, hts⟩ (met_J21_getValue l D cA sb sv sc N () rfl) (⟨callB_of 0 hts (lw_meth q1359) rfl rfl rfl (hts _ q103) (hts _ q1355) (by decide +kernel) ⟨Nat.le_of_ble_eq_true rfl, Nat.le_of_ble_eq_true rfl⟩, hts _ q1356, hts _ q1358⟩) (ga_PV hK (hP.sub (ws' := [(sb, .inr (8, [.ref sv, .int 0, .int 0, .int sc]))]) [1] rfl) (va_recv hK.1 hP (ci := 8) (q0 := 1) rfl rfl)) rfl rfl hl.1 rfl (lv_room (Nat.le_of_ble_eq_true rfl)) dJ16_init_2_5 ⟨Nat.zero_le _, Nat.zero_le _⟩)) (fun _ _ => ?_)
  refine lv_astore_n (lv' := [(3, .ref sv), (0, .ref so), (1, .ref sb), (2, .null)]) hx hb dJ16_init_2_8 rfl hl (by decide) rfl (fun ls hl => ?_)
  refine lv_aload_n hx hb dJ16_init_2_9 rfl (lv_at hl 2 rfl) ?_
  refine vp_callSi (va_Run.run (va_runU (As := []) (rest := []) ⟨hx, hb, hml, hown, hts⟩ (met_J22_length l D cA sb sv sc N sc rfl) (ga_cwO (C := "java/lang/StringBuilder") 0 hts (lw_meth q1365) rfl rfl rfl (hts _ q104) (hts _ q1360) (hts _ q1362) (hts _ q1361) (hts _ q1367) (hts _ q1363) (hts _ q1364) (by decide +kernel) ⟨Nat.le_of_ble_eq_true rfl, Nat.le_of_ble_eq_true rfl⟩) (ga_PV hK (hP.sub (ws' := [(sb, .inr (8, [.ref sv, .int 0, .int 0, .int sc]))]) [1] rfl) (va_recv hK.1 hP (ci := 8) (q0 := 1) rfl rfl)) rfl rfl hl.1 rfl (lv_room (Nat.le_of_ble_eq_true rfl)) dJ16_init_2_10 ⟨Nat.zero_le _, Nat.zero_le _⟩)) (fun z_7 w_8 => ?_)
  obtain rfl := w_8
  refine lv_istore (lv' := [(4, .int sc), (3, .ref sv), (0, .ref so), (1, .ref sb), (2, .null)]) hx hb dJ16_init_2_13 hl (by decide) rfl (fun ls hl => ?_)
  refine lv_aload_n hx hb dJ16_init_2_15 rfl (lv_at hl 3 rfl) ?_
  obtain ⟨r_10, e_11, h⟩ := ga_gb h
  have hFc := va_free (wc := [(sb, .inr (8, [.ref sv, .int 0, .int 0, .int sc]))]) hD hS hA [1] rfl
  refine va_calli (va_runV (As := []) (rest := []) ⟨hx, hb, hml, hown, hts⟩ (met_J21_isLatin1 l D cA (va_A [(sb, .inr (8, [.ref sv, .int 0, .int 0, .int sc]))] s.heap.size) sb sv zs sc N r_10 e_11) (⟨callB_of 0 hts (lw_meth q1296) rfl rfl rfl (hts _ q103) (hts _ q1368) (by decide +kernel) ⟨Nat.le_of_ble_eq_true rfl, Nat.le_of_ble_eq_true rfl⟩, hts _ q1293, hts _ q1295⟩) (ga_XV hK (hP.sub (ws' := [(sb, .inr (8, [.ref sv, .int 0, .int 0, .int sc]))]) [1] rfl) (hD.sub (ws' := [(sb, .inr (8, [.ref sv, .int 0, .int 0, .int sc]))]) [1] (by decide) rfl).self (fun _ hq => Or.inr hq) (hST.at hS hFc) (va_recv hK.1 hP (ci := 8) (q0 := 1) rfl rfl)) rfl rfl hl.1 rfl (lv_room (Nat.le_of_ble_eq_true rfl)) dJ16_init_2_16 ⟨Nat.zero_le _, Nat.zero_le _⟩) hS (fun q _ hq => hFc q hq) hFc (fun z_12 u_15 t H_14 locs ht _ w_13 hB _ hk hS => ?_)
  obtain ⟨hP1, -, hD1⟩ := hB
  obtain ⟨⟨rfl, b_16⟩, rfl⟩ := w_13
  rw [ht] at hP1
  obtain ⟨hP, hD⟩ := va_join (wr := [(so, .inr (9, [.null, .int 0, .int 0, .int 0])), (sv, .inl (cA 3, sn, .inl sF))]) (w1 := [(sb, .inr (8, [.ref sv, .int 0, .int 0, .int sc]))]) hP hD [1] [0, 2] rfl rfl (by decide) (by decide) hk hFc hP1 hD1
  have hP : va_P D ga_cl [(so, .inr (9, [.null, .int 0, .int 0, .int 0])), (sv, .inl (cA 3, sn, .inl sF)), (sb, .inr (8, [.ref sv, .int 0, .int 0, .int sc]))] H_14 := hP
  have hD : va_D A [(so, .inr (9, [.null, .int 0, .int 0, .int 0])), (sv, .inl (cA 3, sn, .inl sF)), (sb, .inr (8, [.ref sv, .int 0, .int 0, .int sc]))] := hD
  refine lv_if_eq (tgt := 41) hx hb dJ16_init_2_19 (by decide) (fun c_17 => ?_) (fun c_17 => ?_)
  · replace h := ga_ift c_17 h
    cases h
  · replace h := ga_iff c_17 h
    refine lv_aload_n hx hb dJ16_init_2_22 rfl (lv_at hl 2 rfl) ?_
    refine lv_iconst (v := 0) hx hb dJ16_init_2_23 (by decide) ?_
    refine va_putF hx hb hts in_J16 tyJ16 tyJ16_ok nmJ16 hown hK.1 hP hD hS 0 (fs := [.null, .int 0, .int 0, .int 0]) rfl rfl 1 (by decide) (hts _ q1473) (fun _ hh => hh) rfl hin rfl (v := .int 0) rfl rfl rfl (show 1 < 4 by decide) dJ16_init_2_24 (fun H_18 locs hP hD hS => ?_)
    have hP : va_P D ga_cl [(so, .inr (9, [.null, .int 0, .int 0, .int 0])), (sv, .inl (cA 3, sn, .inl sF)), (sb, .inr (8, [.ref sv, .int 0, .int 0, .int sc]))] H_18 := hP
    have hD : va_D A [(so, .inr (9, [.null, .int 0, .int 0, .int 0])), (sv, .inl (cA 3, sn, .inl sF)), (sb, .inr (8, [.ref sv, .int 0, .int 0, .int sc]))] := hD
    refine lv_aload_n hx hb dJ16_init_2_27 rfl (lv_at hl 2 rfl) ?_
    refine lv_aload_n hx hb dJ16_init_2_28 rfl (lv_at hl 1 rfl) ?_
    refine lv_iconst (v := 0) hx hb dJ16_init_2_29 (by decide) ?_
    refine lv_iload hx hb dJ16_init_2_30 (lv_at hl 0 rfl) ?_
    obtain ⟨dg_20, h⟩ := ga_gif h
    obtain ⟨r_21, e_22, h⟩ := ga_gb h
    have hFc := va_free (wc := [(sv, .inl (cA 3, sn, .inl sF))]) hD hS hA [1] rfl
    refine va_callr (va_runS (As := [.ref sv, .int 0, .int sc]) (rest := [.ref so]) ⟨hx, hb, hml, hown, hts⟩ (met_J5_copyOfRange l D cA (va_A [(sv, .inl (cA 3, sn, .inl sF))] H_18.size) sv zs sn sF N sc hfit r_21 e_22) (va_cwS 3 hts (lw_S q1369 q1370 q77 q1371) rfl rfl rfl (by decide +kernel) ⟨Nat.le_of_ble_eq_true rfl, Nat.le_of_ble_eq_true rfl⟩) (ga_XS hK (hP.sub (ws' := [(sv, .inl (cA 3, sn, .inl sF))]) [1] rfl) (hD.sub (ws' := [(sv, .inl (cA 3, sn, .inl sF))]) [1] (by decide) rfl).self (fun _ hq => Or.inr hq) (hST.at hS hFc)) rfl rfl hl.1 rfl (lv_room (Nat.le_of_ble_eq_true rfl)) dJ16_init_2_32 dg_20) hS (fun q _ hq => hFc q hq) hFc (fun u_26 a_28 t H_25 locs ht _ w_24 hB _ hk hS => ?_)
    obtain ⟨ea, hP1, -, hD1, f_27⟩ := hB
    subst ea
    rw [show u_26.1 = r_21 from w_24.symm] at hP1 hD1
    have f_29 : ga_Fb r_21.2 := by first | exact f_27 | (rw [show u_26.1 = r_21 from w_24.symm] at f_27; exact f_27)
    rw [ht] at hP1
    obtain ⟨hP, hD⟩ := va_join (wr := [(so, .inr (9, [.null, .int 0, .int 0, .int 0])), (sb, .inr (8, [.ref sv, .int 0, .int 0, .int sc]))]) (w1 := [(sv, .inl (cA 3, sn, .inl sF)), ((u_26.2 0), .inl (cA 3, r_21.1, .inl r_21.2))]) hP hD [1] [0, 2] rfl rfl (by decide) (by decide) hk hFc hP1 hD1
    have hP : va_P D ga_cl [(so, .inr (9, [.null, .int 0, .int 0, .int 0])), (sb, .inr (8, [.ref sv, .int 0, .int 0, .int sc])), (sv, .inl (cA 3, sn, .inl sF)), ((u_26.2 0), .inl (cA 3, r_21.1, .inl r_21.2))] H_25 := hP
    have hD : va_D A [(so, .inr (9, [.null, .int 0, .int 0, .int 0])), (sb, .inr (8, [.ref sv, .int 0, .int 0, .int sc])), (sv, .inl (cA 3, sn, .inl sF)), ((u_26.2 0), .inl (cA 3, r_21.1, .inl r_21.2))] := hD
    refine va_putF hx hb hts in_J16 tyJ16 tyJ16_ok nmJ16 hown hK.1 hP hD hS 0 (fs := [.null, .int 0, .int 0, .int 0]) rfl rfl 0 (by decide) (hts _ q1472) (fun _ hh => hh) rfl hin rfl (v := .ref (u_26.2 0)) rfl rfl rfl (show 0 < 4 by decide) dJ16_init_2_35 (fun H_30 locs hP hD hS => ?_)
    have hP : va_P D ga_cl [(so, .inr (9, [.ref (u_26.2 0), .int 0, .int 0, .int 0])), (sb, .inr (8, [.ref sv, .int 0, .int 0, .int sc])), (sv, .inl (cA 3, sn, .inl sF)), ((u_26.2 0), .inl (cA 3, r_21.1, .inl r_21.2))] H_30 := hP
    have hD : va_D A [(so, .inr (9, [.ref (u_26.2 0), .int 0, .int 0, .int 0])), (sb, .inr (8, [.ref sv, .int 0, .int 0, .int sc])), (sv, .inl (cA 3, sn, .inl sF)), ((u_26.2 0), .inl (cA 3, r_21.1, .inl r_21.2))] := hD
    refine lv_goto (tgt := 97) hx hb dJ16_init_2_38 (by decide) ?_
    obtain ⟨dg_32, h⟩ := ga_gif h
    refine W.widen (k := 1) (n := (ix sc)) dg_32.1 dg_32.2 ?_
    have g_33 : ga_Fb r_21.2 := by first | exact f_29
    have hP9 := hP.sub (ws' := [(so, .inr (9, [.ref (u_26.2 0), .int 0, .int 0, .int 0])), ((u_26.2 0), .inl (cA 3, r_21.1, .inl r_21.2)), (sb, .inr (8, [.ref sv, .int 0, .int 0, .int sc])), (sv, .inl (cA 3, sn, .inl sF))]) [0, 3, 1, 2] rfl
    have hD9 := hD.sub (ws' := [(so, .inr (9, [.ref (u_26.2 0), .int 0, .int 0, .int 0])), ((u_26.2 0), .inl (cA 3, r_21.1, .inl r_21.2)), (sb, .inr (8, [.ref sv, .int 0, .int 0, .int sc])), (sv, .inl (cA 3, sn, .inl sF))]) [0, 3, 1, 2] (by decide) rfl
    obtain rfl := Option.some.inj h
    exact W.vret hx hb hr (fun t ht hW => ⟨⟨((r_21.1, r_21.2), ga_ad [(u_26.2 0)]), rfl, rfl, ⟨by rw [ht]; exact hP9, hK.warm hW, hD9, g_33⟩⟩, hS.F ht⟩) hS.2.2 dJ16_init_2_97
abbrev rm_J16_init (nc ns : Nat) : Room := { frames := 5, cells := nc, slots := ns, locals := 110 }
def F_J16_init (N : Nat) (sc : Int32) (sn : Nat) (sF : Nat → Int32)  : Option (Nat × (Nat → Int32)) :=
  (if 0 + 1 ≤ 1 ∧ 0 + (ix sc) ≤ (ix sc) then
  ((F_J16_init_2 N sc sn sF).bind fun r_2 =>
  (if (0 + 1) ≤ 1 ∧ (0 + (ix sc)) ≤ (ix sc) then
  some (r_2.1, r_2.2)
  else none))
  else none)
set_option maxHeartbeats 4000000 in
theorem met_J16_init (l : Launch) (D : va_G) (cA : Nat → ClassId) (A : Nat → Prop) (so : Nat) (sb : Nat) (sv : Nat) (zs : Nat → Nat) (sc : Int32) (sn : Nat) (sF : Nat → Int32) (N : Nat)  (hfit : ga_Fb sF) (out : Nat × (Nat → Int32)) (h : F_J16_init N sc sn sF = some out) : Met l yJ16_init (ws_ yJ16_init cJ16_init 2 none) (rm_J16_init 1 (ix sc)) (ga_X D cA zs A [(so, .inr (9, [.null, .int 0, .int 0, .int 0])), (sb, .inr (8, [.ref sv, .int 0, .int 0, .int sc])), (sv, .inl (cA 3, sn, .inl sF))] [.ref so, .ref sb]) (va_Qv (fun (u : (Nat × (Nat → Int32)) × (Nat → Nat)) => out = u.1) (fun (u : (Nat × (Nat → Int32)) × (Nat → Nat)) (t : State) => va_P D ga_cl [(so, .inr (9, [.ref (u.2 0), .int 0, .int 0, .int 0])), ((u.2 0), .inl (cA 3, u.1.1, .inl u.1.2)), (sb, .inr (8, [.ref sv, .int 0, .int 0, .int sc])), (sv, .inl (cA 3, sn, .inl sF))] t.heap ∧ ga_K D cA t ∧ va_D A [(so, .inr (9, [.ref (u.2 0), .int 0, .int 0, .int 0])), ((u.2 0), .inl (cA 3, u.1.1, .inl u.1.2)), (sb, .inr (8, [.ref sv, .int 0, .int 0, .int sc])), (sv, .inl (cA 3, sn, .inl sF))] ∧ (ga_Fb u.1.2)) A) 1 (ix sc) A := by
  refine Met.ofW (cc := cJ16_init) (maxL := 2) (ret := none) (by decide) rfl ?_
  intro p e s m args below meth c s₁ B hml hv
  obtain ⟨rfl, hP, hK, hD, hA, hST⟩ := hv
  have hS : va_S A s.heap s.heap [] := va_S.rf
  have hin : meth.name = "<init>" := (name_of_methodNamed B.named B.method).1
  have C : ga_cx p m c meth s _ RJ16 cJ16_init 2 none := ga_cx_of B hml
  have C0 := C
  obtain ⟨hx, hb, hr, hlocks, hml, hown, hts⟩ := C0
  have hl := lv_entry ([.ref so, .ref sb]) (n := 2) (Nat.le_of_ble_eq_true rfl)
  rw [lg_entry_eq]
  generalize (lg_sl ([.ref so, .ref sb]) ++ List.replicate (2 - (lg_sl ([.ref so, .ref sb])).length) Slot.unset).toArray = ls at hl ⊢
  have hl : lv_has ls 2 [(0, .ref so), (1, .ref sb)] := hl
  rw [F_J16_init] at h
  refine lv_aload_n hx hb dJ16_init_0 rfl (lv_at hl 0 rfl) ?_
  refine lv_aload_n hx hb dJ16_init_1 rfl (lv_at hl 1 rfl) ?_
  refine lv_null hx hb dJ16_init_2 ?_
  obtain ⟨dg_1, h⟩ := ga_gif h
  obtain ⟨r_2, e_3, h⟩ := ga_gb h
  have hFc := va_free (wc := [(so, .inr (9, [.null, .int 0, .int 0, .int 0])), (sb, .inr (8, [.ref sv, .int 0, .int 0, .int sc])), (sv, .inl (cA 3, sn, .inl sF))]) hD hS hA [0, 1, 2] rfl
  refine va_callv (va_runI (As := [.ref sb, .null]) (rest := []) ⟨hx, hb, hml, hown, hts⟩ (met_J16_init_2 l D cA (va_A [(so, .inr (9, [.null, .int 0, .int 0, .int 0])), (sb, .inr (8, [.ref sv, .int 0, .int 0, .int sc])), (sv, .inl (cA 3, sn, .inl sF))] s.heap.size) so sb sv zs sc sn sF N hfit r_2 e_3) (cwI 2 hts (lw_meth q1353) rfl rfl rfl (hts _ q90) (hts _ q1351) (hts _ q1352) rfl (by decide +kernel) ⟨Nat.le_of_ble_eq_true rfl, Nat.le_of_ble_eq_true rfl⟩) (ga_XS hK (hP.sub (ws' := [(so, .inr (9, [.null, .int 0, .int 0, .int 0])), (sb, .inr (8, [.ref sv, .int 0, .int 0, .int sc])), (sv, .inl (cA 3, sn, .inl sF))]) [0, 1, 2] rfl) (hD.sub (ws' := [(so, .inr (9, [.null, .int 0, .int 0, .int 0])), (sb, .inr (8, [.ref sv, .int 0, .int 0, .int sc])), (sv, .inl (cA 3, sn, .inl sF))]) [0, 1, 2] (by decide) rfl).self (fun _ hq => Or.inr hq) (hST.at hS hFc)) rfl rfl hl.1 rfl (lv_room (Nat.le_of_ble_eq_true rfl)) dJ16_init_3 dg_1) hS (fun q _ hq => hFc q hq) hFc (fun u_7 t H_6 locs ht _ w_5 hB _ hk hS => ?_)
  obtain ⟨hP1, -, hD1, f_8⟩ := hB
  rw [show u_7.1 = r_2 from w_5.symm] at hP1 hD1
  have f_10 : ga_Fb r_2.2 := by first | exact f_8 | (rw [show u_7.1 = r_2 from w_5.symm] at f_8; exact f_8)
  rw [ht] at hP1
  obtain ⟨hP, hD⟩ := va_join (wr := []) (w1 := [(so, .inr (9, [.ref (u_7.2 0), .int 0, .int 0, .int 0])), ((u_7.2 0), .inl (cA 3, r_2.1, .inl r_2.2)), (sb, .inr (8, [.ref sv, .int 0, .int 0, .int sc])), (sv, .inl (cA 3, sn, .inl sF))]) hP hD [0, 1, 2] [] rfl rfl (by decide) (by decide) hk hFc hP1 hD1
  have hP : va_P D ga_cl [(so, .inr (9, [.ref (u_7.2 0), .int 0, .int 0, .int 0])), ((u_7.2 0), .inl (cA 3, r_2.1, .inl r_2.2)), (sb, .inr (8, [.ref sv, .int 0, .int 0, .int sc])), (sv, .inl (cA 3, sn, .inl sF))] H_6 := hP
  have hD : va_D A [(so, .inr (9, [.ref (u_7.2 0), .int 0, .int 0, .int 0])), ((u_7.2 0), .inl (cA 3, r_2.1, .inl r_2.2)), (sb, .inr (8, [.ref sv, .int 0, .int 0, .int sc])), (sv, .inl (cA 3, sn, .inl sF))] := hD
  obtain ⟨dg_11, h⟩ := ga_gif h
  refine W.widen (k := 1) (n := (ix sc)) dg_11.1 dg_11.2 ?_
  have g_12 : ga_Fb r_2.2 := by first | exact f_10
  have hP9 := hP.sub (ws' := [(so, .inr (9, [.ref (u_7.2 0), .int 0, .int 0, .int 0])), ((u_7.2 0), .inl (cA 3, r_2.1, .inl r_2.2)), (sb, .inr (8, [.ref sv, .int 0, .int 0, .int sc])), (sv, .inl (cA 3, sn, .inl sF))]) [0, 1, 2, 3] rfl
  have hD9 := hD.sub (ws' := [(so, .inr (9, [.ref (u_7.2 0), .int 0, .int 0, .int 0])), ((u_7.2 0), .inl (cA 3, r_2.1, .inl r_2.2)), (sb, .inr (8, [.ref sv, .int 0, .int 0, .int sc])), (sv, .inl (cA 3, sn, .inl sF))]) [0, 1, 2, 3] (by decide) rfl
  obtain rfl := Option.some.inj h
  exact W.vret hx hb hr (fun t ht hW => ⟨⟨((r_2.1, r_2.2), ga_ad [(u_7.2 0)]), rfl, rfl, ⟨by rw [ht]; exact hP9, hK.warm hW, hD9, g_12⟩⟩, hS.F ht⟩) hS.2.2 dJ16_init_6
abbrev rm_J22_toString (nc ns : Nat) : Room := { frames := 6, cells := nc, slots := ns, locals := 131 }
def F_J22_toString (N : Nat) (sc : Int32) (sn : Nat) (sF : Nat → Int32)  : Option (Nat × (Nat → Int32)) :=
  (if (0 + 1) + 1 ≤ 2 ∧ (0 + 4) + (ix sc) ≤ 400 then
  ((F_J16_init N sc sn sF).bind fun r_6 =>
  (if ((0 + 1) + 1) ≤ 2 ∧ ((0 + 4) + (ix sc)) ≤ 400 then
  some (r_6.1, r_6.2)
  else none))
  else none)
set_option maxHeartbeats 4000000 in
theorem met_J22_toString (l : Launch) (D : va_G) (cA : Nat → ClassId) (A : Nat → Prop) (sb : Nat) (sv : Nat) (zs : Nat → Nat) (sc : Int32) (sn : Nat) (sF : Nat → Int32) (N : Nat)  (hfit : ga_Fb sF) (out : Nat × (Nat → Int32)) (h : F_J22_toString N sc sn sF = some out) : Met l yJ22_toString (ws_ yJ22_toString cJ22_toString 1 (Option.some (.object "java/lang/String"))) (rm_J22_toString 2 400) (ga_X D cA zs A [(sb, .inr (8, [.ref sv, .int 0, .int 0, .int sc])), (sv, .inl (cA 3, sn, .inl sF))] [.ref sb]) (va_Qr (fun (u : (Nat × (Nat → Int32)) × (Nat → Nat)) => out = u.1) (fun (u : (Nat × (Nat → Int32)) × (Nat → Nat)) (a : Nat) (t : State) => (u.2 0) = a ∧ (fun (u : (Nat × (Nat → Int32)) × (Nat → Nat)) (t : State) => va_P D ga_cl [((u.2 0), .inr (9, [.ref (u.2 1), .int 0, .int 0, .int 0])), ((u.2 1), .inl (cA 3, u.1.1, .inl u.1.2)), (sb, .inr (8, [.ref sv, .int 0, .int 0, .int sc])), (sv, .inl (cA 3, sn, .inl sF))] t.heap ∧ ga_K D cA t ∧ va_D A [((u.2 0), .inr (9, [.ref (u.2 1), .int 0, .int 0, .int 0])), ((u.2 1), .inl (cA 3, u.1.1, .inl u.1.2)), (sb, .inr (8, [.ref sv, .int 0, .int 0, .int sc])), (sv, .inl (cA 3, sn, .inl sF))] ∧ (ga_Fb u.1.2)) u t) A) 2 400 A := by
  refine Met.ofW (cc := cJ22_toString) (maxL := 1) (ret := (Option.some (.object "java/lang/String"))) (by decide) rfl ?_
  intro p e s m args below meth c s₁ B hml hv
  obtain ⟨rfl, hP, hK, hD, hA, hST⟩ := hv
  have hS : va_S A s.heap s.heap [] := va_S.rf
  have C : ga_cx p m c meth s _ RJ22 cJ22_toString 1 (Option.some (.object "java/lang/String")) := ga_cx_of B hml
  have C0 := C
  obtain ⟨hx, hb, hr, hlocks, hml, hown, hts⟩ := C0
  have hl := lv_entry ([.ref sb]) (n := 1) (Nat.le_of_ble_eq_true rfl)
  rw [lg_entry_eq]
  generalize (lg_sl ([.ref sb]) ++ List.replicate (1 - (lg_sl ([.ref sb])).length) Slot.unset).toArray = ls at hl ⊢
  have hl : lv_has ls 1 [(0, .ref sb)] := hl
  rw [F_J22_toString] at h
  refine va_new (ci := 9) (fs := [.null, .int 0, .int 0, .int 0]) (C := RJ16) (T := TJ16) (N := 4) hx hb hts in_J16 tyJ16 tyJ16_ok hown (hts _ q1347) (hts _ q613) (hts _ q90) hK.1 hP hD hS hA rfl nw_J16 (Nat.le_of_ble_eq_true rfl) (Nat.le_of_ble_eq_true rfl) dJ22_toString_0 (fun q_1 H_2 hP hD hS => ?_)
  have hP : va_P D ga_cl [(sb, .inr (8, [.ref sv, .int 0, .int 0, .int sc])), (sv, .inl (cA 3, sn, .inl sF)), (q_1, .inr (9, [.null, .int 0, .int 0, .int 0]))] H_2 := hP
  have hD : va_D A [(sb, .inr (8, [.ref sv, .int 0, .int 0, .int sc])), (sv, .inl (cA 3, sn, .inl sF)), (q_1, .inr (9, [.null, .int 0, .int 0, .int 0]))] := hD
  refine lv_dup hx hb dJ22_toString_3 rfl ?_
  refine lv_aload_n hx hb dJ22_toString_4 rfl (lv_at hl 0 rfl) ?_
  obtain ⟨dg_5, h⟩ := ga_gif h
  obtain ⟨r_6, e_7, h⟩ := ga_gb h
  have hFc := va_free (wc := [(q_1, .inr (9, [.null, .int 0, .int 0, .int 0])), (sb, .inr (8, [.ref sv, .int 0, .int 0, .int sc])), (sv, .inl (cA 3, sn, .inl sF))]) hD hS hA [2, 0, 1] rfl
  refine va_callv (va_runI (As := [.ref sb]) (rest := [.ref q_1]) ⟨hx, hb, hml, hown, hts⟩ (met_J16_init l D cA (va_A [(q_1, .inr (9, [.null, .int 0, .int 0, .int 0])), (sb, .inr (8, [.ref sv, .int 0, .int 0, .int sc])), (sv, .inl (cA 3, sn, .inl sF))] H_2.size) q_1 sb sv zs sc sn sF N hfit r_6 e_7) (cwI 1 hts (lw_meth q1350) rfl rfl rfl (hts _ q90) (hts _ q1348) (hts _ q1349) rfl (by decide +kernel) ⟨Nat.le_of_ble_eq_true rfl, Nat.le_of_ble_eq_true rfl⟩) (ga_XS hK (hP.sub (ws' := [(q_1, .inr (9, [.null, .int 0, .int 0, .int 0])), (sb, .inr (8, [.ref sv, .int 0, .int 0, .int sc])), (sv, .inl (cA 3, sn, .inl sF))]) [2, 0, 1] rfl) (hD.sub (ws' := [(q_1, .inr (9, [.null, .int 0, .int 0, .int 0])), (sb, .inr (8, [.ref sv, .int 0, .int 0, .int sc])), (sv, .inl (cA 3, sn, .inl sF))]) [2, 0, 1] (by decide) rfl).self (fun _ hq => Or.inr hq) (hST.at hS hFc)) rfl rfl hl.1 rfl (lv_room (Nat.le_of_ble_eq_true rfl)) dJ22_toString_5 dg_5) hS (fun q _ hq => hFc q hq) hFc (fun u_11 t H_10 locs ht _ w_9 hB _ hk hS => ?_)
  obtain ⟨hP1, -, hD1, f_12⟩ := hB
  rw [show u_11.1 = r_6 from w_9.symm] at hP1 hD1
  have f_14 : ga_Fb r_6.2 := by first | exact f_12 | (rw [show u_11.1 = r_6 from w_9.symm] at f_12; exact f_12)
  rw [ht] at hP1
  obtain ⟨hP, hD⟩ := va_join (wr := []) (w1 := [(q_1, .inr (9, [.ref (u_11.2 0), .int 0, .int 0, .int 0])), ((u_11.2 0), .inl (cA 3, r_6.1, .inl r_6.2)), (sb, .inr (8, [.ref sv, .int 0, .int 0, .int sc])), (sv, .inl (cA 3, sn, .inl sF))]) hP hD [2, 0, 1] [] rfl rfl (by decide) (by decide) hk hFc hP1 hD1
  have hP : va_P D ga_cl [(q_1, .inr (9, [.ref (u_11.2 0), .int 0, .int 0, .int 0])), ((u_11.2 0), .inl (cA 3, r_6.1, .inl r_6.2)), (sb, .inr (8, [.ref sv, .int 0, .int 0, .int sc])), (sv, .inl (cA 3, sn, .inl sF))] H_10 := hP
  have hD : va_D A [(q_1, .inr (9, [.ref (u_11.2 0), .int 0, .int 0, .int 0])), ((u_11.2 0), .inl (cA 3, r_6.1, .inl r_6.2)), (sb, .inr (8, [.ref sv, .int 0, .int 0, .int sc])), (sv, .inl (cA 3, sn, .inl sF))] := hD
  obtain ⟨dg_15, h⟩ := ga_gif h
  refine W.widen (k := 2) (n := 400) dg_15.1 dg_15.2 ?_
  have g_16 : ga_Fb r_6.2 := by first | exact f_14
  have hP9 := hP.sub (ws' := [(q_1, .inr (9, [.ref (u_11.2 0), .int 0, .int 0, .int 0])), ((u_11.2 0), .inl (cA 3, r_6.1, .inl r_6.2)), (sb, .inr (8, [.ref sv, .int 0, .int 0, .int sc])), (sv, .inl (cA 3, sn, .inl sF))]) [0, 1, 2, 3] rfl
  have hD9 := hD.sub (ws' := [(q_1, .inr (9, [.ref (u_11.2 0), .int 0, .int 0, .int 0])), ((u_11.2 0), .inl (cA 3, r_6.1, .inl r_6.2)), (sb, .inr (8, [.ref sv, .int 0, .int 0, .int sc])), (sv, .inl (cA 3, sn, .inl sF))]) [0, 1, 2, 3] (by decide) rfl
  obtain rfl := Option.some.inj h
  exact W.aret hx hb hr (Or.inl ⟨_, rfl⟩) (Or.inr ⟨_, rfl⟩) (fun t ht hW => ⟨⟨((r_6.1, r_6.2), ga_ad [q_1, (u_11.2 0)]), _, rfl, rfl, rfl, ⟨by rw [ht]; exact hP9, hK.warm hW, hD9, g_16⟩⟩, hS.F ht⟩) hS.2.2 dJ22_toString_8
abbrev rm_J16_coder : Room := { frames := 1, cells := 0, slots := 0, locals := 12 }
def F_J16_coder (N : Nat)   : Option (Int32 × Unit) :=
  some (0, ())
set_option maxHeartbeats 4000000 in
theorem met_J16_coder (l : Launch) (D : va_G) (cA : Nat → ClassId) (A : Nat → Prop) (so : Nat) (tv : Nat) (zs : Nat → Nat)  (N : Nat)   (out : Int32 × Unit) (h : F_J16_coder N = some out) : Met l yJ16_coder (ws_ yJ16_coder cJ16_coder 1 (some .byte)) rm_J16_coder (ga_X D cA zs A [(so, .inr (9, [.ref tv, .int 0, .int 0, .int 0]))] [.ref so]) (va_Qi (fun (r : Int32) (u : Unit) => (out.1 = r) ∧ out.2 = u) (fun (u : Unit) (t : State) => va_P D ga_cl [(so, .inr (9, [.ref tv, .int 0, .int 0, .int 0]))] t.heap ∧ ga_K D cA t ∧ va_D A [(so, .inr (9, [.ref tv, .int 0, .int 0, .int 0]))]) A) 0 0 A := by
  refine Met.ofW (cc := cJ16_coder) (maxL := 1) (ret := (some .byte)) (by decide) rfl ?_
  intro p e s m args below meth c s₁ B hml hv
  obtain ⟨rfl, hP, hK, hD, hA, hST⟩ := hv
  have hS : va_S A s.heap s.heap [] := va_S.rf
  have C : ga_cx p m c meth s _ RJ16 cJ16_coder 1 (some .byte) := ga_cx_of B hml
  have C0 := C
  obtain ⟨hx, hb, hr, hlocks, hml, hown, hts⟩ := C0
  have hl := lv_entry ([.ref so]) (n := 1) (Nat.le_of_ble_eq_true rfl)
  rw [lg_entry_eq]
  generalize (lg_sl ([.ref so]) ++ List.replicate (1 - (lg_sl ([.ref so])).length) Slot.unset).toArray = ls at hl ⊢
  have hl : lv_has ls 1 [(0, .ref so)] := hl
  rw [F_J16_coder] at h
  refine va_gets hx hb hST.2.2.2.2.2.2.2.2.1 hS hown (hts _ q1438) (fun _ hh => hh) dJ16_coder_0 ?_
  refine lv_if_eq (tgt := 13) hx hb dJ16_coder_3 (by decide) (fun c_1 => absurd c_1 (by decide)) (fun _ => ?_)
  refine lv_aload_n hx hb dJ16_coder_6 rfl (lv_at hl 0 rfl) ?_
  refine va_get hx hb hts in_J16 hown hK.1 hP 0 (fs := [.ref tv, .int 0, .int 0, .int 0]) rfl rfl 1 (by decide) (hts _ q1473) (fun _ hh => hh) (v := .int 0) rfl dJ16_coder_7 ?_
  refine lv_goto (tgt := 14) hx hb dJ16_coder_10 (by decide) ?_
  have hP9 := hP.sub (ws' := [(so, .inr (9, [.ref tv, .int 0, .int 0, .int 0]))]) [0] rfl
  have hD9 := hD.sub (ws' := [(so, .inr (9, [.ref tv, .int 0, .int 0, .int 0]))]) [0] (by decide) rfl
  obtain rfl := Option.some.inj h
  exact W.iret hx hb hr (fun t ht hW => ⟨⟨_, (), rfl, ⟨rfl, rfl⟩, ⟨by rw [ht]; exact hP9, hK.warm hW, hD9⟩⟩, hS.F ht⟩) hS.2.2 dJ16_coder_14
abbrev rm_J16_length : Room := { frames := 2, cells := 0, slots := 0, locals := 32 }
def F_J16_length (N : Nat) (tn : Nat) (tF : Nat → Int32)  : Option (Int32 × Unit) :=
  ((F_J16_coder N).bind fun r_1 =>
  some ((jishr (Int32.ofNat tn) r_1.1), ()))
set_option maxHeartbeats 4000000 in
theorem met_J16_length (l : Launch) (D : va_G) (cA : Nat → ClassId) (A : Nat → Prop) (so : Nat) (tv : Nat) (zs : Nat → Nat) (tn : Nat) (tF : Nat → Int32) (N : Nat)   (out : Int32 × Unit) (h : F_J16_length N tn tF = some out) : Met l yJ16_length (ws_ yJ16_length cJ16_length 1 (some .int)) rm_J16_length (ga_X D cA zs A [(so, .inr (9, [.ref tv, .int 0, .int 0, .int 0])), (tv, .inl (cA 3, tn, .inl tF))] [.ref so]) (va_Qi (fun (r : Int32) (u : Unit) => (out.1 = r) ∧ out.2 = u) (fun (u : Unit) (t : State) => va_P D ga_cl [(so, .inr (9, [.ref tv, .int 0, .int 0, .int 0])), (tv, .inl (cA 3, tn, .inl tF))] t.heap ∧ ga_K D cA t ∧ va_D A [(so, .inr (9, [.ref tv, .int 0, .int 0, .int 0])), (tv, .inl (cA 3, tn, .inl tF))]) A) 0 0 A := by
  refine Met.ofW (cc := cJ16_length) (maxL := 1) (ret := (some .int)) (by decide) rfl ?_
  intro p e s m args below meth c s₁ B hml hv
  obtain ⟨rfl, hP, hK, hD, hA, hST⟩ := hv
  have hS : va_S A s.heap s.heap [] := va_S.rf
  have C : ga_cx p m c meth s _ RJ16 cJ16_length 1 (some .int) := ga_cx_of B hml
  have C0 := C
  obtain ⟨hx, hb, hr, hlocks, hml, hown, hts⟩ := C0
  have hl := lv_entry ([.ref so]) (n := 1) (Nat.le_of_ble_eq_true rfl)
  rw [lg_entry_eq]
  generalize (lg_sl ([.ref so]) ++ List.replicate (1 - (lg_sl ([.ref so])).length) Slot.unset).toArray = ls at hl ⊢
  have hl : lv_has ls 1 [(0, .ref so)] := hl
  rw [F_J16_length] at h
  refine lv_aload_n hx hb dJ16_length_0 rfl (lv_at hl 0 rfl) ?_
  refine va_get hx hb hts in_J16 hown hK.1 hP 0 (fs := [.ref tv, .int 0, .int 0, .int 0]) rfl rfl 0 (by decide) (hts _ q1472) (fun _ hh => hh) (v := .ref tv) rfl dJ16_length_1 ?_
  refine va_alen (v := (Int32.ofNat tn)) hx hb hK.1 hP 1 3 rfl rfl rfl dJ16_length_4 ?_
  refine lv_aload_n hx hb dJ16_length_5 rfl (lv_at hl 0 rfl) ?_
  obtain ⟨r_1, e_2, h⟩ := ga_gb h
  have hFc := va_free (wc := [(so, .inr (9, [.ref tv, .int 0, .int 0, .int 0]))]) hD hS hA [0] rfl
  refine va_calli (va_runV (As := []) (rest := [.int (Int32.ofNat tn)]) ⟨hx, hb, hml, hown, hts⟩ (met_J16_coder l D cA (va_A [(so, .inr (9, [.ref tv, .int 0, .int 0, .int 0]))] s.heap.size) so tv zs N r_1 e_2) (cwV 0 hts (lw_V q1434 q1435 q1436 q90 q1437) rfl rfl rfl (by decide +kernel) ⟨Nat.le_of_ble_eq_true rfl, Nat.le_of_ble_eq_true rfl⟩) (ga_XV hK (hP.sub (ws' := [(so, .inr (9, [.ref tv, .int 0, .int 0, .int 0]))]) [0] rfl) (hD.sub (ws' := [(so, .inr (9, [.ref tv, .int 0, .int 0, .int 0]))]) [0] (by decide) rfl).self (fun _ hq => Or.inr hq) (hST.at hS hFc) (va_recv hK.1 hP (ci := 9) (q0 := 0) rfl rfl)) rfl rfl hl.1 rfl (lv_room (Nat.le_of_ble_eq_true rfl)) dJ16_length_6 ⟨Nat.le_of_ble_eq_true rfl, Nat.le_of_ble_eq_true rfl⟩) hS (fun q _ hq => hFc q hq) hFc (fun z_3 u_6 t H_5 locs ht _ w_4 hB _ hk hS => ?_)
  obtain ⟨hP1, -, hD1⟩ := hB
  obtain ⟨rfl, rfl⟩ := w_4
  rw [ht] at hP1
  obtain ⟨hP, hD⟩ := va_join (wr := [(tv, .inl (cA 3, tn, .inl tF))]) (w1 := [(so, .inr (9, [.ref tv, .int 0, .int 0, .int 0]))]) hP hD [0] [1] rfl rfl (by decide) (by decide) hk hFc hP1 hD1
  have hP : va_P D ga_cl [(tv, .inl (cA 3, tn, .inl tF)), (so, .inr (9, [.ref tv, .int 0, .int 0, .int 0]))] H_5 := hP
  have hD : va_D A [(tv, .inl (cA 3, tn, .inl tF)), (so, .inr (9, [.ref tv, .int 0, .int 0, .int 0]))] := hD
  refine ga_ishr hx hb dJ16_length_9 ?_
  have hP9 := hP.sub (ws' := [(so, .inr (9, [.ref tv, .int 0, .int 0, .int 0])), (tv, .inl (cA 3, tn, .inl tF))]) [1, 0] rfl
  have hD9 := hD.sub (ws' := [(so, .inr (9, [.ref tv, .int 0, .int 0, .int 0])), (tv, .inl (cA 3, tn, .inl tF))]) [1, 0] (by decide) rfl
  obtain rfl := Option.some.inj h
  exact W.iret hx hb hr (fun t ht hW => ⟨⟨_, (), rfl, ⟨rfl, rfl⟩, ⟨by rw [ht]; exact hP9, hK.warm hW, hD9⟩⟩, hS.F ht⟩) hS.2.2 dJ16_length_10
abbrev rm_J16_isLatin1 : Room := { frames := 1, cells := 0, slots := 0, locals := 12 }
def F_J16_isLatin1 (N : Nat)   : Option (Int32 × Unit) :=
  some (1, ())
set_option maxHeartbeats 4000000 in
theorem met_J16_isLatin1 (l : Launch) (D : va_G) (cA : Nat → ClassId) (A : Nat → Prop) (so : Nat) (tv : Nat) (zs : Nat → Nat)  (N : Nat)   (out : Int32 × Unit) (h : F_J16_isLatin1 N = some out) : Met l yJ16_isLatin1 (ws_ yJ16_isLatin1 cJ16_isLatin1 1 (some .boolean)) rm_J16_isLatin1 (ga_X D cA zs A [(so, .inr (9, [.ref tv, .int 0, .int 0, .int 0]))] [.ref so]) (va_Qi (fun (r : Int32) (u : Unit) => (out.1 = r ∧ ga_B r) ∧ out.2 = u) (fun (u : Unit) (t : State) => va_P D ga_cl [(so, .inr (9, [.ref tv, .int 0, .int 0, .int 0]))] t.heap ∧ ga_K D cA t ∧ va_D A [(so, .inr (9, [.ref tv, .int 0, .int 0, .int 0]))]) A) 0 0 A := by
  refine Met.ofW (cc := cJ16_isLatin1) (maxL := 1) (ret := (some .boolean)) (by decide) rfl ?_
  intro p e s m args below meth c s₁ B hml hv
  obtain ⟨rfl, hP, hK, hD, hA, hST⟩ := hv
  have hS : va_S A s.heap s.heap [] := va_S.rf
  have C : ga_cx p m c meth s _ RJ16 cJ16_isLatin1 1 (some .boolean) := ga_cx_of B hml
  have C0 := C
  obtain ⟨hx, hb, hr, hlocks, hml, hown, hts⟩ := C0
  have hl := lv_entry ([.ref so]) (n := 1) (Nat.le_of_ble_eq_true rfl)
  rw [lg_entry_eq]
  generalize (lg_sl ([.ref so]) ++ List.replicate (1 - (lg_sl ([.ref so])).length) Slot.unset).toArray = ls at hl ⊢
  have hl : lv_has ls 1 [(0, .ref so)] := hl
  rw [F_J16_isLatin1] at h
  refine va_gets hx hb hST.2.2.2.2.2.2.2.2.1 hS hown (hts _ q1438) (fun _ hh => hh) dJ16_isLatin1_0 ?_
  refine lv_if_eq (tgt := 17) hx hb dJ16_isLatin1_3 (by decide) (fun c_1 => absurd c_1 (by decide)) (fun _ => ?_)
  refine lv_aload_n hx hb dJ16_isLatin1_6 rfl (lv_at hl 0 rfl) ?_
  refine va_get hx hb hts in_J16 hown hK.1 hP 0 (fs := [.ref tv, .int 0, .int 0, .int 0]) rfl rfl 1 (by decide) (hts _ q1473) (fun _ hh => hh) (v := .int 0) rfl dJ16_isLatin1_7 ?_
  refine lv_if_ne (tgt := 17) hx hb dJ16_isLatin1_10 (by decide) (fun c_2 => absurd (by decide) c_2) (fun _ => ?_)
  refine lv_iconst (v := 1) hx hb dJ16_isLatin1_13 (by decide) ?_
  refine lv_goto (tgt := 18) hx hb dJ16_isLatin1_14 (by decide) ?_
  have hP9 := hP.sub (ws' := [(so, .inr (9, [.ref tv, .int 0, .int 0, .int 0]))]) [0] rfl
  have hD9 := hD.sub (ws' := [(so, .inr (9, [.ref tv, .int 0, .int 0, .int 0]))]) [0] (by decide) rfl
  obtain rfl := Option.some.inj h
  exact W.zret hx hb hr (ga_nb (Or.inr rfl)) (fun t ht hW => ⟨⟨_, (), rfl, ⟨⟨rfl, Or.inr rfl⟩, rfl⟩, ⟨by rw [ht]; exact hP9, hK.warm hW, hD9⟩⟩, hS.F ht⟩) hS.2.2 dJ16_isLatin1_18
abbrev rm_J11_checkIndex_q : Room := { frames := 1, cells := 0, slots := 0, locals := 12 }
def F_J11_checkIndex_q (N : Nat)  (x0 : Int32) (x1 : Int32) : Option (Int32) :=
  (if x0 < 0 then
  none
  else
  (if x0 < x1 then
  some x0
  else
  none))
set_option maxHeartbeats 4000000 in
theorem met_J11_checkIndex_q (l : Launch) (D : va_G) (cA : Nat → ClassId) (x2 : Option Nat)  (N : Nat) (x0 : Int32) (x1 : Int32)  (out : Int32) (h : F_J11_checkIndex_q N x0 x1 = some out) : Met l yJ11_checkIndex (ws_ yJ11_checkIndex cJ11_checkIndex 3 (some .int)) rm_J11_checkIndex_q (ga_P D cA [] [.int x0, .int x1, va_rf x2]) (vp_Si (fun r => out = r)) 0 0 ga_F := by
  refine Met.ofW (cc := cJ11_checkIndex) (maxL := 3) (ret := (some .int)) (by decide) rfl ?_
  intro p e s m args below meth c s₁ B hml hv
  obtain ⟨rfl, hP, hK⟩ := hv
  have C : ga_cx p m c meth s _ RJ11 cJ11_checkIndex 3 (some .int) := ga_cx_of B hml
  have C0 := C
  obtain ⟨hx, hb, hr, hlocks, hml, hown, hts⟩ := C0
  have hl := lv_entry ([.int x0, .int x1, va_rf x2]) (n := 3) (Nat.le_of_ble_eq_true rfl)
  rw [lg_entry_eq]
  generalize (lg_sl ([.int x0, .int x1, va_rf x2]) ++ List.replicate (3 - (lg_sl ([.int x0, .int x1, va_rf x2])).length) Slot.unset).toArray = ls at hl ⊢
  have hl : lv_has ls 3 [(0, .int x0), (1, .int x1), (2, va_rf x2)] := hl
  rw [F_J11_checkIndex_q] at h
  refine lv_iload_n hx hb dJ11_checkIndex_0 rfl (lv_at hl 0 rfl) ?_
  refine lv_if_lt (tgt := 9) hx hb dJ11_checkIndex_1 (by decide) (fun c_1 => ?_) (fun c_1 => ?_)
  · replace h := ga_ift c_1 h
    cases h
  · replace h := ga_iff c_1 h
    refine lv_iload_n hx hb dJ11_checkIndex_4 rfl (lv_at hl 0 rfl) ?_
    refine lv_iload_n hx hb dJ11_checkIndex_5 rfl (lv_at hl 1 rfl) ?_
    refine lv_icmp_lt (tgt := 16) hx hb dJ11_checkIndex_6 (by decide) (fun c_2 => ?_) (fun c_2 => ?_)
    · replace h := ga_ift c_2 h
      refine lv_iload_n hx hb dJ11_checkIndex_16 rfl (lv_at hl 0 rfl) ?_
      obtain rfl := Option.some.inj h
      exact W.iret hx hb hr (fun t ht hW => ⟨_, rfl, rfl, ht⟩) (fun _ hq => by cases hq) dJ11_checkIndex_17
    · replace h := ga_iff c_2 h
      cases h
abbrev rm_J16_checkIndex : Room := { frames := 2, cells := 0, slots := 0, locals := 34 }
def F_J16_checkIndex (N : Nat)  (x0 : Int32) (x1 : Int32) : Option (Unit) :=
  ((F_J11_checkIndex_q N x0 x1).bind fun r_3 =>
  some ())
set_option maxHeartbeats 4000000 in
theorem met_J16_checkIndex (l : Launch) (D : va_G) (cA : Nat → ClassId) (A : Nat → Prop) (zs : Nat → Nat)  (N : Nat) (x0 : Int32) (x1 : Int32)  (out : Unit) (h : F_J16_checkIndex N x0 x1 = some out) : Met l yJ16_checkIndex (ws_ yJ16_checkIndex cJ16_checkIndex 2 none) rm_J16_checkIndex (ga_X D cA zs A [] [.int x0, .int x1]) (va_Qv (fun (u : Unit) => out = u) (fun (u : Unit) (t : State) => va_P D ga_cl [] t.heap ∧ ga_K D cA t ∧ va_D A []) A) 0 0 A := by
  refine Met.ofW (cc := cJ16_checkIndex) (maxL := 2) (ret := none) (by decide) rfl ?_
  intro p e s m args below meth c s₁ B hml hv
  obtain ⟨rfl, hP, hK, hD, hA, hST⟩ := hv
  have hS : va_S A s.heap s.heap [] := va_S.rf
  have C : ga_cx p m c meth s _ RJ16 cJ16_checkIndex 2 none := ga_cx_of B hml
  have C0 := C
  obtain ⟨hx, hb, hr, hlocks, hml, hown, hts⟩ := C0
  have hl := lv_entry ([.int x0, .int x1]) (n := 2) (Nat.le_of_ble_eq_true rfl)
  rw [lg_entry_eq]
  generalize (lg_sl ([.int x0, .int x1]) ++ List.replicate (2 - (lg_sl ([.int x0, .int x1])).length) Slot.unset).toArray = ls at hl ⊢
  have hl : lv_has ls 2 [(0, .int x0), (1, .int x1)] := hl
  rw [F_J16_checkIndex] at h
  refine lv_iload_n hx hb dJ16_checkIndex_0 rfl (lv_at hl 0 rfl) ?_
  refine lv_iload_n hx hb dJ16_checkIndex_1 rfl (lv_at hl 1 rfl) ?_
  obtain ⟨o_1, f_2⟩ := ga_Zq hST.2.2.2.2.2.2.2.2.2.2.2.2.2.2.2.2.1
  refine va_gets hx hb f_2 hS hown (hts _ q1319) (fun _ hh => hh) dJ16_checkIndex_2 ?_
  obtain ⟨r_3, e_4, h⟩ := ga_gb h
  refine vp_callSi (va_Run.run (va_runS (As := [.int x0, .int x1, va_rf o_1]) (rest := []) ⟨hx, hb, hml, hown, hts⟩ (met_J11_checkIndex_q l D cA o_1 N x0 x1 r_3 e_4) (va_cwS 3 hts (lw_S q1342 q404 q85 q405) rfl rfl rfl (by decide +kernel) ⟨Nat.le_of_ble_eq_true rfl, Nat.le_of_ble_eq_true rfl⟩) (ga_PS hK ga_P0) rfl rfl hl.1 rfl (lv_room (Nat.le_of_ble_eq_true rfl)) dJ16_checkIndex_5 ⟨Nat.le_of_ble_eq_true rfl, Nat.le_of_ble_eq_true rfl⟩)) (fun z_5 w_6 => ?_)
  obtain rfl := w_6
  refine lv_pop hx hb dJ16_checkIndex_8 rfl ?_
  have hP9 := hP.sub (ws' := []) [] rfl
  have hD9 := hD.sub (ws' := []) [] (by decide) rfl
  obtain rfl := Option.some.inj h
  exact W.vret hx hb hr (fun t ht hW => ⟨⟨(), rfl, rfl, ⟨by rw [ht]; exact hP9, hK.warm hW, hD9⟩⟩, hS.F ht⟩) hS.2.2 dJ16_checkIndex_9
abbrev rm_J24_charAt : Room := { frames := 3, cells := 0, slots := 0, locals := 55 }
def F_J24_charAt (N : Nat) (tn : Nat) (tF : Nat → Int32) (x1 : Int32) : Option (Int32 × Unit) :=
  ((F_J16_checkIndex N x1 (Int32.ofNat tn)).bind fun r_1 =>
  (if inb x1 tn = true then
  some ((ji2c ((tF (ix x1)) &&& 255)), ())
  else none))
set_option maxHeartbeats 4000000 in
theorem met_J24_charAt (l : Launch) (D : va_G) (cA : Nat → ClassId) (A : Nat → Prop) (tv : Nat) (zs : Nat → Nat) (tn : Nat) (tF : Nat → Int32) (N : Nat) (x1 : Int32)  (out : Int32 × Unit) (h : F_J24_charAt N tn tF x1 = some out) : Met l yJ24_charAt (ws_ yJ24_charAt cJ24_charAt 2 (some .char)) rm_J24_charAt (ga_X D cA zs A [(tv, .inl (cA 3, tn, .inl tF))] [.ref tv, .int x1]) (va_Qi (fun (r : Int32) (u : Unit) => (out.1 = r ∧ ga_C r) ∧ out.2 = u) (fun (u : Unit) (t : State) => va_P D ga_cl [(tv, .inl (cA 3, tn, .inl tF))] t.heap ∧ ga_K D cA t ∧ va_D A [(tv, .inl (cA 3, tn, .inl tF))]) A) 0 0 A := by
  refine Met.ofW (cc := cJ24_charAt) (maxL := 2) (ret := (some .char)) (by decide) rfl ?_
  intro p e s m args below meth c s₁ B hml hv
  obtain ⟨rfl, hP, hK, hD, hA, hST⟩ := hv
  have hS : va_S A s.heap s.heap [] := va_S.rf
  have C : ga_cx p m c meth s _ RJ24 cJ24_charAt 2 (some .char) := ga_cx_of B hml
  have C0 := C
  obtain ⟨hx, hb, hr, hlocks, hml, hown, hts⟩ := C0
  have hl := lv_entry ([.ref tv, .int x1]) (n := 2) (Nat.le_of_ble_eq_true rfl)
  rw [lg_entry_eq]
  generalize (lg_sl ([.ref tv, .int x1]) ++ List.replicate (2 - (lg_sl ([.ref tv, .int x1])).length) Slot.unset).toArray = ls at hl ⊢
  have hl : lv_has ls 2 [(0, .ref tv), (1, .int x1)] := hl
  rw [F_J24_charAt] at h
  refine lv_iload_n hx hb dJ24_charAt_0 rfl (lv_at hl 1 rfl) ?_
  refine lv_aload_n hx hb dJ24_charAt_1 rfl (lv_at hl 0 rfl) ?_
  refine va_alen (v := (Int32.ofNat tn)) hx hb hK.1 hP 0 3 rfl rfl rfl dJ24_charAt_2 ?_
  obtain ⟨r_1, e_2, h⟩ := ga_gb h
  have hFc := va_free (wc := []) hD hS hA [] rfl
  refine va_callv (va_runS (As := [.int x1, .int (Int32.ofNat tn)]) (rest := []) ⟨hx, hb, hml, hown, hts⟩ (met_J16_checkIndex l D cA (va_A [] s.heap.size) zs N x1 (Int32.ofNat tn) r_1 e_2) (va_cwS 2 hts (lw_S q1491 q1340 q90 q1341) rfl rfl rfl (by decide +kernel) ⟨Nat.le_of_ble_eq_true rfl, Nat.le_of_ble_eq_true rfl⟩) (ga_XS hK ga_P0 (hD.sub (ws' := []) [] (by decide) rfl).self (fun _ hq => Or.inr hq) (hST.at hS hFc)) rfl rfl hl.1 rfl (lv_room (Nat.le_of_ble_eq_true rfl)) dJ24_charAt_3 ⟨Nat.le_of_ble_eq_true rfl, Nat.le_of_ble_eq_true rfl⟩) hS (fun q _ hq => hFc q hq) hFc (fun u_6 t H_5 locs ht _ w_4 hB _ hk hS => ?_)
  obtain ⟨hP1, -, hD1⟩ := hB
  obtain rfl := w_4
  rw [ht] at hP1
  obtain ⟨hP, hD⟩ := va_join (wr := [(tv, .inl (cA 3, tn, .inl tF))]) (w1 := []) hP hD [] [0] rfl rfl (by decide) (by decide) hk hFc hP1 hD1
  have hP : va_P D ga_cl [(tv, .inl (cA 3, tn, .inl tF))] H_5 := hP
  have hD : va_D A [(tv, .inl (cA 3, tn, .inl tF))] := hD
  refine lv_aload_n hx hb dJ24_charAt_6 rfl (lv_at hl 0 rfl) ?_
  refine lv_iload_n hx hb dJ24_charAt_7 rfl (lv_at hl 1 rfl) ?_
  obtain ⟨i_8, h⟩ := ga_gif h
  refine va_bald hx hb hK.1 hP 0 3 (f := tF) rfl rfl (ga_in i_8) dJ24_charAt_8 ?_
  refine lv_sipush (v := 255) hx hb dJ24_charAt_9 (by decide) ?_
  refine lv_iand hx hb dJ24_charAt_12 ?_
  refine lv_i2c (v := (ji2c ((tF (ix x1)) &&& 255))) hx hb dJ24_charAt_13 rfl ?_
  have hP9 := hP.sub (ws' := [(tv, .inl (cA 3, tn, .inl tF))]) [0] rfl
  have hD9 := hD.sub (ws' := [(tv, .inl (cA 3, tn, .inl tF))]) [0] (by decide) rfl
  obtain rfl := Option.some.inj h
  exact W.zret hx hb hr (pk_nc _) (fun t ht hW => ⟨⟨_, (), rfl, ⟨⟨rfl, (pk_nc _)⟩, rfl⟩, ⟨by rw [ht]; exact hP9, hK.warm hW, hD9⟩⟩, hS.F ht⟩) hS.2.2 dJ24_charAt_14
abbrev rm_J16_charAt : Room := { frames := 4, cells := 0, slots := 0, locals := 76 }
def F_J16_charAt (N : Nat) (tn : Nat) (tF : Nat → Int32) (x1 : Int32) : Option (Int32 × Unit) :=
  ((F_J16_isLatin1 N).bind fun r_1 =>
  (if r_1.1 = 0 then
  none
  else
  ((F_J24_charAt N tn tF x1).bind fun r_9 =>
  some (r_9.1, ()))))
set_option maxHeartbeats 4000000 in
theorem met_J16_charAt (l : Launch) (D : va_G) (cA : Nat → ClassId) (A : Nat → Prop) (so : Nat) (tv : Nat) (zs : Nat → Nat) (tn : Nat) (tF : Nat → Int32) (N : Nat) (x1 : Int32)  (out : Int32 × Unit) (h : F_J16_charAt N tn tF x1 = some out) : Met l yJ16_charAt (ws_ yJ16_charAt cJ16_charAt 2 (some .char)) rm_J16_charAt (ga_X D cA zs A [(so, .inr (9, [.ref tv, .int 0, .int 0, .int 0])), (tv, .inl (cA 3, tn, .inl tF))] [.ref so, .int x1]) (va_Qi (fun (r : Int32) (u : Unit) => (out.1 = r ∧ ga_C r) ∧ out.2 = u) (fun (u : Unit) (t : State) => va_P D ga_cl [(so, .inr (9, [.ref tv, .int 0, .int 0, .int 0])), (tv, .inl (cA 3, tn, .inl tF))] t.heap ∧ ga_K D cA t ∧ va_D A [(so, .inr (9, [.ref tv, .int 0, .int 0, .int 0])), (tv, .inl (cA 3, tn, .inl tF))]) A) 0 0 A := by
  refine Met.ofW (cc := cJ16_charAt) (maxL := 2) (ret := (some .char)) (by decide) rfl ?_
  intro p e s m args below meth c s₁ B hml hv
  obtain ⟨rfl, hP, hK, hD, hA, hST⟩ := hv
  have hS : va_S A s.heap s.heap [] := va_S.rf
  have C : ga_cx p m c meth s _ RJ16 cJ16_charAt 2 (some .char) := ga_cx_of B hml
  have C0 := C
  obtain ⟨hx, hb, hr, hlocks, hml, hown, hts⟩ := C0
  have hl := lv_entry ([.ref so, .int x1]) (n := 2) (Nat.le_of_ble_eq_true rfl)
  rw [lg_entry_eq]
  generalize (lg_sl ([.ref so, .int x1]) ++ List.replicate (2 - (lg_sl ([.ref so, .int x1])).length) Slot.unset).toArray = ls at hl ⊢
  have hl : lv_has ls 2 [(0, .ref so), (1, .int x1)] := hl
  rw [F_J16_charAt] at h
  refine lv_aload_n hx hb dJ16_charAt_0 rfl (lv_at hl 0 rfl) ?_
  obtain ⟨r_1, e_2, h⟩ := ga_gb h
  have hFc := va_free (wc := [(so, .inr (9, [.ref tv, .int 0, .int 0, .int 0]))]) hD hS hA [0] rfl
  refine va_calli (va_runV (As := []) (rest := []) ⟨hx, hb, hml, hown, hts⟩ (met_J16_isLatin1 l D cA (va_A [(so, .inr (9, [.ref tv, .int 0, .int 0, .int 0]))] s.heap.size) so tv zs N r_1 e_2) (cwV 0 hts (lw_V q1484 q1485 q1486 q90 q1487) rfl rfl rfl (by decide +kernel) ⟨Nat.le_of_ble_eq_true rfl, Nat.le_of_ble_eq_true rfl⟩) (ga_XV hK (hP.sub (ws' := [(so, .inr (9, [.ref tv, .int 0, .int 0, .int 0]))]) [0] rfl) (hD.sub (ws' := [(so, .inr (9, [.ref tv, .int 0, .int 0, .int 0]))]) [0] (by decide) rfl).self (fun _ hq => Or.inr hq) (hST.at hS hFc) (va_recv hK.1 hP (ci := 9) (q0 := 0) rfl rfl)) rfl rfl hl.1 rfl (lv_room (Nat.le_of_ble_eq_true rfl)) dJ16_charAt_1 ⟨Nat.le_of_ble_eq_true rfl, Nat.le_of_ble_eq_true rfl⟩) hS (fun q _ hq => hFc q hq) hFc (fun z_3 u_6 t H_5 locs ht _ w_4 hB _ hk hS => ?_)
  obtain ⟨hP1, -, hD1⟩ := hB
  obtain ⟨⟨rfl, b_7⟩, rfl⟩ := w_4
  rw [ht] at hP1
  obtain ⟨hP, hD⟩ := va_join (wr := [(tv, .inl (cA 3, tn, .inl tF))]) (w1 := [(so, .inr (9, [.ref tv, .int 0, .int 0, .int 0]))]) hP hD [0] [1] rfl rfl (by decide) (by decide) hk hFc hP1 hD1
  have hP : va_P D ga_cl [(tv, .inl (cA 3, tn, .inl tF)), (so, .inr (9, [.ref tv, .int 0, .int 0, .int 0]))] H_5 := hP
  have hD : va_D A [(tv, .inl (cA 3, tn, .inl tF)), (so, .inr (9, [.ref tv, .int 0, .int 0, .int 0]))] := hD
  refine lv_if_eq (tgt := 16) hx hb dJ16_charAt_4 (by decide) (fun c_8 => ?_) (fun c_8 => ?_)
  · replace h := ga_ift c_8 h
    cases h
  · replace h := ga_iff c_8 h
    refine lv_aload_n hx hb dJ16_charAt_7 rfl (lv_at hl 0 rfl) ?_
    refine va_get hx hb hts in_J16 hown hK.1 hP 1 (fs := [.ref tv, .int 0, .int 0, .int 0]) rfl rfl 0 (by decide) (hts _ q1472) (fun _ hh => hh) (v := .ref tv) rfl dJ16_charAt_8 ?_
    refine lv_iload_n hx hb dJ16_charAt_11 rfl (lv_at hl 1 rfl) ?_
    obtain ⟨r_9, e_10, h⟩ := ga_gb h
    have hFc := va_free (wc := [(tv, .inl (cA 3, tn, .inl tF))]) hD hS hA [0] rfl
    refine va_calli (va_runS (As := [.ref tv, .int x1]) (rest := []) ⟨hx, hb, hml, hown, hts⟩ (met_J24_charAt l D cA (va_A [(tv, .inl (cA 3, tn, .inl tF))] H_5.size) tv zs tn tF N x1 r_9 e_10) (va_cwS 2 hts (lw_S q1488 q1489 q106 q1490) rfl rfl rfl (by decide +kernel) ⟨Nat.le_of_ble_eq_true rfl, Nat.le_of_ble_eq_true rfl⟩) (ga_XS hK (hP.sub (ws' := [(tv, .inl (cA 3, tn, .inl tF))]) [0] rfl) (hD.sub (ws' := [(tv, .inl (cA 3, tn, .inl tF))]) [0] (by decide) rfl).self (fun _ hq => Or.inr hq) (hST.at hS hFc)) rfl rfl hl.1 rfl (lv_room (Nat.le_of_ble_eq_true rfl)) dJ16_charAt_12 ⟨Nat.le_of_ble_eq_true rfl, Nat.le_of_ble_eq_true rfl⟩) hS (fun q _ hq => hFc q hq) hFc (fun z_11 u_14 t H_13 locs ht _ w_12 hB _ hk hS => ?_)
    obtain ⟨hP1, -, hD1⟩ := hB
    obtain ⟨⟨rfl, b_15⟩, rfl⟩ := w_12
    rw [ht] at hP1
    obtain ⟨hP, hD⟩ := va_join (wr := [(so, .inr (9, [.ref tv, .int 0, .int 0, .int 0]))]) (w1 := [(tv, .inl (cA 3, tn, .inl tF))]) hP hD [0] [1] rfl rfl (by decide) (by decide) hk hFc hP1 hD1
    have hP : va_P D ga_cl [(so, .inr (9, [.ref tv, .int 0, .int 0, .int 0])), (tv, .inl (cA 3, tn, .inl tF))] H_13 := hP
    have hD : va_D A [(so, .inr (9, [.ref tv, .int 0, .int 0, .int 0])), (tv, .inl (cA 3, tn, .inl tF))] := hD
    have hP9 := hP.sub (ws' := [(so, .inr (9, [.ref tv, .int 0, .int 0, .int 0])), (tv, .inl (cA 3, tn, .inl tF))]) [0, 1] rfl
    have hD9 := hD.sub (ws' := [(so, .inr (9, [.ref tv, .int 0, .int 0, .int 0])), (tv, .inl (cA 3, tn, .inl tF))]) [0, 1] (by decide) rfl
    obtain rfl := Option.some.inj h
    exact W.zret hx hb hr b_15 (fun t ht hW => ⟨⟨_, (), rfl, ⟨⟨rfl, b_15⟩, rfl⟩, ⟨by rw [ht]; exact hP9, hK.warm hW, hD9⟩⟩, hS.F ht⟩) hS.2.2 dJ16_charAt_15
