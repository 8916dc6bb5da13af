abbrev rm_J21_init : Room := { frames := 1, cells := 1, slots := 16, locals := 12 }
def F_J21_init (N : Nat)   : Option ((Nat → Int32)) :=
  some (fun _ => 0)
set_option maxHeartbeats 4000000 in
theorem met_J21_init (l : Launch) (D : va_G) (cA : Nat → ClassId) (A : Nat → Prop) (sb : Nat) (zs : Nat → Nat)  (N : Nat)   (out : (Nat → Int32)) (h : F_J21_init N = some out) : Met l yJ21_init (ws_ yJ21_init cJ21_init 2 none) rm_J21_init (ga_X D cA zs A [(sb, .inr (8, [.null, .int 0, .int 0, .int 0]))] [.ref sb, .int 16]) (va_Qv (fun (u : ((Nat → Int32)) × (Nat → Nat)) => out = u.1) (fun (u : ((Nat → Int32)) × (Nat → Nat)) (t : State) => va_P D ga_cl [(sb, .inr (8, [.ref (u.2 0), .int 0, .int 0, .int 0])), ((u.2 0), .inl (cA 3, 16, .inl u.1))] t.heap ∧ ga_K D cA t ∧ va_D A [(sb, .inr (8, [.ref (u.2 0), .int 0, .int 0, .int 0])), ((u.2 0), .inl (cA 3, 16, .inl u.1))] ∧ (ga_Fb u.1)) A) 1 16 A := by
  refine Met.ofW (cc := cJ21_init) (maxL := 2) (ret := none) (by decide) rfl ?_
  intro p e s m args below meth c s₁ B hml hv
  obtain ⟨rfl, hP, hK, hD, hA, hST⟩ := hv
  have hS : va_S A s.heap s.heap [] := va_S.rf
  have hin : meth.name = "<init>" := (name_of_methodNamed B.named B.method).1
  have C : ga_cx p m c meth s _ RJ21 cJ21_init 2 none := ga_cx_of B hml
  have C0 := C
  obtain ⟨hx, hb, hr, hlocks, hml, hown, hts⟩ := C0
  have hl := lv_entry ([.ref sb, .int 16]) (n := 2) (Nat.le_of_ble_eq_true rfl)
  rw [lg_entry_eq]
  generalize (lg_sl ([.ref sb, .int 16]) ++ List.replicate (2 - (lg_sl ([.ref sb, .int 16])).length) Slot.unset).toArray = ls at hl ⊢
  have hl : lv_has ls 2 [(0, .ref sb), (1, .int 16)] := hl
  rw [F_J21_init] at h
  refine lv_aload_n hx hb dJ21_init_0 rfl (lv_at hl 0 rfl) ?_
  refine W.objInit hx hb hown (hts _ q1238) (hts _ q113) (hts _ q114) rfl (by rw [hml]; exact hl.1) rfl dJ21_init_1 (Nat.le_of_ble_eq_true rfl) (Nat.le_of_ble_eq_true rfl) ?_
  refine W.eq (g2 := F0 m 4 ls []) rfl ?_
  refine va_gets hx hb hST.2.2.2.2.2.2.2.2.1 hS hown (hts _ q1239) (fun _ hh => hh) dJ21_init_4 ?_
  refine lv_if_eq (tgt := 25) hx hb dJ21_init_7 (by decide) (fun c_1 => absurd c_1 (by decide)) (fun _ => ?_)
  refine lv_aload_n hx hb dJ21_init_10 rfl (lv_at hl 0 rfl) ?_
  refine lv_iload_n hx hb dJ21_init_11 rfl (lv_at hl 1 rfl) ?_
  refine va_newa (atype := .byte) (a0 := (16, .inl (fun _ => 0))) hx hb (hts _ q375) rfl hK.1 hP hD hS hA (fun _ => rfl) (by decide) rfl (Nat.le_of_ble_eq_true rfl) (Nat.le_of_ble_eq_true rfl) (Nat.le_of_ble_eq_true rfl) dJ21_init_12 (fun q_2 k_4 H_3 hK9 hP hD hS => ?_)
  obtain rfl := ga_tyqB hK9
  have hP : va_P D ga_cl [(sb, .inr (8, [.null, .int 0, .int 0, .int 0])), (q_2, .inl (cA 3, 16, .inl (fun _ => 0)))] H_3 := hP
  have hD : va_D A [(sb, .inr (8, [.null, .int 0, .int 0, .int 0])), (q_2, .inl (cA 3, 16, .inl (fun _ => 0)))] := hD
  refine W.cs (cells' := 1) (slots' := 16) rfl rfl ?_
  refine va_put hx hb hts in_J22 tyJ22 tyJ22_ok nmJ22 hown hK.1 hP hD hS 0 (fs := [.null, .int 0, .int 0, .int 0]) rfl rfl 0 (by decide) (hts _ q1248) (fun _ hh => hh) rfl (v := .ref q_2) rfl rfl rfl (show 0 < 4 by decide) dJ21_init_14 (fun H_5 locs hP hD hS => ?_)
  have hP : va_P D ga_cl [(sb, .inr (8, [.ref q_2, .int 0, .int 0, .int 0])), (q_2, .inl (cA 3, 16, .inl (fun _ => 0)))] H_5 := hP
  have hD : va_D A [(sb, .inr (8, [.ref q_2, .int 0, .int 0, .int 0])), (q_2, .inl (cA 3, 16, .inl (fun _ => 0)))] := hD
  refine lv_aload_n hx hb dJ21_init_17 rfl (lv_at hl 0 rfl) ?_
  refine lv_iconst (v := 0) hx hb dJ21_init_18 (by decide) ?_
  refine va_put hx hb hts in_J22 tyJ22 tyJ22_ok nmJ22 hown hK.1 hP hD hS 0 (fs := [.ref q_2, .int 0, .int 0, .int 0]) rfl rfl 1 (by decide) (hts _ q1249) (fun _ hh => hh) rfl (v := .int 0) rfl rfl rfl (show 1 < 4 by decide) dJ21_init_19 (fun H_7 locs hP hD hS => ?_)
  have hP : va_P D ga_cl [(sb, .inr (8, [.ref q_2, .int 0, .int 0, .int 0])), (q_2, .inl (cA 3, 16, .inl (fun _ => 0)))] H_7 := hP
  have hD : va_D A [(sb, .inr (8, [.ref q_2, .int 0, .int 0, .int 0])), (q_2, .inl (cA 3, 16, .inl (fun _ => 0)))] := hD
  refine lv_goto (tgt := 38) hx hb dJ21_init_22 (by decide) ?_
  have g_9 : ga_Fb (fun _ => 0) := by first | exact ga_Fb0 | fail
  have hP9 := hP.sub (ws' := [(sb, .inr (8, [.ref q_2, .int 0, .int 0, .int 0])), (q_2, .inl (cA 3, 16, .inl (fun _ => 0)))]) [0, 1] rfl
  have hD9 := hD.sub (ws' := [(sb, .inr (8, [.ref q_2, .int 0, .int 0, .int 0])), (q_2, .inl (cA 3, 16, .inl (fun _ => 0)))]) [0, 1] (by decide) rfl
  obtain rfl := Option.some.inj h
  exact W.vret hx hb hr (fun t ht hW => ⟨⟨((fun _ => 0), ga_ad [q_2]), rfl, rfl, ⟨by rw [ht]; exact hP9, hK.warm hW, hD9, g_9⟩⟩, hS.F ht⟩) hS.2.2 dJ21_init_38
abbrev rm_J22_init : Room := { frames := 2, cells := 1, slots := 16, locals := 33 }
def F_J22_init (N : Nat)   : Option ((Nat → Int32)) :=
  ((F_J21_init N).bind fun r_1 =>
  some r_1)
set_option maxHeartbeats 4000000 in
theorem met_J22_init (l : Launch) (D : va_G) (cA : Nat → ClassId) (A : Nat → Prop) (sb : Nat) (zs : Nat → Nat)  (N : Nat)   (out : (Nat → Int32)) (h : F_J22_init N = some out) : Met l yJ22_init (ws_ yJ22_init cJ22_init 1 none) rm_J22_init (ga_X D cA zs A [(sb, .inr (8, [.null, .int 0, .int 0, .int 0]))] [.ref sb]) (va_Qv (fun (u : ((Nat → Int32)) × (Nat → Nat)) => out = u.1) (fun (u : ((Nat → Int32)) × (Nat → Nat)) (t : State) => va_P D ga_cl [(sb, .inr (8, [.ref (u.2 0), .int 0, .int 0, .int 0])), ((u.2 0), .inl (cA 3, 16, .inl u.1))] t.heap ∧ ga_K D cA t ∧ va_D A [(sb, .inr (8, [.ref (u.2 0), .int 0, .int 0, .int 0])), ((u.2 0), .inl (cA 3, 16, .inl u.1))] ∧ (ga_Fb u.1)) A) 1 16 A := by
  refine Met.ofW (cc := cJ22_init) (maxL := 1) (ret := none) (by decide) rfl ?_
  intro p e s m args below meth c s₁ B hml hv
  obtain ⟨rfl, hP, hK, hD, hA, hST⟩ := hv
  have hS : va_S A s.heap s.heap [] := va_S.rf
  have hin : meth.name = "<init>" := (name_of_methodNamed B.named B.method).1
  have C : ga_cx p m c meth s _ RJ22 cJ22_init 1 none := ga_cx_of B hml
  have C0 := C
  obtain ⟨hx, hb, hr, hlocks, hml, hown, hts⟩ := C0
  have hl := lv_entry ([.ref sb]) (n := 1) (Nat.le_of_ble_eq_true rfl)
  rw [lg_entry_eq]
  generalize (lg_sl ([.ref sb]) ++ List.replicate (1 - (lg_sl ([.ref sb])).length) Slot.unset).toArray = ls at hl ⊢
  have hl : lv_has ls 1 [(0, .ref sb)] := hl
  rw [F_J22_init] at h
  refine lv_aload_n hx hb dJ22_init_0 rfl (lv_at hl 0 rfl) ?_
  refine lv_bipush (v := 16) hx hb dJ22_init_1 (by decide) ?_
  obtain ⟨r_1, e_2, h⟩ := ga_gb h
  have hFc := va_free (wc := [(sb, .inr (8, [.null, .int 0, .int 0, .int 0]))]) hD hS hA [0] rfl
  refine va_callv (va_runI (As := [.int 16]) (rest := []) ⟨hx, hb, hml, hown, hts⟩ (met_J21_init l D cA (va_A [(sb, .inr (8, [.null, .int 0, .int 0, .int 0]))] s.heap.size) sb zs N r_1 e_2) (cwI 1 hts (lw_meth q1237) rfl rfl rfl (hts _ q103) (hts _ q1235) (hts _ q1236) rfl (by decide +kernel) ⟨Nat.le_of_ble_eq_true rfl, Nat.le_of_ble_eq_true rfl⟩) (ga_XS hK (hP.sub (ws' := [(sb, .inr (8, [.null, .int 0, .int 0, .int 0]))]) [0] rfl) (hD.sub (ws' := [(sb, .inr (8, [.null, .int 0, .int 0, .int 0]))]) [0] (by decide) rfl).self (fun _ hq => Or.inr hq) (hST.at hS hFc)) rfl rfl hl.1 rfl (lv_room (Nat.le_of_ble_eq_true rfl)) dJ22_init_3 ⟨Nat.le_of_ble_eq_true rfl, Nat.le_of_ble_eq_true rfl⟩) hS (fun q _ hq => hFc q hq) hFc (fun u_6 t H_5 locs ht _ w_4 hB _ hk hS => ?_)
  obtain ⟨hP1, -, hD1, f_7⟩ := hB
  rw [show u_6.1 = r_1 from w_4.symm] at hP1 hD1
  have f_9 : ga_Fb r_1 := by first | exact f_7 | (rw [show u_6.1 = r_1 from w_4.symm] at f_7; exact f_7)
  rw [ht] at hP1
  obtain ⟨hP, hD⟩ := va_join (wr := []) (w1 := [(sb, .inr (8, [.ref (u_6.2 0), .int 0, .int 0, .int 0])), ((u_6.2 0), .inl (cA 3, 16, .inl r_1))]) hP hD [0] [] rfl rfl (by decide) (by decide) hk hFc hP1 hD1
  have hP : va_P D ga_cl [(sb, .inr (8, [.ref (u_6.2 0), .int 0, .int 0, .int 0])), ((u_6.2 0), .inl (cA 3, 16, .inl r_1))] H_5 := hP
  have hD : va_D A [(sb, .inr (8, [.ref (u_6.2 0), .int 0, .int 0, .int 0])), ((u_6.2 0), .inl (cA 3, 16, .inl r_1))] := hD
  refine W.cs (cells' := 1) (slots' := 16) rfl rfl ?_
  have g_10 : ga_Fb r_1 := by first | exact ga_Fb0 | exact f_9
  have hP9 := hP.sub (ws' := [(sb, .inr (8, [.ref (u_6.2 0), .int 0, .int 0, .int 0])), ((u_6.2 0), .inl (cA 3, 16, .inl r_1))]) [0, 1] rfl
  have hD9 := hD.sub (ws' := [(sb, .inr (8, [.ref (u_6.2 0), .int 0, .int 0, .int 0])), ((u_6.2 0), .inl (cA 3, 16, .inl r_1))]) [0, 1] (by decide) rfl
  obtain rfl := Option.some.inj h
  exact W.vret hx hb hr (fun t ht hW => ⟨⟨(r_1, ga_ad [(u_6.2 0)]), rfl, rfl, ⟨by rw [ht]; exact hP9, hK.warm hW, hD9, g_10⟩⟩, hS.F ht⟩) hS.2.2 dJ22_init_6
abbrev rm_J21_isLatin1 : Room := { frames := 1, cells := 0, slots := 0, locals := 12 }
def F_J21_isLatin1 (N : Nat) (sc : Int32)  : Option (Int32 × Unit) :=
  some (1, ())
set_option maxHeartbeats 4000000 in
theorem met_J21_isLatin1 (l : Launch) (D : va_G) (cA : Nat → ClassId) (A : Nat → Prop) (sb : Nat) (sv : Nat) (zs : Nat → Nat) (sc : Int32) (N : Nat)   (out : Int32 × Unit) (h : F_J21_isLatin1 N sc = some out) : Met l yJ21_isLatin1 (ws_ yJ21_isLatin1 cJ21_isLatin1 1 (some .boolean)) rm_J21_isLatin1 (ga_X D cA zs A [(sb, .inr (8, [.ref sv, .int 0, .int 0, .int sc]))] [.ref sb]) (va_Qi (fun (r : Int32) (u : Unit) => (out.1 = r ∧ ga_B r) ∧ out.2 = u) (fun (u : Unit) (t : State) => va_P D ga_cl [(sb, .inr (8, [.ref sv, .int 0, .int 0, .int sc]))] t.heap ∧ ga_K D cA t ∧ va_D A [(sb, .inr (8, [.ref sv, .int 0, .int 0, .int sc]))]) A) 0 0 A := by
  refine Met.ofW (cc := cJ21_isLatin1) (maxL := 1) (ret := (some .boolean)) (by decide) rfl ?_
  intro p e s m args below meth c s₁ B hml hv
  obtain ⟨rfl, hP, hK, hD, hA, hST⟩ := hv
  have hS : va_S A s.heap s.heap [] := va_S.rf
  have C : ga_cx p m c meth s _ RJ21 cJ21_isLatin1 1 (some .boolean) := ga_cx_of B hml
  have C0 := C
  obtain ⟨hx, hb, hr, hlocks, hml, hown, hts⟩ := C0
  have hl := lv_entry ([.ref sb]) (n := 1) (Nat.le_of_ble_eq_true rfl)
  rw [lg_entry_eq]
  generalize (lg_sl ([.ref sb]) ++ List.replicate (1 - (lg_sl ([.ref sb])).length) Slot.unset).toArray = ls at hl ⊢
  have hl : lv_has ls 1 [(0, .ref sb)] := hl
  rw [F_J21_isLatin1] at h
  refine va_gets hx hb hST.2.2.2.2.2.2.2.2.1 hS hown (hts _ q1239) (fun _ hh => hh) dJ21_isLatin1_0 ?_
  refine lv_if_eq (tgt := 17) hx hb dJ21_isLatin1_3 (by decide) (fun c_1 => absurd c_1 (by decide)) (fun _ => ?_)
  refine lv_aload_n hx hb dJ21_isLatin1_6 rfl (lv_at hl 0 rfl) ?_
  refine va_get hx hb hts in_J22 hown hK.1 hP 0 (fs := [.ref sv, .int 0, .int 0, .int sc]) rfl rfl 1 (by decide) (hts _ q1249) (fun _ hh => hh) (v := .int 0) rfl dJ21_isLatin1_7 ?_
  refine lv_if_ne (tgt := 17) hx hb dJ21_isLatin1_10 (by decide) (fun c_2 => absurd (by decide) c_2) (fun _ => ?_)
  refine lv_iconst (v := 1) hx hb dJ21_isLatin1_13 (by decide) ?_
  refine lv_goto (tgt := 18) hx hb dJ21_isLatin1_14 (by decide) ?_
  have hP9 := hP.sub (ws' := [(sb, .inr (8, [.ref sv, .int 0, .int 0, .int sc]))]) [0] rfl
  have hD9 := hD.sub (ws' := [(sb, .inr (8, [.ref sv, .int 0, .int 0, .int sc]))]) [0] (by decide) rfl
  obtain rfl := Option.some.inj h
  exact W.zret hx hb hr (ga_nb (Or.inr rfl)) (fun t ht hW => ⟨⟨_, (), rfl, ⟨⟨rfl, Or.inr rfl⟩, rfl⟩, ⟨by rw [ht]; exact hP9, hK.warm hW, hD9⟩⟩, hS.F ht⟩) hS.2.2 dJ21_isLatin1_18
abbrev rm_J24_canEncode : Room := { frames := 1, cells := 0, slots := 0, locals := 12 }
def F_J24_canEncode (N : Nat)  (x0 : Int32) : Option (Int32) :=
  (if 255 < x0 then
  some 0
  else
  some 1)
set_option maxHeartbeats 4000000 in
theorem met_J24_canEncode (l : Launch) (D : va_G) (cA : Nat → ClassId)   (N : Nat) (x0 : Int32)  (out : Int32) (h : F_J24_canEncode N x0 = some out) : Met l yJ24_canEncode (ws_ yJ24_canEncode cJ24_canEncode 1 (some .boolean)) rm_J24_canEncode (ga_P D cA [] [.int x0]) (vp_Si (fun r => out = r ∧ ga_B r)) 0 0 ga_F := by
  refine Met.ofW (cc := cJ24_canEncode) (maxL := 1) (ret := (some .boolean)) (by decide) rfl ?_
  intro p e s m args below meth c s₁ B hml hv
  obtain ⟨rfl, hP, hK⟩ := hv
  have C : ga_cx p m c meth s _ RJ24 cJ24_canEncode 1 (some .boolean) := ga_cx_of B hml
  have C0 := C
  obtain ⟨hx, hb, hr, hlocks, hml, hown, hts⟩ := C0
  have hl := lv_entry ([.int x0]) (n := 1) (Nat.le_of_ble_eq_true rfl)
  rw [lg_entry_eq]
  generalize (lg_sl ([.int x0]) ++ List.replicate (1 - (lg_sl ([.int x0])).length) Slot.unset).toArray = ls at hl ⊢
  have hl : lv_has ls 1 [(0, .int x0)] := hl
  rw [F_J24_canEncode] at h
  refine lv_iload_n hx hb dJ24_canEncode_0 rfl (lv_at hl 0 rfl) ?_
  refine lv_sipush (v := 255) hx hb dJ24_canEncode_1 (by decide) ?_
  refine lv_icmp_gt (tgt := 11) hx hb dJ24_canEncode_4 (by decide) (fun c_1 => ?_) (fun c_1 => ?_)
  · replace h := ga_ift c_1 h
    refine lv_iconst (v := 0) hx hb dJ24_canEncode_11 (by decide) ?_
    obtain rfl := Option.some.inj h
    exact W.zret hx hb hr (ga_nb (Or.inl rfl)) (fun t ht hW => ⟨_, rfl, ⟨rfl, Or.inl rfl⟩, ht⟩) (fun _ hq => by cases hq) dJ24_canEncode_12
  · replace h := ga_iff c_1 h
    refine lv_iconst (v := 1) hx hb dJ24_canEncode_7 (by decide) ?_
    refine lv_goto (tgt := 12) hx hb dJ24_canEncode_8 (by decide) ?_
    obtain rfl := Option.some.inj h
    exact W.zret hx hb hr (ga_nb (Or.inr rfl)) (fun t ht hW => ⟨_, rfl, ⟨rfl, Or.inr rfl⟩, ht⟩) (fun _ hq => by cases hq) dJ24_canEncode_12
abbrev rm_J21_newCapacity : Room := { frames := 3, cells := 0, slots := 0, locals := 47 }
def F_J21_newCapacity (N : Nat) (sc : Int32) (sn : Nat) (sF : Nat → Int32) (x1 : Int32) : Option (Int32) :=
  ((F_J3_newLength N (Int32.ofNat sn) ((jishl x1 0) - (Int32.ofNat sn)) ((Int32.ofNat sn) + (jishl 2 0))).bind fun r_1 =>
  (if r_1 = 2147483647 then
  none
  else
  some (jishr r_1 0)))
set_option maxHeartbeats 4000000 in
theorem met_J21_newCapacity (l : Launch) (D : va_G) (cA : Nat → ClassId) (sb : Nat) (sv : Nat) (sc : Int32) (sn : Nat) (sF : Nat → Int32) (N : Nat) (x1 : Int32)  (out : Int32) (h : F_J21_newCapacity N sc sn sF x1 = some out) : Met l yJ21_newCapacity (ws_ yJ21_newCapacity cJ21_newCapacity 6 (some .int)) rm_J21_newCapacity (ga_P D cA [(sb, .inr (8, [.ref sv, .int 0, .int 0, .int sc])), (sv, .inl (cA 3, sn, .inl sF))] [.ref sb, .int x1]) (vp_Si (fun r => out = r)) 0 0 ga_F := by
  refine Met.ofW (cc := cJ21_newCapacity) (maxL := 6) (ret := (some .int)) (by decide) rfl ?_
  intro p e s m args below meth c s₁ B hml hv
  obtain ⟨rfl, hP, hK⟩ := hv
  have C : ga_cx p m c meth s _ RJ21 cJ21_newCapacity 6 (some .int) := ga_cx_of B hml
  have C0 := C
  obtain ⟨hx, hb, hr, hlocks, hml, hown, hts⟩ := C0
  have hl := lv_entry ([.ref sb, .int x1]) (n := 6) (Nat.le_of_ble_eq_true rfl)
  rw [lg_entry_eq]
  generalize (lg_sl ([.ref sb, .int x1]) ++ List.replicate (6 - (lg_sl ([.ref sb, .int x1])).length) Slot.unset).toArray = ls at hl ⊢
  have hl : lv_has ls 6 [(0, .ref sb), (1, .int x1)] := hl
  rw [F_J21_newCapacity] at h
  refine lv_aload_n hx hb dJ21_newCapacity_0 rfl (lv_at hl 0 rfl) ?_
  refine va_get hx hb hts in_J22 hown hK.1 hP 0 (fs := [.ref sv, .int 0, .int 0, .int sc]) rfl rfl 0 (by decide) (hts _ q1248) (fun _ hh => hh) (v := .ref sv) rfl dJ21_newCapacity_1 ?_
  refine va_alen (v := (Int32.ofNat sn)) hx hb hK.1 hP 1 3 rfl rfl rfl dJ21_newCapacity_4 ?_
  refine lv_istore_n (lv' := [(2, .int (Int32.ofNat sn)), (0, .ref sb), (1, .int x1)]) hx hb dJ21_newCapacity_5 rfl hl (by decide) rfl (fun ls hl => ?_)
  refine lv_iload_n hx hb dJ21_newCapacity_6 rfl (lv_at hl 2 rfl) ?_
  refine lv_aload_n hx hb dJ21_newCapacity_7 rfl (lv_at hl 1 rfl) ?_
  refine va_get hx hb hts in_J22 hown hK.1 hP 0 (fs := [.ref sv, .int 0, .int 0, .int sc]) rfl rfl 1 (by decide) (hts _ q1249) (fun _ hh => hh) (v := .int 0) rfl dJ21_newCapacity_8 ?_
  refine ga_ishl hx hb dJ21_newCapacity_11 ?_
  refine lv_istore_n (lv' := [(3, .int (jishl x1 0)), (2, .int (Int32.ofNat sn)), (0, .ref sb), (1, .int x1)]) hx hb dJ21_newCapacity_12 rfl hl (by decide) rfl (fun ls hl => ?_)
  refine lv_iload_n hx hb dJ21_newCapacity_13 rfl (lv_at hl 0 rfl) ?_
  refine lv_iload_n hx hb dJ21_newCapacity_14 rfl (lv_at hl 1 rfl) ?_
  refine lv_isub hx hb dJ21_newCapacity_15 ?_
  refine lv_istore (lv' := [(4, .int ((jishl x1 0) - (Int32.ofNat sn))), (3, .int (jishl x1 0)), (2, .int (Int32.ofNat sn)), (0, .ref sb), (1, .int x1)]) hx hb dJ21_newCapacity_16 hl (by decide) rfl (fun ls hl => ?_)
  refine lv_iload_n hx hb dJ21_newCapacity_18 rfl (lv_at hl 2 rfl) ?_
  refine lv_iload hx hb dJ21_newCapacity_19 (lv_at hl 0 rfl) ?_
  refine lv_iload_n hx hb dJ21_newCapacity_21 rfl (lv_at hl 2 rfl) ?_
  refine lv_iconst (v := 2) hx hb dJ21_newCapacity_22 (by decide) ?_
  refine lv_aload_n hx hb dJ21_newCapacity_23 rfl (lv_at hl 3 rfl) ?_
  refine va_get hx hb hts in_J22 hown hK.1 hP 0 (fs := [.ref sv, .int 0, .int 0, .int sc]) rfl rfl 1 (by decide) (hts _ q1249) (fun _ hh => hh) (v := .int 0) rfl dJ21_newCapacity_24 ?_
  refine ga_ishl hx hb dJ21_newCapacity_27 ?_
  refine lv_iadd hx hb dJ21_newCapacity_28 ?_
  obtain ⟨r_1, e_2, h⟩ := ga_gb h
  refine vp_callSi (va_Run.run (va_runS (As := [.int (Int32.ofNat sn), .int ((jishl x1 0) - (Int32.ofNat sn)), .int ((Int32.ofNat sn) + (jishl 2 0))]) (rest := []) ⟨hx, hb, hml, hown, hts⟩ (met_J3_newLength l D cA N (Int32.ofNat sn) ((jishl x1 0) - (Int32.ofNat sn)) ((Int32.ofNat sn) + (jishl 2 0)) r_1 e_2) (va_cwS 3 hts (lw_S q1280 q275 q75 q276) rfl rfl rfl (by decide +kernel) ⟨Nat.le_of_ble_eq_true rfl, Nat.le_of_ble_eq_true rfl⟩) (ga_PS hK ga_P0) rfl rfl hl.1 rfl (lv_room (Nat.le_of_ble_eq_true rfl)) dJ21_newCapacity_29 ⟨Nat.le_of_ble_eq_true rfl, Nat.le_of_ble_eq_true rfl⟩)) (fun z_3 w_4 => ?_)
  obtain rfl := w_4
  refine lv_istore (lv' := [(5, .int r_1), (4, .int ((jishl x1 0) - (Int32.ofNat sn))), (3, .int (jishl x1 0)), (2, .int (Int32.ofNat sn)), (0, .ref sb), (1, .int x1)]) hx hb dJ21_newCapacity_32 hl (by decide) rfl (fun ls hl => ?_)
  refine lv_iload hx hb dJ21_newCapacity_34 (lv_at hl 0 rfl) ?_
  refine lv_ldc hx hb hown (hts _ q1281) dJ21_newCapacity_36 ?_
  refine lv_icmp_ne (tgt := 51) hx hb dJ21_newCapacity_38 (by decide) (fun c_6 => ?_) (fun c_6 => ?_)
  · replace h := ga_iff c_6 h
    refine lv_iload hx hb dJ21_newCapacity_51 (lv_at hl 0 rfl) ?_
    refine lv_aload_n hx hb dJ21_newCapacity_53 rfl (lv_at hl 4 rfl) ?_
    refine va_get hx hb hts in_J22 hown hK.1 hP 0 (fs := [.ref sv, .int 0, .int 0, .int sc]) rfl rfl 1 (by decide) (hts _ q1249) (fun _ hh => hh) (v := .int 0) rfl dJ21_newCapacity_54 ?_
    refine ga_ishr hx hb dJ21_newCapacity_57 ?_
    obtain rfl := Option.some.inj h
    exact W.iret hx hb hr (fun t ht hW => ⟨_, rfl, rfl, ht⟩) (fun _ hq => by cases hq) dJ21_newCapacity_58
  · replace h := ga_ift c_6 h
    cases h
abbrev rm_J5_copyOf_3 (nc ns : Nat) : Room := { frames := 2, cells := nc, slots := ns, locals := 40 }
def F_J5_copyOf_3 (N : Nat) (sn : Nat) (sF : Nat → Int32) (x1 : Int32) : Option (Nat × (Nat → Int32)) :=
  (if x1 = (Int32.ofNat sn) then
  none
  else
  (if ¬ x1 < 0 ∧ (0 + 1 ≤ 1 ∧ 0 + (ix x1) ≤ (ix x1)) ∧ ix x1 ≤ 65536 then
  (if ¬ (jimin (Int32.ofNat sn) x1) < 0 ∧ ix (jimin (Int32.ofNat sn) x1) ≤ sn ∧ ix (jimin (Int32.ofNat sn) x1) ≤ (ix x1) then
  (if (0 + 1) ≤ 1 ∧ (0 + (ix x1)) ≤ (ix x1) then
  some ((ix x1), (va_cpy sF (fun _ => 0) (ix 0) (ix 0) (ix (jimin (Int32.ofNat sn) x1))))
  else none)
  else none)
  else none))
set_option maxHeartbeats 4000000 in
theorem met_J5_copyOf_3 (l : Launch) (D : va_G) (cA : Nat → ClassId) (A : Nat → Prop) (sv : Nat) (zs : Nat → Nat) (sn : Nat) (sF : Nat → Int32) (N : Nat) (x1 : Int32) (hfit : ga_Fb sF) (out : Nat × (Nat → Int32)) (h : F_J5_copyOf_3 N sn sF x1 = some out) : Met l yJ5_copyOf_3 (ws_ yJ5_copyOf_3 cJ5_copyOf_3 3 (Option.some (.array .byte))) (rm_J5_copyOf_3 1 (ix x1)) (ga_X D cA zs A [(sv, .inl (cA 3, sn, .inl sF))] [.ref sv, .int x1]) (va_Qr (fun (u : (Nat × (Nat → Int32)) × (Nat → Nat)) => out = u.1) (fun (u : (Nat × (Nat → Int32)) × (Nat → Nat)) (a : Nat) (t : State) => (u.2 0) = a ∧ (fun (u : (Nat × (Nat → Int32)) × (Nat → Nat)) (t : State) => va_P D ga_cl [(sv, .inl (cA 3, sn, .inl sF)), ((u.2 0), .inl (cA 3, u.1.1, .inl u.1.2))] t.heap ∧ ga_K D cA t ∧ va_D A [(sv, .inl (cA 3, sn, .inl sF)), ((u.2 0), .inl (cA 3, u.1.1, .inl u.1.2))] ∧ (ga_Fb u.1.2)) u t) A) 1 (ix x1) A := by
  refine Met.ofW (cc := cJ5_copyOf_3) (maxL := 3) (ret := (Option.some (.array .byte))) (by decide) rfl ?_
  intro p e s m args below meth c s₁ B hml hv
  obtain ⟨rfl, hP, hK, hD, hA, hST⟩ := hv
  have hS : va_S A s.heap s.heap [] := va_S.rf
  have C : ga_cx p m c meth s _ RJ5 cJ5_copyOf_3 3 (Option.some (.array .byte)) := ga_cx_of B hml
  have C0 := C
  obtain ⟨hx, hb, hr, hlocks, hml, hown, hts⟩ := C0
  have hl := lv_entry ([.ref sv, .int x1]) (n := 3) (Nat.le_of_ble_eq_true rfl)
  rw [lg_entry_eq]
  generalize (lg_sl ([.ref sv, .int x1]) ++ List.replicate (3 - (lg_sl ([.ref sv, .int x1])).length) Slot.unset).toArray = ls at hl ⊢
  have hl : lv_has ls 3 [(0, .ref sv), (1, .int x1)] := hl
  rw [F_J5_copyOf_3] at h
  refine lv_iload_n hx hb dJ5_copyOf_3_0 rfl (lv_at hl 1 rfl) ?_
  refine lv_aload_n hx hb dJ5_copyOf_3_1 rfl (lv_at hl 0 rfl) ?_
  refine va_alen (v := (Int32.ofNat sn)) hx hb hK.1 hP 0 3 rfl rfl rfl dJ5_copyOf_3_2 ?_
  refine lv_icmp_ne (tgt := 14) hx hb dJ5_copyOf_3_3 (by decide) (fun c_1 => ?_) (fun c_1 => ?_)
  · replace h := ga_iff c_1 h
    refine lv_iload_n hx hb dJ5_copyOf_3_14 rfl (lv_at hl 1 rfl) ?_
    obtain ⟨i_2, h⟩ := ga_gif h
    refine va_newa (atype := .byte) (a0 := (ix x1, .inl (fun _ => 0))) hx hb (hts _ q375) rfl hK.1 hP hD hS hA (fun _ => rfl) i_2.1 rfl (by have := i_2.2.2; show _ * 1 ≤ _; omega) i_2.2.1.1 i_2.2.1.2 dJ5_copyOf_3_15 (fun q_3 k_5 H_4 hK9 hP hD hS => ?_)
    obtain rfl := ga_tyqB hK9
    have hP : va_P D ga_cl [(sv, .inl (cA 3, sn, .inl sF)), (q_3, .inl (cA 3, (ix x1), .inl (fun _ => 0)))] H_4 := hP
    have hD : va_D A [(sv, .inl (cA 3, sn, .inl sF)), (q_3, .inl (cA 3, (ix x1), .inl (fun _ => 0)))] := hD
    refine lv_astore_n (lv' := [(2, .ref q_3), (0, .ref sv), (1, .int x1)]) hx hb dJ5_copyOf_3_17 rfl hl (by decide) rfl (fun ls hl => ?_)
    refine lv_aload_n hx hb dJ5_copyOf_3_18 rfl (lv_at hl 1 rfl) ?_
    refine lv_iconst (v := 0) hx hb dJ5_copyOf_3_19 (by decide) ?_
    refine lv_aload_n hx hb dJ5_copyOf_3_20 rfl (lv_at hl 0 rfl) ?_
    refine lv_iconst (v := 0) hx hb dJ5_copyOf_3_21 (by decide) ?_
    refine lv_aload_n hx hb dJ5_copyOf_3_22 rfl (lv_at hl 1 rfl) ?_
    refine va_alen (v := (Int32.ofNat sn)) hx hb hK.1 hP 0 3 rfl rfl rfl dJ5_copyOf_3_23 ?_
    refine lv_iload_n hx hb dJ5_copyOf_3_24 rfl (lv_at hl 2 rfl) ?_
    refine ga_mmin hx hb (hml.trans hl.1.symm) hown (hts _ q319) (hts _ q320) (hts _ q76) (hts _ q321) (Nat.le_of_ble_eq_true rfl) (Nat.le_of_ble_eq_true rfl) (Nat.le_of_ble_eq_true rfl) (Nat.le_of_ble_eq_true rfl) dJ5_copyOf_3_25 ?_
    obtain ⟨i_6, h⟩ := ga_gif h
    refine va_copyi hx hb (hml.trans hl.1.symm) hown (hts _ q322) (hts _ q324) (hts _ q323) (hts _ q78) hK.1 hP hD hS 0 1 3 3 (f := sF) (g := (fun _ => 0)) rfl rfl rfl rfl rfl (by decide) (by decide) i_6.1 (by rw [ga_c0]; have := i_6.2.1; exact (Nat.zero_add _).symm ▸ this) (by rw [ga_c0]; have := i_6.2.2; exact (Nat.zero_add _).symm ▸ this) (fun _ _ => hfit _) (Nat.le_of_ble_eq_true rfl) (by decide +kernel) dJ5_copyOf_3_28 (fun H_7 locs hP hD hS => ?_)
    have f_8 : ga_Fb (va_cpy sF (fun _ => 0) (ix 0) (ix 0) (ix (jimin (Int32.ofNat sn) x1))) := ga_Fbc hfit ga_Fb0 _ _ _
    have hP : va_P D ga_cl [(sv, .inl (cA 3, sn, .inl sF)), (q_3, .inl (cA 3, (ix x1), .inl (va_cpy sF (fun _ => 0) (ix 0) (ix 0) (ix (jimin (Int32.ofNat sn) x1)))))] H_7 := hP
    have hD : va_D A [(sv, .inl (cA 3, sn, .inl sF)), (q_3, .inl (cA 3, (ix x1), .inl (va_cpy sF (fun _ => 0) (ix 0) (ix 0) (ix (jimin (Int32.ofNat sn) x1)))))] := hD
    refine lv_aload_n hx hb dJ5_copyOf_3_31 rfl (lv_at hl 0 rfl) ?_
    obtain ⟨dg_9, h⟩ := ga_gif h
    refine W.widen (k := 1) (n := (ix x1)) dg_9.1 dg_9.2 ?_
    have g_10 : ga_Fb (va_cpy sF (fun _ => 0) (ix 0) (ix 0) (ix (jimin (Int32.ofNat sn) x1))) := by first | exact ga_Fb0 | exact f_8
    have hP9 := hP.sub (ws' := [(sv, .inl (cA 3, sn, .inl sF)), (q_3, .inl (cA 3, (ix x1), .inl (va_cpy sF (fun _ => 0) (ix 0) (ix 0) (ix (jimin (Int32.ofNat sn) x1)))))]) [0, 1] rfl
    have hD9 := hD.sub (ws' := [(sv, .inl (cA 3, sn, .inl sF)), (q_3, .inl (cA 3, (ix x1), .inl (va_cpy sF (fun _ => 0) (ix 0) (ix 0) (ix (jimin (Int32.ofNat sn) x1)))))]) [0, 1] (by decide) rfl
    obtain rfl := Option.some.inj h
    exact W.aret hx hb hr (Or.inr ⟨_, rfl⟩) (Or.inr ⟨_, rfl⟩) (fun t ht hW => ⟨⟨(((ix x1), (va_cpy sF (fun _ => 0) (ix 0) (ix 0) (ix (jimin (Int32.ofNat sn) x1)))), ga_ad [q_3]), _, rfl, rfl, rfl, ⟨by rw [ht]; exact hP9, hK.warm hW, hD9, g_10⟩⟩, hS.F ht⟩) hS.2.2 dJ5_copyOf_3_32
  · replace h := ga_ift c_1 h
    cases h
abbrev rm_J21_ensureCapacityInternal_s : Room := { frames := 1, cells := 0, slots := 0, locals := 12 }
def F_J21_ensureCapacityInternal_s (N : Nat) (sc : Int32) (sn : Nat) (sF : Nat → Int32) (x1 : Int32) : Option (Nat × (Nat → Int32)) :=
  (if (x1 - (jishr (Int32.ofNat sn) 0)) ≤ 0 then
  some (sn, sF)
  else
  none)
set_option maxHeartbeats 4000000 in
theorem met_J21_ensureCapacityInternal_s (l : Launch) (D : va_G) (cA : Nat → ClassId) (A : Nat → Prop) (sb : Nat) (sv : Nat) (zs : Nat → Nat) (sc : Int32) (sn : Nat) (sF : Nat → Int32) (N : Nat) (x1 : Int32) (hfit : ga_Fb sF) (out : Nat × (Nat → Int32)) (h : F_J21_ensureCapacityInternal_s N sc sn sF x1 = some out) : Met l yJ21_ensureCapacityInternal (ws_ yJ21_ensureCapacityInternal cJ21_ensureCapacityInternal 3 none) rm_J21_ensureCapacityInternal_s (ga_X D cA zs A [(sb, .inr (8, [.ref sv, .int 0, .int 0, .int sc])), (sv, .inl (cA 3, sn, .inl sF))] [.ref sb, .int x1]) (va_Qv (fun (u : (Nat × (Nat → Int32)) × (Nat → Nat)) => out = u.1) (fun (u : (Nat × (Nat → Int32)) × (Nat → Nat)) (t : State) => va_P D ga_cl [(sb, .inr (8, [.ref (u.2 0), .int 0, .int 0, .int sc])), ((u.2 0), .inl (cA 3, u.1.1, .inl u.1.2))] t.heap ∧ ga_K D cA t ∧ va_D A [(sb, .inr (8, [.ref (u.2 0), .int 0, .int 0, .int sc])), ((u.2 0), .inl (cA 3, u.1.1, .inl u.1.2))] ∧ (ga_Fb u.1.2)) A) 0 0 A := by
  refine Met.ofW (cc := cJ21_ensureCapacityInternal) (maxL := 3) (ret := none) (by decide) rfl ?_
  intro p e s m args below meth c s₁ B hml hv
  obtain ⟨rfl, hP, hK, hD, hA, hST⟩ := hv
  have hS : va_S A s.heap s.heap [] := va_S.rf
  have C : ga_cx p m c meth s _ RJ21 cJ21_ensureCapacityInternal 3 none := ga_cx_of B hml
  have C0 := C
  obtain ⟨hx, hb, hr, hlocks, hml, hown, hts⟩ := C0
  have hl := lv_entry ([.ref sb, .int x1]) (n := 3) (Nat.le_of_ble_eq_true rfl)
  rw [lg_entry_eq]
  generalize (lg_sl ([.ref sb, .int x1]) ++ List.replicate (3 - (lg_sl ([.ref sb, .int x1])).length) Slot.unset).toArray = ls at hl ⊢
  have hl : lv_has ls 3 [(0, .ref sb), (1, .int x1)] := hl
  rw [F_J21_ensureCapacityInternal_s] at h
  refine lv_aload_n hx hb dJ21_ensureCapacityInternal_0 rfl (lv_at hl 0 rfl) ?_
  refine va_get hx hb hts in_J22 hown hK.1 hP 0 (fs := [.ref sv, .int 0, .int 0, .int sc]) rfl rfl 0 (by decide) (hts _ q1248) (fun _ hh => hh) (v := .ref sv) rfl dJ21_ensureCapacityInternal_1 ?_
  refine va_alen (v := (Int32.ofNat sn)) hx hb hK.1 hP 1 3 rfl rfl rfl dJ21_ensureCapacityInternal_4 ?_
  refine lv_aload_n hx hb dJ21_ensureCapacityInternal_5 rfl (lv_at hl 0 rfl) ?_
  refine va_get hx hb hts in_J22 hown hK.1 hP 0 (fs := [.ref sv, .int 0, .int 0, .int sc]) rfl rfl 1 (by decide) (hts _ q1249) (fun _ hh => hh) (v := .int 0) rfl dJ21_ensureCapacityInternal_6 ?_
  refine ga_ishr hx hb dJ21_ensureCapacityInternal_9 ?_
  refine lv_istore_n (lv' := [(2, .int (jishr (Int32.ofNat sn) 0)), (0, .ref sb), (1, .int x1)]) hx hb dJ21_ensureCapacityInternal_10 rfl hl (by decide) rfl (fun ls hl => ?_)
  refine lv_iload_n hx hb dJ21_ensureCapacityInternal_11 rfl (lv_at hl 2 rfl) ?_
  refine lv_iload_n hx hb dJ21_ensureCapacityInternal_12 rfl (lv_at hl 0 rfl) ?_
  refine lv_isub hx hb dJ21_ensureCapacityInternal_13 ?_
  refine lv_if_le (tgt := 38) hx hb dJ21_ensureCapacityInternal_14 (by decide) (fun c_1 => ?_) (fun c_1 => ?_)
  · replace h := ga_ift c_1 h
    have g_2 : ga_Fb sF := by first | exact ga_Fb0 | fail
    have hP9 := hP.sub (ws' := [(sb, .inr (8, [.ref sv, .int 0, .int 0, .int sc])), (sv, .inl (cA 3, sn, .inl sF))]) [0, 1] rfl
    have hD9 := hD.sub (ws' := [(sb, .inr (8, [.ref sv, .int 0, .int 0, .int sc])), (sv, .inl (cA 3, sn, .inl sF))]) [0, 1] (by decide) rfl
    obtain rfl := Option.some.inj h
    exact W.vret hx hb hr (fun t ht hW => ⟨⟨((sn, sF), ga_ad [sv]), rfl, rfl, ⟨by rw [ht]; exact hP9, hK.warm hW, hD9, g_2⟩⟩, hS.F ht⟩) hS.2.2 dJ21_ensureCapacityInternal_38
  · replace h := ga_iff c_1 h
    cases h
abbrev rm_J21_ensureCapacityInternal_g (nc ns : Nat) : Room := { frames := 4, cells := nc, slots := ns, locals := 72 }
def F_J21_ensureCapacityInternal_g (N : Nat) (sc : Int32) (sn : Nat) (sF : Nat → Int32) (x1 : Int32) : Option (Nat × (Nat → Int32)) :=
  (if (x1 - (jishr (Int32.ofNat sn) 0)) ≤ 0 then
  (if 0 ≤ 1 ∧ 0 ≤ (sn + sn + 2) then
  some (sn, sF)
  else none)
  else
  ((F_J21_newCapacity N sc sn sF x1).bind fun r_4 =>
  (if 0 + 1 ≤ 1 ∧ 0 + (ix (jishl r_4 0)) ≤ (sn + sn + 2) then
  ((F_J5_copyOf_3 N sn sF (jishl r_4 0)).bind fun r_10 =>
  (if (0 + 1) ≤ 1 ∧ (0 + (ix (jishl r_4 0))) ≤ (sn + sn + 2) then
  some (r_10.1, r_10.2)
  else none))
  else none)))
set_option maxHeartbeats 4000000 in
theorem met_J21_ensureCapacityInternal_g (l : Launch) (D : va_G) (cA : Nat → ClassId) (A : Nat → Prop) (sb : Nat) (sv : Nat) (zs : Nat → Nat) (sc : Int32) (sn : Nat) (sF : Nat → Int32) (N : Nat) (x1 : Int32) (hfit : ga_Fb sF) (out : Nat × (Nat → Int32)) (h : F_J21_ensureCapacityInternal_g N sc sn sF x1 = some out) : Met l yJ21_ensureCapacityInternal (ws_ yJ21_ensureCapacityInternal cJ21_ensureCapacityInternal 3 none) (rm_J21_ensureCapacityInternal_g 1 (sn + sn + 2)) (ga_X D cA zs A [(sb, .inr (8, [.ref sv, .int 0, .int 0, .int sc])), (sv, .inl (cA 3, sn, .inl sF))] [.ref sb, .int x1]) (va_Qv (fun (u : (Nat × (Nat → Int32)) × (Nat → Nat)) => out = u.1) (fun (u : (Nat × (Nat → Int32)) × (Nat → Nat)) (t : State) => va_P D ga_cl [(sb, .inr (8, [.ref (u.2 0), .int 0, .int 0, .int sc])), ((u.2 0), .inl (cA 3, u.1.1, .inl u.1.2))] t.heap ∧ ga_K D cA t ∧ va_D A [(sb, .inr (8, [.ref (u.2 0), .int 0, .int 0, .int sc])), ((u.2 0), .inl (cA 3, u.1.1, .inl u.1.2))] ∧ (ga_Fb u.1.2)) A) 1 (sn + sn + 2) A := by
  refine Met.ofW (cc := cJ21_ensureCapacityInternal) (maxL := 3) (ret := none) (by decide) rfl ?_
  intro p e s m args below meth c s₁ B hml hv
  obtain ⟨rfl, hP, hK, hD, hA, hST⟩ := hv
  have hS : va_S A s.heap s.heap [] := va_S.rf
  have C : ga_cx p m c meth s _ RJ21 cJ21_ensureCapacityInternal 3 none := ga_cx_of B hml
  have C0 := C
  obtain ⟨hx, hb, hr, hlocks, hml, hown, hts⟩ := C0
  have hl := lv_entry ([.ref sb, .int x1]) (n := 3) (Nat.le_of_ble_eq_true rfl)
  rw [lg_entry_eq]
  generalize (lg_sl ([.ref sb, .int x1]) ++ List.replicate (3 - (lg_sl ([.ref sb, .int x1])).length) Slot.unset).toArray = ls at hl ⊢
  have hl : lv_has ls 3 [(0, .ref sb), (1, .int x1)] := hl
  rw [F_J21_ensureCapacityInternal_g] at h
  refine lv_aload_n hx hb dJ21_ensureCapacityInternal_0 rfl (lv_at hl 0 rfl) ?_
  refine va_get hx hb hts in_J22 hown hK.1 hP 0 (fs := [.ref sv, .int 0, .int 0, .int sc]) rfl rfl 0 (by decide) (hts _ q1248) (fun _ hh => hh) (v := .ref sv) rfl dJ21_ensureCapacityInternal_1 ?_
  refine va_alen (v := (Int32.ofNat sn)) hx hb hK.1 hP 1 3 rfl rfl rfl dJ21_ensureCapacityInternal_4 ?_
  refine lv_aload_n hx hb dJ21_ensureCapacityInternal_5 rfl (lv_at hl 0 rfl) ?_
  refine va_get hx hb hts in_J22 hown hK.1 hP 0 (fs := [.ref sv, .int 0, .int 0, .int sc]) rfl rfl 1 (by decide) (hts _ q1249) (fun _ hh => hh) (v := .int 0) rfl dJ21_ensureCapacityInternal_6 ?_
  refine ga_ishr hx hb dJ21_ensureCapacityInternal_9 ?_
  refine lv_istore_n (lv' := [(2, .int (jishr (Int32.ofNat sn) 0)), (0, .ref sb), (1, .int x1)]) hx hb dJ21_ensureCapacityInternal_10 rfl hl (by decide) rfl (fun ls hl => ?_)
  refine lv_iload_n hx hb dJ21_ensureCapacityInternal_11 rfl (lv_at hl 2 rfl) ?_
  refine lv_iload_n hx hb dJ21_ensureCapacityInternal_12 rfl (lv_at hl 0 rfl) ?_
  refine lv_isub hx hb dJ21_ensureCapacityInternal_13 ?_
  refine lv_if_le (tgt := 38) hx hb dJ21_ensureCapacityInternal_14 (by decide) (fun c_1 => ?_) (fun c_1 => ?_)
  · replace h := ga_ift c_1 h
    obtain ⟨dg_2, h⟩ := ga_gif h
    refine W.widen (k := 1) (n := (sn + sn + 2)) dg_2.1 dg_2.2 ?_
    have g_3 : ga_Fb sF := by first | exact ga_Fb0 | fail
    have hP9 := hP.sub (ws' := [(sb, .inr (8, [.ref sv, .int 0, .int 0, .int sc])), (sv, .inl (cA 3, sn, .inl sF))]) [0, 1] rfl
    have hD9 := hD.sub (ws' := [(sb, .inr (8, [.ref sv, .int 0, .int 0, .int sc])), (sv, .inl (cA 3, sn, .inl sF))]) [0, 1] (by decide) rfl
    obtain rfl := Option.some.inj h
    exact W.vret hx hb hr (fun t ht hW => ⟨⟨((sn, sF), ga_ad [sv]), rfl, rfl, ⟨by rw [ht]; exact hP9, hK.warm hW, hD9, g_3⟩⟩, hS.F ht⟩) hS.2.2 dJ21_ensureCapacityInternal_38
  · replace h := ga_iff c_1 h
    refine lv_aload_n hx hb dJ21_ensureCapacityInternal_17 rfl (lv_at hl 1 rfl) ?_
    refine lv_aload_n hx hb dJ21_ensureCapacityInternal_18 rfl (lv_at hl 1 rfl) ?_
    refine va_get hx hb hts in_J22 hown hK.1 hP 0 (fs := [.ref sv, .int 0, .int 0, .int sc]) rfl rfl 0 (by decide) (hts _ q1248) (fun _ hh => hh) (v := .ref sv) rfl dJ21_ensureCapacityInternal_19 ?_
    refine lv_aload_n hx hb dJ21_ensureCapacityInternal_22 rfl (lv_at hl 1 rfl) ?_
    refine lv_iload_n hx hb dJ21_ensureCapacityInternal_23 rfl (lv_at hl 2 rfl) ?_
    obtain ⟨r_4, e_5, h⟩ := ga_gb h
    refine vp_callSi (va_Run.run (va_runV (As := [.int x1]) (rest := [.ref sv, .ref sb]) ⟨hx, hb, hml, hown, hts⟩ (met_J21_newCapacity l D cA sb sv sc sn sF N x1 r_4 e_5) (⟨callB_of 1 hts (lw_meth q1279) rfl rfl rfl (hts _ q103) (hts _ q1276) (by decide +kernel) ⟨Nat.le_of_ble_eq_true rfl, Nat.le_of_ble_eq_true rfl⟩, hts _ q1278, ga_selP (hts _ q1295) rfl (hts _ q1278) (ga_nu hK q1277 rfl) (by decide)⟩) (ga_PV hK (hP.sub (ws' := [(sb, .inr (8, [.ref sv, .int 0, .int 0, .int sc])), (sv, .inl (cA 3, sn, .inl sF))]) [0, 1] rfl) (va_recv hK.1 hP (ci := 8) (q0 := 0) rfl rfl)) rfl rfl hl.1 rfl (lv_room (Nat.le_of_ble_eq_true rfl)) dJ21_ensureCapacityInternal_24 ⟨Nat.zero_le _, Nat.zero_le _⟩)) (fun z_6 w_7 => ?_)
    obtain rfl := w_7
    refine lv_aload_n hx hb dJ21_ensureCapacityInternal_27 rfl (lv_at hl 1 rfl) ?_
    refine va_get hx hb hts in_J22 hown hK.1 hP 0 (fs := [.ref sv, .int 0, .int 0, .int sc]) rfl rfl 1 (by decide) (hts _ q1249) (fun _ hh => hh) (v := .int 0) rfl dJ21_ensureCapacityInternal_28 ?_
    refine ga_ishl hx hb dJ21_ensureCapacityInternal_31 ?_
    obtain ⟨dg_9, h⟩ := ga_gif h
    obtain ⟨r_10, e_11, h⟩ := ga_gb h
    have hFc := va_free (wc := [(sv, .inl (cA 3, sn, .inl sF))]) hD hS hA [1] rfl
    refine va_callr (va_runS (As := [.ref sv, .int (jishl r_4 0)]) (rest := [.ref sb]) ⟨hx, hb, hml, hown, hts⟩ (met_J5_copyOf_3 l D cA (va_A [(sv, .inl (cA 3, sn, .inl sF))] s.heap.size) sv zs sn sF N (jishl r_4 0) hfit r_10 e_11) (va_cwS 2 hts (lw_S q1282 q1283 q77 q1284) rfl rfl rfl (by decide +kernel) ⟨Nat.le_of_ble_eq_true rfl, Nat.le_of_ble_eq_true rfl⟩) (ga_XS hK (hP.sub (ws' := [(sv, .inl (cA 3, sn, .inl sF))]) [1] rfl) (hD.sub (ws' := [(sv, .inl (cA 3, sn, .inl sF))]) [1] (by decide) rfl).self (fun _ hq => Or.inr hq) (hST.at hS hFc)) rfl rfl hl.1 rfl (lv_room (Nat.le_of_ble_eq_true rfl)) dJ21_ensureCapacityInternal_32 dg_9) hS (fun q _ hq => hFc q hq) hFc (fun u_15 a_17 t H_14 locs ht _ w_13 hB _ hk hS => ?_)
    obtain ⟨ea, hP1, -, hD1, f_16⟩ := hB
    subst ea
    rw [show u_15.1 = r_10 from w_13.symm] at hP1 hD1
    have f_18 : ga_Fb r_10.2 := by first | exact f_16 | (rw [show u_15.1 = r_10 from w_13.symm] at f_16; exact f_16)
    rw [ht] at hP1
    obtain ⟨hP, hD⟩ := va_join (wr := [(sb, .inr (8, [.ref sv, .int 0, .int 0, .int sc]))]) (w1 := [(sv, .inl (cA 3, sn, .inl sF)), ((u_15.2 0), .inl (cA 3, r_10.1, .inl r_10.2))]) hP hD [1] [0] rfl rfl (by decide) (by decide) hk hFc hP1 hD1
    have hP : va_P D ga_cl [(sb, .inr (8, [.ref sv, .int 0, .int 0, .int sc])), (sv, .inl (cA 3, sn, .inl sF)), ((u_15.2 0), .inl (cA 3, r_10.1, .inl r_10.2))] H_14 := hP
    have hD : va_D A [(sb, .inr (8, [.ref sv, .int 0, .int 0, .int sc])), (sv, .inl (cA 3, sn, .inl sF)), ((u_15.2 0), .inl (cA 3, r_10.1, .inl r_10.2))] := hD
    refine va_put hx hb hts in_J22 tyJ22 tyJ22_ok nmJ22 hown hK.1 hP hD hS 0 (fs := [.ref sv, .int 0, .int 0, .int sc]) rfl rfl 0 (by decide) (hts _ q1248) (fun _ hh => hh) rfl (v := .ref (u_15.2 0)) rfl rfl rfl (show 0 < 4 by decide) dJ21_ensureCapacityInternal_35 (fun H_19 locs hP hD hS => ?_)
    have hP : va_P D ga_cl [(sb, .inr (8, [.ref (u_15.2 0), .int 0, .int 0, .int sc])), (sv, .inl (cA 3, sn, .inl sF)), ((u_15.2 0), .inl (cA 3, r_10.1, .inl r_10.2))] H_19 := hP
    have hD : va_D A [(sb, .inr (8, [.ref (u_15.2 0), .int 0, .int 0, .int sc])), (sv, .inl (cA 3, sn, .inl sF)), ((u_15.2 0), .inl (cA 3, r_10.1, .inl r_10.2))] := hD
    obtain ⟨dg_21, h⟩ := ga_gif h
    refine W.widen (k := 1) (n := (sn + sn + 2)) dg_21.1 dg_21.2 ?_
    have g_22 : ga_Fb r_10.2 := by first | exact ga_Fb0 | exact f_18
    have hP9 := hP.sub (ws' := [(sb, .inr (8, [.ref (u_15.2 0), .int 0, .int 0, .int sc])), ((u_15.2 0), .inl (cA 3, r_10.1, .inl r_10.2))]) [0, 2] rfl
    have hD9 := hD.sub (ws' := [(sb, .inr (8, [.ref (u_15.2 0), .int 0, .int 0, .int sc])), ((u_15.2 0), .inl (cA 3, r_10.1, .inl r_10.2))]) [0, 2] (by decide) rfl
    obtain rfl := Option.some.inj h
    exact W.vret hx hb hr (fun t ht hW => ⟨⟨((r_10.1, r_10.2), ga_ad [(u_15.2 0)]), rfl, rfl, ⟨by rw [ht]; exact hP9, hK.warm hW, hD9, g_22⟩⟩, hS.F ht⟩) hS.2.2 dJ21_ensureCapacityInternal_38
abbrev rm_J21_append_s (nc ns : Nat) : Room := { frames := 12, cells := nc, slots := ns, locals := 300 }
def F_J21_append_s (N : Nat) (sc : Int32) (sn : Nat) (sF : Nat → Int32) (x1 : Int32) : Option (Int32 × Nat × (Nat → Int32)) :=
  ((F_J21_ensureCapacityInternal_s N sc sn sF (sc + 1)).bind fun r_1 =>
  ((F_J21_isLatin1 N sc).bind fun r_10 =>
  (if r_10.1 = 0 then
  none
  else
  ((F_J24_canEncode N x1).bind fun r_18 =>
  (if r_18 = 0 then
  none
  else
  (if inb sc r_1.1 = true then
  some ((sc + 1), r_1.1, (upd r_1.2 (ix sc) (vp_nar .byte x1.toInt8.toInt32)))
  else none))))))
set_option maxHeartbeats 4000000 in
theorem met_J21_append_s (l : Launch) (D : va_G) (cA : Nat → ClassId) (A : Nat → Prop) (sb : Nat) (sv : Nat) (zs : Nat → Nat) (sc : Int32) (sn : Nat) (sF : Nat → Int32) (N : Nat) (x1 : Int32) (hfit : ga_Fb sF) (out : Int32 × Nat × (Nat → Int32)) (h : F_J21_append_s N sc sn sF x1 = some out) : Met l yJ21_append (ws_ yJ21_append cJ21_append 2 (Option.some (.object "java/lang/AbstractStringBuilder"))) (rm_J21_append_s 0 0) (ga_X D cA zs A [(sb, .inr (8, [.ref sv, .int 0, .int 0, .int sc])), (sv, .inl (cA 3, sn, .inl sF))] [.ref sb, .int x1]) (va_Qr (fun (u : (Int32 × Nat × (Nat → Int32)) × (Nat → Nat)) => out = u.1) (fun (u : (Int32 × Nat × (Nat → Int32)) × (Nat → Nat)) (a : Nat) (t : State) => sb = a ∧ (fun (u : (Int32 × Nat × (Nat → Int32)) × (Nat → Nat)) (t : State) => va_P D ga_cl [(sb, .inr (8, [.ref (u.2 0), .int 0, .int 0, .int u.1.1])), ((u.2 0), .inl (cA 3, u.1.2.1, .inl u.1.2.2))] t.heap ∧ ga_K D cA t ∧ va_D A [(sb, .inr (8, [.ref (u.2 0), .int 0, .int 0, .int u.1.1])), ((u.2 0), .inl (cA 3, u.1.2.1, .inl u.1.2.2))] ∧ (ga_Fb u.1.2.2)) u t) A) 0 0 A := by
  refine Met.ofW (cc := cJ21_append) (maxL := 2) (ret := (Option.some (.object "java/lang/AbstractStringBuilder"))) (by decide) rfl ?_
  intro p e s m args below meth c s₁ B hml hv
  obtain ⟨rfl, hP, hK, hD, hA, hST⟩ := hv
  have hS : va_S A s.heap s.heap [] := va_S.rf
  have C : ga_cx p m c meth s _ RJ21 cJ21_append 2 (Option.some (.object "java/lang/AbstractStringBuilder")) := ga_cx_of B hml
  have C0 := C
  obtain ⟨hx, hb, hr, hlocks, hml, hown, hts⟩ := C0
  have hl := lv_entry ([.ref sb, .int x1]) (n := 2) (Nat.le_of_ble_eq_true rfl)
  rw [lg_entry_eq]
  generalize (lg_sl ([.ref sb, .int x1]) ++ List.replicate (2 - (lg_sl ([.ref sb, .int x1])).length) Slot.unset).toArray = ls at hl ⊢
  have hl : lv_has ls 2 [(0, .ref sb), (1, .int x1)] := hl
  rw [F_J21_append_s] at h
  refine lv_aload_n hx hb dJ21_append_0 rfl (lv_at hl 0 rfl) ?_
  refine lv_aload_n hx hb dJ21_append_1 rfl (lv_at hl 0 rfl) ?_
  refine va_get hx hb hts in_J22 hown hK.1 hP 0 (fs := [.ref sv, .int 0, .int 0, .int sc]) rfl rfl 3 (by decide) (hts _ q1251) (fun _ hh => hh) (v := .int sc) rfl dJ21_append_2 ?_
  refine lv_iconst (v := 1) hx hb dJ21_append_5 (by decide) ?_
  refine lv_iadd hx hb dJ21_append_6 ?_
  obtain ⟨r_1, e_2, h⟩ := ga_gb h
  have hFc := va_free (wc := [(sb, .inr (8, [.ref sv, .int 0, .int 0, .int sc])), (sv, .inl (cA 3, sn, .inl sF))]) hD hS hA [0, 1] rfl
  refine va_callv (va_runV (As := [.int (sc + 1)]) (rest := []) ⟨hx, hb, hml, hown, hts⟩ (met_J21_ensureCapacityInternal_s l D cA (va_A [(sb, .inr (8, [.ref sv, .int 0, .int 0, .int sc])), (sv, .inl (cA 3, sn, .inl sF))] s.heap.size) sb sv zs sc sn sF N (sc + 1) hfit r_1 e_2) (⟨callB_of 1 hts (lw_meth q1275) rfl rfl rfl (hts _ q103) (hts _ q1272) (by decide +kernel) ⟨Nat.le_of_ble_eq_true rfl, Nat.le_of_ble_eq_true rfl⟩, hts _ q1274, ga_selP (hts _ q1295) rfl (hts _ q1274) (ga_nu hK q1273 rfl) (by decide)⟩) (ga_XV hK (hP.sub (ws' := [(sb, .inr (8, [.ref sv, .int 0, .int 0, .int sc])), (sv, .inl (cA 3, sn, .inl sF))]) [0, 1] rfl) (hD.sub (ws' := [(sb, .inr (8, [.ref sv, .int 0, .int 0, .int sc])), (sv, .inl (cA 3, sn, .inl sF))]) [0, 1] (by decide) rfl).self (fun _ hq => Or.inr hq) (hST.at hS hFc) (va_recv hK.1 hP (ci := 8) (q0 := 0) rfl rfl)) rfl rfl hl.1 rfl (lv_room (Nat.le_of_ble_eq_true rfl)) dJ21_append_7 ⟨Nat.zero_le _, Nat.zero_le _⟩) hS (fun q _ hq => hFc q hq) hFc (fun u_6 t H_5 locs ht _ w_4 hB _ hk hS => ?_)
  obtain ⟨hP1, -, hD1, f_7⟩ := hB
  rw [show u_6.1 = r_1 from w_4.symm] at hP1 hD1
  have f_9 : ga_Fb r_1.2 := by first | exact f_7 | (rw [show u_6.1 = r_1 from w_4.symm] at f_7; exact f_7)
  rw [ht] at hP1
  obtain ⟨hP, hD⟩ := va_join (wr := []) (w1 := [(sb, .inr (8, [.ref (u_6.2 0), .int 0, .int 0, .int sc])), ((u_6.2 0), .inl (cA 3, r_1.1, .inl r_1.2))]) hP hD [0, 1] [] rfl rfl (by decide) (by decide) hk hFc hP1 hD1
  have hP : va_P D ga_cl [(sb, .inr (8, [.ref (u_6.2 0), .int 0, .int 0, .int sc])), ((u_6.2 0), .inl (cA 3, r_1.1, .inl r_1.2))] H_5 := hP
  have hD : va_D A [(sb, .inr (8, [.ref (u_6.2 0), .int 0, .int 0, .int sc])), ((u_6.2 0), .inl (cA 3, r_1.1, .inl r_1.2))] := hD
  refine lv_aload_n hx hb dJ21_append_10 rfl (lv_at hl 0 rfl) ?_
  obtain ⟨r_10, e_11, h⟩ := ga_gb h
  have hFc := va_free (wc := [(sb, .inr (8, [.ref (u_6.2 0), .int 0, .int 0, .int sc]))]) hD hS hA [0] rfl
  refine va_calli (va_runV (As := []) (rest := []) ⟨hx, hb, hml, hown, hts⟩ (met_J21_isLatin1 l D cA (va_A [(sb, .inr (8, [.ref (u_6.2 0), .int 0, .int 0, .int sc]))] H_5.size) sb (u_6.2 0) zs sc N r_10 e_11) (⟨callB_of 0 hts (lw_meth q1296) rfl rfl rfl (hts _ q103) (hts _ q1292) (by decide +kernel) ⟨Nat.le_of_ble_eq_true rfl, Nat.le_of_ble_eq_true rfl⟩, hts _ q1293, hts _ q1295⟩) (ga_XV hK (hP.sub (ws' := [(sb, .inr (8, [.ref (u_6.2 0), .int 0, .int 0, .int sc]))]) [0] rfl) (hD.sub (ws' := [(sb, .inr (8, [.ref (u_6.2 0), .int 0, .int 0, .int sc]))]) [0] (by decide) rfl).self (fun _ hq => Or.inr hq) (hST.at hS hFc) (va_recv hK.1 hP (ci := 8) (q0 := 0) rfl rfl)) rfl rfl hl.1 rfl (lv_room (Nat.le_of_ble_eq_true rfl)) dJ21_append_11 ⟨Nat.zero_le _, Nat.zero_le _⟩) hS (fun q _ hq => hFc q hq) hFc (fun z_12 u_15 t H_14 locs ht _ w_13 hB _ hk hS => ?_)
  obtain ⟨hP1, -, hD1⟩ := hB
  obtain ⟨⟨rfl, b_16⟩, rfl⟩ := w_13
  rw [ht] at hP1
  obtain ⟨hP, hD⟩ := va_join (wr := [((u_6.2 0), .inl (cA 3, r_1.1, .inl r_1.2))]) (w1 := [(sb, .inr (8, [.ref (u_6.2 0), .int 0, .int 0, .int sc]))]) hP hD [0] [1] rfl rfl (by decide) (by decide) hk hFc hP1 hD1
  have hP : va_P D ga_cl [((u_6.2 0), .inl (cA 3, r_1.1, .inl r_1.2)), (sb, .inr (8, [.ref (u_6.2 0), .int 0, .int 0, .int sc]))] H_14 := hP
  have hD : va_D A [((u_6.2 0), .inl (cA 3, r_1.1, .inl r_1.2)), (sb, .inr (8, [.ref (u_6.2 0), .int 0, .int 0, .int sc]))] := hD
  refine lv_if_eq (tgt := 45) hx hb dJ21_append_14 (by decide) (fun c_17 => ?_) (fun c_17 => ?_)
  · replace h := ga_ift c_17 h
    cases h
  · replace h := ga_iff c_17 h
    refine lv_iload_n hx hb dJ21_append_17 rfl (lv_at hl 1 rfl) ?_
    obtain ⟨r_18, e_19, h⟩ := ga_gb h
    refine vp_callSi (va_Run.run (va_runS (As := [.int x1]) (rest := []) ⟨hx, hb, hml, hown, hts⟩ (met_J24_canEncode l D cA N x1 r_18 e_19) (va_cwS 1 hts (lw_S q1297 q1298 q106 q1299) rfl rfl rfl (by decide +kernel) ⟨Nat.le_of_ble_eq_true rfl, Nat.le_of_ble_eq_true rfl⟩) (ga_PS hK ga_P0) rfl rfl hl.1 rfl (lv_room (Nat.le_of_ble_eq_true rfl)) dJ21_append_18 ⟨Nat.zero_le _, Nat.zero_le _⟩)) (fun z_20 w_21 => ?_)
    obtain ⟨rfl, b_22⟩ := w_21
    refine lv_if_eq (tgt := 45) hx hb dJ21_append_21 (by decide) (fun c_23 => ?_) (fun c_23 => ?_)
    · replace h := ga_ift c_23 h
      cases h
    · replace h := ga_iff c_23 h
      refine lv_aload_n hx hb dJ21_append_24 rfl (lv_at hl 0 rfl) ?_
      refine va_get hx hb hts in_J22 hown hK.1 hP 1 (fs := [.ref (u_6.2 0), .int 0, .int 0, .int sc]) rfl rfl 0 (by decide) (hts _ q1248) (fun _ hh => hh) (v := .ref (u_6.2 0)) rfl dJ21_append_25 ?_
      refine lv_aload_n hx hb dJ21_append_28 rfl (lv_at hl 0 rfl) ?_
      refine lv_dup hx hb dJ21_append_29 rfl ?_
      refine va_get hx hb hts in_J22 hown hK.1 hP 1 (fs := [.ref (u_6.2 0), .int 0, .int 0, .int sc]) rfl rfl 3 (by decide) (hts _ q1251) (fun _ hh => hh) (v := .int sc) rfl dJ21_append_30 ?_
      refine lv_dup_x1 hx hb dJ21_append_33 rfl rfl ?_
      refine lv_iconst (v := 1) hx hb dJ21_append_34 (by decide) ?_
      refine lv_iadd hx hb dJ21_append_35 ?_
      refine va_put hx hb hts in_J22 tyJ22 tyJ22_ok nmJ22 hown hK.1 hP hD hS 1 (fs := [.ref (u_6.2 0), .int 0, .int 0, .int sc]) rfl rfl 3 (by decide) (hts _ q1251) (fun _ hh => hh) rfl (v := .int (sc + 1)) rfl rfl rfl (show 3 < 4 by decide) dJ21_append_36 (fun H_24 locs hP hD hS => ?_)
      have hP : va_P D ga_cl [((u_6.2 0), .inl (cA 3, r_1.1, .inl r_1.2)), (sb, .inr (8, [.ref (u_6.2 0), .int 0, .int 0, .int (sc + 1)]))] H_24 := hP
      have hD : va_D A [((u_6.2 0), .inl (cA 3, r_1.1, .inl r_1.2)), (sb, .inr (8, [.ref (u_6.2 0), .int 0, .int 0, .int (sc + 1)]))] := hD
      refine lv_iload_n hx hb dJ21_append_39 rfl (lv_at hl 1 rfl) ?_
      refine lv_i2b (v := x1.toInt8.toInt32) hx hb dJ21_append_40 rfl ?_
      obtain ⟨i_26, h⟩ := ga_gif h
      refine va_bast hx hb hK.1 hP hD hS 0 3 (f := r_1.2) rfl rfl (ga_in i_26) dJ21_append_41 (fun H_27 locs hP hD hS => ?_)
      have f_29 : ga_Fb (upd r_1.2 (ix sc) (vp_nar .byte x1.toInt8.toInt32)) := ga_Fbu f_9 _ _
      have hP : va_P D ga_cl [((u_6.2 0), .inl (cA 3, r_1.1, .inl (upd r_1.2 (ix sc) (vp_nar .byte x1.toInt8.toInt32)))), (sb, .inr (8, [.ref (u_6.2 0), .int 0, .int 0, .int (sc + 1)]))] H_27 := hP
      have hD : va_D A [((u_6.2 0), .inl (cA 3, r_1.1, .inl (upd r_1.2 (ix sc) (vp_nar .byte x1.toInt8.toInt32)))), (sb, .inr (8, [.ref (u_6.2 0), .int 0, .int 0, .int (sc + 1)]))] := hD
      refine lv_goto (tgt := 75) hx hb dJ21_append_42 (by decide) ?_
      refine lv_aload_n hx hb dJ21_append_75 rfl (lv_at hl 0 rfl) ?_
      have g_30 : ga_Fb (upd r_1.2 (ix sc) (vp_nar .byte x1.toInt8.toInt32)) := by first | exact ga_Fb0 | exact f_9 | exact f_29
      have hP9 := hP.sub (ws' := [(sb, .inr (8, [.ref (u_6.2 0), .int 0, .int 0, .int (sc + 1)])), ((u_6.2 0), .inl (cA 3, r_1.1, .inl (upd r_1.2 (ix sc) (vp_nar .byte x1.toInt8.toInt32))))]) [1, 0] rfl
      have hD9 := hD.sub (ws' := [(sb, .inr (8, [.ref (u_6.2 0), .int 0, .int 0, .int (sc + 1)])), ((u_6.2 0), .inl (cA 3, r_1.1, .inl (upd r_1.2 (ix sc) (vp_nar .byte x1.toInt8.toInt32))))]) [1, 0] (by decide) rfl
      obtain rfl := Option.some.inj h
      exact W.aret hx hb hr (Or.inl ⟨_, rfl⟩) (Or.inr ⟨_, rfl⟩) (fun t ht hW => ⟨⟨(((sc + 1), r_1.1, (upd r_1.2 (ix sc) (vp_nar .byte x1.toInt8.toInt32))), ga_ad [(u_6.2 0)]), _, rfl, rfl, rfl, ⟨by rw [ht]; exact hP9, hK.warm hW, hD9, g_30⟩⟩, hS.F ht⟩) hS.2.2 dJ21_append_76
abbrev rm_J21_append_g (nc ns : Nat) : Room := { frames := 12, cells := nc, slots := ns, locals := 300 }
def F_J21_append_g (N : Nat) (sc : Int32) (sn : Nat) (sF : Nat → Int32) (x1 : Int32) : Option (Int32 × Nat × (Nat → Int32)) :=
  (if 0 + 1 ≤ 1 ∧ 0 + (sn + sn + 2) ≤ (sn + sn + 2) then
  ((F_J21_ensureCapacityInternal_g N sc sn sF (sc + 1)).bind fun r_2 =>
  ((F_J21_isLatin1 N sc).bind fun r_11 =>
  (if r_11.1 = 0 then
  none
  else
  ((F_J24_canEncode N x1).bind fun r_19 =>
  (if r_19 = 0 then
  none
  else
  (if inb sc r_2.1 = true then
  (if (0 + 1) ≤ 1 ∧ (0 + (sn + sn + 2)) ≤ (sn + sn + 2) then
  some ((sc + 1), r_2.1, (upd r_2.2 (ix sc) (vp_nar .byte x1.toInt8.toInt32)))
  else none)
  else none))))))
  else none)
set_option maxHeartbeats 4000000 in
theorem met_J21_append_g (l : Launch) (D : va_G) (cA : Nat → ClassId) (A : Nat → Prop) (sb : Nat) (sv : Nat) (zs : Nat → Nat) (sc : Int32) (sn : Nat) (sF : Nat → Int32) (N : Nat) (x1 : Int32) (hfit : ga_Fb sF) (out : Int32 × Nat × (Nat → Int32)) (h : F_J21_append_g N sc sn sF x1 = some out) : Met l yJ21_append (ws_ yJ21_append cJ21_append 2 (Option.some (.object "java/lang/AbstractStringBuilder"))) (rm_J21_append_g 1 (sn + sn + 2)) (ga_X D cA zs A [(sb, .inr (8, [.ref sv, .int 0, .int 0, .int sc])), (sv, .inl (cA 3, sn, .inl sF))] [.ref sb, .int x1]) (va_Qr (fun (u : (Int32 × Nat × (Nat → Int32)) × (Nat → Nat)) => out = u.1) (fun (u : (Int32 × Nat × (Nat → Int32)) × (Nat → Nat)) (a : Nat) (t : State) => sb = a ∧ (fun (u : (Int32 × Nat × (Nat → Int32)) × (Nat → Nat)) (t : State) => va_P D ga_cl [(sb, .inr (8, [.ref (u.2 0), .int 0, .int 0, .int u.1.1])), ((u.2 0), .inl (cA 3, u.1.2.1, .inl u.1.2.2))] t.heap ∧ ga_K D cA t ∧ va_D A [(sb, .inr (8, [.ref (u.2 0), .int 0, .int 0, .int u.1.1])), ((u.2 0), .inl (cA 3, u.1.2.1, .inl u.1.2.2))] ∧ (ga_Fb u.1.2.2)) u t) A) 1 (sn + sn + 2) A := by
  refine Met.ofW (cc := cJ21_append) (maxL := 2) (ret := (Option.some (.object "java/lang/AbstractStringBuilder"))) (by decide) rfl ?_
  intro p e s m args below meth c s₁ B hml hv
  obtain ⟨rfl, hP, hK, hD, hA, hST⟩ := hv
  have hS : va_S A s.heap s.heap [] := va_S.rf
  have C : ga_cx p m c meth s _ RJ21 cJ21_append 2 (Option.some (.object "java/lang/AbstractStringBuilder")) := ga_cx_of B hml
  have C0 := C
  obtain ⟨hx, hb, hr, hlocks, hml, hown, hts⟩ := C0
  have hl := lv_entry ([.ref sb, .int x1]) (n := 2) (Nat.le_of_ble_eq_true rfl)
  rw [lg_entry_eq]
  generalize (lg_sl ([.ref sb, .int x1]) ++ List.replicate (2 - (lg_sl ([.ref sb, .int x1])).length) Slot.unset).toArray = ls at hl ⊢
  have hl : lv_has ls 2 [(0, .ref sb), (1, .int x1)] := hl
  rw [F_J21_append_g] at h
  refine lv_aload_n hx hb dJ21_append_0 rfl (lv_at hl 0 rfl) ?_
  refine lv_aload_n hx hb dJ21_append_1 rfl (lv_at hl 0 rfl) ?_
  refine va_get hx hb hts in_J22 hown hK.1 hP 0 (fs := [.ref sv, .int 0, .int 0, .int sc]) rfl rfl 3 (by decide) (hts _ q1251) (fun _ hh => hh) (v := .int sc) rfl dJ21_append_2 ?_
  refine lv_iconst (v := 1) hx hb dJ21_append_5 (by decide) ?_
  refine lv_iadd hx hb dJ21_append_6 ?_
  obtain ⟨dg_1, h⟩ := ga_gif h
  obtain ⟨r_2, e_3, h⟩ := ga_gb h
  have hFc := va_free (wc := [(sb, .inr (8, [.ref sv, .int 0, .int 0, .int sc])), (sv, .inl (cA 3, sn, .inl sF))]) hD hS hA [0, 1] rfl
  refine va_callv (va_runV (As := [.int (sc + 1)]) (rest := []) ⟨hx, hb, hml, hown, hts⟩ (met_J21_ensureCapacityInternal_g l D cA (va_A [(sb, .inr (8, [.ref sv, .int 0, .int 0, .int sc])), (sv, .inl (cA 3, sn, .inl sF))] s.heap.size) sb sv zs sc sn sF N (sc + 1) hfit r_2 e_3) (⟨callB_of 1 hts (lw_meth q1275) rfl rfl rfl (hts _ q103) (hts _ q1272) (by decide +kernel) ⟨Nat.le_of_ble_eq_true rfl, Nat.le_of_ble_eq_true rfl⟩, hts _ q1274, ga_selP (hts _ q1295) rfl (hts _ q1274) (ga_nu hK q1273 rfl) (by decide)⟩) (ga_XV hK (hP.sub (ws' := [(sb, .inr (8, [.ref sv, .int 0, .int 0, .int sc])), (sv, .inl (cA 3, sn, .inl sF))]) [0, 1] rfl) (hD.sub (ws' := [(sb, .inr (8, [.ref sv, .int 0, .int 0, .int sc])), (sv, .inl (cA 3, sn, .inl sF))]) [0, 1] (by decide) rfl).self (fun _ hq => Or.inr hq) (hST.at hS hFc) (va_recv hK.1 hP (ci := 8) (q0 := 0) rfl rfl)) rfl rfl hl.1 rfl (lv_room (Nat.le_of_ble_eq_true rfl)) dJ21_append_7 dg_1) hS (fun q _ hq => hFc q hq) hFc (fun u_7 t H_6 locs ht _ w_5 hB _ hk hS => ?_)
  obtain ⟨hP1, -, hD1, f_8⟩ := hB
  rw [show u_7.1 = r_2 from w_5.symm] at hP1 hD1
  have f_10 : ga_Fb r_2.2 := by first | exact f_8 | (rw [show u_7.1 = r_2 from w_5.symm] at f_8; exact f_8)
  rw [ht] at hP1
  obtain ⟨hP, hD⟩ := va_join (wr := []) (w1 := [(sb, .inr (8, [.ref (u_7.2 0), .int 0, .int 0, .int sc])), ((u_7.2 0), .inl (cA 3, r_2.1, .inl r_2.2))]) hP hD [0, 1] [] rfl rfl (by decide) (by decide) hk hFc hP1 hD1
  have hP : va_P D ga_cl [(sb, .inr (8, [.ref (u_7.2 0), .int 0, .int 0, .int sc])), ((u_7.2 0), .inl (cA 3, r_2.1, .inl r_2.2))] H_6 := hP
  have hD : va_D A [(sb, .inr (8, [.ref (u_7.2 0), .int 0, .int 0, .int sc])), ((u_7.2 0), .inl (cA 3, r_2.1, .inl r_2.2))] := hD
  refine lv_aload_n hx hb dJ21_append_10 rfl (lv_at hl 0 rfl) ?_
  obtain ⟨r_11, e_12, h⟩ := ga_gb h
  have hFc := va_free (wc := [(sb, .inr (8, [.ref (u_7.2 0), .int 0, .int 0, .int sc]))]) hD hS hA [0] rfl
  refine va_calli (va_runV (As := []) (rest := []) ⟨hx, hb, hml, hown, hts⟩ (met_J21_isLatin1 l D cA (va_A [(sb, .inr (8, [.ref (u_7.2 0), .int 0, .int 0, .int sc]))] H_6.size) sb (u_7.2 0) zs sc N r_11 e_12) (⟨callB_of 0 hts (lw_meth q1296) rfl rfl rfl (hts _ q103) (hts _ q1292) (by decide +kernel) ⟨Nat.le_of_ble_eq_true rfl, Nat.le_of_ble_eq_true rfl⟩, hts _ q1293, hts _ q1295⟩) (ga_XV hK (hP.sub (ws' := [(sb, .inr (8, [.ref (u_7.2 0), .int 0, .int 0, .int sc]))]) [0] rfl) (hD.sub (ws' := [(sb, .inr (8, [.ref (u_7.2 0), .int 0, .int 0, .int sc]))]) [0] (by decide) rfl).self (fun _ hq => Or.inr hq) (hST.at hS hFc) (va_recv hK.1 hP (ci := 8) (q0 := 0) rfl rfl)) rfl rfl hl.1 rfl (lv_room (Nat.le_of_ble_eq_true rfl)) dJ21_append_11 dg_1) hS (fun q _ hq => hFc q hq) hFc (fun z_13 u_16 t H_15 locs ht _ w_14 hB _ hk hS => ?_)
  obtain ⟨hP1, -, hD1⟩ := hB
  obtain ⟨⟨rfl, b_17⟩, rfl⟩ := w_14
  rw [ht] at hP1
  obtain ⟨hP, hD⟩ := va_join (wr := [((u_7.2 0), .inl (cA 3, r_2.1, .inl r_2.2))]) (w1 := [(sb, .inr (8, [.ref (u_7.2 0), .int 0, .int 0, .int sc]))]) hP hD [0] [1] rfl rfl (by decide) (by decide) hk hFc hP1 hD1
  have hP : va_P D ga_cl [((u_7.2 0), .inl (cA 3, r_2.1, .inl r_2.2)), (sb, .inr (8, [.ref (u_7.2 0), .int 0, .int 0, .int sc]))] H_15 := hP
  have hD : va_D A [((u_7.2 0), .inl (cA 3, r_2.1, .inl r_2.2)), (sb, .inr (8, [.ref (u_7.2 0), .int 0, .int 0, .int sc]))] := hD
  refine lv_if_eq (tgt := 45) hx hb dJ21_append_14 (by decide) (fun c_18 => ?_) (fun c_18 => ?_)
  · replace h := ga_ift c_18 h
    cases h
  · replace h := ga_iff c_18 h
    refine lv_iload_n hx hb dJ21_append_17 rfl (lv_at hl 1 rfl) ?_
    obtain ⟨r_19, e_20, h⟩ := ga_gb h
    refine vp_callSi (va_Run.run (va_runS (As := [.int x1]) (rest := []) ⟨hx, hb, hml, hown, hts⟩ (met_J24_canEncode l D cA N x1 r_19 e_20) (va_cwS 1 hts (lw_S q1297 q1298 q106 q1299) rfl rfl rfl (by decide +kernel) ⟨Nat.le_of_ble_eq_true rfl, Nat.le_of_ble_eq_true rfl⟩) (ga_PS hK ga_P0) rfl rfl hl.1 rfl (lv_room (Nat.le_of_ble_eq_true rfl)) dJ21_append_18 dg_1)) (fun z_21 w_22 => ?_)
    obtain ⟨rfl, b_23⟩ := w_22
    refine lv_if_eq (tgt := 45) hx hb dJ21_append_21 (by decide) (fun c_24 => ?_) (fun c_24 => ?_)
    · replace h := ga_ift c_24 h
      cases h
    · replace h := ga_iff c_24 h
      refine lv_aload_n hx hb dJ21_append_24 rfl (lv_at hl 0 rfl) ?_
      refine va_get hx hb hts in_J22 hown hK.1 hP 1 (fs := [.ref (u_7.2 0), .int 0, .int 0, .int sc]) rfl rfl 0 (by decide) (hts _ q1248) (fun _ hh => hh) (v := .ref (u_7.2 0)) rfl dJ21_append_25 ?_
      refine lv_aload_n hx hb dJ21_append_28 rfl (lv_at hl 0 rfl) ?_
      refine lv_dup hx hb dJ21_append_29 rfl ?_
      refine va_get hx hb hts in_J22 hown hK.1 hP 1 (fs := [.ref (u_7.2 0), .int 0, .int 0, .int sc]) rfl rfl 3 (by decide) (hts _ q1251) (fun _ hh => hh) (v := .int sc) rfl dJ21_append_30 ?_
      refine lv_dup_x1 hx hb dJ21_append_33 rfl rfl ?_
      refine lv_iconst (v := 1) hx hb dJ21_append_34 (by decide) ?_
      refine lv_iadd hx hb dJ21_append_35 ?_
      refine va_put hx hb hts in_J22 tyJ22 tyJ22_ok nmJ22 hown hK.1 hP hD hS 1 (fs := [.ref (u_7.2 0), .int 0, .int 0, .int sc]) rfl rfl 3 (by decide) (hts _ q1251) (fun _ hh => hh) rfl (v := .int (sc + 1)) rfl rfl rfl (show 3 < 4 by decide) dJ21_append_36 (fun H_25 locs hP hD hS => ?_)
      have hP : va_P D ga_cl [((u_7.2 0), .inl (cA 3, r_2.1, .inl r_2.2)), (sb, .inr (8, [.ref (u_7.2 0), .int 0, .int 0, .int (sc + 1)]))] H_25 := hP
      have hD : va_D A [((u_7.2 0), .inl (cA 3, r_2.1, .inl r_2.2)), (sb, .inr (8, [.ref (u_7.2 0), .int 0, .int 0, .int (sc + 1)]))] := hD
      refine lv_iload_n hx hb dJ21_append_39 rfl (lv_at hl 1 rfl) ?_
      refine lv_i2b (v := x1.toInt8.toInt32) hx hb dJ21_append_40 rfl ?_
      obtain ⟨i_27, h⟩ := ga_gif h
      refine va_bast hx hb hK.1 hP hD hS 0 3 (f := r_2.2) rfl rfl (ga_in i_27) dJ21_append_41 (fun H_28 locs hP hD hS => ?_)
      have f_30 : ga_Fb (upd r_2.2 (ix sc) (vp_nar .byte x1.toInt8.toInt32)) := ga_Fbu f_10 _ _
      have hP : va_P D ga_cl [((u_7.2 0), .inl (cA 3, r_2.1, .inl (upd r_2.2 (ix sc) (vp_nar .byte x1.toInt8.toInt32)))), (sb, .inr (8, [.ref (u_7.2 0), .int 0, .int 0, .int (sc + 1)]))] H_28 := hP
      have hD : va_D A [((u_7.2 0), .inl (cA 3, r_2.1, .inl (upd r_2.2 (ix sc) (vp_nar .byte x1.toInt8.toInt32)))), (sb, .inr (8, [.ref (u_7.2 0), .int 0, .int 0, .int (sc + 1)]))] := hD
      refine lv_goto (tgt := 75) hx hb dJ21_append_42 (by decide) ?_
      refine lv_aload_n hx hb dJ21_append_75 rfl (lv_at hl 0 rfl) ?_
      obtain ⟨dg_31, h⟩ := ga_gif h
      refine W.widen (k := 1) (n := (sn + sn + 2)) dg_31.1 dg_31.2 ?_
      have g_32 : ga_Fb (upd r_2.2 (ix sc) (vp_nar .byte x1.toInt8.toInt32)) := by first | exact ga_Fb0 | exact f_10 | exact f_30
      have hP9 := hP.sub (ws' := [(sb, .inr (8, [.ref (u_7.2 0), .int 0, .int 0, .int (sc + 1)])), ((u_7.2 0), .inl (cA 3, r_2.1, .inl (upd r_2.2 (ix sc) (vp_nar .byte x1.toInt8.toInt32))))]) [1, 0] rfl
      have hD9 := hD.sub (ws' := [(sb, .inr (8, [.ref (u_7.2 0), .int 0, .int 0, .int (sc + 1)])), ((u_7.2 0), .inl (cA 3, r_2.1, .inl (upd r_2.2 (ix sc) (vp_nar .byte x1.toInt8.toInt32))))]) [1, 0] (by decide) rfl
      obtain rfl := Option.some.inj h
      exact W.aret hx hb hr (Or.inl ⟨_, rfl⟩) (Or.inr ⟨_, rfl⟩) (fun t ht hW => ⟨⟨(((sc + 1), r_2.1, (upd r_2.2 (ix sc) (vp_nar .byte x1.toInt8.toInt32))), ga_ad [(u_7.2 0)]), _, rfl, rfl, rfl, ⟨by rw [ht]; exact hP9, hK.warm hW, hD9, g_32⟩⟩, hS.F ht⟩) hS.2.2 dJ21_append_76
abbrev rm_J22_append_s (nc ns : Nat) : Room := { frames := 14, cells := nc, slots := ns, locals := 360 }
def F_J22_append_s (N : Nat) (sc : Int32) (sn : Nat) (sF : Nat → Int32) (x1 : Int32) : Option (Int32 × Nat × (Nat → Int32)) :=
  (if 0 + 0 ≤ 0 ∧ 0 + 0 ≤ 0 then
  ((F_J21_append_s N sc sn sF x1).bind fun r_2 =>
  (if (0 + 0) ≤ 0 ∧ (0 + 0) ≤ 0 then
  some (r_2.1, r_2.2.1, r_2.2.2)
  else none))
  else none)
set_option maxHeartbeats 4000000 in
theorem met_J22_append_s (l : Launch) (D : va_G) (cA : Nat → ClassId) (A : Nat → Prop) (sb : Nat) (sv : Nat) (zs : Nat → Nat) (sc : Int32) (sn : Nat) (sF : Nat → Int32) (N : Nat) (x1 : Int32) (hfit : ga_Fb sF) (out : Int32 × Nat × (Nat → Int32)) (h : F_J22_append_s N sc sn sF x1 = some out) : Met l yJ22_append (ws_ yJ22_append cJ22_append 2 (Option.some (.object "java/lang/StringBuilder"))) (rm_J22_append_s 0 0) (ga_X D cA zs A [(sb, .inr (8, [.ref sv, .int 0, .int 0, .int sc])), (sv, .inl (cA 3, sn, .inl sF))] [.ref sb, .int x1]) (va_Qr (fun (u : (Int32 × Nat × (Nat → Int32)) × (Nat → Nat)) => out = u.1) (fun (u : (Int32 × Nat × (Nat → Int32)) × (Nat → Nat)) (a : Nat) (t : State) => sb = a ∧ (fun (u : (Int32 × Nat × (Nat → Int32)) × (Nat → Nat)) (t : State) => va_P D ga_cl [(sb, .inr (8, [.ref (u.2 0), .int 0, .int 0, .int u.1.1])), ((u.2 0), .inl (cA 3, u.1.2.1, .inl u.1.2.2))] t.heap ∧ ga_K D cA t ∧ va_D A [(sb, .inr (8, [.ref (u.2 0), .int 0, .int 0, .int u.1.1])), ((u.2 0), .inl (cA 3, u.1.2.1, .inl u.1.2.2))] ∧ (ga_Fb u.1.2.2)) u t) A) 0 0 A := by
  refine Met.ofW (cc := cJ22_append) (maxL := 2) (ret := (Option.some (.object "java/lang/StringBuilder"))) (by decide) rfl ?_
  intro p e s m args below meth c s₁ B hml hv
  obtain ⟨rfl, hP, hK, hD, hA, hST⟩ := hv
  have hS : va_S A s.heap s.heap [] := va_S.rf
  have C : ga_cx p m c meth s _ RJ22 cJ22_append 2 (Option.some (.object "java/lang/StringBuilder")) := ga_cx_of B hml
  have C0 := C
  obtain ⟨hx, hb, hr, hlocks, hml, hown, hts⟩ := C0
  have hl := lv_entry ([.ref sb, .int x1]) (n := 2) (Nat.le_of_ble_eq_true rfl)
  rw [lg_entry_eq]
  generalize (lg_sl ([.ref sb, .int x1]) ++ List.replicate (2 - (lg_sl ([.ref sb, .int x1])).length) Slot.unset).toArray = ls at hl ⊢
  have hl : lv_has ls 2 [(0, .ref sb), (1, .int x1)] := hl
  rw [F_J22_append_s] at h
  refine lv_aload_n hx hb dJ22_append_0 rfl (lv_at hl 0 rfl) ?_
  refine lv_iload_n hx hb dJ22_append_1 rfl (lv_at hl 1 rfl) ?_
  obtain ⟨dg_1, h⟩ := ga_gif h
  obtain ⟨r_2, e_3, h⟩ := ga_gb h
  have hFc := va_free (wc := [(sb, .inr (8, [.ref sv, .int 0, .int 0, .int sc])), (sv, .inl (cA 3, sn, .inl sF))]) hD hS hA [0, 1] rfl
  refine va_callr (ga_runU (As := [.int x1]) (rest := []) ⟨hx, hb, hml, hown, hts⟩ (met_J21_append_s l D cA (va_A [(sb, .inr (8, [.ref sv, .int 0, .int 0, .int sc])), (sv, .inl (cA 3, sn, .inl sF))] s.heap.size) sb sv zs sc sn sF N x1 hfit r_2 e_3) (⟨callB_of 1 hts (lw_meth q1271) rfl rfl rfl (hts _ q103) (hts _ q1269) (by decide +kernel) ⟨Nat.le_of_ble_eq_true rfl, Nat.le_of_ble_eq_true rfl⟩, hts _ q1270, hts _ q1880, hts _ q1260, by decide⟩) (ga_XV hK (hP.sub (ws' := [(sb, .inr (8, [.ref sv, .int 0, .int 0, .int sc])), (sv, .inl (cA 3, sn, .inl sF))]) [0, 1] rfl) (hD.sub (ws' := [(sb, .inr (8, [.ref sv, .int 0, .int 0, .int sc])), (sv, .inl (cA 3, sn, .inl sF))]) [0, 1] (by decide) rfl).self (fun _ hq => Or.inr hq) (hST.at hS hFc) (va_recv hK.1 hP (ci := 8) (q0 := 0) rfl rfl)) rfl rfl hl.1 rfl (lv_room (Nat.le_of_ble_eq_true rfl)) dJ22_append_2 dg_1) hS (fun q _ hq => hFc q hq) hFc (fun u_7 a_9 t H_6 locs ht _ w_5 hB _ hk hS => ?_)
  obtain ⟨ea, hP1, -, hD1, f_8⟩ := hB
  subst ea
  rw [show u_7.1 = r_2 from w_5.symm] at hP1 hD1
  have f_10 : ga_Fb r_2.2.2 := by first | exact f_8 | (rw [show u_7.1 = r_2 from w_5.symm] at f_8; exact f_8)
  rw [ht] at hP1
  obtain ⟨hP, hD⟩ := va_join (wr := []) (w1 := [(sb, .inr (8, [.ref (u_7.2 0), .int 0, .int 0, .int r_2.1])), ((u_7.2 0), .inl (cA 3, r_2.2.1, .inl r_2.2.2))]) hP hD [0, 1] [] rfl rfl (by decide) (by decide) hk hFc hP1 hD1
  have hP : va_P D ga_cl [(sb, .inr (8, [.ref (u_7.2 0), .int 0, .int 0, .int r_2.1])), ((u_7.2 0), .inl (cA 3, r_2.2.1, .inl r_2.2.2))] H_6 := hP
  have hD : va_D A [(sb, .inr (8, [.ref (u_7.2 0), .int 0, .int 0, .int r_2.1])), ((u_7.2 0), .inl (cA 3, r_2.2.1, .inl r_2.2.2))] := hD
  refine lv_pop hx hb dJ22_append_5 rfl ?_
  refine lv_aload_n hx hb dJ22_append_6 rfl (lv_at hl 0 rfl) ?_
  obtain ⟨dg_11, h⟩ := ga_gif h
  refine W.widen (k := 0) (n := 0) dg_11.1 dg_11.2 ?_
  have g_12 : ga_Fb r_2.2.2 := by first | exact ga_Fb0 | exact f_10
  have hP9 := hP.sub (ws' := [(sb, .inr (8, [.ref (u_7.2 0), .int 0, .int 0, .int r_2.1])), ((u_7.2 0), .inl (cA 3, r_2.2.1, .inl r_2.2.2))]) [0, 1] rfl
  have hD9 := hD.sub (ws' := [(sb, .inr (8, [.ref (u_7.2 0), .int 0, .int 0, .int r_2.1])), ((u_7.2 0), .inl (cA 3, r_2.2.1, .inl r_2.2.2))]) [0, 1] (by decide) rfl
  obtain rfl := Option.some.inj h
  exact W.aret hx hb hr (Or.inl ⟨_, rfl⟩) (Or.inr ⟨_, rfl⟩) (fun t ht hW => ⟨⟨((r_2.1, r_2.2.1, r_2.2.2), ga_ad [(u_7.2 0)]), _, rfl, rfl, rfl, ⟨by rw [ht]; exact hP9, hK.warm hW, hD9, g_12⟩⟩, hS.F ht⟩) hS.2.2 dJ22_append_7
abbrev rm_J22_append_g (nc ns : Nat) : Room := { frames := 14, cells := nc, slots := ns, locals := 360 }
def F_J22_append_g (N : Nat) (sc : Int32) (sn : Nat) (sF : Nat → Int32) (x1 : Int32) : Option (Int32 × Nat × (Nat → Int32)) :=
  (if 0 + 1 ≤ 1 ∧ 0 + (sn + sn + 2) ≤ (sn + sn + 2) then
  ((F_J21_append_g N sc sn sF x1).bind fun r_2 =>
  (if (0 + 1) ≤ 1 ∧ (0 + (sn + sn + 2)) ≤ (sn + sn + 2) then
  some (r_2.1, r_2.2.1, r_2.2.2)
  else none))
  else none)
set_option maxHeartbeats 4000000 in
theorem met_J22_append_g (l : Launch) (D : va_G) (cA : Nat → ClassId) (A : Nat → Prop) (sb : Nat) (sv : Nat) (zs : Nat → Nat) (sc : Int32) (sn : Nat) (sF : Nat → Int32) (N : Nat) (x1 : Int32) (hfit : ga_Fb sF) (out : Int32 × Nat × (Nat → Int32)) (h : F_J22_append_g N sc sn sF x1 = some out) : Met l yJ22_append (ws_ yJ22_append cJ22_append 2 (Option.some (.object "java/lang/StringBuilder"))) (rm_J22_append_g 1 (sn + sn + 2)) (ga_X D cA zs A [(sb, .inr (8, [.ref sv, .int 0, .int 0, .int sc])), (sv, .inl (cA 3, sn, .inl sF))] [.ref sb, .int x1]) (va_Qr (fun (u : (Int32 × Nat × (Nat → Int32)) × (Nat → Nat)) => out = u.1) (fun (u : (Int32 × Nat × (Nat → Int32)) × (Nat → Nat)) (a : Nat) (t : State) => sb = a ∧ (fun (u : (Int32 × Nat × (Nat → Int32)) × (Nat → Nat)) (t : State) => va_P D ga_cl [(sb, .inr (8, [.ref (u.2 0), .int 0, .int 0, .int u.1.1])), ((u.2 0), .inl (cA 3, u.1.2.1, .inl u.1.2.2))] t.heap ∧ ga_K D cA t ∧ va_D A [(sb, .inr (8, [.ref (u.2 0), .int 0, .int 0, .int u.1.1])), ((u.2 0), .inl (cA 3, u.1.2.1, .inl u.1.2.2))] ∧ (ga_Fb u.1.2.2)) u t) A) 1 (sn + sn + 2) A := by
  refine Met.ofW (cc := cJ22_append) (maxL := 2) (ret := (Option.some (.object "java/lang/StringBuilder"))) (by decide) rfl ?_
  intro p e s m args below meth c s₁ B hml hv
  obtain ⟨rfl, hP, hK, hD, hA, hST⟩ := hv
  have hS : va_S A s.heap s.heap [] := va_S.rf
  have C : ga_cx p m c meth s _ RJ22 cJ22_append 2 (Option.some (.object "java/lang/StringBuilder")) := ga_cx_of B hml
  have C0 := C
  obtain ⟨hx, hb, hr, hlocks, hml, hown, hts⟩ := C0
  have hl := lv_entry ([.ref sb, .int x1]) (n := 2) (Nat.le_of_ble_eq_true rfl)
  rw [lg_entry_eq]
  generalize (lg_sl ([.ref sb, .int x1]) ++ List.replicate (2 - (lg_sl ([.ref sb, .int x1])).length) Slot.unset).toArray = ls at hl ⊢
  have hl : lv_has ls 2 [(0, .ref sb), (1, .int x1)] := hl
  rw [F_J22_append_g] at h
  refine lv_aload_n hx hb dJ22_append_0 rfl (lv_at hl 0 rfl) ?_
  refine lv_iload_n hx hb dJ22_append_1 rfl (lv_at hl 1 rfl) ?_
  obtain ⟨dg_1, h⟩ := ga_gif h
  obtain ⟨r_2, e_3, h⟩ := ga_gb h
  have hFc := va_free (wc := [(sb, .inr (8, [.ref sv, .int 0, .int 0, .int sc])), (sv, .inl (cA 3, sn, .inl sF))]) hD hS hA [0, 1] rfl
  refine va_callr (ga_runU (As := [.int x1]) (rest := []) ⟨hx, hb, hml, hown, hts⟩ (met_J21_append_g l D cA (va_A [(sb, .inr (8, [.ref sv, .int 0, .int 0, .int sc])), (sv, .inl (cA 3, sn, .inl sF))] s.heap.size) sb sv zs sc sn sF N x1 hfit r_2 e_3) (⟨callB_of 1 hts (lw_meth q1271) rfl rfl rfl (hts _ q103) (hts _ q1269) (by decide +kernel) ⟨Nat.le_of_ble_eq_true rfl, Nat.le_of_ble_eq_true rfl⟩, hts _ q1270, hts _ q1880, hts _ q1260, by decide⟩) (ga_XV hK (hP.sub (ws' := [(sb, .inr (8, [.ref sv, .int 0, .int 0, .int sc])), (sv, .inl (cA 3, sn, .inl sF))]) [0, 1] rfl) (hD.sub (ws' := [(sb, .inr (8, [.ref sv, .int 0, .int 0, .int sc])), (sv, .inl (cA 3, sn, .inl sF))]) [0, 1] (by decide) rfl).self (fun _ hq => Or.inr hq) (hST.at hS hFc) (va_recv hK.1 hP (ci := 8) (q0 := 0) rfl rfl)) rfl rfl hl.1 rfl (lv_room (Nat.le_of_ble_eq_true rfl)) dJ22_append_2 dg_1) hS (fun q _ hq => hFc q hq) hFc (fun u_7 a_9 t H_6 locs ht _ w_5 hB _ hk hS => ?_)
  obtain ⟨ea, hP1, -, hD1, f_8⟩ := hB
  subst ea
  rw [show u_7.1 = r_2 from w_5.symm] at hP1 hD1
  have f_10 : ga_Fb r_2.2.2 := by first | exact f_8 | (rw [show u_7.1 = r_2 from w_5.symm] at f_8; exact f_8)
  rw [ht] at hP1
  obtain ⟨hP, hD⟩ := va_join (wr := []) (w1 := [(sb, .inr (8, [.ref (u_7.2 0), .int 0, .int 0, .int r_2.1])), ((u_7.2 0), .inl (cA 3, r_2.2.1, .inl r_2.2.2))]) hP hD [0, 1] [] rfl rfl (by decide) (by decide) hk hFc hP1 hD1
  have hP : va_P D ga_cl [(sb, .inr (8, [.ref (u_7.2 0), .int 0, .int 0, .int r_2.1])), ((u_7.2 0), .inl (cA 3, r_2.2.1, .inl r_2.2.2))] H_6 := hP
  have hD : va_D A [(sb, .inr (8, [.ref (u_7.2 0), .int 0, .int 0, .int r_2.1])), ((u_7.2 0), .inl (cA 3, r_2.2.1, .inl r_2.2.2))] := hD
  refine lv_pop hx hb dJ22_append_5 rfl ?_
  refine lv_aload_n hx hb dJ22_append_6 rfl (lv_at hl 0 rfl) ?_
  obtain ⟨dg_11, h⟩ := ga_gif h
  refine W.widen (k := 1) (n := (sn + sn + 2)) dg_11.1 dg_11.2 ?_
  have g_12 : ga_Fb r_2.2.2 := by first | exact ga_Fb0 | exact f_10
  have hP9 := hP.sub (ws' := [(sb, .inr (8, [.ref (u_7.2 0), .int 0, .int 0, .int r_2.1])), ((u_7.2 0), .inl (cA 3, r_2.2.1, .inl r_2.2.2))]) [0, 1] rfl
  have hD9 := hD.sub (ws' := [(sb, .inr (8, [.ref (u_7.2 0), .int 0, .int 0, .int r_2.1])), ((u_7.2 0), .inl (cA 3, r_2.2.1, .inl r_2.2.2))]) [0, 1] (by decide) rfl
  obtain rfl := Option.some.inj h
  exact W.aret hx hb hr (Or.inl ⟨_, rfl⟩) (Or.inr ⟨_, rfl⟩) (fun t ht hW => ⟨⟨((r_2.1, r_2.2.1, r_2.2.2), ga_ad [(u_7.2 0)]), _, rfl, rfl, rfl, ⟨by rw [ht]; exact hP9, hK.warm hW, hD9, g_12⟩⟩, hS.F ht⟩) hS.2.2 dJ22_append_7
def F_J22_append (N : Nat) (sc : Int32) (sn : Nat) (sF : Nat → Int32) (x1 : Int32) : Option (Int32 × Nat × (Nat → Int32)) :=
  (if ((sc + 1) - (jishr (Int32.ofNat sn) 0)) ≤ 0 then F_J22_append_s N sc sn sF x1 else F_J22_append_g N sc sn sF x1)
theorem met_J22_append (l : Launch) (D : va_G) (cA : Nat → ClassId) (A : Nat → Prop) (sb : Nat) (sv : Nat) (zs : Nat → Nat) (sc : Int32) (sn : Nat) (sF : Nat → Int32) (N : Nat) (x1 : Int32) (hfit : ga_Fb sF) (out : Int32 × Nat × (Nat → Int32)) (h : F_J22_append N sc sn sF x1 = some out) : Met l yJ22_append (ws_ yJ22_append cJ22_append 2 (Option.some (.object "java/lang/StringBuilder"))) (rm_J22_append_g (ga_gc sc sn) (ga_gs sc sn)) (ga_X D cA zs A [(sb, .inr (8, [.ref sv, .int 0, .int 0, .int sc])), (sv, .inl (cA 3, sn, .inl sF))] [.ref sb, .int x1]) (va_Qr (fun (u : (Int32 × Nat × (Nat → Int32)) × (Nat → Nat)) => out = u.1) (fun (u : (Int32 × Nat × (Nat → Int32)) × (Nat → Nat)) (a : Nat) (t : State) => sb = a ∧ (fun (u : (Int32 × Nat × (Nat → Int32)) × (Nat → Nat)) (t : State) => va_P D ga_cl [(sb, .inr (8, [.ref (u.2 0), .int 0, .int 0, .int u.1.1])), ((u.2 0), .inl (cA 3, u.1.2.1, .inl u.1.2.2))] t.heap ∧ ga_K D cA t ∧ va_D A [(sb, .inr (8, [.ref (u.2 0), .int 0, .int 0, .int u.1.1])), ((u.2 0), .inl (cA 3, u.1.2.1, .inl u.1.2.2))] ∧ (ga_Fb u.1.2.2)) u t) A) (ga_gc sc sn) (ga_gs sc sn) A := by
  unfold F_J22_append at h
  by_cases c9 : ((sc + 1) - (jishr (Int32.ofNat sn) 0)) ≤ 0
  · replace h := ga_ift c9 h
    rw [show (ga_gc sc sn) = 0 from if_pos c9, show (ga_gs sc sn) = 0 from if_pos c9]
    exact met_J22_append_s l D cA A sb sv zs sc sn sF N x1 hfit out h
  · replace h := ga_iff c9 h
    rw [show (ga_gc sc sn) = 1 from if_neg c9, show (ga_gs sc sn) = (sn + sn + 2) from if_neg c9]
    exact met_J22_append_g l D cA A sb sv zs sc sn sF N x1 hfit out h
