abbrev rm_X1_inRange : Room := { frames := 1, cells := 0, slots := 0, locals := 12 }
def F_X1_inRange (N : Nat)  (x0 : Int32) (x1 : Int32) (x2 : Int32) : Option (Int32) :=
  (if x0 < x1 then
  some 0
  else
  (if x2 < x0 then
  some 0
  else
  some 1))
set_option maxHeartbeats 4000000 in
theorem met_X1_inRange (l : Launch) (D : va_G) (cA : Nat → ClassId)   (N : Nat) (x0 : Int32) (x1 : Int32) (x2 : Int32)  (out : Int32) (h : F_X1_inRange N x0 x1 x2 = some out) : Met l yX1_inRange (ws_ yX1_inRange cX1_inRange 3 (some .boolean)) rm_X1_inRange (ga_P D cA [] [.int x0, .int x1, .int x2]) (vp_Si (fun r => out = r ∧ ga_B r)) 0 0 ga_F := by
  refine Met.ofW (cc := cX1_inRange) (maxL := 3) (ret := (some .boolean)) (by decide) rfl ?_
  intro p e s m args below meth c s₁ B hml hv
  obtain ⟨rfl, hP, hK⟩ := hv
  have C : ga_cx p m c meth s _ RX1 cX1_inRange 3 (some .boolean) := ga_cx_of B hml
  have C0 := C
  obtain ⟨hx, hb, hr, hlocks, hml, hown, hts⟩ := C0
  have hl := lv_entry ([.int x0, .int x1, .int x2]) (n := 3) (Nat.le_of_ble_eq_true rfl)
  rw [lg_entry_eq]
  generalize (lg_sl ([.int x0, .int x1, .int x2]) ++ List.replicate (3 - (lg_sl ([.int x0, .int x1, .int x2])).length) Slot.unset).toArray = ls at hl ⊢
  have hl : lv_has ls 3 [(0, .int x0), (1, .int x1), (2, .int x2)] := hl
  rw [F_X1_inRange] at h
  refine lv_iload_n hx hb dX1_inRange_0 rfl (lv_at hl 0 rfl) ?_
  refine lv_iload_n hx hb dX1_inRange_1 rfl (lv_at hl 1 rfl) ?_
  refine lv_icmp_lt (tgt := 14) hx hb dX1_inRange_2 (by decide) (fun c_1 => ?_) (fun c_1 => ?_)
  · replace h := ga_ift c_1 h
    refine lv_iconst (v := 0) hx hb dX1_inRange_14 (by decide) ?_
    obtain rfl := Option.some.inj h
    exact W.zret hx hb hr (ga_nb (Or.inl rfl)) (fun t ht hW => ⟨_, rfl, ⟨rfl, Or.inl rfl⟩, ht⟩) (fun _ hq => by cases hq) dX1_inRange_15
  · replace h := ga_iff c_1 h
    refine lv_iload_n hx hb dX1_inRange_5 rfl (lv_at hl 0 rfl) ?_
    refine lv_iload_n hx hb dX1_inRange_6 rfl (lv_at hl 2 rfl) ?_
    refine lv_icmp_gt (tgt := 14) hx hb dX1_inRange_7 (by decide) (fun c_2 => ?_) (fun c_2 => ?_)
    · replace h := ga_ift c_2 h
      refine lv_iconst (v := 0) hx hb dX1_inRange_14 (by decide) ?_
      obtain rfl := Option.some.inj h
      exact W.zret hx hb hr (ga_nb (Or.inl rfl)) (fun t ht hW => ⟨_, rfl, ⟨rfl, Or.inl rfl⟩, ht⟩) (fun _ hq => by cases hq) dX1_inRange_15
    · replace h := ga_iff c_2 h
      refine lv_iconst (v := 1) hx hb dX1_inRange_10 (by decide) ?_
      refine lv_goto (tgt := 15) hx hb dX1_inRange_11 (by decide) ?_
      obtain rfl := Option.some.inj h
      exact W.zret hx hb hr (ga_nb (Or.inr rfl)) (fun t ht hW => ⟨_, rfl, ⟨rfl, Or.inr rfl⟩, ht⟩) (fun _ hq => by cases hq) dX1_inRange_15
abbrev rm_X1_bit : Room := { frames := 1, cells := 0, slots := 0, locals := 12 }
def F_X1_bit (N : Nat)  (x0 : Int32) : Option (Int64) :=
  some (jlshl 1 x0)
set_option maxHeartbeats 4000000 in
theorem met_X1_bit (l : Launch) (D : va_G) (cA : Nat → ClassId)   (N : Nat) (x0 : Int32)  (out : Int64) (h : F_X1_bit N x0 = some out) : Met l yX1_bit (ws_ yX1_bit cX1_bit 1 (some .long)) rm_X1_bit (ga_P D cA [] [.int x0]) (vp_Sl (fun r => out = r)) 0 0 ga_F := by
  refine Met.ofW (cc := cX1_bit) (maxL := 1) (ret := (some .long)) (by decide) rfl ?_
  intro p e s m args below meth c s₁ B hml hv
  obtain ⟨rfl, hP, hK⟩ := hv
  have C : ga_cx p m c meth s _ RX1 cX1_bit 1 (some .long) := ga_cx_of B hml
  have C0 := C
  obtain ⟨hx, hb, hr, hlocks, hml, hown, hts⟩ := C0
  have hl := lv_entry ([.int x0]) (n := 1) (Nat.le_of_ble_eq_true rfl)
  rw [lg_entry_eq]
  generalize (lg_sl ([.int x0]) ++ List.replicate (1 - (lg_sl ([.int x0])).length) Slot.unset).toArray = ls at hl ⊢
  have hl : lv_has ls 1 [(0, .int x0)] := hl
  rw [F_X1_bit] at h
  refine lv_lconst (v := 1) hx hb dX1_bit_0 (by decide) ?_
  refine lv_iload_n hx hb dX1_bit_1 rfl (lv_at hl 0 rfl) ?_
  refine lv_lshl (v := (jlshl 1 x0)) hx hb dX1_bit_2 rfl ?_
  obtain rfl := Option.some.inj h
  exact W.lret hx hb hr (fun t ht hW => ⟨_, rfl, rfl, ht⟩) (fun _ hq => by cases hq) dX1_bit_3
abbrev rm_X1_has : Room := { frames := 1, cells := 0, slots := 0, locals := 12 }
def F_X1_has (N : Nat)  (x0 : Int64) (x2 : Int32) : Option (Int32) :=
  (if (lg_cmp ((jlushr x0 x2) &&& 1) 0) = 0 then
  some 0
  else
  some 1)
set_option maxHeartbeats 4000000 in
theorem met_X1_has (l : Launch) (D : va_G) (cA : Nat → ClassId)   (N : Nat) (x0 : Int64) (x2 : Int32)  (out : Int32) (h : F_X1_has N x0 x2 = some out) : Met l yX1_has (ws_ yX1_has cX1_has 3 (some .boolean)) rm_X1_has (ga_P D cA [] [.long x0, .int x2]) (vp_Si (fun r => out = r ∧ ga_B r)) 0 0 ga_F := by
  refine Met.ofW (cc := cX1_has) (maxL := 3) (ret := (some .boolean)) (by decide) rfl ?_
  intro p e s m args below meth c s₁ B hml hv
  obtain ⟨rfl, hP, hK⟩ := hv
  have C : ga_cx p m c meth s _ RX1 cX1_has 3 (some .boolean) := ga_cx_of B hml
  have C0 := C
  obtain ⟨hx, hb, hr, hlocks, hml, hown, hts⟩ := C0
  have hl := lv_entry ([.long x0, .int x2]) (n := 3) (Nat.le_of_ble_eq_true rfl)
  rw [lg_entry_eq]
  generalize (lg_sl ([.long x0, .int x2]) ++ List.replicate (3 - (lg_sl ([.long x0, .int x2])).length) Slot.unset).toArray = ls at hl ⊢
  have hl : lv_has ls 3 [(0, .long x0), (2, .int x2)] := hl
  rw [F_X1_has] at h
  refine lv_lload_n hx hb dX1_has_0 rfl (lv_at hl 0 rfl) ?_
  refine lv_iload_n hx hb dX1_has_1 rfl (lv_at hl 1 rfl) ?_
  refine lv_lushr (v := (jlushr x0 x2)) hx hb dX1_has_2 rfl ?_
  refine lv_lconst (v := 1) hx hb dX1_has_3 (by decide) ?_
  refine lv_land hx hb dX1_has_4 ?_
  refine lv_lconst (v := 0) hx hb dX1_has_5 (by decide) ?_
  refine W.lcmp hx hb dX1_has_6 ?_
  refine lv_if_eq (tgt := 14) hx hb dX1_has_7 (by decide) (fun c_1 => ?_) (fun c_1 => ?_)
  · replace h := ga_ift c_1 h
    refine lv_iconst (v := 0) hx hb dX1_has_14 (by decide) ?_
    obtain rfl := Option.some.inj h
    exact W.zret hx hb hr (ga_nb (Or.inl rfl)) (fun t ht hW => ⟨_, rfl, ⟨rfl, Or.inl rfl⟩, ht⟩) (fun _ hq => by cases hq) dX1_has_15
  · replace h := ga_iff c_1 h
    refine lv_iconst (v := 1) hx hb dX1_has_10 (by decide) ?_
    refine lv_goto (tgt := 15) hx hb dX1_has_11 (by decide) ?_
    obtain rfl := Option.some.inj h
    exact W.zret hx hb hr (ga_nb (Or.inr rfl)) (fun t ht hW => ⟨_, rfl, ⟨rfl, Or.inr rfl⟩, ht⟩) (fun _ hq => by cases hq) dX1_has_15
abbrev rm_J13_bitCount : Room := { frames := 1, cells := 0, slots := 0, locals := 12 }
def V_J13_bitCount  (x0 : Int64) : Int32 :=
  ((((((((((x0 - ((jlushr x0 1) &&& 6148914691236517205)) &&& 3689348814741910323) + ((jlushr (x0 - ((jlushr x0 1) &&& 6148914691236517205)) 2) &&& 3689348814741910323)) + (jlushr (((x0 - ((jlushr x0 1) &&& 6148914691236517205)) &&& 3689348814741910323) + ((jlushr (x0 - ((jlushr x0 1) &&& 6148914691236517205)) 2) &&& 3689348814741910323)) 4)) &&& 1085102592571150095) + (jlushr (((((x0 - ((jlushr x0 1) &&& 6148914691236517205)) &&& 3689348814741910323) + ((jlushr (x0 - ((jlushr x0 1) &&& 6148914691236517205)) 2) &&& 3689348814741910323)) + (jlushr (((x0 - ((jlushr x0 1) &&& 6148914691236517205)) &&& 3689348814741910323) + ((jlushr (x0 - ((jlushr x0 1) &&& 6148914691236517205)) 2) &&& 3689348814741910323)) 4)) &&& 1085102592571150095) 8)) + (jlushr ((((((x0 - ((jlushr x0 1) &&& 6148914691236517205)) &&& 3689348814741910323) + ((jlushr (x0 - ((jlushr x0 1) &&& 6148914691236517205)) 2) &&& 3689348814741910323)) + (jlushr (((x0 - ((jlushr x0 1) &&& 6148914691236517205)) &&& 3689348814741910323) + ((jlushr (x0 - ((jlushr x0 1) &&& 6148914691236517205)) 2) &&& 3689348814741910323)) 4)) &&& 1085102592571150095) + (jlushr (((((x0 - ((jlushr x0 1) &&& 6148914691236517205)) &&& 3689348814741910323) + ((jlushr (x0 - ((jlushr x0 1) &&& 6148914691236517205)) 2) &&& 3689348814741910323)) + (jlushr (((x0 - ((jlushr x0 1) &&& 6148914691236517205)) &&& 3689348814741910323) + ((jlushr (x0 - ((jlushr x0 1) &&& 6148914691236517205)) 2) &&& 3689348814741910323)) 4)) &&& 1085102592571150095) 8)) 16)) + (jlushr (((((((x0 - ((jlushr x0 1) &&& 6148914691236517205)) &&& 3689348814741910323) + ((jlushr (x0 - ((jlushr x0 1) &&& 6148914691236517205)) 2) &&& 3689348814741910323)) + (jlushr (((x0 - ((jlushr x0 1) &&& 6148914691236517205)) &&& 3689348814741910323) + ((jlushr (x0 - ((jlushr x0 1) &&& 6148914691236517205)) 2) &&& 3689348814741910323)) 4)) &&& 1085102592571150095) + (jlushr (((((x0 - ((jlushr x0 1) &&& 6148914691236517205)) &&& 3689348814741910323) + ((jlushr (x0 - ((jlushr x0 1) &&& 6148914691236517205)) 2) &&& 3689348814741910323)) + (jlushr (((x0 - ((jlushr x0 1) &&& 6148914691236517205)) &&& 3689348814741910323) + ((jlushr (x0 - ((jlushr x0 1) &&& 6148914691236517205)) 2) &&& 3689348814741910323)) 4)) &&& 1085102592571150095) 8)) + (jlushr ((((((x0 - ((jlushr x0 1) &&& 6148914691236517205)) &&& 3689348814741910323) + ((jlushr (x0 - ((jlushr x0 1) &&& 6148914691236517205)) 2) &&& 3689348814741910323)) + (jlushr (((x0 - ((jlushr x0 1) &&& 6148914691236517205)) &&& 3689348814741910323) + ((jlushr (x0 - ((jlushr x0 1) &&& 6148914691236517205)) 2) &&& 3689348814741910323)) 4)) &&& 1085102592571150095) + (jlushr (((((x0 - ((jlushr x0 1) &&& 6148914691236517205)) &&& 3689348814741910323) + ((jlushr (x0 - ((jlushr x0 1) &&& 6148914691236517205)) 2) &&& 3689348814741910323)) + (jlushr (((x0 - ((jlushr x0 1) &&& 6148914691236517205)) &&& 3689348814741910323) + ((jlushr (x0 - ((jlushr x0 1) &&& 6148914691236517205)) 2) &&& 3689348814741910323)) 4)) &&& 1085102592571150095) 8)) 16)) 32)).toInt32) &&& 127)
def F_J13_bitCount (N : Nat)  (x0 : Int64) : Option (Int32) :=
  some (V_J13_bitCount x0)
set_option maxHeartbeats 4000000 in
theorem met_J13_bitCount (l : Launch) (D : va_G) (cA : Nat → ClassId)   (N : Nat) (x0 : Int64)  (out : Int32) (h : F_J13_bitCount N x0 = some out) : Met l yJ13_bitCount (ws_ yJ13_bitCount cJ13_bitCount 2 (some .int)) rm_J13_bitCount (ga_P D cA [] [.long x0]) (vp_Si (fun r => out = r)) 0 0 ga_F := by
  refine Met.ofW (cc := cJ13_bitCount) (maxL := 2) (ret := (some .int)) (by decide) rfl ?_
  intro p e s m args below meth c s₁ B hml hv
  obtain ⟨rfl, hP, hK⟩ := hv
  have C : ga_cx p m c meth s _ RJ13 cJ13_bitCount 2 (some .int) := ga_cx_of B hml
  have C0 := C
  obtain ⟨hx, hb, hr, hlocks, hml, hown, hts⟩ := C0
  have hl := lv_entry ([.long x0]) (n := 2) (Nat.le_of_ble_eq_true rfl)
  rw [lg_entry_eq]
  generalize (lg_sl ([.long x0]) ++ List.replicate (2 - (lg_sl ([.long x0])).length) Slot.unset).toArray = ls at hl ⊢
  have hl : lv_has ls 2 [(0, .long x0)] := hl
  rw [F_J13_bitCount] at h
  refine lv_lload_n hx hb dJ13_bitCount_0 rfl (lv_at hl 0 rfl) ?_
  refine lv_lload_n hx hb dJ13_bitCount_1 rfl (lv_at hl 0 rfl) ?_
  refine lv_iconst (v := 1) hx hb dJ13_bitCount_2 (by decide) ?_
  refine lv_lushr (v := (jlushr x0 1)) hx hb dJ13_bitCount_3 rfl ?_
  refine lv_ldc2 hx hb hown (hts _ q573) dJ13_bitCount_4 ?_
  refine lv_land hx hb dJ13_bitCount_7 ?_
  refine lv_lsub hx hb dJ13_bitCount_8 ?_
  refine lv_lstore_n (lv' := [(0, .long (x0 - ((jlushr x0 1) &&& 6148914691236517205)))]) hx hb dJ13_bitCount_9 rfl hl (by decide) rfl (fun ls hl => ?_)
  refine lv_lload_n hx hb dJ13_bitCount_10 rfl (lv_at hl 0 rfl) ?_
  refine lv_ldc2 hx hb hown (hts _ q574) dJ13_bitCount_11 ?_
  refine lv_land hx hb dJ13_bitCount_14 ?_
  refine lv_lload_n hx hb dJ13_bitCount_15 rfl (lv_at hl 0 rfl) ?_
  refine lv_iconst (v := 2) hx hb dJ13_bitCount_16 (by decide) ?_
  refine lv_lushr (v := (jlushr (x0 - ((jlushr x0 1) &&& 6148914691236517205)) 2)) hx hb dJ13_bitCount_17 rfl ?_
  refine lv_ldc2 hx hb hown (hts _ q574) dJ13_bitCount_18 ?_
  refine lv_land hx hb dJ13_bitCount_21 ?_
  refine lv_ladd hx hb dJ13_bitCount_22 ?_
  refine lv_lstore_n (lv' := [(0, .long (((x0 - ((jlushr x0 1) &&& 6148914691236517205)) &&& 3689348814741910323) + ((jlushr (x0 - ((jlushr x0 1) &&& 6148914691236517205)) 2) &&& 3689348814741910323)))]) hx hb dJ13_bitCount_23 rfl hl (by decide) rfl (fun ls hl => ?_)
  refine lv_lload_n hx hb dJ13_bitCount_24 rfl (lv_at hl 0 rfl) ?_
  refine lv_lload_n hx hb dJ13_bitCount_25 rfl (lv_at hl 0 rfl) ?_
  refine lv_iconst (v := 4) hx hb dJ13_bitCount_26 (by decide) ?_
  refine lv_lushr (v := (jlushr (((x0 - ((jlushr x0 1) &&& 6148914691236517205)) &&& 3689348814741910323) + ((jlushr (x0 - ((jlushr x0 1) &&& 6148914691236517205)) 2) &&& 3689348814741910323)) 4)) hx hb dJ13_bitCount_27 rfl ?_
  refine lv_ladd hx hb dJ13_bitCount_28 ?_
  refine lv_ldc2 hx hb hown (hts _ q575) dJ13_bitCount_29 ?_
  refine lv_land hx hb dJ13_bitCount_32 ?_
  refine lv_lstore_n (lv' := [(0, .long (((((x0 - ((jlushr x0 1) &&& 6148914691236517205)) &&& 3689348814741910323) + ((jlushr (x0 - ((jlushr x0 1) &&& 6148914691236517205)) 2) &&& 3689348814741910323)) + (jlushr (((x0 - ((jlushr x0 1) &&& 6148914691236517205)) &&& 3689348814741910323) + ((jlushr (x0 - ((jlushr x0 1) &&& 6148914691236517205)) 2) &&& 3689348814741910323)) 4)) &&& 1085102592571150095))]) hx hb dJ13_bitCount_33 rfl hl (by decide) rfl (fun ls hl => ?_)
  refine lv_lload_n hx hb dJ13_bitCount_34 rfl (lv_at hl 0 rfl) ?_
  refine lv_lload_n hx hb dJ13_bitCount_35 rfl (lv_at hl 0 rfl) ?_
  refine lv_bipush (v := 8) hx hb dJ13_bitCount_36 (by decide) ?_
  refine lv_lushr (v := (jlushr (((((x0 - ((jlushr x0 1) &&& 6148914691236517205)) &&& 3689348814741910323) + ((jlushr (x0 - ((jlushr x0 1) &&& 6148914691236517205)) 2) &&& 3689348814741910323)) + (jlushr (((x0 - ((jlushr x0 1) &&& 6148914691236517205)) &&& 3689348814741910323) + ((jlushr (x0 - ((jlushr x0 1) &&& 6148914691236517205)) 2) &&& 3689348814741910323)) 4)) &&& 1085102592571150095) 8)) hx hb dJ13_bitCount_38 rfl ?_
  refine lv_ladd hx hb dJ13_bitCount_39 ?_
  refine lv_lstore_n (lv' := [(0, .long ((((((x0 - ((jlushr x0 1) &&& 6148914691236517205)) &&& 3689348814741910323) + ((jlushr (x0 - ((jlushr x0 1) &&& 6148914691236517205)) 2) &&& 3689348814741910323)) + (jlushr (((x0 - ((jlushr x0 1) &&& 6148914691236517205)) &&& 3689348814741910323) + ((jlushr (x0 - ((jlushr x0 1) &&& 6148914691236517205)) 2) &&& 3689348814741910323)) 4)) &&& 1085102592571150095) + (jlushr (((((x0 - ((jlushr x0 1) &&& 6148914691236517205)) &&& 3689348814741910323) + ((jlushr (x0 - ((jlushr x0 1) &&& 6148914691236517205)) 2) &&& 3689348814741910323)) + (jlushr (((x0 - ((jlushr x0 1) &&& 6148914691236517205)) &&& 3689348814741910323) + ((jlushr (x0 - ((jlushr x0 1) &&& 6148914691236517205)) 2) &&& 3689348814741910323)) 4)) &&& 1085102592571150095) 8)))]) hx hb dJ13_bitCount_40 rfl hl (by decide) rfl (fun ls hl => ?_)
  refine lv_lload_n hx hb dJ13_bitCount_41 rfl (lv_at hl 0 rfl) ?_
  refine lv_lload_n hx hb dJ13_bitCount_42 rfl (lv_at hl 0 rfl) ?_
  refine lv_bipush (v := 16) hx hb dJ13_bitCount_43 (by decide) ?_
  refine lv_lushr (v := (jlushr ((((((x0 - ((jlushr x0 1) &&& 6148914691236517205)) &&& 3689348814741910323) + ((jlushr (x0 - ((jlushr x0 1) &&& 6148914691236517205)) 2) &&& 3689348814741910323)) + (jlushr (((x0 - ((jlushr x0 1) &&& 6148914691236517205)) &&& 3689348814741910323) + ((jlushr (x0 - ((jlushr x0 1) &&& 6148914691236517205)) 2) &&& 3689348814741910323)) 4)) &&& 1085102592571150095) + (jlushr (((((x0 - ((jlushr x0 1) &&& 6148914691236517205)) &&& 3689348814741910323) + ((jlushr (x0 - ((jlushr x0 1) &&& 6148914691236517205)) 2) &&& 3689348814741910323)) + (jlushr (((x0 - ((jlushr x0 1) &&& 6148914691236517205)) &&& 3689348814741910323) + ((jlushr (x0 - ((jlushr x0 1) &&& 6148914691236517205)) 2) &&& 3689348814741910323)) 4)) &&& 1085102592571150095) 8)) 16)) hx hb dJ13_bitCount_45 rfl ?_
  refine lv_ladd hx hb dJ13_bitCount_46 ?_
  refine lv_lstore_n (lv' := [(0, .long (((((((x0 - ((jlushr x0 1) &&& 6148914691236517205)) &&& 3689348814741910323) + ((jlushr (x0 - ((jlushr x0 1) &&& 6148914691236517205)) 2) &&& 3689348814741910323)) + (jlushr (((x0 - ((jlushr x0 1) &&& 6148914691236517205)) &&& 3689348814741910323) + ((jlushr (x0 - ((jlushr x0 1) &&& 6148914691236517205)) 2) &&& 3689348814741910323)) 4)) &&& 1085102592571150095) + (jlushr (((((x0 - ((jlushr x0 1) &&& 6148914691236517205)) &&& 3689348814741910323) + ((jlushr (x0 - ((jlushr x0 1) &&& 6148914691236517205)) 2) &&& 3689348814741910323)) + (jlushr (((x0 - ((jlushr x0 1) &&& 6148914691236517205)) &&& 3689348814741910323) + ((jlushr (x0 - ((jlushr x0 1) &&& 6148914691236517205)) 2) &&& 3689348814741910323)) 4)) &&& 1085102592571150095) 8)) + (jlushr ((((((x0 - ((jlushr x0 1) &&& 6148914691236517205)) &&& 3689348814741910323) + ((jlushr (x0 - ((jlushr x0 1) &&& 6148914691236517205)) 2) &&& 3689348814741910323)) + (jlushr (((x0 - ((jlushr x0 1) &&& 6148914691236517205)) &&& 3689348814741910323) + ((jlushr (x0 - ((jlushr x0 1) &&& 6148914691236517205)) 2) &&& 3689348814741910323)) 4)) &&& 1085102592571150095) + (jlushr (((((x0 - ((jlushr x0 1) &&& 6148914691236517205)) &&& 3689348814741910323) + ((jlushr (x0 - ((jlushr x0 1) &&& 6148914691236517205)) 2) &&& 3689348814741910323)) + (jlushr (((x0 - ((jlushr x0 1) &&& 6148914691236517205)) &&& 3689348814741910323) + ((jlushr (x0 - ((jlushr x0 1) &&& 6148914691236517205)) 2) &&& 3689348814741910323)) 4)) &&& 1085102592571150095) 8)) 16)))]) hx hb dJ13_bitCount_47 rfl hl (by decide) rfl (fun ls hl => ?_)
  refine lv_lload_n hx hb dJ13_bitCount_48 rfl (lv_at hl 0 rfl) ?_
  refine lv_lload_n hx hb dJ13_bitCount_49 rfl (lv_at hl 0 rfl) ?_
  refine lv_bipush (v := 32) hx hb dJ13_bitCount_50 (by decide) ?_
  refine lv_lushr (v := (jlushr (((((((x0 - ((jlushr x0 1) &&& 6148914691236517205)) &&& 3689348814741910323) + ((jlushr (x0 - ((jlushr x0 1) &&& 6148914691236517205)) 2) &&& 3689348814741910323)) + (jlushr (((x0 - ((jlushr x0 1) &&& 6148914691236517205)) &&& 3689348814741910323) + ((jlushr (x0 - ((jlushr x0 1) &&& 6148914691236517205)) 2) &&& 3689348814741910323)) 4)) &&& 1085102592571150095) + (jlushr (((((x0 - ((jlushr x0 1) &&& 6148914691236517205)) &&& 3689348814741910323) + ((jlushr (x0 - ((jlushr x0 1) &&& 6148914691236517205)) 2) &&& 3689348814741910323)) + (jlushr (((x0 - ((jlushr x0 1) &&& 6148914691236517205)) &&& 3689348814741910323) + ((jlushr (x0 - ((jlushr x0 1) &&& 6148914691236517205)) 2) &&& 3689348814741910323)) 4)) &&& 1085102592571150095) 8)) + (jlushr ((((((x0 - ((jlushr x0 1) &&& 6148914691236517205)) &&& 3689348814741910323) + ((jlushr (x0 - ((jlushr x0 1) &&& 6148914691236517205)) 2) &&& 3689348814741910323)) + (jlushr (((x0 - ((jlushr x0 1) &&& 6148914691236517205)) &&& 3689348814741910323) + ((jlushr (x0 - ((jlushr x0 1) &&& 6148914691236517205)) 2) &&& 3689348814741910323)) 4)) &&& 1085102592571150095) + (jlushr (((((x0 - ((jlushr x0 1) &&& 6148914691236517205)) &&& 3689348814741910323) + ((jlushr (x0 - ((jlushr x0 1) &&& 6148914691236517205)) 2) &&& 3689348814741910323)) + (jlushr (((x0 - ((jlushr x0 1) &&& 6148914691236517205)) &&& 3689348814741910323) + ((jlushr (x0 - ((jlushr x0 1) &&& 6148914691236517205)) 2) &&& 3689348814741910323)) 4)) &&& 1085102592571150095) 8)) 16)) 32)) hx hb dJ13_bitCount_52 rfl ?_
  refine lv_ladd hx hb dJ13_bitCount_53 ?_
  refine lv_lstore_n (lv' := [(0, .long ((((((((x0 - ((jlushr x0 1) &&& 6148914691236517205)) &&& 3689348814741910323) + ((jlushr (x0 - ((jlushr x0 1) &&& 6148914691236517205)) 2) &&& 3689348814741910323)) + (jlushr (((x0 - ((jlushr x0 1) &&& 6148914691236517205)) &&& 3689348814741910323) + ((jlushr (x0 - ((jlushr x0 1) &&& 6148914691236517205)) 2) &&& 3689348814741910323)) 4)) &&& 1085102592571150095) + (jlushr (((((x0 - ((jlushr x0 1) &&& 6148914691236517205)) &&& 3689348814741910323) + ((jlushr (x0 - ((jlushr x0 1) &&& 6148914691236517205)) 2) &&& 3689348814741910323)) + (jlushr (((x0 - ((jlushr x0 1) &&& 6148914691236517205)) &&& 3689348814741910323) + ((jlushr (x0 - ((jlushr x0 1) &&& 6148914691236517205)) 2) &&& 3689348814741910323)) 4)) &&& 1085102592571150095) 8)) + (jlushr ((((((x0 - ((jlushr x0 1) &&& 6148914691236517205)) &&& 3689348814741910323) + ((jlushr (x0 - ((jlushr x0 1) &&& 6148914691236517205)) 2) &&& 3689348814741910323)) + (jlushr (((x0 - ((jlushr x0 1) &&& 6148914691236517205)) &&& 3689348814741910323) + ((jlushr (x0 - ((jlushr x0 1) &&& 6148914691236517205)) 2) &&& 3689348814741910323)) 4)) &&& 1085102592571150095) + (jlushr (((((x0 - ((jlushr x0 1) &&& 6148914691236517205)) &&& 3689348814741910323) + ((jlushr (x0 - ((jlushr x0 1) &&& 6148914691236517205)) 2) &&& 3689348814741910323)) + (jlushr (((x0 - ((jlushr x0 1) &&& 6148914691236517205)) &&& 3689348814741910323) + ((jlushr (x0 - ((jlushr x0 1) &&& 6148914691236517205)) 2) &&& 3689348814741910323)) 4)) &&& 1085102592571150095) 8)) 16)) + (jlushr (((((((x0 - ((jlushr x0 1) &&& 6148914691236517205)) &&& 3689348814741910323) + ((jlushr (x0 - ((jlushr x0 1) &&& 6148914691236517205)) 2) &&& 3689348814741910323)) + (jlushr (((x0 - ((jlushr x0 1) &&& 6148914691236517205)) &&& 3689348814741910323) + ((jlushr (x0 - ((jlushr x0 1) &&& 6148914691236517205)) 2) &&& 3689348814741910323)) 4)) &&& 1085102592571150095) + (jlushr (((((x0 - ((jlushr x0 1) &&& 6148914691236517205)) &&& 3689348814741910323) + ((jlushr (x0 - ((jlushr x0 1) &&& 6148914691236517205)) 2) &&& 3689348814741910323)) + (jlushr (((x0 - ((jlushr x0 1) &&& 6148914691236517205)) &&& 3689348814741910323) + ((jlushr (x0 - ((jlushr x0 1) &&& 6148914691236517205)) 2) &&& 3689348814741910323)) 4)) &&& 1085102592571150095) 8)) + (jlushr ((((((x0 - ((jlushr x0 1) &&& 6148914691236517205)) &&& 3689348814741910323) + ((jlushr (x0 - ((jlushr x0 1) &&& 6148914691236517205)) 2) &&& 3689348814741910323)) + (jlushr (((x0 - ((jlushr x0 1) &&& 6148914691236517205)) &&& 3689348814741910323) + ((jlushr (x0 - ((jlushr x0 1) &&& 6148914691236517205)) 2) &&& 3689348814741910323)) 4)) &&& 1085102592571150095) + (jlushr (((((x0 - ((jlushr x0 1) &&& 6148914691236517205)) &&& 3689348814741910323) + ((jlushr (x0 - ((jlushr x0 1) &&& 6148914691236517205)) 2) &&& 3689348814741910323)) + (jlushr (((x0 - ((jlushr x0 1) &&& 6148914691236517205)) &&& 3689348814741910323) + ((jlushr (x0 - ((jlushr x0 1) &&& 6148914691236517205)) 2) &&& 3689348814741910323)) 4)) &&& 1085102592571150095) 8)) 16)) 32)))]) hx hb dJ13_bitCount_54 rfl hl (by decide) rfl (fun ls hl => ?_)
  refine lv_lload_n hx hb dJ13_bitCount_55 rfl (lv_at hl 0 rfl) ?_
  refine lv_l2i (v := ((((((((x0 - ((jlushr x0 1) &&& 6148914691236517205)) &&& 3689348814741910323) + ((jlushr (x0 - ((jlushr x0 1) &&& 6148914691236517205)) 2) &&& 3689348814741910323)) + (jlushr (((x0 - ((jlushr x0 1) &&& 6148914691236517205)) &&& 3689348814741910323) + ((jlushr (x0 - ((jlushr x0 1) &&& 6148914691236517205)) 2) &&& 3689348814741910323)) 4)) &&& 1085102592571150095) + (jlushr (((((x0 - ((jlushr x0 1) &&& 6148914691236517205)) &&& 3689348814741910323) + ((jlushr (x0 - ((jlushr x0 1) &&& 6148914691236517205)) 2) &&& 3689348814741910323)) + (jlushr (((x0 - ((jlushr x0 1) &&& 6148914691236517205)) &&& 3689348814741910323) + ((jlushr (x0 - ((jlushr x0 1) &&& 6148914691236517205)) 2) &&& 3689348814741910323)) 4)) &&& 1085102592571150095) 8)) + (jlushr ((((((x0 - ((jlushr x0 1) &&& 6148914691236517205)) &&& 3689348814741910323) + ((jlushr (x0 - ((jlushr x0 1) &&& 6148914691236517205)) 2) &&& 3689348814741910323)) + (jlushr (((x0 - ((jlushr x0 1) &&& 6148914691236517205)) &&& 3689348814741910323) + ((jlushr (x0 - ((jlushr x0 1) &&& 6148914691236517205)) 2) &&& 3689348814741910323)) 4)) &&& 1085102592571150095) + (jlushr (((((x0 - ((jlushr x0 1) &&& 6148914691236517205)) &&& 3689348814741910323) + ((jlushr (x0 - ((jlushr x0 1) &&& 6148914691236517205)) 2) &&& 3689348814741910323)) + (jlushr (((x0 - ((jlushr x0 1) &&& 6148914691236517205)) &&& 3689348814741910323) + ((jlushr (x0 - ((jlushr x0 1) &&& 6148914691236517205)) 2) &&& 3689348814741910323)) 4)) &&& 1085102592571150095) 8)) 16)) + (jlushr (((((((x0 - ((jlushr x0 1) &&& 6148914691236517205)) &&& 3689348814741910323) + ((jlushr (x0 - ((jlushr x0 1) &&& 6148914691236517205)) 2) &&& 3689348814741910323)) + (jlushr (((x0 - ((jlushr x0 1) &&& 6148914691236517205)) &&& 3689348814741910323) + ((jlushr (x0 - ((jlushr x0 1) &&& 6148914691236517205)) 2) &&& 3689348814741910323)) 4)) &&& 1085102592571150095) + (jlushr (((((x0 - ((jlushr x0 1) &&& 6148914691236517205)) &&& 3689348814741910323) + ((jlushr (x0 - ((jlushr x0 1) &&& 6148914691236517205)) 2) &&& 3689348814741910323)) + (jlushr (((x0 - ((jlushr x0 1) &&& 6148914691236517205)) &&& 3689348814741910323) + ((jlushr (x0 - ((jlushr x0 1) &&& 6148914691236517205)) 2) &&& 3689348814741910323)) 4)) &&& 1085102592571150095) 8)) + (jlushr ((((((x0 - ((jlushr x0 1) &&& 6148914691236517205)) &&& 3689348814741910323) + ((jlushr (x0 - ((jlushr x0 1) &&& 6148914691236517205)) 2) &&& 3689348814741910323)) + (jlushr (((x0 - ((jlushr x0 1) &&& 6148914691236517205)) &&& 3689348814741910323) + ((jlushr (x0 - ((jlushr x0 1) &&& 6148914691236517205)) 2) &&& 3689348814741910323)) 4)) &&& 1085102592571150095) + (jlushr (((((x0 - ((jlushr x0 1) &&& 6148914691236517205)) &&& 3689348814741910323) + ((jlushr (x0 - ((jlushr x0 1) &&& 6148914691236517205)) 2) &&& 3689348814741910323)) + (jlushr (((x0 - ((jlushr x0 1) &&& 6148914691236517205)) &&& 3689348814741910323) + ((jlushr (x0 - ((jlushr x0 1) &&& 6148914691236517205)) 2) &&& 3689348814741910323)) 4)) &&& 1085102592571150095) 8)) 16)) 32)).toInt32) hx hb dJ13_bitCount_56 rfl ?_
  refine lv_bipush (v := 127) hx hb dJ13_bitCount_57 (by decide) ?_
  refine lv_iand hx hb dJ13_bitCount_59 ?_
  obtain rfl := Option.some.inj h
  exact W.iret hx hb hr (fun t ht hW => ⟨_, rfl, rfl, ht⟩) (fun _ hq => by cases hq) dJ13_bitCount_60
abbrev rm_J19_numberOfTrailingZeros : Room := { frames := 1, cells := 0, slots := 0, locals := 12 }
def lp_J19_numberOfTrailingZeros_74 (N : Nat) (x0 : Int32) (x1 : Int32) : Option (Int32) :=
  some (x1 + (jiushr x0 1))
set_option maxHeartbeats 4000000 in
theorem w_J19_numberOfTrailingZeros_74 {p : Program} {l : Launch} {e : Env} {s : State} {m : MethodId} {args : Array Value} {below : List Frame} {meth : Method} {c : Code} {D : va_G} {cA : Nat → ClassId}  {N : Nat}  (C : ga_cx p m c meth s args RJ19 cJ19_numberOfTrailingZeros 2 (some .int)) (hK : ga_K D cA s) (hP : va_P D ga_cl [] s.heap) {out : Int32} : ∀ (x0 : Int32) (x1 : Int32), lp_J19_numberOfTrailingZeros_74 N x0 x1 = some out → ∀ ls : Array Slot, lv_has ls 2 [(0, .int x0), (1, .int x1)] → W p l e (headSpec (ws_ yJ19_numberOfTrailingZeros cJ19_numberOfTrailingZeros 2 (some .int)) rm_J19_numberOfTrailingZeros).room s m args below meth c s.heap [] 0 0 (MQ below (vp_Si (fun r => out = r)) args s 0 0 ga_F) (F0 m 74 ls []) := by
  have C0 := C
  obtain ⟨hx, hb, hr, hlocks, hml, hown, hts⟩ := C0
  intro x0 x1 h ls hl
  rw [lp_J19_numberOfTrailingZeros_74.eq_1] at h
  refine lv_iload_n hx hb dJ19_numberOfTrailingZeros_74 rfl (lv_at hl 1 rfl) ?_
  refine lv_iload_n hx hb dJ19_numberOfTrailingZeros_75 rfl (lv_at hl 0 rfl) ?_
  refine lv_iconst (v := 1) hx hb dJ19_numberOfTrailingZeros_76 (by decide) ?_
  refine lv_iushr (v := (jiushr x0 1)) hx hb dJ19_numberOfTrailingZeros_77 rfl ?_
  refine lv_iadd hx hb dJ19_numberOfTrailingZeros_78 ?_
  obtain rfl := Option.some.inj h
  exact W.iret hx hb hr (fun t ht hW => ⟨_, rfl, rfl, ht⟩) (fun _ hq => by cases hq) dJ19_numberOfTrailingZeros_79
def lp_J19_numberOfTrailingZeros_62 (N : Nat) (x0 : Int32) (x1 : Int32) : Option (Int32) :=
  (if x0 ≤ 4 then
  lp_J19_numberOfTrailingZeros_74 N x0 x1
  else
  lp_J19_numberOfTrailingZeros_74 N (jiushr x0 2) (x1 + 2))
set_option maxHeartbeats 4000000 in
theorem w_J19_numberOfTrailingZeros_62 {p : Program} {l : Launch} {e : Env} {s : State} {m : MethodId} {args : Array Value} {below : List Frame} {meth : Method} {c : Code} {D : va_G} {cA : Nat → ClassId}  {N : Nat}  (C : ga_cx p m c meth s args RJ19 cJ19_numberOfTrailingZeros 2 (some .int)) (hK : ga_K D cA s) (hP : va_P D ga_cl [] s.heap) {out : Int32} : ∀ (x0 : Int32) (x1 : Int32), lp_J19_numberOfTrailingZeros_62 N x0 x1 = some out → ∀ ls : Array Slot, lv_has ls 2 [(0, .int x0), (1, .int x1)] → W p l e (headSpec (ws_ yJ19_numberOfTrailingZeros cJ19_numberOfTrailingZeros 2 (some .int)) rm_J19_numberOfTrailingZeros).room s m args below meth c s.heap [] 0 0 (MQ below (vp_Si (fun r => out = r)) args s 0 0 ga_F) (F0 m 62 ls []) := by
  have C0 := C
  obtain ⟨hx, hb, hr, hlocks, hml, hown, hts⟩ := C0
  intro x0 x1 h ls hl
  rw [lp_J19_numberOfTrailingZeros_62.eq_1] at h
  refine lv_iload_n hx hb dJ19_numberOfTrailingZeros_62 rfl (lv_at hl 0 rfl) ?_
  refine lv_iconst (v := 4) hx hb dJ19_numberOfTrailingZeros_63 (by decide) ?_
  refine lv_icmp_le (tgt := 74) hx hb dJ19_numberOfTrailingZeros_64 (by decide) (fun c_5 => ?_) (fun c_5 => ?_)
  · replace h := ga_ift c_5 h
    exact w_J19_numberOfTrailingZeros_74 C hK hP x0 x1 h _ (lv_sub hl [0, 1] rfl)
  · replace h := ga_iff c_5 h
    refine lv_iinc (v := (x1 + 2)) (lv' := [(1, .int (x1 + 2)), (0, .int x0)]) hx hb dJ19_numberOfTrailingZeros_67 hl (k := 1) rfl rfl (by decide) rfl (fun ls hl => ?_)
    refine lv_iload_n hx hb dJ19_numberOfTrailingZeros_70 rfl (lv_at hl 1 rfl) ?_
    refine lv_iconst (v := 2) hx hb dJ19_numberOfTrailingZeros_71 (by decide) ?_
    refine lv_iushr (v := (jiushr x0 2)) hx hb dJ19_numberOfTrailingZeros_72 rfl ?_
    refine lv_istore_n (lv' := [(0, .int (jiushr x0 2)), (1, .int (x1 + 2))]) hx hb dJ19_numberOfTrailingZeros_73 rfl hl (by decide) rfl (fun ls hl => ?_)
    exact w_J19_numberOfTrailingZeros_74 C hK hP (jiushr x0 2) (x1 + 2) h _ (lv_sub hl [0, 1] rfl)
def lp_J19_numberOfTrailingZeros_49 (N : Nat) (x0 : Int32) (x1 : Int32) : Option (Int32) :=
  (if x0 ≤ 16 then
  lp_J19_numberOfTrailingZeros_62 N x0 x1
  else
  lp_J19_numberOfTrailingZeros_62 N (jiushr x0 4) (x1 + 4))
set_option maxHeartbeats 4000000 in
theorem w_J19_numberOfTrailingZeros_49 {p : Program} {l : Launch} {e : Env} {s : State} {m : MethodId} {args : Array Value} {below : List Frame} {meth : Method} {c : Code} {D : va_G} {cA : Nat → ClassId}  {N : Nat}  (C : ga_cx p m c meth s args RJ19 cJ19_numberOfTrailingZeros 2 (some .int)) (hK : ga_K D cA s) (hP : va_P D ga_cl [] s.heap) {out : Int32} : ∀ (x0 : Int32) (x1 : Int32), lp_J19_numberOfTrailingZeros_49 N x0 x1 = some out → ∀ ls : Array Slot, lv_has ls 2 [(0, .int x0), (1, .int x1)] → W p l e (headSpec (ws_ yJ19_numberOfTrailingZeros cJ19_numberOfTrailingZeros 2 (some .int)) rm_J19_numberOfTrailingZeros).room s m args below meth c s.heap [] 0 0 (MQ below (vp_Si (fun r => out = r)) args s 0 0 ga_F) (F0 m 49 ls []) := by
  have C0 := C
  obtain ⟨hx, hb, hr, hlocks, hml, hown, hts⟩ := C0
  intro x0 x1 h ls hl
  rw [lp_J19_numberOfTrailingZeros_49.eq_1] at h
  refine lv_iload_n hx hb dJ19_numberOfTrailingZeros_49 rfl (lv_at hl 0 rfl) ?_
  refine lv_bipush (v := 16) hx hb dJ19_numberOfTrailingZeros_50 (by decide) ?_
  refine lv_icmp_le (tgt := 62) hx hb dJ19_numberOfTrailingZeros_52 (by decide) (fun c_4 => ?_) (fun c_4 => ?_)
  · replace h := ga_ift c_4 h
    exact w_J19_numberOfTrailingZeros_62 C hK hP x0 x1 h _ (lv_sub hl [0, 1] rfl)
  · replace h := ga_iff c_4 h
    refine lv_iinc (v := (x1 + 4)) (lv' := [(1, .int (x1 + 4)), (0, .int x0)]) hx hb dJ19_numberOfTrailingZeros_55 hl (k := 1) rfl rfl (by decide) rfl (fun ls hl => ?_)
    refine lv_iload_n hx hb dJ19_numberOfTrailingZeros_58 rfl (lv_at hl 1 rfl) ?_
    refine lv_iconst (v := 4) hx hb dJ19_numberOfTrailingZeros_59 (by decide) ?_
    refine lv_iushr (v := (jiushr x0 4)) hx hb dJ19_numberOfTrailingZeros_60 rfl ?_
    refine lv_istore_n (lv' := [(0, .int (jiushr x0 4)), (1, .int (x1 + 4))]) hx hb dJ19_numberOfTrailingZeros_61 rfl hl (by decide) rfl (fun ls hl => ?_)
    exact w_J19_numberOfTrailingZeros_62 C hK hP (jiushr x0 4) (x1 + 4) h _ (lv_sub hl [0, 1] rfl)
def lp_J19_numberOfTrailingZeros_34 (N : Nat) (x0 : Int32) (x1 : Int32) : Option (Int32) :=
  (if x0 ≤ 256 then
  lp_J19_numberOfTrailingZeros_49 N x0 x1
  else
  lp_J19_numberOfTrailingZeros_49 N (jiushr x0 8) (x1 + 8))
set_option maxHeartbeats 4000000 in
theorem w_J19_numberOfTrailingZeros_34 {p : Program} {l : Launch} {e : Env} {s : State} {m : MethodId} {args : Array Value} {below : List Frame} {meth : Method} {c : Code} {D : va_G} {cA : Nat → ClassId}  {N : Nat}  (C : ga_cx p m c meth s args RJ19 cJ19_numberOfTrailingZeros 2 (some .int)) (hK : ga_K D cA s) (hP : va_P D ga_cl [] s.heap) {out : Int32} : ∀ (x0 : Int32) (x1 : Int32), lp_J19_numberOfTrailingZeros_34 N x0 x1 = some out → ∀ ls : Array Slot, lv_has ls 2 [(0, .int x0), (1, .int x1)] → W p l e (headSpec (ws_ yJ19_numberOfTrailingZeros cJ19_numberOfTrailingZeros 2 (some .int)) rm_J19_numberOfTrailingZeros).room s m args below meth c s.heap [] 0 0 (MQ below (vp_Si (fun r => out = r)) args s 0 0 ga_F) (F0 m 34 ls []) := by
  have C0 := C
  obtain ⟨hx, hb, hr, hlocks, hml, hown, hts⟩ := C0
  intro x0 x1 h ls hl
  rw [lp_J19_numberOfTrailingZeros_34.eq_1] at h
  refine lv_iload_n hx hb dJ19_numberOfTrailingZeros_34 rfl (lv_at hl 0 rfl) ?_
  refine lv_sipush (v := 256) hx hb dJ19_numberOfTrailingZeros_35 (by decide) ?_
  refine lv_icmp_le (tgt := 49) hx hb dJ19_numberOfTrailingZeros_38 (by decide) (fun c_3 => ?_) (fun c_3 => ?_)
  · replace h := ga_ift c_3 h
    exact w_J19_numberOfTrailingZeros_49 C hK hP x0 x1 h _ (lv_sub hl [0, 1] rfl)
  · replace h := ga_iff c_3 h
    refine lv_iinc (v := (x1 + 8)) (lv' := [(1, .int (x1 + 8)), (0, .int x0)]) hx hb dJ19_numberOfTrailingZeros_41 hl (k := 1) rfl rfl (by decide) rfl (fun ls hl => ?_)
    refine lv_iload_n hx hb dJ19_numberOfTrailingZeros_44 rfl (lv_at hl 1 rfl) ?_
    refine lv_bipush (v := 8) hx hb dJ19_numberOfTrailingZeros_45 (by decide) ?_
    refine lv_iushr (v := (jiushr x0 8)) hx hb dJ19_numberOfTrailingZeros_47 rfl ?_
    refine lv_istore_n (lv' := [(0, .int (jiushr x0 8)), (1, .int (x1 + 8))]) hx hb dJ19_numberOfTrailingZeros_48 rfl hl (by decide) rfl (fun ls hl => ?_)
    exact w_J19_numberOfTrailingZeros_49 C hK hP (jiushr x0 8) (x1 + 8) h _ (lv_sub hl [0, 1] rfl)
def F_J19_numberOfTrailingZeros (N : Nat)  (x0 : Int32) : Option (Int32) :=
  (if 0 < ((x0 ^^^ (-1)) &&& (x0 - 1)) then
  (if ((x0 ^^^ (-1)) &&& (x0 - 1)) ≤ 65536 then
  lp_J19_numberOfTrailingZeros_34 N ((x0 ^^^ (-1)) &&& (x0 - 1)) 1
  else
  lp_J19_numberOfTrailingZeros_34 N (jiushr ((x0 ^^^ (-1)) &&& (x0 - 1)) 16) (1 + 16))
  else
  some (((x0 ^^^ (-1)) &&& (x0 - 1)) &&& 32))
set_option maxHeartbeats 4000000 in
theorem met_J19_numberOfTrailingZeros (l : Launch) (D : va_G) (cA : Nat → ClassId)   (N : Nat) (x0 : Int32)  (out : Int32) (h : F_J19_numberOfTrailingZeros N x0 = some out) : Met l yJ19_numberOfTrailingZeros (ws_ yJ19_numberOfTrailingZeros cJ19_numberOfTrailingZeros 2 (some .int)) rm_J19_numberOfTrailingZeros (ga_P D cA [] [.int x0]) (vp_Si (fun r => out = r)) 0 0 ga_F := by
  refine Met.ofW (cc := cJ19_numberOfTrailingZeros) (maxL := 2) (ret := (some .int)) (by decide) rfl ?_
  intro p e s m args below meth c s₁ B hml hv
  obtain ⟨rfl, hP, hK⟩ := hv
  have C : ga_cx p m c meth s _ RJ19 cJ19_numberOfTrailingZeros 2 (some .int) := ga_cx_of B hml
  have C0 := C
  obtain ⟨hx, hb, hr, hlocks, hml, hown, hts⟩ := C0
  have hl := lv_entry ([.int x0]) (n := 2) (Nat.le_of_ble_eq_true rfl)
  rw [lg_entry_eq]
  generalize (lg_sl ([.int x0]) ++ List.replicate (2 - (lg_sl ([.int x0])).length) Slot.unset).toArray = ls at hl ⊢
  have hl : lv_has ls 2 [(0, .int x0)] := hl
  rw [F_J19_numberOfTrailingZeros] at h
  refine lv_iload_n hx hb dJ19_numberOfTrailingZeros_0 rfl (lv_at hl 0 rfl) ?_
  refine lv_iconst (v := (-1)) hx hb dJ19_numberOfTrailingZeros_1 (by decide) ?_
  refine lv_ixor hx hb dJ19_numberOfTrailingZeros_2 ?_
  refine lv_iload_n hx hb dJ19_numberOfTrailingZeros_3 rfl (lv_at hl 0 rfl) ?_
  refine lv_iconst (v := 1) hx hb dJ19_numberOfTrailingZeros_4 (by decide) ?_
  refine lv_isub hx hb dJ19_numberOfTrailingZeros_5 ?_
  refine lv_iand hx hb dJ19_numberOfTrailingZeros_6 ?_
  refine lv_istore_n (lv' := [(0, .int ((x0 ^^^ (-1)) &&& (x0 - 1)))]) hx hb dJ19_numberOfTrailingZeros_7 rfl hl (by decide) rfl (fun ls hl => ?_)
  refine lv_iload_n hx hb dJ19_numberOfTrailingZeros_8 rfl (lv_at hl 0 rfl) ?_
  refine lv_if_gt (tgt := 17) hx hb dJ19_numberOfTrailingZeros_9 (by decide) (fun c_1 => ?_) (fun c_1 => ?_)
  · replace h := ga_ift c_1 h
    refine lv_iconst (v := 1) hx hb dJ19_numberOfTrailingZeros_17 (by decide) ?_
    refine lv_istore_n (lv' := [(1, .int 1), (0, .int ((x0 ^^^ (-1)) &&& (x0 - 1)))]) hx hb dJ19_numberOfTrailingZeros_18 rfl hl (by decide) rfl (fun ls hl => ?_)
    refine lv_iload_n hx hb dJ19_numberOfTrailingZeros_19 rfl (lv_at hl 1 rfl) ?_
    refine lv_ldcw hx hb hown (hts _ q951) dJ19_numberOfTrailingZeros_20 ?_
    refine lv_icmp_le (tgt := 34) hx hb dJ19_numberOfTrailingZeros_23 (by decide) (fun c_2 => ?_) (fun c_2 => ?_)
    · replace h := ga_ift c_2 h
      exact w_J19_numberOfTrailingZeros_34 C hK hP ((x0 ^^^ (-1)) &&& (x0 - 1)) 1 h _ (lv_sub hl [1, 0] rfl)
    · replace h := ga_iff c_2 h
      refine lv_iinc (v := (1 + 16)) (lv' := [(1, .int (1 + 16)), (0, .int ((x0 ^^^ (-1)) &&& (x0 - 1)))]) hx hb dJ19_numberOfTrailingZeros_26 hl (k := 0) rfl rfl (by decide) rfl (fun ls hl => ?_)
      refine lv_iload_n hx hb dJ19_numberOfTrailingZeros_29 rfl (lv_at hl 1 rfl) ?_
      refine lv_bipush (v := 16) hx hb dJ19_numberOfTrailingZeros_30 (by decide) ?_
      refine lv_iushr (v := (jiushr ((x0 ^^^ (-1)) &&& (x0 - 1)) 16)) hx hb dJ19_numberOfTrailingZeros_32 rfl ?_
      refine lv_istore_n (lv' := [(0, .int (jiushr ((x0 ^^^ (-1)) &&& (x0 - 1)) 16)), (1, .int (1 + 16))]) hx hb dJ19_numberOfTrailingZeros_33 rfl hl (by decide) rfl (fun ls hl => ?_)
      exact w_J19_numberOfTrailingZeros_34 C hK hP (jiushr ((x0 ^^^ (-1)) &&& (x0 - 1)) 16) (1 + 16) h _ (lv_sub hl [0, 1] rfl)
  · replace h := ga_iff c_1 h
    refine lv_iload_n hx hb dJ19_numberOfTrailingZeros_12 rfl (lv_at hl 0 rfl) ?_
    refine lv_bipush (v := 32) hx hb dJ19_numberOfTrailingZeros_13 (by decide) ?_
    refine lv_iand hx hb dJ19_numberOfTrailingZeros_15 ?_
    obtain rfl := Option.some.inj h
    exact W.iret hx hb hr (fun t ht hW => ⟨_, rfl, rfl, ht⟩) (fun _ hq => by cases hq) dJ19_numberOfTrailingZeros_16
abbrev rm_J13_numberOfTrailingZeros : Room := { frames := 2, cells := 0, slots := 0, locals := 33 }
def F_J13_numberOfTrailingZeros (N : Nat)  (x0 : Int64) : Option (Int32) :=
  (if x0.toInt32 = 0 then
  ((F_J19_numberOfTrailingZeros N ((jlushr x0 32).toInt32)).bind fun r_7 =>
  some (32 + r_7))
  else
  ((F_J19_numberOfTrailingZeros N x0.toInt32).bind fun r_2 =>
  some r_2))
set_option maxHeartbeats 4000000 in
theorem met_J13_numberOfTrailingZeros (l : Launch) (D : va_G) (cA : Nat → ClassId)   (N : Nat) (x0 : Int64)  (out : Int32) (h : F_J13_numberOfTrailingZeros N x0 = some out) : Met l yJ13_numberOfTrailingZeros (ws_ yJ13_numberOfTrailingZeros cJ13_numberOfTrailingZeros 3 (some .int)) rm_J13_numberOfTrailingZeros (ga_P D cA [] [.long x0]) (vp_Si (fun r => out = r)) 0 0 ga_F := by
  refine Met.ofW (cc := cJ13_numberOfTrailingZeros) (maxL := 3) (ret := (some .int)) (by decide) rfl ?_
  intro p e s m args below meth c s₁ B hml hv
  obtain ⟨rfl, hP, hK⟩ := hv
  have C : ga_cx p m c meth s _ RJ13 cJ13_numberOfTrailingZeros 3 (some .int) := ga_cx_of B hml
  have C0 := C
  obtain ⟨hx, hb, hr, hlocks, hml, hown, hts⟩ := C0
  have hl := lv_entry ([.long x0]) (n := 3) (Nat.le_of_ble_eq_true rfl)
  rw [lg_entry_eq]
  generalize (lg_sl ([.long x0]) ++ List.replicate (3 - (lg_sl ([.long x0])).length) Slot.unset).toArray = ls at hl ⊢
  have hl : lv_has ls 3 [(0, .long x0)] := hl
  rw [F_J13_numberOfTrailingZeros] at h
  refine lv_lload_n hx hb dJ13_numberOfTrailingZeros_0 rfl (lv_at hl 0 rfl) ?_
  refine lv_l2i (v := x0.toInt32) hx hb dJ13_numberOfTrailingZeros_1 rfl ?_
  refine lv_istore_n (lv' := [(2, .int x0.toInt32), (0, .long x0)]) hx hb dJ13_numberOfTrailingZeros_2 rfl hl (by decide) rfl (fun ls hl => ?_)
  refine lv_iload_n hx hb dJ13_numberOfTrailingZeros_3 rfl (lv_at hl 0 rfl) ?_
  refine lv_if_ne (tgt := 21) hx hb dJ13_numberOfTrailingZeros_4 (by decide) (fun c_1 => ?_) (fun c_1 => ?_)
  · replace h := ga_iff c_1 h
    refine lv_iload_n hx hb dJ13_numberOfTrailingZeros_21 rfl (lv_at hl 0 rfl) ?_
    obtain ⟨r_2, e_3, h⟩ := ga_gb h
    refine vp_callSi (va_Run.run (va_runS (As := [.int x0.toInt32]) (rest := []) ⟨hx, hb, hml, hown, hts⟩ (met_J19_numberOfTrailingZeros l D cA N x0.toInt32 r_2 e_3) (va_cwS 1 hts (lw_S q948 q949 q98 q950) rfl rfl rfl (by decide +kernel) ⟨Nat.le_of_ble_eq_true rfl, Nat.le_of_ble_eq_true rfl⟩) (ga_PS hK ga_P0) rfl rfl hl.1 rfl (lv_room (Nat.le_of_ble_eq_true rfl)) dJ13_numberOfTrailingZeros_22 ⟨Nat.le_of_ble_eq_true rfl, Nat.le_of_ble_eq_true rfl⟩)) (fun z_4 w_5 => ?_)
    obtain rfl := w_5
    obtain rfl := Option.some.inj h
    exact W.iret hx hb hr (fun t ht hW => ⟨_, rfl, rfl, ht⟩) (fun _ hq => by cases hq) dJ13_numberOfTrailingZeros_25
  · replace h := ga_ift c_1 h
    refine lv_bipush (v := 32) hx hb dJ13_numberOfTrailingZeros_7 (by decide) ?_
    refine lv_lload_n hx hb dJ13_numberOfTrailingZeros_9 rfl (lv_at hl 1 rfl) ?_
    refine lv_bipush (v := 32) hx hb dJ13_numberOfTrailingZeros_10 (by decide) ?_
    refine lv_lushr (v := (jlushr x0 32)) hx hb dJ13_numberOfTrailingZeros_12 rfl ?_
    refine lv_l2i (v := (jlushr x0 32).toInt32) hx hb dJ13_numberOfTrailingZeros_13 rfl ?_
    obtain ⟨r_7, e_8, h⟩ := ga_gb h
    refine vp_callSi (va_Run.run (va_runS (As := [.int ((jlushr x0 32).toInt32)]) (rest := [.int 32]) ⟨hx, hb, hml, hown, hts⟩ (met_J19_numberOfTrailingZeros l D cA N ((jlushr x0 32).toInt32) r_7 e_8) (va_cwS 1 hts (lw_S q948 q949 q98 q950) rfl rfl rfl (by decide +kernel) ⟨Nat.le_of_ble_eq_true rfl, Nat.le_of_ble_eq_true rfl⟩) (ga_PS hK ga_P0) rfl rfl hl.1 rfl (lv_room (Nat.le_of_ble_eq_true rfl)) dJ13_numberOfTrailingZeros_14 ⟨Nat.le_of_ble_eq_true rfl, Nat.le_of_ble_eq_true rfl⟩)) (fun z_9 w_10 => ?_)
    obtain rfl := w_10
    refine lv_iadd hx hb dJ13_numberOfTrailingZeros_17 ?_
    refine lv_goto (tgt := 25) hx hb dJ13_numberOfTrailingZeros_18 (by decide) ?_
    obtain rfl := Option.some.inj h
    exact W.iret hx hb hr (fun t ht hW => ⟨_, rfl, rfl, ht⟩) (fun _ hq => by cases hq) dJ13_numberOfTrailingZeros_25
abbrev rm_X1_size : Room := { frames := 2, cells := 0, slots := 0, locals := 33 }
def F_X1_size (N : Nat)  (x0 : Int64) : Option (Int32) :=
  some (V_J13_bitCount x0)
set_option maxHeartbeats 4000000 in
theorem met_X1_size (l : Launch) (D : va_G) (cA : Nat → ClassId)   (N : Nat) (x0 : Int64)  (out : Int32) (h : F_X1_size N x0 = some out) : Met l yX1_size (ws_ yX1_size cX1_size 2 (some .int)) rm_X1_size (ga_P D cA [] [.long x0]) (vp_Si (fun r => out = r)) 0 0 ga_F := by
  refine Met.ofW (cc := cX1_size) (maxL := 2) (ret := (some .int)) (by decide) rfl ?_
  intro p e s m args below meth c s₁ B hml hv
  obtain ⟨rfl, hP, hK⟩ := hv
  have C : ga_cx p m c meth s _ RX1 cX1_size 2 (some .int) := ga_cx_of B hml
  have C0 := C
  obtain ⟨hx, hb, hr, hlocks, hml, hown, hts⟩ := C0
  have hl := lv_entry ([.long x0]) (n := 2) (Nat.le_of_ble_eq_true rfl)
  rw [lg_entry_eq]
  generalize (lg_sl ([.long x0]) ++ List.replicate (2 - (lg_sl ([.long x0])).length) Slot.unset).toArray = ls at hl ⊢
  have hl : lv_has ls 2 [(0, .long x0)] := hl
  rw [F_X1_size] at h
  refine lv_lload_n hx hb dX1_size_0 rfl (lv_at hl 0 rfl) ?_
  refine vp_callSi (va_Run.run (va_runS (As := [.long x0]) (rest := []) ⟨hx, hb, hml, hown, hts⟩ (met_J13_bitCount l D cA N x0 (V_J13_bitCount x0) rfl) (va_cwS 1 hts (lw_S q570 q571 q87 q572) rfl rfl rfl (by decide +kernel) ⟨Nat.le_of_ble_eq_true rfl, Nat.le_of_ble_eq_true rfl⟩) (ga_PS hK ga_P0) rfl rfl hl.1 rfl (lv_room (Nat.le_of_ble_eq_true rfl)) dX1_size_1 ⟨Nat.le_of_ble_eq_true rfl, Nat.le_of_ble_eq_true rfl⟩)) (fun z_3 w_4 => ?_)
  obtain rfl := w_4
  obtain rfl := Option.some.inj h
  exact W.iret hx hb hr (fun t ht hW => ⟨_, rfl, rfl, ht⟩) (fun _ hq => by cases hq) dX1_size_4
abbrev rm_X1_isSide : Room := { frames := 2, cells := 0, slots := 0, locals := 34 }
def F_X1_isSide (N : Nat)  (x0 : Int32) : Option (Int32) :=
  ((F_X1_inRange N x0 4 7).bind fun r_1 =>
  some r_1)
set_option maxHeartbeats 4000000 in
theorem met_X1_isSide (l : Launch) (D : va_G) (cA : Nat → ClassId)   (N : Nat) (x0 : Int32)  (out : Int32) (h : F_X1_isSide N x0 = some out) : Met l yX1_isSide (ws_ yX1_isSide cX1_isSide 1 (some .boolean)) rm_X1_isSide (ga_P D cA [] [.int x0]) (vp_Si (fun r => out = r ∧ ga_B r)) 0 0 ga_F := by
  refine Met.ofW (cc := cX1_isSide) (maxL := 1) (ret := (some .boolean)) (by decide) rfl ?_
  intro p e s m args below meth c s₁ B hml hv
  obtain ⟨rfl, hP, hK⟩ := hv
  have C : ga_cx p m c meth s _ RX1 cX1_isSide 1 (some .boolean) := ga_cx_of B hml
  have C0 := C
  obtain ⟨hx, hb, hr, hlocks, hml, hown, hts⟩ := C0
  have hl := lv_entry ([.int x0]) (n := 1) (Nat.le_of_ble_eq_true rfl)
  rw [lg_entry_eq]
  generalize (lg_sl ([.int x0]) ++ List.replicate (1 - (lg_sl ([.int x0])).length) Slot.unset).toArray = ls at hl ⊢
  have hl : lv_has ls 1 [(0, .int x0)] := hl
  rw [F_X1_isSide] at h
  refine lv_iload_n hx hb dX1_isSide_0 rfl (lv_at hl 0 rfl) ?_
  refine lv_iconst (v := 4) hx hb dX1_isSide_1 (by decide) ?_
  refine lv_bipush (v := 7) hx hb dX1_isSide_2 (by decide) ?_
  obtain ⟨r_1, e_2, h⟩ := ga_gb h
  refine vp_callSi (va_Run.run (va_runS (As := [.int x0, .int 4, .int 7]) (rest := []) ⟨hx, hb, hml, hown, hts⟩ (met_X1_inRange l D cA N x0 4 7 r_1 e_2) (va_cwS 3 hts (lw_S q487 q488 q67 q489) rfl rfl rfl (by decide +kernel) ⟨Nat.le_of_ble_eq_true rfl, Nat.le_of_ble_eq_true rfl⟩) (ga_PS hK ga_P0) rfl rfl hl.1 rfl (lv_room (Nat.le_of_ble_eq_true rfl)) dX1_isSide_4 ⟨Nat.le_of_ble_eq_true rfl, Nat.le_of_ble_eq_true rfl⟩)) (fun z_3 w_4 => ?_)
  obtain ⟨rfl, b_5⟩ := w_4
  obtain rfl := Option.some.inj h
  exact W.zret hx hb hr (ga_nb (b_5)) (fun t ht hW => ⟨_, rfl, ⟨rfl, b_5⟩, ht⟩) (fun _ hq => by cases hq) dX1_isSide_7
abbrev rm_X4_cells : Room := { frames := 1, cells := 0, slots := 0, locals := 12 }
def F_X4_cells (N : Nat) (zw : Int32) (zh : Int32) (zA : Int64) (zL : Int64) (zR : Int64) (zE : Int64)  : Option (Int32) :=
  some (zw * zh)
set_option maxHeartbeats 4000000 in
theorem met_X4_cells (l : Launch) (D : va_G) (cA : Nat → ClassId) (sh : Nat) (zw : Int32) (zh : Int32) (zA : Int64) (zL : Int64) (zR : Int64) (zE : Int64) (N : Nat)   (out : Int32) (h : F_X4_cells N zw zh zA zL zR zE = some out) : Met l yX4_cells (ws_ yX4_cells cX4_cells 1 (some .int)) rm_X4_cells (ga_P D cA [(sh, .inr (4, [.int zw, .int zh, .long zA, .long zL, .long zR, .long zE]))] [.ref sh]) (vp_Si (fun r => out = r)) 0 0 ga_F := by
  refine Met.ofW (cc := cX4_cells) (maxL := 1) (ret := (some .int)) (by decide) rfl ?_
  intro p e s m args below meth c s₁ B hml hv
  obtain ⟨rfl, hP, hK⟩ := hv
  have C : ga_cx p m c meth s _ RX4 cX4_cells 1 (some .int) := ga_cx_of B hml
  have C0 := C
  obtain ⟨hx, hb, hr, hlocks, hml, hown, hts⟩ := C0
  have hl := lv_entry ([.ref sh]) (n := 1) (Nat.le_of_ble_eq_true rfl)
  rw [lg_entry_eq]
  generalize (lg_sl ([.ref sh]) ++ List.replicate (1 - (lg_sl ([.ref sh])).length) Slot.unset).toArray = ls at hl ⊢
  have hl : lv_has ls 1 [(0, .ref sh)] := hl
  rw [F_X4_cells] at h
  refine lv_aload_n hx hb dX4_cells_0 rfl (lv_at hl 0 rfl) ?_
  refine va_get hx hb hts in_X4 hown hK.1 hP 0 (fs := [.int zw, .int zh, .long zA, .long zL, .long zR, .long zE]) rfl rfl 0 (by decide) (hts _ q187) (fun _ hh => hh) (v := .int zw) rfl dX4_cells_1 ?_
  refine lv_aload_n hx hb dX4_cells_4 rfl (lv_at hl 0 rfl) ?_
  refine va_get hx hb hts in_X4 hown hK.1 hP 0 (fs := [.int zw, .int zh, .long zA, .long zL, .long zR, .long zE]) rfl rfl 1 (by decide) (hts _ q190) (fun _ hh => hh) (v := .int zh) rfl dX4_cells_5 ?_
  refine lv_imul hx hb dX4_cells_8 ?_
  obtain rfl := Option.some.inj h
  exact W.iret hx hb hr (fun t ht hW => ⟨_, rfl, rfl, ht⟩) (fun _ hq => by cases hq) dX4_cells_9
abbrev rm_X4_around : Room := { frames := 1, cells := 0, slots := 0, locals := 12 }
def V_X4_around (zw : Int32) (zh : Int32) (zA : Int64) (zL : Int64) (zR : Int64) (zE : Int64) (x1 : Int64) : Int64 :=
  ((((jlushr (x1 &&& (zL ^^^ (-1))) 1) ||| (jlshl (x1 &&& (zR ^^^ (-1))) 1)) ||| (jlushr x1 zw)) ||| ((jlshl x1 zw) &&& zA))
def F_X4_around (N : Nat) (zw : Int32) (zh : Int32) (zA : Int64) (zL : Int64) (zR : Int64) (zE : Int64) (x1 : Int64) : Option (Int64) :=
  some (V_X4_around zw zh zA zL zR zE x1)
set_option maxHeartbeats 4000000 in
theorem met_X4_around (l : Launch) (D : va_G) (cA : Nat → ClassId) (sh : Nat) (zw : Int32) (zh : Int32) (zA : Int64) (zL : Int64) (zR : Int64) (zE : Int64) (N : Nat) (x1 : Int64)  (out : Int64) (h : F_X4_around N zw zh zA zL zR zE x1 = some out) : Met l yX4_around (ws_ yX4_around cX4_around 3 (some .long)) rm_X4_around (ga_P D cA [(sh, .inr (4, [.int zw, .int zh, .long zA, .long zL, .long zR, .long zE]))] [.ref sh, .long x1]) (vp_Sl (fun r => out = r)) 0 0 ga_F := by
  refine Met.ofW (cc := cX4_around) (maxL := 3) (ret := (some .long)) (by decide) rfl ?_
  intro p e s m args below meth c s₁ B hml hv
  obtain ⟨rfl, hP, hK⟩ := hv
  have C : ga_cx p m c meth s _ RX4 cX4_around 3 (some .long) := ga_cx_of B hml
  have C0 := C
  obtain ⟨hx, hb, hr, hlocks, hml, hown, hts⟩ := C0
  have hl := lv_entry ([.ref sh, .long x1]) (n := 3) (Nat.le_of_ble_eq_true rfl)
  rw [lg_entry_eq]
  generalize (lg_sl ([.ref sh, .long x1]) ++ List.replicate (3 - (lg_sl ([.ref sh, .long x1])).length) Slot.unset).toArray = ls at hl ⊢
  have hl : lv_has ls 3 [(0, .ref sh), (1, .long x1)] := hl
  rw [F_X4_around] at h
  refine lv_lload_n hx hb dX4_around_0 rfl (lv_at hl 1 rfl) ?_
  refine lv_aload_n hx hb dX4_around_1 rfl (lv_at hl 0 rfl) ?_
  refine va_get hx hb hts in_X4 hown hK.1 hP 0 (fs := [.int zw, .int zh, .long zA, .long zL, .long zR, .long zE]) rfl rfl 3 (by decide) (hts _ q195) (fun _ hh => hh) (v := .long zL) rfl dX4_around_2 ?_
  refine lv_ldc2 hx hb hown (hts _ q850) dX4_around_5 ?_
  refine lv_lxor hx hb dX4_around_8 ?_
  refine lv_land hx hb dX4_around_9 ?_
  refine lv_iconst (v := 1) hx hb dX4_around_10 (by decide) ?_
  refine lv_lushr (v := (jlushr (x1 &&& (zL ^^^ (-1))) 1)) hx hb dX4_around_11 rfl ?_
  refine lv_lload_n hx hb dX4_around_12 rfl (lv_at hl 1 rfl) ?_
  refine lv_aload_n hx hb dX4_around_13 rfl (lv_at hl 0 rfl) ?_
  refine va_get hx hb hts in_X4 hown hK.1 hP 0 (fs := [.int zw, .int zh, .long zA, .long zL, .long zR, .long zE]) rfl rfl 4 (by decide) (hts _ q196) (fun _ hh => hh) (v := .long zR) rfl dX4_around_14 ?_
  refine lv_ldc2 hx hb hown (hts _ q850) dX4_around_17 ?_
  refine lv_lxor hx hb dX4_around_20 ?_
  refine lv_land hx hb dX4_around_21 ?_
  refine lv_iconst (v := 1) hx hb dX4_around_22 (by decide) ?_
  refine lv_lshl (v := (jlshl (x1 &&& (zR ^^^ (-1))) 1)) hx hb dX4_around_23 rfl ?_
  refine lv_lor hx hb dX4_around_24 ?_
  refine lv_lload_n hx hb dX4_around_25 rfl (lv_at hl 1 rfl) ?_
  refine lv_aload_n hx hb dX4_around_26 rfl (lv_at hl 0 rfl) ?_
  refine va_get hx hb hts in_X4 hown hK.1 hP 0 (fs := [.int zw, .int zh, .long zA, .long zL, .long zR, .long zE]) rfl rfl 0 (by decide) (hts _ q187) (fun _ hh => hh) (v := .int zw) rfl dX4_around_27 ?_
  refine lv_lushr (v := (jlushr x1 zw)) hx hb dX4_around_30 rfl ?_
  refine lv_lor hx hb dX4_around_31 ?_
  refine lv_lload_n hx hb dX4_around_32 rfl (lv_at hl 1 rfl) ?_
  refine lv_aload_n hx hb dX4_around_33 rfl (lv_at hl 0 rfl) ?_
  refine va_get hx hb hts in_X4 hown hK.1 hP 0 (fs := [.int zw, .int zh, .long zA, .long zL, .long zR, .long zE]) rfl rfl 0 (by decide) (hts _ q187) (fun _ hh => hh) (v := .int zw) rfl dX4_around_34 ?_
  refine lv_lshl (v := (jlshl x1 zw)) hx hb dX4_around_37 rfl ?_
  refine lv_aload_n hx hb dX4_around_38 rfl (lv_at hl 0 rfl) ?_
  refine va_get hx hb hts in_X4 hown hK.1 hP 0 (fs := [.int zw, .int zh, .long zA, .long zL, .long zR, .long zE]) rfl rfl 2 (by decide) (hts _ q193) (fun _ hh => hh) (v := .long zA) rfl dX4_around_39 ?_
  refine lv_land hx hb dX4_around_42 ?_
  refine lv_lor hx hb dX4_around_43 ?_
  obtain rfl := Option.some.inj h
  exact W.lret hx hb hr (fun t ht hW => ⟨_, rfl, rfl, ht⟩) (fun _ hq => by cases hq) dX4_around_44
abbrev rm_X4_connected : Room := { frames := 2, cells := 0, slots := 0, locals := 34 }
def lp_X4_connected_19 (N : Nat) (zw : Int32) (zh : Int32) (zA : Int64) (zL : Int64) (zR : Int64) (zE : Int64) (x1 : Int32) (x2 : Int64) : Nat → (Int64) → (Int64) → Option (Int64)
  | 0, _, _ => none
  | n+1, x4, x6 =>
    (if (lg_cmp x6 x4) = 0 then
    some x4
    else
    lp_X4_connected_19 N zw zh zA zL zR zE x1 x2 n x6 ((x6 ||| (V_X4_around zw zh zA zL zR zE x6)) &&& x2))
set_option maxHeartbeats 4000000 in
theorem w_X4_connected_19 {p : Program} {l : Launch} {e : Env} {s : State} {m : MethodId} {args : Array Value} {below : List Frame} {meth : Method} {c : Code} {D : va_G} {cA : Nat → ClassId} {sh : Nat} {N : Nat} {zw : Int32} {zh : Int32} {zA : Int64} {zL : Int64} {zR : Int64} {zE : Int64} {x1 : Int32} {x2 : Int64}  (C : ga_cx p m c meth s args RX4 cX4_connected 8 (some .long)) (hK : ga_K D cA s) (hP : va_P D ga_cl [(sh, .inr (4, [.int zw, .int zh, .long zA, .long zL, .long zR, .long zE]))] s.heap) {out : Int64} : ∀ n : Nat, ∀ (x4 : Int64) (x6 : Int64), lp_X4_connected_19 N zw zh zA zL zR zE x1 x2 n x4 x6 = some out → ∀ ls : Array Slot, lv_has ls 8 [(0, .ref sh), (2, .long x2), (4, .long x4), (6, .long x6)] → W p l e (headSpec (ws_ yX4_connected cX4_connected 8 (some .long)) rm_X4_connected).room s m args below meth c s.heap [] 0 0 (MQ below (vp_Sl (fun r => out = r)) args s 0 0 ga_F) (F0 m 19 ls []) := by
  have C0 := C
  obtain ⟨hx, hb, hr, hlocks, hml, hown, hts⟩ := C0
  intro n
  induction n with
  | zero =>
    intro x4 x6 h
    rw [lp_X4_connected_19.eq_1] at h
    cases h
  | succ n ih =>
    intro x4 x6 h ls hl
    rw [lp_X4_connected_19.eq_2] at h
    refine lv_lload hx hb dX4_connected_19 (lv_at hl 3 rfl) ?_
    refine lv_lload hx hb dX4_connected_21 (lv_at hl 2 rfl) ?_
    refine W.lcmp hx hb dX4_connected_23 ?_
    refine lv_if_eq (tgt := 47) hx hb dX4_connected_24 (by decide) (fun c_11 => ?_) (fun c_11 => ?_)
    · replace h := ga_ift c_11 h
      refine lv_lload hx hb dX4_connected_47 (lv_at hl 2 rfl) ?_
      obtain rfl := Option.some.inj h
      exact W.lret hx hb hr (fun t ht hW => ⟨_, rfl, rfl, ht⟩) (fun _ hq => by cases hq) dX4_connected_49
    · replace h := ga_iff c_11 h
      refine lv_lload hx hb dX4_connected_27 (lv_at hl 3 rfl) ?_
      refine lv_lstore (lv' := [(4, .long x6), (0, .ref sh), (2, .long x2), (6, .long x6)]) hx hb dX4_connected_29 hl (by decide) rfl (fun ls hl => ?_)
      refine lv_lload hx hb dX4_connected_31 (lv_at hl 0 rfl) ?_
      refine lv_aload_n hx hb dX4_connected_33 rfl (lv_at hl 1 rfl) ?_
      refine lv_lload hx hb dX4_connected_34 (lv_at hl 0 rfl) ?_
      refine vp_callSl (va_Run.run (va_runV (As := [.long x6]) (rest := [.long x6]) ⟨hx, hb, hml, hown, hts⟩ (met_X4_around l D cA sh zw zh zA zL zR zE N x6 (V_X4_around zw zh zA zL zR zE x6) rfl) (cwV 1 hts (lw_V q846 q848 qs11 q73 q849) rfl rfl rfl (by decide +kernel) ⟨Nat.le_of_ble_eq_true rfl, Nat.le_of_ble_eq_true rfl⟩) (ga_PV hK (hP.sub (ws' := [(sh, .inr (4, [.int zw, .int zh, .long zA, .long zL, .long zR, .long zE]))]) [0] rfl) (va_recv hK.1 hP (ci := 4) (q0 := 0) rfl rfl)) rfl rfl hl.1 rfl (lv_room (Nat.le_of_ble_eq_true rfl)) dX4_connected_36 ⟨Nat.le_of_ble_eq_true rfl, Nat.le_of_ble_eq_true rfl⟩)) (fun z_14 w_15 => ?_)
      obtain rfl := w_15
      refine lv_lor hx hb dX4_connected_39 ?_
      refine lv_lload_n hx hb dX4_connected_40 rfl (lv_at hl 2 rfl) ?_
      refine lv_land hx hb dX4_connected_41 ?_
      refine lv_lstore (lv' := [(6, .long ((x6 ||| (V_X4_around zw zh zA zL zR zE x6)) &&& x2)), (4, .long x6), (0, .ref sh), (2, .long x2)]) hx hb dX4_connected_42 hl (by decide) rfl (fun ls hl => ?_)
      refine lv_goto (tgt := 19) hx hb dX4_connected_44 (by decide) ?_
      exact ih x6 ((x6 ||| (V_X4_around zw zh zA zL zR zE x6)) &&& x2) h _ (lv_sub hl [2, 3, 1, 0] rfl)
def F_X4_connected (N : Nat) (zw : Int32) (zh : Int32) (zA : Int64) (zL : Int64) (zR : Int64) (zE : Int64) (x1 : Int32) (x2 : Int64) : Option (Int64) :=
  lp_X4_connected_19 N zw zh zA zL zR zE x1 x2 N (jlshl 1 x1) (((jlshl 1 x1) ||| (V_X4_around zw zh zA zL zR zE (jlshl 1 x1))) &&& x2)
set_option maxHeartbeats 4000000 in
theorem met_X4_connected (l : Launch) (D : va_G) (cA : Nat → ClassId) (sh : Nat) (zw : Int32) (zh : Int32) (zA : Int64) (zL : Int64) (zR : Int64) (zE : Int64) (N : Nat) (x1 : Int32) (x2 : Int64)  (out : Int64) (h : F_X4_connected N zw zh zA zL zR zE x1 x2 = some out) : Met l yX4_connected (ws_ yX4_connected cX4_connected 8 (some .long)) rm_X4_connected (ga_P D cA [(sh, .inr (4, [.int zw, .int zh, .long zA, .long zL, .long zR, .long zE]))] [.ref sh, .int x1, .long x2]) (vp_Sl (fun r => out = r)) 0 0 ga_F := by
  refine Met.ofW (cc := cX4_connected) (maxL := 8) (ret := (some .long)) (by decide) rfl ?_
  intro p e s m args below meth c s₁ B hml hv
  obtain ⟨rfl, hP, hK⟩ := hv
  have C : ga_cx p m c meth s _ RX4 cX4_connected 8 (some .long) := ga_cx_of B hml
  have C0 := C
  obtain ⟨hx, hb, hr, hlocks, hml, hown, hts⟩ := C0
  have hl := lv_entry ([.ref sh, .int x1, .long x2]) (n := 8) (Nat.le_of_ble_eq_true rfl)
  rw [lg_entry_eq]
  generalize (lg_sl ([.ref sh, .int x1, .long x2]) ++ List.replicate (8 - (lg_sl ([.ref sh, .int x1, .long x2])).length) Slot.unset).toArray = ls at hl ⊢
  have hl : lv_has ls 8 [(0, .ref sh), (1, .int x1), (2, .long x2)] := hl
  rw [F_X4_connected] at h
  refine lv_iload_n hx hb dX4_connected_0 rfl (lv_at hl 1 rfl) ?_
  refine vp_callSl (va_Run.run (va_runSN (As := [.int x1]) (rest := []) ⟨hx, hb, hml, hown, hts⟩ (met_X1_bit l D cA N x1 (jlshl 1 x1) rfl) (⟨va_cnB 1 hts (lw_meth q186) rfl rfl rfl (hK.2.1 _ q184 rfl) (hts _ q67) (by decide +kernel) ⟨Nat.le_of_ble_eq_true rfl, Nat.le_of_ble_eq_true rfl⟩, hts _ q185, trivial⟩) (ga_PS hK ga_P0) rfl rfl hl.1 rfl (lv_room (Nat.le_of_ble_eq_true rfl)) dX4_connected_1 ⟨Nat.le_of_ble_eq_true rfl, Nat.le_of_ble_eq_true rfl⟩)) (fun z_3 w_4 => ?_)
  obtain rfl := w_4
  refine lv_lstore (lv' := [(4, .long (jlshl 1 x1)), (0, .ref sh), (1, .int x1), (2, .long x2)]) hx hb dX4_connected_4 hl (by decide) rfl (fun ls hl => ?_)
  refine lv_lload hx hb dX4_connected_6 (lv_at hl 0 rfl) ?_
  refine lv_aload_n hx hb dX4_connected_8 rfl (lv_at hl 1 rfl) ?_
  refine lv_lload hx hb dX4_connected_9 (lv_at hl 0 rfl) ?_
  refine vp_callSl (va_Run.run (va_runV (As := [.long (jlshl 1 x1)]) (rest := [.long (jlshl 1 x1)]) ⟨hx, hb, hml, hown, hts⟩ (met_X4_around l D cA sh zw zh zA zL zR zE N (jlshl 1 x1) (V_X4_around zw zh zA zL zR zE (jlshl 1 x1)) rfl) (cwV 1 hts (lw_V q846 q848 qs11 q73 q849) rfl rfl rfl (by decide +kernel) ⟨Nat.le_of_ble_eq_true rfl, Nat.le_of_ble_eq_true rfl⟩) (ga_PV hK (hP.sub (ws' := [(sh, .inr (4, [.int zw, .int zh, .long zA, .long zL, .long zR, .long zE]))]) [0] rfl) (va_recv hK.1 hP (ci := 4) (q0 := 0) rfl rfl)) rfl rfl hl.1 rfl (lv_room (Nat.le_of_ble_eq_true rfl)) dX4_connected_11 ⟨Nat.le_of_ble_eq_true rfl, Nat.le_of_ble_eq_true rfl⟩)) (fun z_8 w_9 => ?_)
  obtain rfl := w_9
  refine lv_lor hx hb dX4_connected_14 ?_
  refine lv_lload_n hx hb dX4_connected_15 rfl (lv_at hl 3 rfl) ?_
  refine lv_land hx hb dX4_connected_16 ?_
  refine lv_lstore (lv' := [(6, .long (((jlshl 1 x1) ||| (V_X4_around zw zh zA zL zR zE (jlshl 1 x1))) &&& x2)), (4, .long (jlshl 1 x1)), (0, .ref sh), (1, .int x1), (2, .long x2)]) hx hb dX4_connected_17 hl (by decide) rfl (fun ls hl => ?_)
  exact w_X4_connected_19 C hK hP N (jlshl 1 x1) (((jlshl 1 x1) ||| (V_X4_around zw zh zA zL zR zE (jlshl 1 x1))) &&& x2) h _ (lv_sub hl [2, 4, 1, 0] rfl)
abbrev rm_X4_isInside : Room := { frames := 1, cells := 0, slots := 0, locals := 12 }
def F_X4_isInside (N : Nat) (zw : Int32) (zh : Int32) (zA : Int64) (zL : Int64) (zR : Int64) (zE : Int64) (x1 : Int64) : Option (Int32) :=
  (if (lg_cmp (x1 &&& zE) 0) = 0 then
  some 1
  else
  some 0)
set_option maxHeartbeats 4000000 in
theorem met_X4_isInside (l : Launch) (D : va_G) (cA : Nat → ClassId) (sh : Nat) (zw : Int32) (zh : Int32) (zA : Int64) (zL : Int64) (zR : Int64) (zE : Int64) (N : Nat) (x1 : Int64)  (out : Int32) (h : F_X4_isInside N zw zh zA zL zR zE x1 = some out) : Met l yX4_isInside (ws_ yX4_isInside cX4_isInside 3 (some .boolean)) rm_X4_isInside (ga_P D cA [(sh, .inr (4, [.int zw, .int zh, .long zA, .long zL, .long zR, .long zE]))] [.ref sh, .long x1]) (vp_Si (fun r => out = r ∧ ga_B r)) 0 0 ga_F := by
  refine Met.ofW (cc := cX4_isInside) (maxL := 3) (ret := (some .boolean)) (by decide) rfl ?_
  intro p e s m args below meth c s₁ B hml hv
  obtain ⟨rfl, hP, hK⟩ := hv
  have C : ga_cx p m c meth s _ RX4 cX4_isInside 3 (some .boolean) := ga_cx_of B hml
  have C0 := C
  obtain ⟨hx, hb, hr, hlocks, hml, hown, hts⟩ := C0
  have hl := lv_entry ([.ref sh, .long x1]) (n := 3) (Nat.le_of_ble_eq_true rfl)
  rw [lg_entry_eq]
  generalize (lg_sl ([.ref sh, .long x1]) ++ List.replicate (3 - (lg_sl ([.ref sh, .long x1])).length) Slot.unset).toArray = ls at hl ⊢
  have hl : lv_has ls 3 [(0, .ref sh), (1, .long x1)] := hl
  rw [F_X4_isInside] at h
  refine lv_lload_n hx hb dX4_isInside_0 rfl (lv_at hl 1 rfl) ?_
  refine lv_aload_n hx hb dX4_isInside_1 rfl (lv_at hl 0 rfl) ?_
  refine va_get hx hb hts in_X4 hown hK.1 hP 0 (fs := [.int zw, .int zh, .long zA, .long zL, .long zR, .long zE]) rfl rfl 5 (by decide) (hts _ q197) (fun _ hh => hh) (v := .long zE) rfl dX4_isInside_2 ?_
  refine lv_land hx hb dX4_isInside_5 ?_
  refine lv_lconst (v := 0) hx hb dX4_isInside_6 (by decide) ?_
  refine W.lcmp hx hb dX4_isInside_7 ?_
  refine lv_if_ne (tgt := 15) hx hb dX4_isInside_8 (by decide) (fun c_1 => ?_) (fun c_1 => ?_)
  · replace h := ga_iff c_1 h
    refine lv_iconst (v := 0) hx hb dX4_isInside_15 (by decide) ?_
    obtain rfl := Option.some.inj h
    exact W.zret hx hb hr (ga_nb (Or.inl rfl)) (fun t ht hW => ⟨_, rfl, ⟨rfl, Or.inl rfl⟩, ht⟩) (fun _ hq => by cases hq) dX4_isInside_16
  · replace h := ga_ift c_1 h
    refine lv_iconst (v := 1) hx hb dX4_isInside_11 (by decide) ?_
    refine lv_goto (tgt := 16) hx hb dX4_isInside_12 (by decide) ?_
    obtain rfl := Option.some.inj h
    exact W.zret hx hb hr (ga_nb (Or.inr rfl)) (fun t ht hW => ⟨_, rfl, ⟨rfl, Or.inr rfl⟩, ht⟩) (fun _ hq => by cases hq) dX4_isInside_16
abbrev rm_X3_own : Room := { frames := 1, cells := 0, slots := 0, locals := 12 }
def F_X3_own (N : Nat) (bB : Int64) (bS : Nat → Int64) (bA : Nat → Int64) (x1 : Int32) : Option (Int64) :=
  (if inb x1 2 = true then
  (if inb x1 2 = true then
  some ((bS (ix x1)) ||| (bA (ix x1)))
  else none)
  else none)
set_option maxHeartbeats 4000000 in
theorem met_X3_own (l : Launch) (D : va_G) (cA : Nat → ClassId) (b : Nat) (b_s : Nat) (b_a : Nat) (b_c : Nat) (b_g : Nat) (bB : Int64) (bS : Nat → Int64) (bA : Nat → Int64) (N : Nat) (x1 : Int32)  (out : Int64) (h : F_X3_own N bB bS bA x1 = some out) : Met l yX3_own (ws_ yX3_own cX3_own 2 (some .long)) rm_X3_own (ga_P D cA [(b, .inr (3, [.ref b_s, .ref b_a, .long bB, .ref b_c, .ref b_g])), (b_s, .inl (cA 1, 2, .inr (.inl bS))), (b_a, .inl (cA 1, 2, .inr (.inl bA)))] [.ref b, .int x1]) (vp_Sl (fun r => out = r)) 0 0 ga_F := by
  refine Met.ofW (cc := cX3_own) (maxL := 2) (ret := (some .long)) (by decide) rfl ?_
  intro p e s m args below meth c s₁ B hml hv
  obtain ⟨rfl, hP, hK⟩ := hv
  have C : ga_cx p m c meth s _ RX3 cX3_own 2 (some .long) := ga_cx_of B hml
  have C0 := C
  obtain ⟨hx, hb, hr, hlocks, hml, hown, hts⟩ := C0
  have hl := lv_entry ([.ref b, .int x1]) (n := 2) (Nat.le_of_ble_eq_true rfl)
  rw [lg_entry_eq]
  generalize (lg_sl ([.ref b, .int x1]) ++ List.replicate (2 - (lg_sl ([.ref b, .int x1])).length) Slot.unset).toArray = ls at hl ⊢
  have hl : lv_has ls 2 [(0, .ref b), (1, .int x1)] := hl
  rw [F_X3_own] at h
  refine lv_aload_n hx hb dX3_own_0 rfl (lv_at hl 0 rfl) ?_
  refine va_get hx hb hts in_X3 hown hK.1 hP 0 (fs := [.ref b_s, .ref b_a, .long bB, .ref b_c, .ref b_g]) rfl rfl 0 (by decide) (hts _ q154) (fun _ hh => hh) (v := .ref b_s) rfl dX3_own_1 ?_
  refine lv_iload_n hx hb dX3_own_4 rfl (lv_at hl 1 rfl) ?_
  obtain ⟨i_1, h⟩ := ga_gif h
  refine va_lald hx hb hK.1 hP 1 1 (f := bS) rfl rfl (ga_in i_1) dX3_own_5 ?_
  refine lv_aload_n hx hb dX3_own_6 rfl (lv_at hl 0 rfl) ?_
  refine va_get hx hb hts in_X3 hown hK.1 hP 0 (fs := [.ref b_s, .ref b_a, .long bB, .ref b_c, .ref b_g]) rfl rfl 1 (by decide) (hts _ q157) (fun _ hh => hh) (v := .ref b_a) rfl dX3_own_7 ?_
  refine lv_iload_n hx hb dX3_own_10 rfl (lv_at hl 1 rfl) ?_
  obtain ⟨i_2, h⟩ := ga_gif h
  refine va_lald hx hb hK.1 hP 2 1 (f := bA) rfl rfl (ga_in i_2) dX3_own_11 ?_
  refine lv_lor hx hb dX3_own_12 ?_
  obtain rfl := Option.some.inj h
  exact W.lret hx hb hr (fun t ht hW => ⟨_, rfl, rfl, ht⟩) (fun _ hq => by cases hq) dX3_own_13
abbrev rm_X3_empty : Room := { frames := 2, cells := 0, slots := 0, locals := 33 }
def F_X3_empty (N : Nat) (bB : Int64) (bS : Nat → Int64) (bA : Nat → Int64) (zw : Int32) (zh : Int32) (zA : Int64) (zL : Int64) (zR : Int64) (zE : Int64)  : Option (Int64) :=
  ((F_X3_own N bB bS bA 0).bind fun r_1 =>
  ((F_X3_own N bB bS bA 1).bind fun r_6 =>
  some (zA &&& (((r_1 ||| r_6) ||| bB) ^^^ (-1)))))
set_option maxHeartbeats 4000000 in
theorem met_X3_empty (l : Launch) (D : va_G) (cA : Nat → ClassId) (b : Nat) (b_s : Nat) (b_a : Nat) (b_c : Nat) (b_g : Nat) (sh : Nat) (bB : Int64) (bS : Nat → Int64) (bA : Nat → Int64) (zw : Int32) (zh : Int32) (zA : Int64) (zL : Int64) (zR : Int64) (zE : Int64) (N : Nat)   (out : Int64) (h : F_X3_empty N bB bS bA zw zh zA zL zR zE = some out) : Met l yX3_empty (ws_ yX3_empty cX3_empty 2 (some .long)) rm_X3_empty (ga_P D cA [(b, .inr (3, [.ref b_s, .ref b_a, .long bB, .ref b_c, .ref b_g])), (b_s, .inl (cA 1, 2, .inr (.inl bS))), (b_a, .inl (cA 1, 2, .inr (.inl bA))), (sh, .inr (4, [.int zw, .int zh, .long zA, .long zL, .long zR, .long zE]))] [.ref b, .ref sh]) (vp_Sl (fun r => out = r)) 0 0 ga_F := by
  refine Met.ofW (cc := cX3_empty) (maxL := 2) (ret := (some .long)) (by decide) rfl ?_
  intro p e s m args below meth c s₁ B hml hv
  obtain ⟨rfl, hP, hK⟩ := hv
  have C : ga_cx p m c meth s _ RX3 cX3_empty 2 (some .long) := ga_cx_of B hml
  have C0 := C
  obtain ⟨hx, hb, hr, hlocks, hml, hown, hts⟩ := C0
  have hl := lv_entry ([.ref b, .ref sh]) (n := 2) (Nat.le_of_ble_eq_true rfl)
  rw [lg_entry_eq]
  generalize (lg_sl ([.ref b, .ref sh]) ++ List.replicate (2 - (lg_sl ([.ref b, .ref sh])).length) Slot.unset).toArray = ls at hl ⊢
  have hl : lv_has ls 2 [(0, .ref b), (1, .ref sh)] := hl
  rw [F_X3_empty] at h
  refine lv_aload_n hx hb dX3_empty_0 rfl (lv_at hl 1 rfl) ?_
  refine va_getN hx hb hts in_X4 hown hK.1 hP 3 (fs := [.int zw, .int zh, .long zA, .long zL, .long zR, .long zE]) rfl rfl 2 (by decide) (ga_nu hK q194 rfl) (fun _ hh => hh) (v := .long zA) rfl dX3_empty_1 ?_
  refine lv_aload_n hx hb dX3_empty_4 rfl (lv_at hl 0 rfl) ?_
  refine lv_iconst (v := 0) hx hb dX3_empty_5 (by decide) ?_
  obtain ⟨r_1, e_2, h⟩ := ga_gb h
  refine vp_callSl (va_Run.run (va_runV (As := [.int 0]) (rest := [.long zA]) ⟨hx, hb, hml, hown, hts⟩ (met_X3_own l D cA b b_s b_a b_c b_g bB bS bA N 0 r_1 e_2) (cwV 1 hts (lw_V q426 q427 q428 q72 q429) rfl rfl rfl (by decide +kernel) ⟨Nat.le_of_ble_eq_true rfl, Nat.le_of_ble_eq_true rfl⟩) (ga_PV hK (hP.sub (ws' := [(b, .inr (3, [.ref b_s, .ref b_a, .long bB, .ref b_c, .ref b_g])), (b_s, .inl (cA 1, 2, .inr (.inl bS))), (b_a, .inl (cA 1, 2, .inr (.inl bA)))]) [0, 1, 2] rfl) (va_recv hK.1 hP (ci := 3) (q0 := 0) rfl rfl)) rfl rfl hl.1 rfl (lv_room (Nat.le_of_ble_eq_true rfl)) dX3_empty_6 ⟨Nat.le_of_ble_eq_true rfl, Nat.le_of_ble_eq_true rfl⟩)) (fun z_3 w_4 => ?_)
  obtain rfl := w_4
  refine lv_aload_n hx hb dX3_empty_9 rfl (lv_at hl 0 rfl) ?_
  refine lv_iconst (v := 1) hx hb dX3_empty_10 (by decide) ?_
  obtain ⟨r_6, e_7, h⟩ := ga_gb h
  refine vp_callSl (va_Run.run (va_runV (As := [.int 1]) (rest := [.long r_1, .long zA]) ⟨hx, hb, hml, hown, hts⟩ (met_X3_own l D cA b b_s b_a b_c b_g bB bS bA N 1 r_6 e_7) (cwV 1 hts (lw_V q426 q427 q428 q72 q429) rfl rfl rfl (by decide +kernel) ⟨Nat.le_of_ble_eq_true rfl, Nat.le_of_ble_eq_true rfl⟩) (ga_PV hK (hP.sub (ws' := [(b, .inr (3, [.ref b_s, .ref b_a, .long bB, .ref b_c, .ref b_g])), (b_s, .inl (cA 1, 2, .inr (.inl bS))), (b_a, .inl (cA 1, 2, .inr (.inl bA)))]) [0, 1, 2] rfl) (va_recv hK.1 hP (ci := 3) (q0 := 0) rfl rfl)) rfl rfl hl.1 rfl (lv_room (Nat.le_of_ble_eq_true rfl)) dX3_empty_11 ⟨Nat.le_of_ble_eq_true rfl, Nat.le_of_ble_eq_true rfl⟩)) (fun z_8 w_9 => ?_)
  obtain rfl := w_9
  refine lv_lor hx hb dX3_empty_14 ?_
  refine lv_aload_n hx hb dX3_empty_15 rfl (lv_at hl 0 rfl) ?_
  refine va_get hx hb hts in_X3 hown hK.1 hP 0 (fs := [.ref b_s, .ref b_a, .long bB, .ref b_c, .ref b_g]) rfl rfl 2 (by decide) (hts _ q159) (fun _ hh => hh) (v := .long bB) rfl dX3_empty_16 ?_
  refine lv_lor hx hb dX3_empty_19 ?_
  refine lv_ldc2 hx hb hown (hts _ q430) dX3_empty_20 ?_
  refine lv_lxor hx hb dX3_empty_23 ?_
  refine lv_land hx hb dX3_empty_24 ?_
  obtain rfl := Option.some.inj h
  exact W.lret hx hb hr (fun t ht hW => ⟨_, rfl, rfl, ht⟩) (fun _ hq => by cases hq) dX3_empty_25
abbrev rm_X3_open : Room := { frames := 2, cells := 0, slots := 0, locals := 33 }
def F_X3_open (N : Nat) (bB : Int64) (bS : Nat → Int64) (bA : Nat → Int64) (zw : Int32) (zh : Int32) (zA : Int64) (zL : Int64) (zR : Int64) (zE : Int64) (x2 : Int32) : Option (Int64) :=
  ((F_X3_own N bB bS bA x2).bind fun r_1 =>
  some (zA &&& ((r_1 ||| bB) ^^^ (-1))))
set_option maxHeartbeats 4000000 in
theorem met_X3_open (l : Launch) (D : va_G) (cA : Nat → ClassId) (b : Nat) (b_s : Nat) (b_a : Nat) (b_c : Nat) (b_g : Nat) (sh : Nat) (bB : Int64) (bS : Nat → Int64) (bA : Nat → Int64) (zw : Int32) (zh : Int32) (zA : Int64) (zL : Int64) (zR : Int64) (zE : Int64) (N : Nat) (x2 : Int32)  (out : Int64) (h : F_X3_open N bB bS bA zw zh zA zL zR zE x2 = some out) : Met l yX3_open (ws_ yX3_open cX3_open 3 (some .long)) rm_X3_open (ga_P D cA [(b, .inr (3, [.ref b_s, .ref b_a, .long bB, .ref b_c, .ref b_g])), (b_s, .inl (cA 1, 2, .inr (.inl bS))), (b_a, .inl (cA 1, 2, .inr (.inl bA))), (sh, .inr (4, [.int zw, .int zh, .long zA, .long zL, .long zR, .long zE]))] [.ref b, .ref sh, .int x2]) (vp_Sl (fun r => out = r)) 0 0 ga_F := by
  refine Met.ofW (cc := cX3_open) (maxL := 3) (ret := (some .long)) (by decide) rfl ?_
  intro p e s m args below meth c s₁ B hml hv
  obtain ⟨rfl, hP, hK⟩ := hv
  have C : ga_cx p m c meth s _ RX3 cX3_open 3 (some .long) := ga_cx_of B hml
  have C0 := C
  obtain ⟨hx, hb, hr, hlocks, hml, hown, hts⟩ := C0
  have hl := lv_entry ([.ref b, .ref sh, .int x2]) (n := 3) (Nat.le_of_ble_eq_true rfl)
  rw [lg_entry_eq]
  generalize (lg_sl ([.ref b, .ref sh, .int x2]) ++ List.replicate (3 - (lg_sl ([.ref b, .ref sh, .int x2])).length) Slot.unset).toArray = ls at hl ⊢
  have hl : lv_has ls 3 [(0, .ref b), (1, .ref sh), (2, .int x2)] := hl
  rw [F_X3_open] at h
  refine lv_aload_n hx hb dX3_open_0 rfl (lv_at hl 1 rfl) ?_
  refine va_getN hx hb hts in_X4 hown hK.1 hP 3 (fs := [.int zw, .int zh, .long zA, .long zL, .long zR, .long zE]) rfl rfl 2 (by decide) (ga_nu hK q194 rfl) (fun _ hh => hh) (v := .long zA) rfl dX3_open_1 ?_
  refine lv_aload_n hx hb dX3_open_4 rfl (lv_at hl 0 rfl) ?_
  refine lv_iload_n hx hb dX3_open_5 rfl (lv_at hl 2 rfl) ?_
  obtain ⟨r_1, e_2, h⟩ := ga_gb h
  refine vp_callSl (va_Run.run (va_runV (As := [.int x2]) (rest := [.long zA]) ⟨hx, hb, hml, hown, hts⟩ (met_X3_own l D cA b b_s b_a b_c b_g bB bS bA N x2 r_1 e_2) (cwV 1 hts (lw_V q426 q427 q428 q72 q429) rfl rfl rfl (by decide +kernel) ⟨Nat.le_of_ble_eq_true rfl, Nat.le_of_ble_eq_true rfl⟩) (ga_PV hK (hP.sub (ws' := [(b, .inr (3, [.ref b_s, .ref b_a, .long bB, .ref b_c, .ref b_g])), (b_s, .inl (cA 1, 2, .inr (.inl bS))), (b_a, .inl (cA 1, 2, .inr (.inl bA)))]) [0, 1, 2] rfl) (va_recv hK.1 hP (ci := 3) (q0 := 0) rfl rfl)) rfl rfl hl.1 rfl (lv_room (Nat.le_of_ble_eq_true rfl)) dX3_open_6 ⟨Nat.le_of_ble_eq_true rfl, Nat.le_of_ble_eq_true rfl⟩)) (fun z_3 w_4 => ?_)
  obtain rfl := w_4
  refine lv_aload_n hx hb dX3_open_9 rfl (lv_at hl 0 rfl) ?_
  refine va_get hx hb hts in_X3 hown hK.1 hP 0 (fs := [.ref b_s, .ref b_a, .long bB, .ref b_c, .ref b_g]) rfl rfl 2 (by decide) (hts _ q159) (fun _ hh => hh) (v := .long bB) rfl dX3_open_10 ?_
  refine lv_lor hx hb dX3_open_13 ?_
  refine lv_ldc2 hx hb hown (hts _ q430) dX3_open_14 ?_
  refine lv_lxor hx hb dX3_open_17 ?_
  refine lv_land hx hb dX3_open_18 ?_
  obtain rfl := Option.some.inj h
  exact W.lret hx hb hr (fun t ht hW => ⟨_, rfl, rfl, ht⟩) (fun _ hq => by cases hq) dX3_open_19
abbrev rm_X3_cells : Room := { frames := 3, cells := 0, slots := 0, locals := 54 }
def F_X3_cells (N : Nat) (bB : Int64) (bS : Nat → Int64) (bA : Nat → Int64) (zw : Int32) (zh : Int32) (zA : Int64) (zL : Int64) (zR : Int64) (zE : Int64) (x2 : Int32) : Option (Int64) :=
  (if x2 = 0 then
  ((F_X3_empty N bB bS bA zw zh zA zL zR zE).bind fun r_2 =>
  some r_2)
  else
  (if x2 = 5 then
  some bB
  else
  (if 3 ≤ x2 then
  (if inb (x2 - 3) 2 = true then
  some (bA (ix (x2 - 3)))
  else none)
  else
  (if inb (x2 - 1) 2 = true then
  some (bS (ix (x2 - 1)))
  else none))))
set_option maxHeartbeats 4000000 in
theorem met_X3_cells (l : Launch) (D : va_G) (cA : Nat → ClassId) (b : Nat) (b_s : Nat) (b_a : Nat) (b_c : Nat) (b_g : Nat) (sh : Nat) (bB : Int64) (bS : Nat → Int64) (bA : Nat → Int64) (zw : Int32) (zh : Int32) (zA : Int64) (zL : Int64) (zR : Int64) (zE : Int64) (N : Nat) (x2 : Int32)  (out : Int64) (h : F_X3_cells N bB bS bA zw zh zA zL zR zE x2 = some out) : Met l yX3_cells (ws_ yX3_cells cX3_cells 3 (some .long)) rm_X3_cells (ga_P D cA [(b, .inr (3, [.ref b_s, .ref b_a, .long bB, .ref b_c, .ref b_g])), (b_s, .inl (cA 1, 2, .inr (.inl bS))), (b_a, .inl (cA 1, 2, .inr (.inl bA))), (sh, .inr (4, [.int zw, .int zh, .long zA, .long zL, .long zR, .long zE]))] [.ref b, .ref sh, .int x2]) (vp_Sl (fun r => out = r)) 0 0 ga_F := by
  refine Met.ofW (cc := cX3_cells) (maxL := 3) (ret := (some .long)) (by decide) rfl ?_
  intro p e s m args below meth c s₁ B hml hv
  obtain ⟨rfl, hP, hK⟩ := hv
  have C : ga_cx p m c meth s _ RX3 cX3_cells 3 (some .long) := ga_cx_of B hml
  have C0 := C
  obtain ⟨hx, hb, hr, hlocks, hml, hown, hts⟩ := C0
  have hl := lv_entry ([.ref b, .ref sh, .int x2]) (n := 3) (Nat.le_of_ble_eq_true rfl)
  rw [lg_entry_eq]
  generalize (lg_sl ([.ref b, .ref sh, .int x2]) ++ List.replicate (3 - (lg_sl ([.ref b, .ref sh, .int x2])).length) Slot.unset).toArray = ls at hl ⊢
  have hl : lv_has ls 3 [(0, .ref b), (1, .ref sh), (2, .int x2)] := hl
  rw [F_X3_cells] at h
  refine lv_iload_n hx hb dX3_cells_0 rfl (lv_at hl 2 rfl) ?_
  by_cases c_1 : x2 = 0
  · replace h := ga_ift c_1 h
    refine lv_lookup (off := 27) (tgt := 28) hx hb dX3_cells_1 (by decide) (by rw [c_1]; rfl) (by decide) ?_
    refine lv_aload_n hx hb dX3_cells_28 rfl (lv_at hl 0 rfl) ?_
    refine lv_aload_n hx hb dX3_cells_29 rfl (lv_at hl 1 rfl) ?_
    obtain ⟨r_2, e_3, h⟩ := ga_gb h
    refine vp_callSl (va_Run.run (va_runV (As := [.ref sh]) (rest := []) ⟨hx, hb, hml, hown, hts⟩ (met_X3_empty l D cA b b_s b_a b_c b_g sh bB bS bA zw zh zA zL zR zE N r_2 e_3) (cwV 1 hts (lw_V q705 q423 q424 q72 q425) rfl rfl rfl (by decide +kernel) ⟨Nat.le_of_ble_eq_true rfl, Nat.le_of_ble_eq_true rfl⟩) (ga_PV hK (hP.sub (ws' := [(b, .inr (3, [.ref b_s, .ref b_a, .long bB, .ref b_c, .ref b_g])), (b_s, .inl (cA 1, 2, .inr (.inl bS))), (b_a, .inl (cA 1, 2, .inr (.inl bA))), (sh, .inr (4, [.int zw, .int zh, .long zA, .long zL, .long zR, .long zE]))]) [0, 1, 2, 3] rfl) (va_recv hK.1 hP (ci := 3) (q0 := 0) rfl rfl)) rfl rfl hl.1 rfl (lv_room (Nat.le_of_ble_eq_true rfl)) dX3_cells_30 ⟨Nat.le_of_ble_eq_true rfl, Nat.le_of_ble_eq_true rfl⟩)) (fun z_4 w_5 => ?_)
    obtain rfl := w_5
    obtain rfl := Option.some.inj h
    exact W.lret hx hb hr (fun t ht hW => ⟨_, rfl, rfl, ht⟩) (fun _ hq => by cases hq) dX3_cells_33
  · replace h := ga_iff c_1 h
    by_cases c_7 : x2 = 5
    · replace h := ga_ift c_7 h
      refine lv_lookup (off := 33) (tgt := 34) hx hb dX3_cells_1 (by decide) (by rw [c_7]; rfl) (by decide) ?_
      refine lv_aload_n hx hb dX3_cells_34 rfl (lv_at hl 0 rfl) ?_
      refine va_get hx hb hts in_X3 hown hK.1 hP 0 (fs := [.ref b_s, .ref b_a, .long bB, .ref b_c, .ref b_g]) rfl rfl 2 (by decide) (hts _ q159) (fun _ hh => hh) (v := .long bB) rfl dX3_cells_35 ?_
      obtain rfl := Option.some.inj h
      exact W.lret hx hb hr (fun t ht hW => ⟨_, rfl, rfl, ht⟩) (fun _ hq => by cases hq) dX3_cells_38
    · replace h := ga_iff c_7 h
      refine lv_lookup (off := 38) (tgt := 39) hx hb dX3_cells_1 (by decide) (by exact (lv_osw c_1 (by decide)).trans ((lv_osw c_7 (by decide)).trans (rfl))) (by decide) ?_
      refine lv_iload_n hx hb dX3_cells_39 rfl (lv_at hl 2 rfl) ?_
      refine lv_iconst (v := 3) hx hb dX3_cells_40 (by decide) ?_
      refine lv_icmp_ge (tgt := 55) hx hb dX3_cells_41 (by decide) (fun c_8 => ?_) (fun c_8 => ?_)
      · replace h := ga_ift c_8 h
        refine lv_aload_n hx hb dX3_cells_55 rfl (lv_at hl 0 rfl) ?_
        refine va_get hx hb hts in_X3 hown hK.1 hP 0 (fs := [.ref b_s, .ref b_a, .long bB, .ref b_c, .ref b_g]) rfl rfl 1 (by decide) (hts _ q157) (fun _ hh => hh) (v := .ref b_a) rfl dX3_cells_56 ?_
        refine lv_iload_n hx hb dX3_cells_59 rfl (lv_at hl 2 rfl) ?_
        refine lv_iconst (v := 3) hx hb dX3_cells_60 (by decide) ?_
        refine lv_isub hx hb dX3_cells_61 ?_
        obtain ⟨i_9, h⟩ := ga_gif h
        refine va_lald hx hb hK.1 hP 2 1 (f := bA) rfl rfl (ga_in i_9) dX3_cells_62 ?_
        obtain rfl := Option.some.inj h
        exact W.lret hx hb hr (fun t ht hW => ⟨_, rfl, rfl, ht⟩) (fun _ hq => by cases hq) dX3_cells_63
      · replace h := ga_iff c_8 h
        refine lv_aload_n hx hb dX3_cells_44 rfl (lv_at hl 0 rfl) ?_
        refine va_get hx hb hts in_X3 hown hK.1 hP 0 (fs := [.ref b_s, .ref b_a, .long bB, .ref b_c, .ref b_g]) rfl rfl 0 (by decide) (hts _ q154) (fun _ hh => hh) (v := .ref b_s) rfl dX3_cells_45 ?_
        refine lv_iload_n hx hb dX3_cells_48 rfl (lv_at hl 2 rfl) ?_
        refine lv_iconst (v := 1) hx hb dX3_cells_49 (by decide) ?_
        refine lv_isub hx hb dX3_cells_50 ?_
        obtain ⟨i_10, h⟩ := ga_gif h
        refine va_lald hx hb hK.1 hP 1 1 (f := bS) rfl rfl (ga_in i_10) dX3_cells_51 ?_
        refine lv_goto (tgt := 63) hx hb dX3_cells_52 (by decide) ?_
        obtain rfl := Option.some.inj h
        exact W.lret hx hb hr (fun t ht hW => ⟨_, rfl, rfl, ht⟩) (fun _ hq => by cases hq) dX3_cells_63
abbrev rm_X3_state : Room := { frames := 4, cells := 0, slots := 0, locals := 76 }
def lp_X3_state_5 (N : Nat) (bB : Int64) (bS : Nat → Int64) (bA : Nat → Int64) (zw : Int32) (zh : Int32) (zA : Int64) (zL : Int64) (zR : Int64) (zE : Int64) (x2 : Int32) : Nat → (Int32) → (Int32) → Option (Int32)
  | 0, _, _ => none
  | n+1, x3, x4 =>
    (if 6 ≤ x4 then
    some x3
    else
    ((F_X3_cells N bB bS bA zw zh zA zL zR zE x4).bind fun r_2 =>
    ((F_X1_has N r_2 x2).bind fun r_7 =>
    (if r_7 = 0 then
    lp_X3_state_5 N bB bS bA zw zh zA zL zR zE x2 n x3 (x4 + 1)
    else
    lp_X3_state_5 N bB bS bA zw zh zA zL zR zE x2 n x4 (x4 + 1)))))
set_option maxHeartbeats 4000000 in
theorem w_X3_state_5 {p : Program} {l : Launch} {e : Env} {s : State} {m : MethodId} {args : Array Value} {below : List Frame} {meth : Method} {c : Code} {D : va_G} {cA : Nat → ClassId} {b : Nat} {b_s : Nat} {b_a : Nat} {b_c : Nat} {b_g : Nat} {sh : Nat} {N : Nat} {bB : Int64} {bS : Nat → Int64} {bA : Nat → Int64} {zw : Int32} {zh : Int32} {zA : Int64} {zL : Int64} {zR : Int64} {zE : Int64} {x2 : Int32}  (C : ga_cx p m c meth s args RX3 cX3_state 5 (some .int)) (hK : ga_K D cA s) (hP : va_P D ga_cl [(b, .inr (3, [.ref b_s, .ref b_a, .long bB, .ref b_c, .ref b_g])), (b_s, .inl (cA 1, 2, .inr (.inl bS))), (b_a, .inl (cA 1, 2, .inr (.inl bA))), (sh, .inr (4, [.int zw, .int zh, .long zA, .long zL, .long zR, .long zE]))] s.heap) {out : Int32} : ∀ n : Nat, ∀ (x3 : Int32) (x4 : Int32), lp_X3_state_5 N bB bS bA zw zh zA zL zR zE x2 n x3 x4 = some out → ∀ ls : Array Slot, lv_has ls 5 [(0, .ref b), (1, .ref sh), (2, .int x2), (3, .int x3), (4, .int x4)] → W p l e (headSpec (ws_ yX3_state cX3_state 5 (some .int)) rm_X3_state).room s m args below meth c s.heap [] 0 0 (MQ below (vp_Si (fun r => out = r)) args s 0 0 ga_F) (F0 m 5 ls []) := by
  have C0 := C
  obtain ⟨hx, hb, hr, hlocks, hml, hown, hts⟩ := C0
  intro n
  induction n with
  | zero =>
    intro x3 x4 h
    rw [lp_X3_state_5.eq_1] at h
    cases h
  | succ n ih =>
    intro x3 x4 h ls hl
    rw [lp_X3_state_5.eq_2] at h
    refine lv_iload hx hb dX3_state_5 (lv_at hl 4 rfl) ?_
    refine lv_bipush (v := 6) hx hb dX3_state_7 (by decide) ?_
    refine lv_icmp_ge (tgt := 39) hx hb dX3_state_9 (by decide) (fun c_1 => ?_) (fun c_1 => ?_)
    · replace h := ga_ift c_1 h
      refine lv_iload_n hx hb dX3_state_39 rfl (lv_at hl 3 rfl) ?_
      obtain rfl := Option.some.inj h
      exact W.iret hx hb hr (fun t ht hW => ⟨_, rfl, rfl, ht⟩) (fun _ hq => by cases hq) dX3_state_40
    · replace h := ga_iff c_1 h
      refine lv_aload_n hx hb dX3_state_12 rfl (lv_at hl 0 rfl) ?_
      refine lv_aload_n hx hb dX3_state_13 rfl (lv_at hl 1 rfl) ?_
      refine lv_iload hx hb dX3_state_14 (lv_at hl 4 rfl) ?_
      obtain ⟨r_2, e_3, h⟩ := ga_gb h
      refine vp_callSl (va_Run.run (va_runV (As := [.ref sh, .int x4]) (rest := []) ⟨hx, hb, hml, hown, hts⟩ (met_X3_cells l D cA b b_s b_a b_c b_g sh bB bS bA zw zh zA zL zR zE N x4 r_2 e_3) (cwV 2 hts (lw_V q701 q702 q703 q72 q704) rfl rfl rfl (by decide +kernel) ⟨Nat.le_of_ble_eq_true rfl, Nat.le_of_ble_eq_true rfl⟩) (ga_PV hK (hP.sub (ws' := [(b, .inr (3, [.ref b_s, .ref b_a, .long bB, .ref b_c, .ref b_g])), (b_s, .inl (cA 1, 2, .inr (.inl bS))), (b_a, .inl (cA 1, 2, .inr (.inl bA))), (sh, .inr (4, [.int zw, .int zh, .long zA, .long zL, .long zR, .long zE]))]) [0, 1, 2, 3] rfl) (va_recv hK.1 hP (ci := 3) (q0 := 0) rfl rfl)) rfl rfl hl.1 rfl (lv_room (Nat.le_of_ble_eq_true rfl)) dX3_state_16 ⟨Nat.le_of_ble_eq_true rfl, Nat.le_of_ble_eq_true rfl⟩)) (fun z_4 w_5 => ?_)
      obtain rfl := w_5
      refine lv_iload_n hx hb dX3_state_19 rfl (lv_at hl 2 rfl) ?_
      obtain ⟨r_7, e_8, h⟩ := ga_gb h
      refine vp_callSi (va_Run.run (va_runSN (As := [.long r_2, .int x2]) (rest := []) ⟨hx, hb, hml, hown, hts⟩ (met_X1_has l D cA N r_2 x2 r_7 e_8) (⟨va_cnB 2 hts (lw_meth q708) rfl rfl rfl (hK.2.1 _ q706 rfl) (hts _ q67) (by decide +kernel) ⟨Nat.le_of_ble_eq_true rfl, Nat.le_of_ble_eq_true rfl⟩, hts _ q707, trivial⟩) (ga_PS hK ga_P0) rfl rfl hl.1 rfl (lv_room (Nat.le_of_ble_eq_true rfl)) dX3_state_20 ⟨Nat.le_of_ble_eq_true rfl, Nat.le_of_ble_eq_true rfl⟩)) (fun z_9 w_10 => ?_)
      obtain ⟨rfl, b_11⟩ := w_10
      refine lv_if_eq (tgt := 31) hx hb dX3_state_23 (by decide) (fun c_12 => ?_) (fun c_12 => ?_)
      · replace h := ga_ift c_12 h
        refine lv_iload_n hx hb dX3_state_31 rfl (lv_at hl 3 rfl) ?_
        refine lv_istore_n (lv' := [(3, .int x3), (0, .ref b), (1, .ref sh), (2, .int x2), (4, .int x4)]) hx hb dX3_state_32 rfl hl (by decide) rfl (fun ls hl => ?_)
        refine lv_iinc (v := (x4 + 1)) (lv' := [(4, .int (x4 + 1)), (3, .int x3), (0, .ref b), (1, .ref sh), (2, .int x2)]) hx hb dX3_state_33 hl (k := 4) rfl rfl (by decide) rfl (fun ls hl => ?_)
        refine lv_goto (tgt := 5) hx hb dX3_state_36 (by decide) ?_
        exact ih x3 (x4 + 1) h _ (lv_sub hl [2, 3, 4, 1, 0] rfl)
      · replace h := ga_iff c_12 h
        refine lv_iload hx hb dX3_state_26 (lv_at hl 4 rfl) ?_
        refine lv_goto (tgt := 32) hx hb dX3_state_28 (by decide) ?_
        refine lv_istore_n (lv' := [(3, .int x4), (0, .ref b), (1, .ref sh), (2, .int x2), (4, .int x4)]) hx hb dX3_state_32 rfl hl (by decide) rfl (fun ls hl => ?_)
        refine lv_iinc (v := (x4 + 1)) (lv' := [(4, .int (x4 + 1)), (3, .int x4), (0, .ref b), (1, .ref sh), (2, .int x2)]) hx hb dX3_state_33 hl (k := 4) rfl rfl (by decide) rfl (fun ls hl => ?_)
        refine lv_goto (tgt := 5) hx hb dX3_state_36 (by decide) ?_
        exact ih x4 (x4 + 1) h _ (lv_sub hl [2, 3, 4, 1, 0] rfl)
def F_X3_state (N : Nat) (bB : Int64) (bS : Nat → Int64) (bA : Nat → Int64) (zw : Int32) (zh : Int32) (zA : Int64) (zL : Int64) (zR : Int64) (zE : Int64) (x2 : Int32) : Option (Int32) :=
  lp_X3_state_5 N bB bS bA zw zh zA zL zR zE x2 N 0 0
set_option maxHeartbeats 4000000 in
theorem met_X3_state (l : Launch) (D : va_G) (cA : Nat → ClassId) (b : Nat) (b_s : Nat) (b_a : Nat) (b_c : Nat) (b_g : Nat) (sh : Nat) (bB : Int64) (bS : Nat → Int64) (bA : Nat → Int64) (zw : Int32) (zh : Int32) (zA : Int64) (zL : Int64) (zR : Int64) (zE : Int64) (N : Nat) (x2 : Int32)  (out : Int32) (h : F_X3_state N bB bS bA zw zh zA zL zR zE x2 = some out) : Met l yX3_state (ws_ yX3_state cX3_state 5 (some .int)) rm_X3_state (ga_P D cA [(b, .inr (3, [.ref b_s, .ref b_a, .long bB, .ref b_c, .ref b_g])), (b_s, .inl (cA 1, 2, .inr (.inl bS))), (b_a, .inl (cA 1, 2, .inr (.inl bA))), (sh, .inr (4, [.int zw, .int zh, .long zA, .long zL, .long zR, .long zE]))] [.ref b, .ref sh, .int x2]) (vp_Si (fun r => out = r)) 0 0 ga_F := by
  refine Met.ofW (cc := cX3_state) (maxL := 5) (ret := (some .int)) (by decide) rfl ?_
  intro p e s m args below meth c s₁ B hml hv
  obtain ⟨rfl, hP, hK⟩ := hv
  have C : ga_cx p m c meth s _ RX3 cX3_state 5 (some .int) := ga_cx_of B hml
  have C0 := C
  obtain ⟨hx, hb, hr, hlocks, hml, hown, hts⟩ := C0
  have hl := lv_entry ([.ref b, .ref sh, .int x2]) (n := 5) (Nat.le_of_ble_eq_true rfl)
  rw [lg_entry_eq]
  generalize (lg_sl ([.ref b, .ref sh, .int x2]) ++ List.replicate (5 - (lg_sl ([.ref b, .ref sh, .int x2])).length) Slot.unset).toArray = ls at hl ⊢
  have hl : lv_has ls 5 [(0, .ref b), (1, .ref sh), (2, .int x2)] := hl
  rw [F_X3_state] at h
  refine lv_iconst (v := 0) hx hb dX3_state_0 (by decide) ?_
  refine lv_istore_n (lv' := [(3, .int 0), (0, .ref b), (1, .ref sh), (2, .int x2)]) hx hb dX3_state_1 rfl hl (by decide) rfl (fun ls hl => ?_)
  refine lv_iconst (v := 0) hx hb dX3_state_2 (by decide) ?_
  refine lv_istore (lv' := [(4, .int 0), (3, .int 0), (0, .ref b), (1, .ref sh), (2, .int x2)]) hx hb dX3_state_3 hl (by decide) rfl (fun ls hl => ?_)
  exact w_X3_state_5 C hK hP N 0 0 h _ (lv_sub hl [2, 3, 4, 1, 0] rfl)
abbrev rm_X3_points : Room := { frames := 3, cells := 0, slots := 0, locals := 54 }
def F_X3_points (N : Nat) (bB : Int64) (bA : Nat → Int64) (bC : Nat → Int32) (x1 : Int32) : Option (Int32) :=
  (if inb x1 2 = true then
  (if inb x1 2 = true then
  some ((V_J13_bitCount (bA (ix x1))) + (2 * (bC (ix x1))))
  else none)
  else none)
set_option maxHeartbeats 4000000 in
theorem met_X3_points (l : Launch) (D : va_G) (cA : Nat → ClassId) (b : Nat) (b_s : Nat) (b_a : Nat) (b_c : Nat) (b_g : Nat) (bB : Int64) (bA : Nat → Int64) (bC : Nat → Int32) (N : Nat) (x1 : Int32)  (out : Int32) (h : F_X3_points N bB bA bC x1 = some out) : Met l yX3_points (ws_ yX3_points cX3_points 2 (some .int)) rm_X3_points (ga_P D cA [(b, .inr (3, [.ref b_s, .ref b_a, .long bB, .ref b_c, .ref b_g])), (b_a, .inl (cA 1, 2, .inr (.inl bA))), (b_c, .inl (cA 0, 2, .inl bC))] [.ref b, .int x1]) (vp_Si (fun r => out = r)) 0 0 ga_F := by
  refine Met.ofW (cc := cX3_points) (maxL := 2) (ret := (some .int)) (by decide) rfl ?_
  intro p e s m args below meth c s₁ B hml hv
  obtain ⟨rfl, hP, hK⟩ := hv
  have C : ga_cx p m c meth s _ RX3 cX3_points 2 (some .int) := ga_cx_of B hml
  have C0 := C
  obtain ⟨hx, hb, hr, hlocks, hml, hown, hts⟩ := C0
  have hl := lv_entry ([.ref b, .int x1]) (n := 2) (Nat.le_of_ble_eq_true rfl)
  rw [lg_entry_eq]
  generalize (lg_sl ([.ref b, .int x1]) ++ List.replicate (2 - (lg_sl ([.ref b, .int x1])).length) Slot.unset).toArray = ls at hl ⊢
  have hl : lv_has ls 2 [(0, .ref b), (1, .int x1)] := hl
  rw [F_X3_points] at h
  refine lv_aload_n hx hb dX3_points_0 rfl (lv_at hl 0 rfl) ?_
  refine va_get hx hb hts in_X3 hown hK.1 hP 0 (fs := [.ref b_s, .ref b_a, .long bB, .ref b_c, .ref b_g]) rfl rfl 1 (by decide) (hts _ q157) (fun _ hh => hh) (v := .ref b_a) rfl dX3_points_1 ?_
  refine lv_iload_n hx hb dX3_points_4 rfl (lv_at hl 1 rfl) ?_
  obtain ⟨i_1, h⟩ := ga_gif h
  refine va_lald hx hb hK.1 hP 1 1 (f := bA) rfl rfl (ga_in i_1) dX3_points_5 ?_
  refine vp_callSi (va_Run.run (va_runSN (As := [.long (bA (ix x1))]) (rest := []) ⟨hx, hb, hml, hown, hts⟩ (met_X1_size l D cA N (bA (ix x1)) (V_J13_bitCount (bA (ix x1))) rfl) (⟨va_cnB 1 hts (lw_meth q569) rfl rfl rfl (hK.2.1 _ q812 rfl) (hts _ q67) (by decide +kernel) ⟨Nat.le_of_ble_eq_true rfl, Nat.le_of_ble_eq_true rfl⟩, hts _ q568, trivial⟩) (ga_PS hK ga_P0) rfl rfl hl.1 rfl (lv_room (Nat.le_of_ble_eq_true rfl)) dX3_points_6 ⟨Nat.le_of_ble_eq_true rfl, Nat.le_of_ble_eq_true rfl⟩)) (fun z_4 w_5 => ?_)
  obtain rfl := w_5
  refine lv_iconst (v := 2) hx hb dX3_points_9 (by decide) ?_
  refine lv_aload_n hx hb dX3_points_10 rfl (lv_at hl 0 rfl) ?_
  refine va_get hx hb hts in_X3 hown hK.1 hP 0 (fs := [.ref b_s, .ref b_a, .long bB, .ref b_c, .ref b_g]) rfl rfl 3 (by decide) (hts _ q161) (fun _ hh => hh) (v := .ref b_c) rfl dX3_points_11 ?_
  refine lv_iload_n hx hb dX3_points_14 rfl (lv_at hl 1 rfl) ?_
  obtain ⟨i_7, h⟩ := ga_gif h
  refine va_iald hx hb hK.1 hP 2 0 (f := bC) rfl rfl (ga_in i_7) dX3_points_15 ?_
  refine lv_imul hx hb dX3_points_16 ?_
  refine lv_iadd hx hb dX3_points_17 ?_
  obtain rfl := Option.some.inj h
  exact W.iret hx hb hr (fun t ht hW => ⟨_, rfl, rfl, ht⟩) (fun _ hq => by cases hq) dX3_points_18
abbrev rm_X3_enclosed : Room := { frames := 3, cells := 0, slots := 0, locals := 61 }
def F_X3_enclosed (N : Nat) (bB : Int64) (bS : Nat → Int64) (bA : Nat → Int64) (zw : Int32) (zh : Int32) (zA : Int64) (zL : Int64) (zR : Int64) (zE : Int64) (x2 : Int32) (x3 : Int32) : Option (Int64) :=
  ((F_X3_open N bB bS bA zw zh zA zL zR zE x2).bind fun r_1 =>
  ((F_X1_has N r_1 x3).bind fun r_6 =>
  (if r_6 = 0 then
  some 0
  else
  ((F_X4_connected N zw zh zA zL zR zE x3 r_1).bind fun r_12 =>
  ((F_X4_isInside N zw zh zA zL zR zE r_12).bind fun r_17 =>
  (if r_17 = 0 then
  some 0
  else
  some r_12))))))
set_option maxHeartbeats 4000000 in
theorem met_X3_enclosed (l : Launch) (D : va_G) (cA : Nat → ClassId) (b : Nat) (b_s : Nat) (b_a : Nat) (b_c : Nat) (b_g : Nat) (sh : Nat) (bB : Int64) (bS : Nat → Int64) (bA : Nat → Int64) (zw : Int32) (zh : Int32) (zA : Int64) (zL : Int64) (zR : Int64) (zE : Int64) (N : Nat) (x2 : Int32) (x3 : Int32)  (out : Int64) (h : F_X3_enclosed N bB bS bA zw zh zA zL zR zE x2 x3 = some out) : Met l yX3_enclosed (ws_ yX3_enclosed cX3_enclosed 8 (some .long)) rm_X3_enclosed (ga_P D cA [(b, .inr (3, [.ref b_s, .ref b_a, .long bB, .ref b_c, .ref b_g])), (b_s, .inl (cA 1, 2, .inr (.inl bS))), (b_a, .inl (cA 1, 2, .inr (.inl bA))), (sh, .inr (4, [.int zw, .int zh, .long zA, .long zL, .long zR, .long zE]))] [.ref b, .ref sh, .int x2, .int x3]) (vp_Sl (fun r => out = r)) 0 0 ga_F := by
  refine Met.ofW (cc := cX3_enclosed) (maxL := 8) (ret := (some .long)) (by decide) rfl ?_
  intro p e s m args below meth c s₁ B hml hv
  obtain ⟨rfl, hP, hK⟩ := hv
  have C : ga_cx p m c meth s _ RX3 cX3_enclosed 8 (some .long) := ga_cx_of B hml
  have C0 := C
  obtain ⟨hx, hb, hr, hlocks, hml, hown, hts⟩ := C0
  have hl := lv_entry ([.ref b, .ref sh, .int x2, .int x3]) (n := 8) (Nat.le_of_ble_eq_true rfl)
  rw [lg_entry_eq]
  generalize (lg_sl ([.ref b, .ref sh, .int x2, .int x3]) ++ List.replicate (8 - (lg_sl ([.ref b, .ref sh, .int x2, .int x3])).length) Slot.unset).toArray = ls at hl ⊢
  have hl : lv_has ls 8 [(0, .ref b), (1, .ref sh), (2, .int x2), (3, .int x3)] := hl
  rw [F_X3_enclosed] at h
  refine lv_aload_n hx hb dX3_enclosed_0 rfl (lv_at hl 0 rfl) ?_
  refine lv_aload_n hx hb dX3_enclosed_1 rfl (lv_at hl 1 rfl) ?_
  refine lv_iload_n hx hb dX3_enclosed_2 rfl (lv_at hl 2 rfl) ?_
  obtain ⟨r_1, e_2, h⟩ := ga_gb h
  refine vp_callSl (va_Run.run (va_runV (As := [.ref sh, .int x2]) (rest := []) ⟨hx, hb, hml, hown, hts⟩ (met_X3_open l D cA b b_s b_a b_c b_g sh bB bS bA zw zh zA zL zR zE N x2 r_1 e_2) (cwV 2 hts (lw_V q838 q839 q840 q72 q841) rfl rfl rfl (by decide +kernel) ⟨Nat.le_of_ble_eq_true rfl, Nat.le_of_ble_eq_true rfl⟩) (ga_PV hK (hP.sub (ws' := [(b, .inr (3, [.ref b_s, .ref b_a, .long bB, .ref b_c, .ref b_g])), (b_s, .inl (cA 1, 2, .inr (.inl bS))), (b_a, .inl (cA 1, 2, .inr (.inl bA))), (sh, .inr (4, [.int zw, .int zh, .long zA, .long zL, .long zR, .long zE]))]) [0, 1, 2, 3] rfl) (va_recv hK.1 hP (ci := 3) (q0 := 0) rfl rfl)) rfl rfl hl.1 rfl (lv_room (Nat.le_of_ble_eq_true rfl)) dX3_enclosed_3 ⟨Nat.le_of_ble_eq_true rfl, Nat.le_of_ble_eq_true rfl⟩)) (fun z_3 w_4 => ?_)
  obtain rfl := w_4
  refine lv_lstore (lv' := [(4, .long r_1), (0, .ref b), (1, .ref sh), (2, .int x2), (3, .int x3)]) hx hb dX3_enclosed_6 hl (by decide) rfl (fun ls hl => ?_)
  refine lv_lload hx hb dX3_enclosed_8 (lv_at hl 0 rfl) ?_
  refine lv_iload_n hx hb dX3_enclosed_10 rfl (lv_at hl 4 rfl) ?_
  obtain ⟨r_6, e_7, h⟩ := ga_gb h
  refine vp_callSi (va_Run.run (va_runSN (As := [.long r_1, .int x3]) (rest := []) ⟨hx, hb, hml, hown, hts⟩ (met_X1_has l D cA N r_1 x3 r_6 e_7) (⟨va_cnB 2 hts (lw_meth q708) rfl rfl rfl (hK.2.1 _ q706 rfl) (hts _ q67) (by decide +kernel) ⟨Nat.le_of_ble_eq_true rfl, Nat.le_of_ble_eq_true rfl⟩, hts _ q707, trivial⟩) (ga_PS hK ga_P0) rfl rfl hl.1 rfl (lv_room (Nat.le_of_ble_eq_true rfl)) dX3_enclosed_11 ⟨Nat.le_of_ble_eq_true rfl, Nat.le_of_ble_eq_true rfl⟩)) (fun z_8 w_9 => ?_)
  obtain ⟨rfl, b_10⟩ := w_9
  refine lv_if_ne (tgt := 19) hx hb dX3_enclosed_14 (by decide) (fun c_11 => ?_) (fun c_11 => ?_)
  · replace h := ga_iff c_11 h
    refine lv_aload_n hx hb dX3_enclosed_19 rfl (lv_at hl 2 rfl) ?_
    refine lv_iload_n hx hb dX3_enclosed_20 rfl (lv_at hl 4 rfl) ?_
    refine lv_lload hx hb dX3_enclosed_21 (lv_at hl 0 rfl) ?_
    obtain ⟨r_12, e_13, h⟩ := ga_gb h
    refine vp_callSl (va_Run.run (va_runV (As := [.int x3, .long r_1]) (rest := []) ⟨hx, hb, hml, hown, hts⟩ (met_X4_connected l D cA sh zw zh zA zL zR zE N x3 r_1 r_12 e_13) (cwV 2 hts (lw_V q842 q843 q844 q73 q845) rfl rfl rfl (by decide +kernel) ⟨Nat.le_of_ble_eq_true rfl, Nat.le_of_ble_eq_true rfl⟩) (ga_PV hK (hP.sub (ws' := [(sh, .inr (4, [.int zw, .int zh, .long zA, .long zL, .long zR, .long zE]))]) [3] rfl) (va_recv hK.1 hP (ci := 4) (q0 := 3) rfl rfl)) rfl rfl hl.1 rfl (lv_room (Nat.le_of_ble_eq_true rfl)) dX3_enclosed_23 ⟨Nat.le_of_ble_eq_true rfl, Nat.le_of_ble_eq_true rfl⟩)) (fun z_14 w_15 => ?_)
    obtain rfl := w_15
    refine lv_lstore (lv' := [(6, .long r_12), (4, .long r_1), (0, .ref b), (1, .ref sh), (2, .int x2), (3, .int x3)]) hx hb dX3_enclosed_26 hl (by decide) rfl (fun ls hl => ?_)
    refine lv_aload_n hx hb dX3_enclosed_28 rfl (lv_at hl 3 rfl) ?_
    refine lv_lload hx hb dX3_enclosed_29 (lv_at hl 0 rfl) ?_
    obtain ⟨r_17, e_18, h⟩ := ga_gb h
    refine vp_callSi (va_Run.run (va_runV (As := [.long r_12]) (rest := []) ⟨hx, hb, hml, hown, hts⟩ (met_X4_isInside l D cA sh zw zh zA zL zR zE N r_12 r_17 e_18) (cwV 1 hts (lw_V q851 q852 q853 q73 q854) rfl rfl rfl (by decide +kernel) ⟨Nat.le_of_ble_eq_true rfl, Nat.le_of_ble_eq_true rfl⟩) (ga_PV hK (hP.sub (ws' := [(sh, .inr (4, [.int zw, .int zh, .long zA, .long zL, .long zR, .long zE]))]) [3] rfl) (va_recv hK.1 hP (ci := 4) (q0 := 3) rfl rfl)) rfl rfl hl.1 rfl (lv_room (Nat.le_of_ble_eq_true rfl)) dX3_enclosed_31 ⟨Nat.le_of_ble_eq_true rfl, Nat.le_of_ble_eq_true rfl⟩)) (fun z_19 w_20 => ?_)
    obtain ⟨rfl, b_21⟩ := w_20
    refine lv_if_eq (tgt := 42) hx hb dX3_enclosed_34 (by decide) (fun c_22 => ?_) (fun c_22 => ?_)
    · replace h := ga_ift c_22 h
      refine lv_lconst (v := 0) hx hb dX3_enclosed_42 (by decide) ?_
      obtain rfl := Option.some.inj h
      exact W.lret hx hb hr (fun t ht hW => ⟨_, rfl, rfl, ht⟩) (fun _ hq => by cases hq) dX3_enclosed_43
    · replace h := ga_iff c_22 h
      refine lv_lload hx hb dX3_enclosed_37 (lv_at hl 0 rfl) ?_
      refine lv_goto (tgt := 43) hx hb dX3_enclosed_39 (by decide) ?_
      obtain rfl := Option.some.inj h
      exact W.lret hx hb hr (fun t ht hW => ⟨_, rfl, rfl, ht⟩) (fun _ hq => by cases hq) dX3_enclosed_43
  · replace h := ga_ift c_11 h
    refine lv_lconst (v := 0) hx hb dX3_enclosed_17 (by decide) ?_
    obtain rfl := Option.some.inj h
    exact W.lret hx hb hr (fun t ht hW => ⟨_, rfl, rfl, ht⟩) (fun _ hq => by cases hq) dX3_enclosed_18
