abbrev rm_X6_isIn : Room := { frames := 1, cells := 0, slots := 0, locals := 12 }
def F_X6_isIn (N : Nat) (x0 : Int32) (x1 : Int32) (x2 : Int32) : Option (Int32) :=
  (if x0 < x1 then
  some 0
  else
  (if x2 < x0 then
  some 0
  else
  some 1))
set_option maxHeartbeats 4000000 in
theorem met_X6_isIn (l : Launch) (D : va_G) (cA : Nat → ClassId) (N : Nat) (x0 : Int32) (x1 : Int32) (x2 : Int32) (out : Int32) (h : F_X6_isIn N x0 x1 x2 = some out) : Met l yX6_isIn (ws_ yX6_isIn cX6_isIn 3 (some .boolean)) rm_X6_isIn (ga_P D cA [] [.int x0, .int x1, .int x2]) (vp_Si (fun r => out = r ∧ ga_B r)) 0 0 ga_F := by
  refine Met.ofW (cc := cX6_isIn) (maxL := 3) (ret := (some .boolean)) (by decide) rfl ?_
  intro p e s m args below meth c s₁ B hml hv
  obtain ⟨rfl, hP, hK⟩ := hv
  have C : ga_cx p m c meth s _ RX6 cX6_isIn 3 (some .boolean) := ga_cx_of B hml
  have C0 := C
  obtain ⟨hx, hb, hr, hlocks, hml, hown, hts⟩ := C0
  have hl := lv_entry ([.int x0, .int x1, .int x2]) (n := 3) (Nat.le_of_ble_eq_true rfl)
  rw [lg_entry_eq]
  generalize (lg_sl ([.int x0, .int x1, .int x2]) ++ List.replicate (3 - (lg_sl ([.int x0, .int x1, .int x2])).length) Slot.unset).toArray = ls at hl ⊢
  have hl : lv_has ls 3 [(0, .int x0), (1, .int x1), (2, .int x2)] := hl
  rw [F_X6_isIn] at h
  refine lv_iload_n hx hb dX6_isIn_0 rfl (lv_at hl 0 rfl) ?_
  refine lv_iload_n hx hb dX6_isIn_1 rfl (lv_at hl 1 rfl) ?_
  refine lv_icmp_lt (tgt := 14) hx hb dX6_isIn_2 (by decide) (fun c_1 => ?_) (fun c_1 => ?_)
  · replace h := ga_ift c_1 h
    refine lv_iconst (v := 0) hx hb dX6_isIn_14 (by decide) ?_
    cases h
    exact W.zret hx hb hr (ga_nb (Or.inl rfl)) (fun t ht hW => ⟨_, rfl, ⟨rfl, Or.inl rfl⟩, ht⟩) (fun _ hq => by cases hq) dX6_isIn_15
  · replace h := ga_iff c_1 h
    refine lv_iload_n hx hb dX6_isIn_5 rfl (lv_at hl 0 rfl) ?_
    refine lv_iload_n hx hb dX6_isIn_6 rfl (lv_at hl 2 rfl) ?_
    refine lv_icmp_gt (tgt := 14) hx hb dX6_isIn_7 (by decide) (fun c_2 => ?_) (fun c_2 => ?_)
    · replace h := ga_ift c_2 h
      refine lv_iconst (v := 0) hx hb dX6_isIn_14 (by decide) ?_
      cases h
      exact W.zret hx hb hr (ga_nb (Or.inl rfl)) (fun t ht hW => ⟨_, rfl, ⟨rfl, Or.inl rfl⟩, ht⟩) (fun _ hq => by cases hq) dX6_isIn_15
    · replace h := ga_iff c_2 h
      refine lv_iconst (v := 1) hx hb dX6_isIn_10 (by decide) ?_
      refine lv_goto (tgt := 15) hx hb dX6_isIn_11 (by decide) ?_
      cases h
      exact W.zret hx hb hr (ga_nb (Or.inr rfl)) (fun t ht hW => ⟨_, rfl, ⟨rfl, Or.inr rfl⟩, ht⟩) (fun _ hq => by cases hq) dX6_isIn_15
abbrev rm_X6_size : Room := { frames := 1, cells := 0, slots := 0, locals := 12 }
def lp_X6_size_4 (N : Nat) (x0 : Int64) : Nat → Int32 → Int32 → Option (Int32)
  | 0, _, _ => none
  | n+1, x2, x3 =>
    (if 49 ≤ x3 then
    some x2
    else
    lp_X6_size_4 N x0 n (x2 + (((jlshr x0 x3) &&& 1).toInt32)) (x3 + 1))
set_option maxHeartbeats 4000000 in
theorem w_X6_size_4 {p : Program} {l : Launch} {e : Env} {s : State} {m : MethodId} {args : Array Value} {below : List Frame} {meth : Method} {c : Code} {D : va_G} {cA : Nat → ClassId} {N : Nat} {x0 : Int64} (C : ga_cx p m c meth s args RX6 cX6_size 4 (some .int)) (hK : ga_K D cA s) {out : Int32} : ∀ n : Nat, ∀ (x2 : Int32) (x3 : Int32), lp_X6_size_4 N x0 n x2 x3 = some out → ∀ ls : Array Slot, lv_has ls 4 [(0, .long x0), (2, .int x2), (3, .int x3)] → W p l e (headSpec (ws_ yX6_size cX6_size 4 (some .int)) rm_X6_size).room s m args below meth c s.heap [] 0 0 (MQ below (vp_Si (fun r => out = r)) args s 0 0 ga_F) (F0 m 4 ls []) := by
  have C0 := C
  obtain ⟨hx, hb, hr, hlocks, hml, hown, hts⟩ := C0
  intro n
  induction n with
  | zero =>
    intro x2 x3 h
    rw [lp_X6_size_4.eq_1] at h
    cases h
  | succ n ih =>
    intro x2 x3 h ls hl
    rw [lp_X6_size_4.eq_2] at h
    refine lv_iload_n hx hb dX6_size_4 rfl (lv_at hl 2 rfl) ?_
    refine lv_bipush (v := 49) hx hb dX6_size_5 (by decide) ?_
    refine lv_icmp_ge (tgt := 25) hx hb dX6_size_7 (by decide) (fun c_1 => ?_) (fun c_1 => ?_)
    · replace h := ga_ift c_1 h
      refine lv_iload_n hx hb dX6_size_25 rfl (lv_at hl 1 rfl) ?_
      cases h
      exact W.iret hx hb hr (fun t ht hW => ⟨_, rfl, rfl, ht⟩) (fun _ hq => by cases hq) dX6_size_26
    · replace h := ga_iff c_1 h
      refine lv_iload_n hx hb dX6_size_10 rfl (lv_at hl 1 rfl) ?_
      refine lv_lload_n hx hb dX6_size_11 rfl (lv_at hl 0 rfl) ?_
      refine lv_iload_n hx hb dX6_size_12 rfl (lv_at hl 2 rfl) ?_
      refine lv_lshr (v := (jlshr x0 x3)) hx hb dX6_size_13 rfl ?_
      refine lv_lconst (v := 1) hx hb dX6_size_14 (by decide) ?_
      refine lv_land hx hb dX6_size_15 ?_
      refine lv_l2i (v := ((jlshr x0 x3) &&& 1).toInt32) hx hb dX6_size_16 rfl ?_
      refine lv_iadd hx hb dX6_size_17 ?_
      refine lv_istore_n (lv' := [(2, .int (x2 + (((jlshr x0 x3) &&& 1).toInt32))), (0, .long x0), (3, .int x3)]) hx hb dX6_size_18 rfl hl (by decide) rfl (fun ls hl => ?_)
      refine lv_iinc (v := (x3 + 1)) (lv' := [(3, .int (x3 + 1)), (2, .int (x2 + (((jlshr x0 x3) &&& 1).toInt32))), (0, .long x0)]) hx hb dX6_size_19 hl (k := 2) rfl rfl (by decide) rfl (fun ls hl => ?_)
      refine lv_goto (tgt := 4) hx hb dX6_size_22 (by decide) ?_
      exact ih (x2 + (((jlshr x0 x3) &&& 1).toInt32)) (x3 + 1) h _ (lv_sub hl [2, 1, 0] rfl)
def F_X6_size (N : Nat) (x0 : Int64) : Option (Int32) :=
  lp_X6_size_4 N x0 N 0 0
set_option maxHeartbeats 4000000 in
theorem met_X6_size (l : Launch) (D : va_G) (cA : Nat → ClassId) (N : Nat) (x0 : Int64) (out : Int32) (h : F_X6_size N x0 = some out) : Met l yX6_size (ws_ yX6_size cX6_size 4 (some .int)) rm_X6_size (ga_P D cA [] [.long x0]) (vp_Si (fun r => out = r)) 0 0 ga_F := by
  refine Met.ofW (cc := cX6_size) (maxL := 4) (ret := (some .int)) (by decide) rfl ?_
  intro p e s m args below meth c s₁ B hml hv
  obtain ⟨rfl, hP, hK⟩ := hv
  have C : ga_cx p m c meth s _ RX6 cX6_size 4 (some .int) := ga_cx_of B hml
  have C0 := C
  obtain ⟨hx, hb, hr, hlocks, hml, hown, hts⟩ := C0
  have hl := lv_entry ([.long x0]) (n := 4) (Nat.le_of_ble_eq_true rfl)
  rw [lg_entry_eq]
  generalize (lg_sl ([.long x0]) ++ List.replicate (4 - (lg_sl ([.long x0])).length) Slot.unset).toArray = ls at hl ⊢
  have hl : lv_has ls 4 [(0, .long x0)] := hl
  rw [F_X6_size] at h
  refine lv_iconst (v := 0) hx hb dX6_size_0 (by decide) ?_
  refine lv_istore_n (lv' := [(2, .int 0), (0, .long x0)]) hx hb dX6_size_1 rfl hl (by decide) rfl (fun ls hl => ?_)
  refine lv_iconst (v := 0) hx hb dX6_size_2 (by decide) ?_
  refine lv_istore_n (lv' := [(3, .int 0), (2, .int 0), (0, .long x0)]) hx hb dX6_size_3 rfl hl (by decide) rfl (fun ls hl => ?_)
  exact w_X6_size_4 C hK N 0 0 h _ (lv_sub hl [2, 1, 0] rfl)
abbrev rm_X6_lowest : Room := { frames := 1, cells := 0, slots := 0, locals := 12 }
def lp_X6_lowest_2 (N : Nat) (x0 : Int64) : Nat → Int32 → Option (Int32)
  | 0, _ => none
  | n+1, x2 =>
    (if (lg_cmp ((jlshr x0 x2) &&& 1) 0) = 0 then
    lp_X6_lowest_2 N x0 n (x2 + 1)
    else
    some x2)
set_option maxHeartbeats 4000000 in
theorem w_X6_lowest_2 {p : Program} {l : Launch} {e : Env} {s : State} {m : MethodId} {args : Array Value} {below : List Frame} {meth : Method} {c : Code} {D : va_G} {cA : Nat → ClassId} {N : Nat} {x0 : Int64} (C : ga_cx p m c meth s args RX6 cX6_lowest 3 (some .int)) (hK : ga_K D cA s) {out : Int32} : ∀ n : Nat, ∀ (x2 : Int32), lp_X6_lowest_2 N x0 n x2 = some out → ∀ ls : Array Slot, lv_has ls 3 [(0, .long x0), (2, .int x2)] → W p l e (headSpec (ws_ yX6_lowest cX6_lowest 3 (some .int)) rm_X6_lowest).room s m args below meth c s.heap [] 0 0 (MQ below (vp_Si (fun r => out = r)) args s 0 0 ga_F) (F0 m 2 ls []) := by
  have C0 := C
  obtain ⟨hx, hb, hr, hlocks, hml, hown, hts⟩ := C0
  intro n
  induction n with
  | zero =>
    intro x2 h
    rw [lp_X6_lowest_2.eq_1] at h
    cases h
  | succ n ih =>
    intro x2 h ls hl
    rw [lp_X6_lowest_2.eq_2] at h
    refine lv_lload_n hx hb dX6_lowest_2 rfl (lv_at hl 0 rfl) ?_
    refine lv_iload_n hx hb dX6_lowest_3 rfl (lv_at hl 1 rfl) ?_
    refine lv_lshr (v := (jlshr x0 x2)) hx hb dX6_lowest_4 rfl ?_
    refine lv_lconst (v := 1) hx hb dX6_lowest_5 (by decide) ?_
    refine lv_land hx hb dX6_lowest_6 ?_
    refine lv_lconst (v := 0) hx hb dX6_lowest_7 (by decide) ?_
    refine W.lcmp hx hb dX6_lowest_8 ?_
    refine lv_if_ne (tgt := 18) hx hb dX6_lowest_9 (by decide) (fun c_1 => ?_) (fun c_1 => ?_)
    · replace h := ga_iff c_1 h
      refine lv_iload_n hx hb dX6_lowest_18 rfl (lv_at hl 1 rfl) ?_
      cases h
      exact W.iret hx hb hr (fun t ht hW => ⟨_, rfl, rfl, ht⟩) (fun _ hq => by cases hq) dX6_lowest_19
    · replace h := ga_ift c_1 h
      refine lv_iinc (v := (x2 + 1)) (lv' := [(2, .int (x2 + 1)), (0, .long x0)]) hx hb dX6_lowest_12 hl (k := 1) rfl rfl (by decide) rfl (fun ls hl => ?_)
      refine lv_goto (tgt := 2) hx hb dX6_lowest_15 (by decide) ?_
      exact ih (x2 + 1) h _ (lv_sub hl [1, 0] rfl)
def F_X6_lowest (N : Nat) (x0 : Int64) : Option (Int32) :=
  lp_X6_lowest_2 N x0 N 0
set_option maxHeartbeats 4000000 in
theorem met_X6_lowest (l : Launch) (D : va_G) (cA : Nat → ClassId) (N : Nat) (x0 : Int64) (out : Int32) (h : F_X6_lowest N x0 = some out) : Met l yX6_lowest (ws_ yX6_lowest cX6_lowest 3 (some .int)) rm_X6_lowest (ga_P D cA [] [.long x0]) (vp_Si (fun r => out = r)) 0 0 ga_F := by
  refine Met.ofW (cc := cX6_lowest) (maxL := 3) (ret := (some .int)) (by decide) rfl ?_
  intro p e s m args below meth c s₁ B hml hv
  obtain ⟨rfl, hP, hK⟩ := hv
  have C : ga_cx p m c meth s _ RX6 cX6_lowest 3 (some .int) := ga_cx_of B hml
  have C0 := C
  obtain ⟨hx, hb, hr, hlocks, hml, hown, hts⟩ := C0
  have hl := lv_entry ([.long x0]) (n := 3) (Nat.le_of_ble_eq_true rfl)
  rw [lg_entry_eq]
  generalize (lg_sl ([.long x0]) ++ List.replicate (3 - (lg_sl ([.long x0])).length) Slot.unset).toArray = ls at hl ⊢
  have hl : lv_has ls 3 [(0, .long x0)] := hl
  rw [F_X6_lowest] at h
  refine lv_iconst (v := 0) hx hb dX6_lowest_0 (by decide) ?_
  refine lv_istore_n (lv' := [(2, .int 0), (0, .long x0)]) hx hb dX6_lowest_1 rfl hl (by decide) rfl (fun ls hl => ?_)
  exact w_X6_lowest_2 C hK N 0 h _ (lv_sub hl [1, 0] rfl)
abbrev rm_X6_lengthOf : Room := { frames := 1, cells := 0, slots := 0, locals := 12 }
def F_X6_lengthOf (N : Nat) (x0 : Int32) : Option (Int32) :=
  (if x0 = (-1) then
  some 1
  else
  some 2)
set_option maxHeartbeats 4000000 in
theorem met_X6_lengthOf (l : Launch) (D : va_G) (cA : Nat → ClassId) (N : Nat) (x0 : Int32) (out : Int32) (h : F_X6_lengthOf N x0 = some out) : Met l yX6_lengthOf (ws_ yX6_lengthOf cX6_lengthOf 1 (some .int)) rm_X6_lengthOf (ga_P D cA [] [.int x0]) (vp_Si (fun r => out = r)) 0 0 ga_F := by
  refine Met.ofW (cc := cX6_lengthOf) (maxL := 1) (ret := (some .int)) (by decide) rfl ?_
  intro p e s m args below meth c s₁ B hml hv
  obtain ⟨rfl, hP, hK⟩ := hv
  have C : ga_cx p m c meth s _ RX6 cX6_lengthOf 1 (some .int) := ga_cx_of B hml
  have C0 := C
  obtain ⟨hx, hb, hr, hlocks, hml, hown, hts⟩ := C0
  have hl := lv_entry ([.int x0]) (n := 1) (Nat.le_of_ble_eq_true rfl)
  rw [lg_entry_eq]
  generalize (lg_sl ([.int x0]) ++ List.replicate (1 - (lg_sl ([.int x0])).length) Slot.unset).toArray = ls at hl ⊢
  have hl : lv_has ls 1 [(0, .int x0)] := hl
  rw [F_X6_lengthOf] at h
  refine lv_iload_n hx hb dX6_lengthOf_0 rfl (lv_at hl 0 rfl) ?_
  refine lv_iconst (v := (-1)) hx hb dX6_lengthOf_1 (by decide) ?_
  refine lv_icmp_ne (tgt := 9) hx hb dX6_lengthOf_2 (by decide) (fun c_1 => ?_) (fun c_1 => ?_)
  · replace h := ga_iff c_1 h
    refine lv_iconst (v := 2) hx hb dX6_lengthOf_9 (by decide) ?_
    cases h
    exact W.iret hx hb hr (fun t ht hW => ⟨_, rfl, rfl, ht⟩) (fun _ hq => by cases hq) dX6_lengthOf_10
  · replace h := ga_ift c_1 h
    refine lv_iconst (v := 1) hx hb dX6_lengthOf_5 (by decide) ?_
    refine lv_goto (tgt := 10) hx hb dX6_lengthOf_6 (by decide) ?_
    cases h
    exact W.iret hx hb hr (fun t ht hW => ⟨_, rfl, rfl, ht⟩) (fun _ hq => by cases hq) dX6_lengthOf_10
abbrev rm_X6_thrown : Room := { frames := 1, cells := 0, slots := 0, locals := 12 }
def F_X6_thrown (N : Nat) (fi : Nat → Int32) (fa : Nat → Nat → Int32)  : Option (Int32) :=
  some (fi 0)
set_option maxHeartbeats 4000000 in
theorem met_X6_thrown (l : Launch) (D : va_G) (cA : Nat → ClassId) (b : Nat) (fr : Nat → Nat) (fi : Nat → Int32) (fa : Nat → Nat → Int32) (N : Nat)  (out : Int32) (h : F_X6_thrown N fi fa = some out) : Met l yX6_thrown (ws_ yX6_thrown cX6_thrown 1 (some .int)) rm_X6_thrown (ga_P D cA (mW b cA fr fi fa) [.ref b]) (vp_Si (fun r => out = r)) 0 0 ga_F := by
  refine Met.ofW (cc := cX6_thrown) (maxL := 1) (ret := (some .int)) (by decide) rfl ?_
  intro p e s m args below meth c s₁ B hml hv
  obtain ⟨rfl, hP, hK⟩ := hv
  have C : ga_cx p m c meth s _ RX6 cX6_thrown 1 (some .int) := ga_cx_of B hml
  have C0 := C
  obtain ⟨hx, hb, hr, hlocks, hml, hown, hts⟩ := C0
  have hl := lv_entry ([.ref b]) (n := 1) (Nat.le_of_ble_eq_true rfl)
  rw [lg_entry_eq]
  generalize (lg_sl ([.ref b]) ++ List.replicate (1 - (lg_sl ([.ref b])).length) Slot.unset).toArray = ls at hl ⊢
  have hl : lv_has ls 1 [(0, .ref b)] := hl
  rw [F_X6_thrown] at h
  refine lv_aload_n hx hb dX6_thrown_0 rfl (lv_at hl 0 rfl) ?_
  refine va_get hx hb hts in_X6 hown hK.1 hP 0 (fs := mF fi fr) rfl rfl 0 (by decide) (hts _ q1512) (fun _ hh => hh) (v := .int (fi 0)) rfl dX6_thrown_1 ?_
  cases h
  exact W.iret hx hb hr (fun t ht hW => ⟨_, rfl, rfl, ht⟩) (fun _ hq => by cases hq) dX6_thrown_4
abbrev rm_X6_cells : Room := { frames := 1, cells := 0, slots := 0, locals := 12 }
def F_X6_cells (N : Nat) (fi : Nat → Int32) (fa : Nat → Nat → Int32)  : Option (Int32) :=
  some ((fi 1) * (fi 2))
set_option maxHeartbeats 4000000 in
theorem met_X6_cells (l : Launch) (D : va_G) (cA : Nat → ClassId) (b : Nat) (fr : Nat → Nat) (fi : Nat → Int32) (fa : Nat → Nat → Int32) (N : Nat)  (out : Int32) (h : F_X6_cells N fi fa = some out) : Met l yX6_cells (ws_ yX6_cells cX6_cells 1 (some .int)) rm_X6_cells (ga_P D cA (mW b cA fr fi fa) [.ref b]) (vp_Si (fun r => out = r)) 0 0 ga_F := by
  refine Met.ofW (cc := cX6_cells) (maxL := 1) (ret := (some .int)) (by decide) rfl ?_
  intro p e s m args below meth c s₁ B hml hv
  obtain ⟨rfl, hP, hK⟩ := hv
  have C : ga_cx p m c meth s _ RX6 cX6_cells 1 (some .int) := ga_cx_of B hml
  have C0 := C
  obtain ⟨hx, hb, hr, hlocks, hml, hown, hts⟩ := C0
  have hl := lv_entry ([.ref b]) (n := 1) (Nat.le_of_ble_eq_true rfl)
  rw [lg_entry_eq]
  generalize (lg_sl ([.ref b]) ++ List.replicate (1 - (lg_sl ([.ref b])).length) Slot.unset).toArray = ls at hl ⊢
  have hl : lv_has ls 1 [(0, .ref b)] := hl
  rw [F_X6_cells] at h
  refine lv_aload_n hx hb dX6_cells_0 rfl (lv_at hl 0 rfl) ?_
  refine va_get hx hb hts in_X6 hown hK.1 hP 0 (fs := mF fi fr) rfl rfl 1 (by decide) (hts _ q1513) (fun _ hh => hh) (v := .int (fi 1)) rfl dX6_cells_1 ?_
  refine lv_aload_n hx hb dX6_cells_4 rfl (lv_at hl 0 rfl) ?_
  refine va_get hx hb hts in_X6 hown hK.1 hP 0 (fs := mF fi fr) rfl rfl 2 (by decide) (hts _ q1514) (fun _ hh => hh) (v := .int (fi 2)) rfl dX6_cells_5 ?_
  refine lv_imul hx hb dX6_cells_8 ?_
  cases h
  exact W.iret hx hb hr (fun t ht hW => ⟨_, rfl, rfl, ht⟩) (fun _ hq => by cases hq) dX6_cells_9
abbrev rm_X6_isCell : Room := { frames := 2, cells := 0, slots := 0, locals := 34 }
def F_X6_isCell (N : Nat) (fi : Nat → Int32) (fa : Nat → Nat → Int32) (x1 : Int32) : Option (Int32) :=
  ((F_X6_cells N fi fa).bind fun r_1 =>
  ((F_X6_isIn N x1 0 (r_1 - 1)).bind fun r_5 =>
  some r_5))
set_option maxHeartbeats 4000000 in
theorem met_X6_isCell (l : Launch) (D : va_G) (cA : Nat → ClassId) (b : Nat) (fr : Nat → Nat) (fi : Nat → Int32) (fa : Nat → Nat → Int32) (N : Nat) (x1 : Int32) (out : Int32) (h : F_X6_isCell N fi fa x1 = some out) : Met l yX6_isCell (ws_ yX6_isCell cX6_isCell 2 (some .boolean)) rm_X6_isCell (ga_P D cA (mW b cA fr fi fa) [.ref b, .int x1]) (vp_Si (fun r => out = r ∧ ga_B r)) 0 0 ga_F := by
  refine Met.ofW (cc := cX6_isCell) (maxL := 2) (ret := (some .boolean)) (by decide) rfl ?_
  intro p e s m args below meth c s₁ B hml hv
  obtain ⟨rfl, hP, hK⟩ := hv
  have C : ga_cx p m c meth s _ RX6 cX6_isCell 2 (some .boolean) := ga_cx_of B hml
  have C0 := C
  obtain ⟨hx, hb, hr, hlocks, hml, hown, hts⟩ := C0
  have hl := lv_entry ([.ref b, .int x1]) (n := 2) (Nat.le_of_ble_eq_true rfl)
  rw [lg_entry_eq]
  generalize (lg_sl ([.ref b, .int x1]) ++ List.replicate (2 - (lg_sl ([.ref b, .int x1])).length) Slot.unset).toArray = ls at hl ⊢
  have hl : lv_has ls 2 [(0, .ref b), (1, .int x1)] := hl
  rw [F_X6_isCell] at h
  refine lv_iload_n hx hb dX6_isCell_0 rfl (lv_at hl 1 rfl) ?_
  refine lv_iconst (v := 0) hx hb dX6_isCell_1 (by decide) ?_
  refine lv_aload_n hx hb dX6_isCell_2 rfl (lv_at hl 0 rfl) ?_
  obtain ⟨r_1, e_2, h⟩ := ga_gb h
  refine vp_callSi (W.runV (As := []) (rest := [.int 0, .int x1]) ⟨hx, hb, hml, hown, hts⟩ (met_X6_cells l D cA b fr fi fa N r_1 e_2) (cwV 0 hts (lw_V q1627 q1629 qs32 q79 q1630) rfl rfl rfl (by decide +kernel) ⟨Nat.le_of_ble_eq_true rfl, Nat.le_of_ble_eq_true rfl⟩) (ga_PV hK hP (va_recv hK.1 hP (ci := 0) (q0 := 0) rfl rfl)) rfl rfl hl.1 rfl (lv_room (Nat.le_of_ble_eq_true rfl)) dX6_isCell_3 ⟨Nat.le_of_ble_eq_true rfl, Nat.le_of_ble_eq_true rfl⟩) (fun z_3 w_4 => ?_)
  obtain rfl := w_4
  refine lv_iconst (v := 1) hx hb dX6_isCell_6 (by decide) ?_
  refine lv_isub hx hb dX6_isCell_7 ?_
  obtain ⟨r_5, e_6, h⟩ := ga_gb h
  refine vp_callSi (W.runS (As := [.int x1, .int 0, .int (r_1 - 1)]) (rest := []) ⟨hx, hb, hml, hown, hts⟩ (met_X6_isIn l D cA N x1 0 (r_1 - 1) r_5 e_6) (va_cwS 3 hts (lw_S q1620 q1621 q79 q1622) rfl rfl rfl (by decide +kernel) ⟨Nat.le_of_ble_eq_true rfl, Nat.le_of_ble_eq_true rfl⟩) (ga_PS hK ga_P0) rfl rfl hl.1 rfl (lv_room (Nat.le_of_ble_eq_true rfl)) dX6_isCell_8 ⟨Nat.le_of_ble_eq_true rfl, Nat.le_of_ble_eq_true rfl⟩) (fun z_7 w_8 => ?_)
  obtain ⟨rfl, b_9⟩ := w_8
  cases h
  exact W.zret hx hb hr (ga_nb (b_9)) (fun t ht hW => ⟨_, rfl, ⟨rfl, b_9⟩, ht⟩) (fun _ hq => by cases hq) dX6_isCell_11
abbrev rm_X6_many : Room := { frames := 2, cells := 0, slots := 0, locals := 32 }
def lp_X6_many_4 (N : Nat) (fi : Nat → Int32) (fa : Nat → Nat → Int32) (x1 : Int32) : Nat → Int32 → Int32 → Option (Int32)
  | 0, _, _ => none
  | n+1, x2, x3 =>
    ((F_X6_cells N fi fa).bind fun r_1 =>
    (if r_1 ≤ x3 then
    some x2
    else
    (if inb x3 155 = true then
    (if (fa 5 (ix x3)) = x1 then
    lp_X6_many_4 N fi fa x1 n (x2 + 1) (x3 + 1)
    else
    lp_X6_many_4 N fi fa x1 n (x2 + 0) (x3 + 1))
    else none)))
set_option maxHeartbeats 4000000 in
theorem w_X6_many_4 {p : Program} {l : Launch} {e : Env} {s : State} {m : MethodId} {args : Array Value} {below : List Frame} {meth : Method} {c : Code} {D : va_G} {cA : Nat → ClassId} {b : Nat} {fr : Nat → Nat} {N : Nat} {fi : Nat → Int32} {fa : Nat → Nat → Int32} {x1 : Int32} (C : ga_cx p m c meth s args RX6 cX6_many 4 (some .int)) (hK : ga_K D cA s) (hP : va_P D ga_cl (mW b cA fr fi fa) s.heap) {out : Int32} : ∀ n : Nat, ∀ (x2 : Int32) (x3 : Int32), lp_X6_many_4 N fi fa x1 n x2 x3 = some out → ∀ ls : Array Slot, lv_has ls 4 [(0, .ref b), (1, .int x1), (2, .int x2), (3, .int x3)] → W p l e (headSpec (ws_ yX6_many cX6_many 4 (some .int)) rm_X6_many).room s m args below meth c s.heap [] 0 0 (MQ below (vp_Si (fun r => out = r)) args s 0 0 ga_F) (F0 m 4 ls []) := by
  have C0 := C
  obtain ⟨hx, hb, hr, hlocks, hml, hown, hts⟩ := C0
  intro n
  induction n with
  | zero =>
    intro x2 x3 h
    rw [lp_X6_many_4.eq_1] at h
    cases h
  | succ n ih =>
    intro x2 x3 h ls hl
    rw [lp_X6_many_4.eq_2] at h
    refine lv_iload_n hx hb dX6_many_4 rfl (lv_at hl 3 rfl) ?_
    refine lv_aload_n hx hb dX6_many_5 rfl (lv_at hl 0 rfl) ?_
    obtain ⟨r_1, e_2, h⟩ := ga_gb h
    refine vp_callSi (W.runV (As := []) (rest := [.int x3]) ⟨hx, hb, hml, hown, hts⟩ (met_X6_cells l D cA b fr fi fa N r_1 e_2) (cwV 0 hts (lw_V q1627 q1629 qs32 q79 q1630) rfl rfl rfl (by decide +kernel) ⟨Nat.le_of_ble_eq_true rfl, Nat.le_of_ble_eq_true rfl⟩) (ga_PV hK hP (va_recv hK.1 hP (ci := 0) (q0 := 0) rfl rfl)) rfl rfl hl.1 rfl (lv_room (Nat.le_of_ble_eq_true rfl)) dX6_many_6 ⟨Nat.le_of_ble_eq_true rfl, Nat.le_of_ble_eq_true rfl⟩) (fun z_3 w_4 => ?_)
    obtain rfl := w_4
    refine lv_icmp_ge (tgt := 36) hx hb dX6_many_9 (by decide) (fun c_5 => ?_) (fun c_5 => ?_)
    · replace h := ga_ift c_5 h
      refine lv_iload_n hx hb dX6_many_36 rfl (lv_at hl 2 rfl) ?_
      cases h
      exact W.iret hx hb hr (fun t ht hW => ⟨_, rfl, rfl, ht⟩) (fun _ hq => by cases hq) dX6_many_37
    · replace h := ga_iff c_5 h
      refine lv_iload_n hx hb dX6_many_12 rfl (lv_at hl 2 rfl) ?_
      refine lv_aload_n hx hb dX6_many_13 rfl (lv_at hl 0 rfl) ?_
      refine va_get hx hb hts in_X6 hown hK.1 hP 0 (fs := mF fi fr) rfl rfl 5 (by decide) (hts _ q1517) (fun _ hh => hh) (v := .ref (fr 5)) rfl dX6_many_14 ?_
      refine lv_iload_n hx hb dX6_many_17 rfl (lv_at hl 3 rfl) ?_
      obtain ⟨i_6, h⟩ := ga_gif h
      refine va_iald hx hb hK.1 hP 2 0 (f := fa 5) rfl rfl (ga_in i_6) dX6_many_18 ?_
      refine lv_iload_n hx hb dX6_many_19 rfl (lv_at hl 1 rfl) ?_
      refine lv_icmp_ne (tgt := 27) hx hb dX6_many_20 (by decide) (fun c_7 => ?_) (fun c_7 => ?_)
      · replace h := ga_iff c_7 h
        refine lv_iconst (v := 0) hx hb dX6_many_27 (by decide) ?_
        refine lv_iadd hx hb dX6_many_28 ?_
        refine lv_istore_n (lv' := [(2, .int (x2 + 0)), (0, .ref b), (1, .int x1), (3, .int x3)]) hx hb dX6_many_29 rfl hl (by decide) rfl (fun ls hl => ?_)
        refine lv_iinc (v := (x3 + 1)) (lv' := [(3, .int (x3 + 1)), (2, .int (x2 + 0)), (0, .ref b), (1, .int x1)]) hx hb dX6_many_30 hl (k := 3) rfl rfl (by decide) rfl (fun ls hl => ?_)
        refine lv_goto (tgt := 4) hx hb dX6_many_33 (by decide) ?_
        exact ih (x2 + 0) (x3 + 1) h _ (lv_sub hl [2, 3, 1, 0] rfl)
      · replace h := ga_ift c_7 h
        refine lv_iconst (v := 1) hx hb dX6_many_23 (by decide) ?_
        refine lv_goto (tgt := 28) hx hb dX6_many_24 (by decide) ?_
        refine lv_iadd hx hb dX6_many_28 ?_
        refine lv_istore_n (lv' := [(2, .int (x2 + 1)), (0, .ref b), (1, .int x1), (3, .int x3)]) hx hb dX6_many_29 rfl hl (by decide) rfl (fun ls hl => ?_)
        refine lv_iinc (v := (x3 + 1)) (lv' := [(3, .int (x3 + 1)), (2, .int (x2 + 1)), (0, .ref b), (1, .int x1)]) hx hb dX6_many_30 hl (k := 3) rfl rfl (by decide) rfl (fun ls hl => ?_)
        refine lv_goto (tgt := 4) hx hb dX6_many_33 (by decide) ?_
        exact ih (x2 + 1) (x3 + 1) h _ (lv_sub hl [2, 3, 1, 0] rfl)
def F_X6_many (N : Nat) (fi : Nat → Int32) (fa : Nat → Nat → Int32) (x1 : Int32) : Option (Int32) :=
  lp_X6_many_4 N fi fa x1 N 0 0
set_option maxHeartbeats 4000000 in
theorem met_X6_many (l : Launch) (D : va_G) (cA : Nat → ClassId) (b : Nat) (fr : Nat → Nat) (fi : Nat → Int32) (fa : Nat → Nat → Int32) (N : Nat) (x1 : Int32) (out : Int32) (h : F_X6_many N fi fa x1 = some out) : Met l yX6_many (ws_ yX6_many cX6_many 4 (some .int)) rm_X6_many (ga_P D cA (mW b cA fr fi fa) [.ref b, .int x1]) (vp_Si (fun r => out = r)) 0 0 ga_F := by
  refine Met.ofW (cc := cX6_many) (maxL := 4) (ret := (some .int)) (by decide) rfl ?_
  intro p e s m args below meth c s₁ B hml hv
  obtain ⟨rfl, hP, hK⟩ := hv
  have C : ga_cx p m c meth s _ RX6 cX6_many 4 (some .int) := ga_cx_of B hml
  have C0 := C
  obtain ⟨hx, hb, hr, hlocks, hml, hown, hts⟩ := C0
  have hl := lv_entry ([.ref b, .int x1]) (n := 4) (Nat.le_of_ble_eq_true rfl)
  rw [lg_entry_eq]
  generalize (lg_sl ([.ref b, .int x1]) ++ List.replicate (4 - (lg_sl ([.ref b, .int x1])).length) Slot.unset).toArray = ls at hl ⊢
  have hl : lv_has ls 4 [(0, .ref b), (1, .int x1)] := hl
  rw [F_X6_many] at h
  refine lv_iconst (v := 0) hx hb dX6_many_0 (by decide) ?_
  refine lv_istore_n (lv' := [(2, .int 0), (0, .ref b), (1, .int x1)]) hx hb dX6_many_1 rfl hl (by decide) rfl (fun ls hl => ?_)
  refine lv_iconst (v := 0) hx hb dX6_many_2 (by decide) ?_
  refine lv_istore_n (lv' := [(3, .int 0), (2, .int 0), (0, .ref b), (1, .int x1)]) hx hb dX6_many_3 rfl hl (by decide) rfl (fun ls hl => ?_)
  exact w_X6_many_4 C hK hP N 0 0 h _ (lv_sub hl [2, 3, 1, 0] rfl)
abbrev rm_X6_bits : Room := { frames := 2, cells := 0, slots := 0, locals := 32 }
def lp_X6_bits_5 (N : Nat) (fi : Nat → Int32) (fa : Nat → Nat → Int32) (x1 : Int32) : Nat → Int64 → Int32 → Option (Int64)
  | 0, _, _ => none
  | n+1, x2, x4 =>
    ((F_X6_cells N fi fa).bind fun r_1 =>
    (if r_1 ≤ x4 then
    some x2
    else
    (if inb x4 155 = true then
    (if (fa 5 (ix x4)) = x1 then
    lp_X6_bits_5 N fi fa x1 n (x2 ||| (jlshl 1 x4)) (x4 + 1)
    else
    lp_X6_bits_5 N fi fa x1 n (x2 ||| 0) (x4 + 1))
    else none)))
set_option maxHeartbeats 4000000 in
theorem w_X6_bits_5 {p : Program} {l : Launch} {e : Env} {s : State} {m : MethodId} {args : Array Value} {below : List Frame} {meth : Method} {c : Code} {D : va_G} {cA : Nat → ClassId} {b : Nat} {fr : Nat → Nat} {N : Nat} {fi : Nat → Int32} {fa : Nat → Nat → Int32} {x1 : Int32} (C : ga_cx p m c meth s args RX6 cX6_bits 5 (some .long)) (hK : ga_K D cA s) (hP : va_P D ga_cl (mW b cA fr fi fa) s.heap) {out : Int64} : ∀ n : Nat, ∀ (x2 : Int64) (x4 : Int32), lp_X6_bits_5 N fi fa x1 n x2 x4 = some out → ∀ ls : Array Slot, lv_has ls 5 [(0, .ref b), (1, .int x1), (2, .long x2), (4, .int x4)] → W p l e (headSpec (ws_ yX6_bits cX6_bits 5 (some .long)) rm_X6_bits).room s m args below meth c s.heap [] 0 0 (MQ below (vp_Sl (fun r => out = r)) args s 0 0 ga_F) (F0 m 5 ls []) := by
  have C0 := C
  obtain ⟨hx, hb, hr, hlocks, hml, hown, hts⟩ := C0
  intro n
  induction n with
  | zero =>
    intro x2 x4 h
    rw [lp_X6_bits_5.eq_1] at h
    cases h
  | succ n ih =>
    intro x2 x4 h ls hl
    rw [lp_X6_bits_5.eq_2] at h
    refine lv_iload hx hb dX6_bits_5 (lv_at hl 3 rfl) ?_
    refine lv_aload_n hx hb dX6_bits_7 rfl (lv_at hl 0 rfl) ?_
    obtain ⟨r_1, e_2, h⟩ := ga_gb h
    refine vp_callSi (W.runV (As := []) (rest := [.int x4]) ⟨hx, hb, hml, hown, hts⟩ (met_X6_cells l D cA b fr fi fa N r_1 e_2) (cwV 0 hts (lw_V q1627 q1629 qs32 q79 q1630) rfl rfl rfl (by decide +kernel) ⟨Nat.le_of_ble_eq_true rfl, Nat.le_of_ble_eq_true rfl⟩) (ga_PV hK hP (va_recv hK.1 hP (ci := 0) (q0 := 0) rfl rfl)) rfl rfl hl.1 rfl (lv_room (Nat.le_of_ble_eq_true rfl)) dX6_bits_8 ⟨Nat.le_of_ble_eq_true rfl, Nat.le_of_ble_eq_true rfl⟩) (fun z_3 w_4 => ?_)
    obtain rfl := w_4
    refine lv_icmp_ge (tgt := 42) hx hb dX6_bits_11 (by decide) (fun c_5 => ?_) (fun c_5 => ?_)
    · replace h := ga_ift c_5 h
      refine lv_lload_n hx hb dX6_bits_42 rfl (lv_at hl 2 rfl) ?_
      cases h
      exact W.lret hx hb hr (fun t ht hW => ⟨_, rfl, rfl, ht⟩) (fun _ hq => by cases hq) dX6_bits_43
    · replace h := ga_iff c_5 h
      refine lv_lload_n hx hb dX6_bits_14 rfl (lv_at hl 2 rfl) ?_
      refine lv_aload_n hx hb dX6_bits_15 rfl (lv_at hl 0 rfl) ?_
      refine va_get hx hb hts in_X6 hown hK.1 hP 0 (fs := mF fi fr) rfl rfl 5 (by decide) (hts _ q1517) (fun _ hh => hh) (v := .ref (fr 5)) rfl dX6_bits_16 ?_
      refine lv_iload hx hb dX6_bits_19 (lv_at hl 3 rfl) ?_
      obtain ⟨i_6, h⟩ := ga_gif h
      refine va_iald hx hb hK.1 hP 2 0 (f := fa 5) rfl rfl (ga_in i_6) dX6_bits_21 ?_
      refine lv_iload_n hx hb dX6_bits_22 rfl (lv_at hl 1 rfl) ?_
      refine lv_icmp_ne (tgt := 33) hx hb dX6_bits_23 (by decide) (fun c_7 => ?_) (fun c_7 => ?_)
      · replace h := ga_iff c_7 h
        refine lv_lconst (v := 0) hx hb dX6_bits_33 (by decide) ?_
        refine lv_lor hx hb dX6_bits_34 ?_
        refine lv_lstore_n (lv' := [(2, .long (x2 ||| 0)), (0, .ref b), (1, .int x1), (4, .int x4)]) hx hb dX6_bits_35 rfl hl (by decide) rfl (fun ls hl => ?_)
        refine lv_iinc (v := (x4 + 1)) (lv' := [(4, .int (x4 + 1)), (2, .long (x2 ||| 0)), (0, .ref b), (1, .int x1)]) hx hb dX6_bits_36 hl (k := 3) rfl rfl (by decide) rfl (fun ls hl => ?_)
        refine lv_goto (tgt := 5) hx hb dX6_bits_39 (by decide) ?_
        exact ih (x2 ||| 0) (x4 + 1) h _ (lv_sub hl [2, 3, 1, 0] rfl)
      · replace h := ga_ift c_7 h
        refine lv_lconst (v := 1) hx hb dX6_bits_26 (by decide) ?_
        refine lv_iload hx hb dX6_bits_27 (lv_at hl 3 rfl) ?_
        refine lv_lshl (v := (jlshl 1 x4)) hx hb dX6_bits_29 rfl ?_
        refine lv_goto (tgt := 34) hx hb dX6_bits_30 (by decide) ?_
        refine lv_lor hx hb dX6_bits_34 ?_
        refine lv_lstore_n (lv' := [(2, .long (x2 ||| (jlshl 1 x4))), (0, .ref b), (1, .int x1), (4, .int x4)]) hx hb dX6_bits_35 rfl hl (by decide) rfl (fun ls hl => ?_)
        refine lv_iinc (v := (x4 + 1)) (lv' := [(4, .int (x4 + 1)), (2, .long (x2 ||| (jlshl 1 x4))), (0, .ref b), (1, .int x1)]) hx hb dX6_bits_36 hl (k := 3) rfl rfl (by decide) rfl (fun ls hl => ?_)
        refine lv_goto (tgt := 5) hx hb dX6_bits_39 (by decide) ?_
        exact ih (x2 ||| (jlshl 1 x4)) (x4 + 1) h _ (lv_sub hl [2, 3, 1, 0] rfl)
def F_X6_bits (N : Nat) (fi : Nat → Int32) (fa : Nat → Nat → Int32) (x1 : Int32) : Option (Int64) :=
  lp_X6_bits_5 N fi fa x1 N 0 0
set_option maxHeartbeats 4000000 in
theorem met_X6_bits (l : Launch) (D : va_G) (cA : Nat → ClassId) (b : Nat) (fr : Nat → Nat) (fi : Nat → Int32) (fa : Nat → Nat → Int32) (N : Nat) (x1 : Int32) (out : Int64) (h : F_X6_bits N fi fa x1 = some out) : Met l yX6_bits (ws_ yX6_bits cX6_bits 5 (some .long)) rm_X6_bits (ga_P D cA (mW b cA fr fi fa) [.ref b, .int x1]) (vp_Sl (fun r => out = r)) 0 0 ga_F := by
  refine Met.ofW (cc := cX6_bits) (maxL := 5) (ret := (some .long)) (by decide) rfl ?_
  intro p e s m args below meth c s₁ B hml hv
  obtain ⟨rfl, hP, hK⟩ := hv
  have C : ga_cx p m c meth s _ RX6 cX6_bits 5 (some .long) := ga_cx_of B hml
  have C0 := C
  obtain ⟨hx, hb, hr, hlocks, hml, hown, hts⟩ := C0
  have hl := lv_entry ([.ref b, .int x1]) (n := 5) (Nat.le_of_ble_eq_true rfl)
  rw [lg_entry_eq]
  generalize (lg_sl ([.ref b, .int x1]) ++ List.replicate (5 - (lg_sl ([.ref b, .int x1])).length) Slot.unset).toArray = ls at hl ⊢
  have hl : lv_has ls 5 [(0, .ref b), (1, .int x1)] := hl
  rw [F_X6_bits] at h
  refine lv_lconst (v := 0) hx hb dX6_bits_0 (by decide) ?_
  refine lv_lstore_n (lv' := [(2, .long 0), (0, .ref b), (1, .int x1)]) hx hb dX6_bits_1 rfl hl (by decide) rfl (fun ls hl => ?_)
  refine lv_iconst (v := 0) hx hb dX6_bits_2 (by decide) ?_
  refine lv_istore (lv' := [(4, .int 0), (2, .long 0), (0, .ref b), (1, .int x1)]) hx hb dX6_bits_3 hl (by decide) rfl (fun ls hl => ?_)
  exact w_X6_bits_5 C hK hP N 0 0 h _ (lv_sub hl [2, 3, 1, 0] rfl)
abbrev rm_X6_all : Room := { frames := 2, cells := 0, slots := 0, locals := 32 }
def F_X6_all (N : Nat) (fi : Nat → Int32) (fa : Nat → Nat → Int32)  : Option (Int64) :=
  ((F_X6_cells N fi fa).bind fun r_1 =>
  some ((jlshl 1 r_1) - 1))
set_option maxHeartbeats 4000000 in
theorem met_X6_all (l : Launch) (D : va_G) (cA : Nat → ClassId) (b : Nat) (fr : Nat → Nat) (fi : Nat → Int32) (fa : Nat → Nat → Int32) (N : Nat)  (out : Int64) (h : F_X6_all N fi fa = some out) : Met l yX6_all (ws_ yX6_all cX6_all 1 (some .long)) rm_X6_all (ga_P D cA (mW b cA fr fi fa) [.ref b]) (vp_Sl (fun r => out = r)) 0 0 ga_F := by
  refine Met.ofW (cc := cX6_all) (maxL := 1) (ret := (some .long)) (by decide) rfl ?_
  intro p e s m args below meth c s₁ B hml hv
  obtain ⟨rfl, hP, hK⟩ := hv
  have C : ga_cx p m c meth s _ RX6 cX6_all 1 (some .long) := ga_cx_of B hml
  have C0 := C
  obtain ⟨hx, hb, hr, hlocks, hml, hown, hts⟩ := C0
  have hl := lv_entry ([.ref b]) (n := 1) (Nat.le_of_ble_eq_true rfl)
  rw [lg_entry_eq]
  generalize (lg_sl ([.ref b]) ++ List.replicate (1 - (lg_sl ([.ref b])).length) Slot.unset).toArray = ls at hl ⊢
  have hl : lv_has ls 1 [(0, .ref b)] := hl
  rw [F_X6_all] at h
  refine lv_lconst (v := 1) hx hb dX6_all_0 (by decide) ?_
  refine lv_aload_n hx hb dX6_all_1 rfl (lv_at hl 0 rfl) ?_
  obtain ⟨r_1, e_2, h⟩ := ga_gb h
  refine vp_callSi (W.runV (As := []) (rest := [.long 1]) ⟨hx, hb, hml, hown, hts⟩ (met_X6_cells l D cA b fr fi fa N r_1 e_2) (cwV 0 hts (lw_V q1627 q1629 qs32 q79 q1630) rfl rfl rfl (by decide +kernel) ⟨Nat.le_of_ble_eq_true rfl, Nat.le_of_ble_eq_true rfl⟩) (ga_PV hK hP (va_recv hK.1 hP (ci := 0) (q0 := 0) rfl rfl)) rfl rfl hl.1 rfl (lv_room (Nat.le_of_ble_eq_true rfl)) dX6_all_2 ⟨Nat.le_of_ble_eq_true rfl, Nat.le_of_ble_eq_true rfl⟩) (fun z_3 w_4 => ?_)
  obtain rfl := w_4
  refine lv_lshl (v := (jlshl 1 r_1)) hx hb dX6_all_5 rfl ?_
  refine lv_lconst (v := 1) hx hb dX6_all_6 (by decide) ?_
  refine lv_lsub hx hb dX6_all_7 ?_
  cases h
  exact W.lret hx hb hr (fun t ht hW => ⟨_, rfl, rfl, ht⟩) (fun _ hq => by cases hq) dX6_all_8
abbrev rm_X6_column : Room := { frames := 1, cells := 0, slots := 0, locals := 12 }
def lp_X6_column_5 (N : Nat) (fi : Nat → Int32) (fa : Nat → Nat → Int32) (x1 : Int32) : Nat → Int64 → Int32 → Option (Int64)
  | 0, _, _ => none
  | n+1, x2, x4 =>
    (if (fi 2) ≤ x4 then
    some x2
    else
    lp_X6_column_5 N fi fa x1 n (x2 ||| (jlshl 1 ((x4 * (fi 1)) + x1))) (x4 + 1))
set_option maxHeartbeats 4000000 in
theorem w_X6_column_5 {p : Program} {l : Launch} {e : Env} {s : State} {m : MethodId} {args : Array Value} {below : List Frame} {meth : Method} {c : Code} {D : va_G} {cA : Nat → ClassId} {b : Nat} {fr : Nat → Nat} {N : Nat} {fi : Nat → Int32} {fa : Nat → Nat → Int32} {x1 : Int32} (C : ga_cx p m c meth s args RX6 cX6_column 5 (some .long)) (hK : ga_K D cA s) (hP : va_P D ga_cl (mW b cA fr fi fa) s.heap) {out : Int64} : ∀ n : Nat, ∀ (x2 : Int64) (x4 : Int32), lp_X6_column_5 N fi fa x1 n x2 x4 = some out → ∀ ls : Array Slot, lv_has ls 5 [(0, .ref b), (1, .int x1), (2, .long x2), (4, .int x4)] → W p l e (headSpec (ws_ yX6_column cX6_column 5 (some .long)) rm_X6_column).room s m args below meth c s.heap [] 0 0 (MQ below (vp_Sl (fun r => out = r)) args s 0 0 ga_F) (F0 m 5 ls []) := by
  have C0 := C
  obtain ⟨hx, hb, hr, hlocks, hml, hown, hts⟩ := C0
  intro n
  induction n with
  | zero =>
    intro x2 x4 h
    rw [lp_X6_column_5.eq_1] at h
    cases h
  | succ n ih =>
    intro x2 x4 h ls hl
    rw [lp_X6_column_5.eq_2] at h
    refine lv_iload hx hb dX6_column_5 (lv_at hl 3 rfl) ?_
    refine lv_aload_n hx hb dX6_column_7 rfl (lv_at hl 0 rfl) ?_
    refine va_get hx hb hts in_X6 hown hK.1 hP 0 (fs := mF fi fr) rfl rfl 2 (by decide) (hts _ q1514) (fun _ hh => hh) (v := .int (fi 2)) rfl dX6_column_8 ?_
    refine lv_icmp_ge (tgt := 34) hx hb dX6_column_11 (by decide) (fun c_1 => ?_) (fun c_1 => ?_)
    · replace h := ga_ift c_1 h
      refine lv_lload_n hx hb dX6_column_34 rfl (lv_at hl 2 rfl) ?_
      cases h
      exact W.lret hx hb hr (fun t ht hW => ⟨_, rfl, rfl, ht⟩) (fun _ hq => by cases hq) dX6_column_35
    · replace h := ga_iff c_1 h
      refine lv_lload_n hx hb dX6_column_14 rfl (lv_at hl 2 rfl) ?_
      refine lv_lconst (v := 1) hx hb dX6_column_15 (by decide) ?_
      refine lv_iload hx hb dX6_column_16 (lv_at hl 3 rfl) ?_
      refine lv_aload_n hx hb dX6_column_18 rfl (lv_at hl 0 rfl) ?_
      refine va_get hx hb hts in_X6 hown hK.1 hP 0 (fs := mF fi fr) rfl rfl 1 (by decide) (hts _ q1513) (fun _ hh => hh) (v := .int (fi 1)) rfl dX6_column_19 ?_
      refine lv_imul hx hb dX6_column_22 ?_
      refine lv_iload_n hx hb dX6_column_23 rfl (lv_at hl 1 rfl) ?_
      refine lv_iadd hx hb dX6_column_24 ?_
      refine lv_lshl (v := (jlshl 1 ((x4 * (fi 1)) + x1))) hx hb dX6_column_25 rfl ?_
      refine lv_lor hx hb dX6_column_26 ?_
      refine lv_lstore_n (lv' := [(2, .long (x2 ||| (jlshl 1 ((x4 * (fi 1)) + x1)))), (0, .ref b), (1, .int x1), (4, .int x4)]) hx hb dX6_column_27 rfl hl (by decide) rfl (fun ls hl => ?_)
      refine lv_iinc (v := (x4 + 1)) (lv' := [(4, .int (x4 + 1)), (2, .long (x2 ||| (jlshl 1 ((x4 * (fi 1)) + x1)))), (0, .ref b), (1, .int x1)]) hx hb dX6_column_28 hl (k := 3) rfl rfl (by decide) rfl (fun ls hl => ?_)
      refine lv_goto (tgt := 5) hx hb dX6_column_31 (by decide) ?_
      exact ih (x2 ||| (jlshl 1 ((x4 * (fi 1)) + x1))) (x4 + 1) h _ (lv_sub hl [2, 3, 1, 0] rfl)
def F_X6_column (N : Nat) (fi : Nat → Int32) (fa : Nat → Nat → Int32) (x1 : Int32) : Option (Int64) :=
  lp_X6_column_5 N fi fa x1 N 0 0
set_option maxHeartbeats 4000000 in
theorem met_X6_column (l : Launch) (D : va_G) (cA : Nat → ClassId) (b : Nat) (fr : Nat → Nat) (fi : Nat → Int32) (fa : Nat → Nat → Int32) (N : Nat) (x1 : Int32) (out : Int64) (h : F_X6_column N fi fa x1 = some out) : Met l yX6_column (ws_ yX6_column cX6_column 5 (some .long)) rm_X6_column (ga_P D cA (mW b cA fr fi fa) [.ref b, .int x1]) (vp_Sl (fun r => out = r)) 0 0 ga_F := by
  refine Met.ofW (cc := cX6_column) (maxL := 5) (ret := (some .long)) (by decide) rfl ?_
  intro p e s m args below meth c s₁ B hml hv
  obtain ⟨rfl, hP, hK⟩ := hv
  have C : ga_cx p m c meth s _ RX6 cX6_column 5 (some .long) := ga_cx_of B hml
  have C0 := C
  obtain ⟨hx, hb, hr, hlocks, hml, hown, hts⟩ := C0
  have hl := lv_entry ([.ref b, .int x1]) (n := 5) (Nat.le_of_ble_eq_true rfl)
  rw [lg_entry_eq]
  generalize (lg_sl ([.ref b, .int x1]) ++ List.replicate (5 - (lg_sl ([.ref b, .int x1])).length) Slot.unset).toArray = ls at hl ⊢
  have hl : lv_has ls 5 [(0, .ref b), (1, .int x1)] := hl
  rw [F_X6_column] at h
  refine lv_lconst (v := 0) hx hb dX6_column_0 (by decide) ?_
  refine lv_lstore_n (lv' := [(2, .long 0), (0, .ref b), (1, .int x1)]) hx hb dX6_column_1 rfl hl (by decide) rfl (fun ls hl => ?_)
  refine lv_iconst (v := 0) hx hb dX6_column_2 (by decide) ?_
  refine lv_istore (lv' := [(4, .int 0), (2, .long 0), (0, .ref b), (1, .int x1)]) hx hb dX6_column_3 hl (by decide) rfl (fun ls hl => ?_)
  exact w_X6_column_5 C hK hP N 0 0 h _ (lv_sub hl [2, 3, 1, 0] rfl)
abbrev rm_X6_edge : Room := { frames := 2, cells := 0, slots := 0, locals := 36 }
def F_X6_edge (N : Nat) (fi : Nat → Int32) (fa : Nat → Nat → Int32)  : Option (Int64) :=
  ((F_X6_column N fi fa 0).bind fun r_1 =>
  ((F_X6_column N fi fa ((fi 1) - 1)).bind fun r_5 =>
  some (((r_1 ||| r_5) ||| ((jlshl 1 (fi 1)) - 1)) ||| (jlshl ((jlshl 1 (fi 1)) - 1) (((fi 2) - 1) * (fi 1))))))
set_option maxHeartbeats 4000000 in
theorem met_X6_edge (l : Launch) (D : va_G) (cA : Nat → ClassId) (b : Nat) (fr : Nat → Nat) (fi : Nat → Int32) (fa : Nat → Nat → Int32) (N : Nat)  (out : Int64) (h : F_X6_edge N fi fa = some out) : Met l yX6_edge (ws_ yX6_edge cX6_edge 3 (some .long)) rm_X6_edge (ga_P D cA (mW b cA fr fi fa) [.ref b]) (vp_Sl (fun r => out = r)) 0 0 ga_F := by
  refine Met.ofW (cc := cX6_edge) (maxL := 3) (ret := (some .long)) (by decide) rfl ?_
  intro p e s m args below meth c s₁ B hml hv
  obtain ⟨rfl, hP, hK⟩ := hv
  have C : ga_cx p m c meth s _ RX6 cX6_edge 3 (some .long) := ga_cx_of B hml
  have C0 := C
  obtain ⟨hx, hb, hr, hlocks, hml, hown, hts⟩ := C0
  have hl := lv_entry ([.ref b]) (n := 3) (Nat.le_of_ble_eq_true rfl)
  rw [lg_entry_eq]
  generalize (lg_sl ([.ref b]) ++ List.replicate (3 - (lg_sl ([.ref b])).length) Slot.unset).toArray = ls at hl ⊢
  have hl : lv_has ls 3 [(0, .ref b)] := hl
  rw [F_X6_edge] at h
  refine lv_lconst (v := 1) hx hb dX6_edge_0 (by decide) ?_
  refine lv_aload_n hx hb dX6_edge_1 rfl (lv_at hl 0 rfl) ?_
  refine va_get hx hb hts in_X6 hown hK.1 hP 0 (fs := mF fi fr) rfl rfl 1 (by decide) (hts _ q1513) (fun _ hh => hh) (v := .int (fi 1)) rfl dX6_edge_2 ?_
  refine lv_lshl (v := (jlshl 1 (fi 1))) hx hb dX6_edge_5 rfl ?_
  refine lv_lconst (v := 1) hx hb dX6_edge_6 (by decide) ?_
  refine lv_lsub hx hb dX6_edge_7 ?_
  refine lv_lstore_n (lv' := [(1, .long ((jlshl 1 (fi 1)) - 1)), (0, .ref b)]) hx hb dX6_edge_8 rfl hl (by decide) rfl (fun ls hl => ?_)
  refine lv_aload_n hx hb dX6_edge_9 rfl (lv_at hl 1 rfl) ?_
  refine lv_iconst (v := 0) hx hb dX6_edge_10 (by decide) ?_
  obtain ⟨r_1, e_2, h⟩ := ga_gb h
  refine vp_callSl (W.runV (As := [.int 0]) (rest := []) ⟨hx, hb, hml, hown, hts⟩ (met_X6_column l D cA b fr fi fa N 0 r_1 e_2) (cwV 1 hts (lw_V q1708 q1710 qs49 q79 q1711) rfl rfl rfl (by decide +kernel) ⟨Nat.le_of_ble_eq_true rfl, Nat.le_of_ble_eq_true rfl⟩) (ga_PV hK hP (va_recv hK.1 hP (ci := 0) (q0 := 0) rfl rfl)) rfl rfl hl.1 rfl (lv_room (Nat.le_of_ble_eq_true rfl)) dX6_edge_11 ⟨Nat.le_of_ble_eq_true rfl, Nat.le_of_ble_eq_true rfl⟩) (fun z_3 w_4 => ?_)
  obtain rfl := w_4
  refine lv_aload_n hx hb dX6_edge_14 rfl (lv_at hl 1 rfl) ?_
  refine lv_aload_n hx hb dX6_edge_15 rfl (lv_at hl 1 rfl) ?_
  refine va_get hx hb hts in_X6 hown hK.1 hP 0 (fs := mF fi fr) rfl rfl 1 (by decide) (hts _ q1513) (fun _ hh => hh) (v := .int (fi 1)) rfl dX6_edge_16 ?_
  refine lv_iconst (v := 1) hx hb dX6_edge_19 (by decide) ?_
  refine lv_isub hx hb dX6_edge_20 ?_
  obtain ⟨r_5, e_6, h⟩ := ga_gb h
  refine vp_callSl (W.runV (As := [.int ((fi 1) - 1)]) (rest := [.long r_1]) ⟨hx, hb, hml, hown, hts⟩ (met_X6_column l D cA b fr fi fa N ((fi 1) - 1) r_5 e_6) (cwV 1 hts (lw_V q1708 q1710 qs49 q79 q1711) rfl rfl rfl (by decide +kernel) ⟨Nat.le_of_ble_eq_true rfl, Nat.le_of_ble_eq_true rfl⟩) (ga_PV hK hP (va_recv hK.1 hP (ci := 0) (q0 := 0) rfl rfl)) rfl rfl hl.1 rfl (lv_room (Nat.le_of_ble_eq_true rfl)) dX6_edge_21 ⟨Nat.le_of_ble_eq_true rfl, Nat.le_of_ble_eq_true rfl⟩) (fun z_7 w_8 => ?_)
  obtain rfl := w_8
  refine lv_lor hx hb dX6_edge_24 ?_
  refine lv_lload_n hx hb dX6_edge_25 rfl (lv_at hl 0 rfl) ?_
  refine lv_lor hx hb dX6_edge_26 ?_
  refine lv_lload_n hx hb dX6_edge_27 rfl (lv_at hl 0 rfl) ?_
  refine lv_aload_n hx hb dX6_edge_28 rfl (lv_at hl 1 rfl) ?_
  refine va_get hx hb hts in_X6 hown hK.1 hP 0 (fs := mF fi fr) rfl rfl 2 (by decide) (hts _ q1514) (fun _ hh => hh) (v := .int (fi 2)) rfl dX6_edge_29 ?_
  refine lv_iconst (v := 1) hx hb dX6_edge_32 (by decide) ?_
  refine lv_isub hx hb dX6_edge_33 ?_
  refine lv_aload_n hx hb dX6_edge_34 rfl (lv_at hl 1 rfl) ?_
  refine va_get hx hb hts in_X6 hown hK.1 hP 0 (fs := mF fi fr) rfl rfl 1 (by decide) (hts _ q1513) (fun _ hh => hh) (v := .int (fi 1)) rfl dX6_edge_35 ?_
  refine lv_imul hx hb dX6_edge_38 ?_
  refine lv_lshl (v := (jlshl ((jlshl 1 (fi 1)) - 1) (((fi 2) - 1) * (fi 1)))) hx hb dX6_edge_39 rfl ?_
  refine lv_lor hx hb dX6_edge_40 ?_
  cases h
  exact W.lret hx hb hr (fun t ht hW => ⟨_, rfl, rfl, ht⟩) (fun _ hq => by cases hq) dX6_edge_41
abbrev rm_X6_grown : Room := { frames := 3, cells := 0, slots := 0, locals := 52 }
def F_X6_grown (N : Nat) (fi : Nat → Int32) (fa : Nat → Nat → Int32) (x1 : Int64) : Option (Int64) :=
  ((F_X6_column N fi fa 0).bind fun r_1 =>
  ((F_X6_column N fi fa ((fi 1) - 1)).bind fun r_5 =>
  ((F_X6_all N fi fa).bind fun r_9 =>
  some (((((x1 ||| (jlushr (x1 &&& (r_1 ^^^ (-1))) 1)) ||| (jlshl (x1 &&& (r_5 ^^^ (-1))) 1)) ||| (jlushr x1 (fi 1))) ||| (jlshl x1 (fi 1))) &&& r_9))))
set_option maxHeartbeats 4000000 in
theorem met_X6_grown (l : Launch) (D : va_G) (cA : Nat → ClassId) (b : Nat) (fr : Nat → Nat) (fi : Nat → Int32) (fa : Nat → Nat → Int32) (N : Nat) (x1 : Int64) (out : Int64) (h : F_X6_grown N fi fa x1 = some out) : Met l yX6_grown (ws_ yX6_grown cX6_grown 3 (some .long)) rm_X6_grown (ga_P D cA (mW b cA fr fi fa) [.ref b, .long x1]) (vp_Sl (fun r => out = r)) 0 0 ga_F := by
  refine Met.ofW (cc := cX6_grown) (maxL := 3) (ret := (some .long)) (by decide) rfl ?_
  intro p e s m args below meth c s₁ B hml hv
  obtain ⟨rfl, hP, hK⟩ := hv
  have C : ga_cx p m c meth s _ RX6 cX6_grown 3 (some .long) := ga_cx_of B hml
  have C0 := C
  obtain ⟨hx, hb, hr, hlocks, hml, hown, hts⟩ := C0
  have hl := lv_entry ([.ref b, .long x1]) (n := 3) (Nat.le_of_ble_eq_true rfl)
  rw [lg_entry_eq]
  generalize (lg_sl ([.ref b, .long x1]) ++ List.replicate (3 - (lg_sl ([.ref b, .long x1])).length) Slot.unset).toArray = ls at hl ⊢
  have hl : lv_has ls 3 [(0, .ref b), (1, .long x1)] := hl
  rw [F_X6_grown] at h
  refine lv_lload_n hx hb dX6_grown_0 rfl (lv_at hl 1 rfl) ?_
  refine lv_lload_n hx hb dX6_grown_1 rfl (lv_at hl 1 rfl) ?_
  refine lv_aload_n hx hb dX6_grown_2 rfl (lv_at hl 0 rfl) ?_
  refine lv_iconst (v := 0) hx hb dX6_grown_3 (by decide) ?_
  obtain ⟨r_1, e_2, h⟩ := ga_gb h
  refine vp_callSl (W.runV (As := [.int 0]) (rest := [.long x1, .long x1]) ⟨hx, hb, hml, hown, hts⟩ (met_X6_column l D cA b fr fi fa N 0 r_1 e_2) (cwV 1 hts (lw_V q1708 q1710 qs49 q79 q1711) rfl rfl rfl (by decide +kernel) ⟨Nat.le_of_ble_eq_true rfl, Nat.le_of_ble_eq_true rfl⟩) (ga_PV hK hP (va_recv hK.1 hP (ci := 0) (q0 := 0) rfl rfl)) rfl rfl hl.1 rfl (lv_room (Nat.le_of_ble_eq_true rfl)) dX6_grown_4 ⟨Nat.le_of_ble_eq_true rfl, Nat.le_of_ble_eq_true rfl⟩) (fun z_3 w_4 => ?_)
  obtain rfl := w_4
  refine lv_ldc2 hx hb hown (hts _ q1703) dX6_grown_7 ?_
  refine lv_lxor hx hb dX6_grown_10 ?_
  refine lv_land hx hb dX6_grown_11 ?_
  refine lv_iconst (v := 1) hx hb dX6_grown_12 (by decide) ?_
  refine lv_lushr (v := (jlushr (x1 &&& (r_1 ^^^ (-1))) 1)) hx hb dX6_grown_13 rfl ?_
  refine lv_lor hx hb dX6_grown_14 ?_
  refine lv_lload_n hx hb dX6_grown_15 rfl (lv_at hl 1 rfl) ?_
  refine lv_aload_n hx hb dX6_grown_16 rfl (lv_at hl 0 rfl) ?_
  refine lv_aload_n hx hb dX6_grown_17 rfl (lv_at hl 0 rfl) ?_
  refine va_get hx hb hts in_X6 hown hK.1 hP 0 (fs := mF fi fr) rfl rfl 1 (by decide) (hts _ q1513) (fun _ hh => hh) (v := .int (fi 1)) rfl dX6_grown_18 ?_
  refine lv_iconst (v := 1) hx hb dX6_grown_21 (by decide) ?_
  refine lv_isub hx hb dX6_grown_22 ?_
  obtain ⟨r_5, e_6, h⟩ := ga_gb h
  refine vp_callSl (W.runV (As := [.int ((fi 1) - 1)]) (rest := [.long x1, .long (x1 ||| (jlushr (x1 &&& (r_1 ^^^ (-1))) 1))]) ⟨hx, hb, hml, hown, hts⟩ (met_X6_column l D cA b fr fi fa N ((fi 1) - 1) r_5 e_6) (cwV 1 hts (lw_V q1708 q1710 qs49 q79 q1711) rfl rfl rfl (by decide +kernel) ⟨Nat.le_of_ble_eq_true rfl, Nat.le_of_ble_eq_true rfl⟩) (ga_PV hK hP (va_recv hK.1 hP (ci := 0) (q0 := 0) rfl rfl)) rfl rfl hl.1 rfl (lv_room (Nat.le_of_ble_eq_true rfl)) dX6_grown_23 ⟨Nat.le_of_ble_eq_true rfl, Nat.le_of_ble_eq_true rfl⟩) (fun z_7 w_8 => ?_)
  obtain rfl := w_8
  refine lv_ldc2 hx hb hown (hts _ q1703) dX6_grown_26 ?_
  refine lv_lxor hx hb dX6_grown_29 ?_
  refine lv_land hx hb dX6_grown_30 ?_
  refine lv_iconst (v := 1) hx hb dX6_grown_31 (by decide) ?_
  refine lv_lshl (v := (jlshl (x1 &&& (r_5 ^^^ (-1))) 1)) hx hb dX6_grown_32 rfl ?_
  refine lv_lor hx hb dX6_grown_33 ?_
  refine lv_lload_n hx hb dX6_grown_34 rfl (lv_at hl 1 rfl) ?_
  refine lv_aload_n hx hb dX6_grown_35 rfl (lv_at hl 0 rfl) ?_
  refine va_get hx hb hts in_X6 hown hK.1 hP 0 (fs := mF fi fr) rfl rfl 1 (by decide) (hts _ q1513) (fun _ hh => hh) (v := .int (fi 1)) rfl dX6_grown_36 ?_
  refine lv_lushr (v := (jlushr x1 (fi 1))) hx hb dX6_grown_39 rfl ?_
  refine lv_lor hx hb dX6_grown_40 ?_
  refine lv_lload_n hx hb dX6_grown_41 rfl (lv_at hl 1 rfl) ?_
  refine lv_aload_n hx hb dX6_grown_42 rfl (lv_at hl 0 rfl) ?_
  refine va_get hx hb hts in_X6 hown hK.1 hP 0 (fs := mF fi fr) rfl rfl 1 (by decide) (hts _ q1513) (fun _ hh => hh) (v := .int (fi 1)) rfl dX6_grown_43 ?_
  refine lv_lshl (v := (jlshl x1 (fi 1))) hx hb dX6_grown_46 rfl ?_
  refine lv_lor hx hb dX6_grown_47 ?_
  refine lv_aload_n hx hb dX6_grown_48 rfl (lv_at hl 0 rfl) ?_
  obtain ⟨r_9, e_10, h⟩ := ga_gb h
  refine vp_callSl (W.runV (As := []) (rest := [.long ((((x1 ||| (jlushr (x1 &&& (r_1 ^^^ (-1))) 1)) ||| (jlshl (x1 &&& (r_5 ^^^ (-1))) 1)) ||| (jlushr x1 (fi 1))) ||| (jlshl x1 (fi 1)))]) ⟨hx, hb, hml, hown, hts⟩ (met_X6_all l D cA b fr fi fa N r_9 e_10) (cwV 0 hts (lw_V q1695 q1697 qs46 q79 q1698) rfl rfl rfl (by decide +kernel) ⟨Nat.le_of_ble_eq_true rfl, Nat.le_of_ble_eq_true rfl⟩) (ga_PV hK hP (va_recv hK.1 hP (ci := 0) (q0 := 0) rfl rfl)) rfl rfl hl.1 rfl (lv_room (Nat.le_of_ble_eq_true rfl)) dX6_grown_49 ⟨Nat.le_of_ble_eq_true rfl, Nat.le_of_ble_eq_true rfl⟩) (fun z_11 w_12 => ?_)
  obtain rfl := w_12
  refine lv_land hx hb dX6_grown_52 ?_
  cases h
  exact W.lret hx hb hr (fun t ht hW => ⟨_, rfl, rfl, ht⟩) (fun _ hq => by cases hq) dX6_grown_53
abbrev rm_X6_connected : Room := { frames := 4, cells := 0, slots := 0, locals := 74 }
def lp_X6_connected_15 (N : Nat) (fi : Nat → Int32) (fa : Nat → Nat → Int32) (x1 : Int64) (x3 : Int32) : Nat → Int64 → Int64 → Option (Int64)
  | 0, _, _ => none
  | n+1, x4, x6 =>
    (if (lg_cmp x6 x4) = 0 then
    some x4
    else
    ((F_X6_grown N fi fa x6).bind fun r_6 =>
    lp_X6_connected_15 N fi fa x1 x3 n x6 (r_6 &&& x1)))
set_option maxHeartbeats 4000000 in
theorem w_X6_connected_15 {p : Program} {l : Launch} {e : Env} {s : State} {m : MethodId} {args : Array Value} {below : List Frame} {meth : Method} {c : Code} {D : va_G} {cA : Nat → ClassId} {b : Nat} {fr : Nat → Nat} {N : Nat} {fi : Nat → Int32} {fa : Nat → Nat → Int32} {x1 : Int64} {x3 : Int32} (C : ga_cx p m c meth s args RX6 cX6_connected 8 (some .long)) (hK : ga_K D cA s) (hP : va_P D ga_cl (mW b cA fr fi fa) s.heap) {out : Int64} : ∀ n : Nat, ∀ (x4 : Int64) (x6 : Int64), lp_X6_connected_15 N fi fa x1 x3 n x4 x6 = some out → ∀ ls : Array Slot, lv_has ls 8 [(0, .ref b), (1, .long x1), (4, .long x4), (6, .long x6)] → W p l e (headSpec (ws_ yX6_connected cX6_connected 8 (some .long)) rm_X6_connected).room s m args below meth c s.heap [] 0 0 (MQ below (vp_Sl (fun r => out = r)) args s 0 0 ga_F) (F0 m 15 ls []) := by
  have C0 := C
  obtain ⟨hx, hb, hr, hlocks, hml, hown, hts⟩ := C0
  intro n
  induction n with
  | zero =>
    intro x4 x6 h
    rw [lp_X6_connected_15.eq_1] at h
    cases h
  | succ n ih =>
    intro x4 x6 h ls hl
    rw [lp_X6_connected_15.eq_2] at h
    refine lv_lload hx hb dX6_connected_15 (lv_at hl 3 rfl) ?_
    refine lv_lload hx hb dX6_connected_17 (lv_at hl 2 rfl) ?_
    refine W.lcmp hx hb dX6_connected_19 ?_
    refine lv_if_eq (tgt := 40) hx hb dX6_connected_20 (by decide) (fun c_5 => ?_) (fun c_5 => ?_)
    · replace h := ga_ift c_5 h
      refine lv_lload hx hb dX6_connected_40 (lv_at hl 2 rfl) ?_
      cases h
      exact W.lret hx hb hr (fun t ht hW => ⟨_, rfl, rfl, ht⟩) (fun _ hq => by cases hq) dX6_connected_42
    · replace h := ga_iff c_5 h
      refine lv_lload hx hb dX6_connected_23 (lv_at hl 3 rfl) ?_
      refine lv_lstore (lv' := [(4, .long x6), (0, .ref b), (1, .long x1), (6, .long x6)]) hx hb dX6_connected_25 hl (by decide) rfl (fun ls hl => ?_)
      refine lv_aload_n hx hb dX6_connected_27 rfl (lv_at hl 1 rfl) ?_
      refine lv_lload hx hb dX6_connected_28 (lv_at hl 0 rfl) ?_
      obtain ⟨r_6, e_7, h⟩ := ga_gb h
      refine vp_callSl (W.runV (As := [.long x6]) (rest := []) ⟨hx, hb, hml, hown, hts⟩ (met_X6_grown l D cA b fr fi fa N x6 r_6 e_7) (cwV 1 hts (lw_V q1719 q1721 qs51 q79 q1722) rfl rfl rfl (by decide +kernel) ⟨Nat.le_of_ble_eq_true rfl, Nat.le_of_ble_eq_true rfl⟩) (ga_PV hK hP (va_recv hK.1 hP (ci := 0) (q0 := 0) rfl rfl)) rfl rfl hl.1 rfl (lv_room (Nat.le_of_ble_eq_true rfl)) dX6_connected_30 ⟨Nat.le_of_ble_eq_true rfl, Nat.le_of_ble_eq_true rfl⟩) (fun z_8 w_9 => ?_)
      obtain rfl := w_9
      refine lv_lload_n hx hb dX6_connected_33 rfl (lv_at hl 2 rfl) ?_
      refine lv_land hx hb dX6_connected_34 ?_
      refine lv_lstore (lv' := [(6, .long (r_6 &&& x1)), (4, .long x6), (0, .ref b), (1, .long x1)]) hx hb dX6_connected_35 hl (by decide) rfl (fun ls hl => ?_)
      refine lv_goto (tgt := 15) hx hb dX6_connected_37 (by decide) ?_
      exact ih x6 (r_6 &&& x1) h _ (lv_sub hl [2, 3, 1, 0] rfl)
def F_X6_connected (N : Nat) (fi : Nat → Int32) (fa : Nat → Nat → Int32) (x1 : Int64) (x3 : Int32) : Option (Int64) :=
  ((F_X6_grown N fi fa (jlshl 1 x3)).bind fun r_1 =>
  lp_X6_connected_15 N fi fa x1 x3 N (jlshl 1 x3) (r_1 &&& x1))
set_option maxHeartbeats 4000000 in
theorem met_X6_connected (l : Launch) (D : va_G) (cA : Nat → ClassId) (b : Nat) (fr : Nat → Nat) (fi : Nat → Int32) (fa : Nat → Nat → Int32) (N : Nat) (x1 : Int64) (x3 : Int32) (out : Int64) (h : F_X6_connected N fi fa x1 x3 = some out) : Met l yX6_connected (ws_ yX6_connected cX6_connected 8 (some .long)) rm_X6_connected (ga_P D cA (mW b cA fr fi fa) [.ref b, .long x1, .int x3]) (vp_Sl (fun r => out = r)) 0 0 ga_F := by
  refine Met.ofW (cc := cX6_connected) (maxL := 8) (ret := (some .long)) (by decide) rfl ?_
  intro p e s m args below meth c s₁ B hml hv
  obtain ⟨rfl, hP, hK⟩ := hv
  have C : ga_cx p m c meth s _ RX6 cX6_connected 8 (some .long) := ga_cx_of B hml
  have C0 := C
  obtain ⟨hx, hb, hr, hlocks, hml, hown, hts⟩ := C0
  have hl := lv_entry ([.ref b, .long x1, .int x3]) (n := 8) (Nat.le_of_ble_eq_true rfl)
  rw [lg_entry_eq]
  generalize (lg_sl ([.ref b, .long x1, .int x3]) ++ List.replicate (8 - (lg_sl ([.ref b, .long x1, .int x3])).length) Slot.unset).toArray = ls at hl ⊢
  have hl : lv_has ls 8 [(0, .ref b), (1, .long x1), (3, .int x3)] := hl
  rw [F_X6_connected] at h
  refine lv_lconst (v := 1) hx hb dX6_connected_0 (by decide) ?_
  refine lv_iload_n hx hb dX6_connected_1 rfl (lv_at hl 2 rfl) ?_
  refine lv_lshl (v := (jlshl 1 x3)) hx hb dX6_connected_2 rfl ?_
  refine lv_lstore (lv' := [(4, .long (jlshl 1 x3)), (0, .ref b), (1, .long x1), (3, .int x3)]) hx hb dX6_connected_3 hl (by decide) rfl (fun ls hl => ?_)
  refine lv_aload_n hx hb dX6_connected_5 rfl (lv_at hl 1 rfl) ?_
  refine lv_lload hx hb dX6_connected_6 (lv_at hl 0 rfl) ?_
  obtain ⟨r_1, e_2, h⟩ := ga_gb h
  refine vp_callSl (W.runV (As := [.long (jlshl 1 x3)]) (rest := []) ⟨hx, hb, hml, hown, hts⟩ (met_X6_grown l D cA b fr fi fa N (jlshl 1 x3) r_1 e_2) (cwV 1 hts (lw_V q1719 q1721 qs51 q79 q1722) rfl rfl rfl (by decide +kernel) ⟨Nat.le_of_ble_eq_true rfl, Nat.le_of_ble_eq_true rfl⟩) (ga_PV hK hP (va_recv hK.1 hP (ci := 0) (q0 := 0) rfl rfl)) rfl rfl hl.1 rfl (lv_room (Nat.le_of_ble_eq_true rfl)) dX6_connected_8 ⟨Nat.le_of_ble_eq_true rfl, Nat.le_of_ble_eq_true rfl⟩) (fun z_3 w_4 => ?_)
  obtain rfl := w_4
  refine lv_lload_n hx hb dX6_connected_11 rfl (lv_at hl 2 rfl) ?_
  refine lv_land hx hb dX6_connected_12 ?_
  refine lv_lstore (lv' := [(6, .long (r_1 &&& x1)), (4, .long (jlshl 1 x3)), (0, .ref b), (1, .long x1), (3, .int x3)]) hx hb dX6_connected_13 hl (by decide) rfl (fun ls hl => ?_)
  exact w_X6_connected_15 C hK hP N (jlshl 1 x3) (r_1 &&& x1) h _ (lv_sub hl [2, 3, 1, 0] rfl)
abbrev rm_X6_outside : Room := { frames := 3, cells := 0, slots := 0, locals := 56 }
def F_X6_outside (N : Nat) (fi : Nat → Int32) (fa : Nat → Nat → Int32) (x1 : Int32) : Option (Int64) :=
  ((F_X6_all N fi fa).bind fun r_1 =>
  ((F_X6_bits N fi fa (1 + x1)).bind fun r_5 =>
  ((F_X6_bits N fi fa (3 + x1)).bind fun r_9 =>
  ((F_X6_bits N fi fa 5).bind fun r_13 =>
  some (((r_1 &&& (r_5 ^^^ (-1))) &&& (r_9 ^^^ (-1))) &&& (r_13 ^^^ (-1)))))))
set_option maxHeartbeats 4000000 in
theorem met_X6_outside (l : Launch) (D : va_G) (cA : Nat → ClassId) (b : Nat) (fr : Nat → Nat) (fi : Nat → Int32) (fa : Nat → Nat → Int32) (N : Nat) (x1 : Int32) (out : Int64) (h : F_X6_outside N fi fa x1 = some out) : Met l yX6_outside (ws_ yX6_outside cX6_outside 2 (some .long)) rm_X6_outside (ga_P D cA (mW b cA fr fi fa) [.ref b, .int x1]) (vp_Sl (fun r => out = r)) 0 0 ga_F := by
  refine Met.ofW (cc := cX6_outside) (maxL := 2) (ret := (some .long)) (by decide) rfl ?_
  intro p e s m args below meth c s₁ B hml hv
  obtain ⟨rfl, hP, hK⟩ := hv
  have C : ga_cx p m c meth s _ RX6 cX6_outside 2 (some .long) := ga_cx_of B hml
  have C0 := C
  obtain ⟨hx, hb, hr, hlocks, hml, hown, hts⟩ := C0
  have hl := lv_entry ([.ref b, .int x1]) (n := 2) (Nat.le_of_ble_eq_true rfl)
  rw [lg_entry_eq]
  generalize (lg_sl ([.ref b, .int x1]) ++ List.replicate (2 - (lg_sl ([.ref b, .int x1])).length) Slot.unset).toArray = ls at hl ⊢
  have hl : lv_has ls 2 [(0, .ref b), (1, .int x1)] := hl
  rw [F_X6_outside] at h
  refine lv_aload_n hx hb dX6_outside_0 rfl (lv_at hl 0 rfl) ?_
  obtain ⟨r_1, e_2, h⟩ := ga_gb h
  refine vp_callSl (W.runV (As := []) (rest := []) ⟨hx, hb, hml, hown, hts⟩ (met_X6_all l D cA b fr fi fa N r_1 e_2) (cwV 0 hts (lw_V q1695 q1697 qs46 q79 q1698) rfl rfl rfl (by decide +kernel) ⟨Nat.le_of_ble_eq_true rfl, Nat.le_of_ble_eq_true rfl⟩) (ga_PV hK hP (va_recv hK.1 hP (ci := 0) (q0 := 0) rfl rfl)) rfl rfl hl.1 rfl (lv_room (Nat.le_of_ble_eq_true rfl)) dX6_outside_1 ⟨Nat.le_of_ble_eq_true rfl, Nat.le_of_ble_eq_true rfl⟩) (fun z_3 w_4 => ?_)
  obtain rfl := w_4
  refine lv_aload_n hx hb dX6_outside_4 rfl (lv_at hl 0 rfl) ?_
  refine lv_iconst (v := 1) hx hb dX6_outside_5 (by decide) ?_
  refine lv_iload_n hx hb dX6_outside_6 rfl (lv_at hl 1 rfl) ?_
  refine lv_iadd hx hb dX6_outside_7 ?_
  obtain ⟨r_5, e_6, h⟩ := ga_gb h
  refine vp_callSl (W.runV (As := [.int (1 + x1)]) (rest := [.long r_1]) ⟨hx, hb, hml, hown, hts⟩ (met_X6_bits l D cA b fr fi fa N (1 + x1) r_5 e_6) (cwV 1 hts (lw_V q1699 q1701 qs47 q79 q1702) rfl rfl rfl (by decide +kernel) ⟨Nat.le_of_ble_eq_true rfl, Nat.le_of_ble_eq_true rfl⟩) (ga_PV hK hP (va_recv hK.1 hP (ci := 0) (q0 := 0) rfl rfl)) rfl rfl hl.1 rfl (lv_room (Nat.le_of_ble_eq_true rfl)) dX6_outside_8 ⟨Nat.le_of_ble_eq_true rfl, Nat.le_of_ble_eq_true rfl⟩) (fun z_7 w_8 => ?_)
  obtain rfl := w_8
  refine lv_ldc2 hx hb hown (hts _ q1703) dX6_outside_11 ?_
  refine lv_lxor hx hb dX6_outside_14 ?_
  refine lv_land hx hb dX6_outside_15 ?_
  refine lv_aload_n hx hb dX6_outside_16 rfl (lv_at hl 0 rfl) ?_
  refine lv_iconst (v := 3) hx hb dX6_outside_17 (by decide) ?_
  refine lv_iload_n hx hb dX6_outside_18 rfl (lv_at hl 1 rfl) ?_
  refine lv_iadd hx hb dX6_outside_19 ?_
  obtain ⟨r_9, e_10, h⟩ := ga_gb h
  refine vp_callSl (W.runV (As := [.int (3 + x1)]) (rest := [.long (r_1 &&& (r_5 ^^^ (-1)))]) ⟨hx, hb, hml, hown, hts⟩ (met_X6_bits l D cA b fr fi fa N (3 + x1) r_9 e_10) (cwV 1 hts (lw_V q1699 q1701 qs47 q79 q1702) rfl rfl rfl (by decide +kernel) ⟨Nat.le_of_ble_eq_true rfl, Nat.le_of_ble_eq_true rfl⟩) (ga_PV hK hP (va_recv hK.1 hP (ci := 0) (q0 := 0) rfl rfl)) rfl rfl hl.1 rfl (lv_room (Nat.le_of_ble_eq_true rfl)) dX6_outside_20 ⟨Nat.le_of_ble_eq_true rfl, Nat.le_of_ble_eq_true rfl⟩) (fun z_11 w_12 => ?_)
  obtain rfl := w_12
  refine lv_ldc2 hx hb hown (hts _ q1703) dX6_outside_23 ?_
  refine lv_lxor hx hb dX6_outside_26 ?_
  refine lv_land hx hb dX6_outside_27 ?_
  refine lv_aload_n hx hb dX6_outside_28 rfl (lv_at hl 0 rfl) ?_
  refine lv_iconst (v := 5) hx hb dX6_outside_29 (by decide) ?_
  obtain ⟨r_13, e_14, h⟩ := ga_gb h
  refine vp_callSl (W.runV (As := [.int 5]) (rest := [.long ((r_1 &&& (r_5 ^^^ (-1))) &&& (r_9 ^^^ (-1)))]) ⟨hx, hb, hml, hown, hts⟩ (met_X6_bits l D cA b fr fi fa N 5 r_13 e_14) (cwV 1 hts (lw_V q1699 q1701 qs47 q79 q1702) rfl rfl rfl (by decide +kernel) ⟨Nat.le_of_ble_eq_true rfl, Nat.le_of_ble_eq_true rfl⟩) (ga_PV hK hP (va_recv hK.1 hP (ci := 0) (q0 := 0) rfl rfl)) rfl rfl hl.1 rfl (lv_room (Nat.le_of_ble_eq_true rfl)) dX6_outside_30 ⟨Nat.le_of_ble_eq_true rfl, Nat.le_of_ble_eq_true rfl⟩) (fun z_15 w_16 => ?_)
  obtain rfl := w_16
  refine lv_ldc2 hx hb hown (hts _ q1703) dX6_outside_33 ?_
  refine lv_lxor hx hb dX6_outside_36 ?_
  refine lv_land hx hb dX6_outside_37 ?_
  cases h
  exact W.lret hx hb hr (fun t ht hW => ⟨_, rfl, rfl, ht⟩) (fun _ hq => by cases hq) dX6_outside_38
abbrev rm_X6_score : Room := { frames := 3, cells := 0, slots := 0, locals := 55 }
def F_X6_score (N : Nat) (fi : Nat → Int32) (fa : Nat → Nat → Int32) (x1 : Int32) : Option (Int32) :=
  ((F_X6_many N fi fa (3 + x1)).bind fun r_1 =>
  (if inb (147 + x1) 155 = true then
  (if inb x1 2 = true then
  some ((r_1 + (2 * (fa 5 (ix (147 + x1))))) + (fa 4 (ix x1)))
  else none)
  else none))
set_option maxHeartbeats 4000000 in
theorem met_X6_score (l : Launch) (D : va_G) (cA : Nat → ClassId) (b : Nat) (fr : Nat → Nat) (fi : Nat → Int32) (fa : Nat → Nat → Int32) (N : Nat) (x1 : Int32) (out : Int32) (h : F_X6_score N fi fa x1 = some out) : Met l yX6_score (ws_ yX6_score cX6_score 2 (some .int)) rm_X6_score (ga_P D cA (mW b cA fr fi fa) [.ref b, .int x1]) (vp_Si (fun r => out = r)) 0 0 ga_F := by
  refine Met.ofW (cc := cX6_score) (maxL := 2) (ret := (some .int)) (by decide) rfl ?_
  intro p e s m args below meth c s₁ B hml hv
  obtain ⟨rfl, hP, hK⟩ := hv
  have C : ga_cx p m c meth s _ RX6 cX6_score 2 (some .int) := ga_cx_of B hml
  have C0 := C
  obtain ⟨hx, hb, hr, hlocks, hml, hown, hts⟩ := C0
  have hl := lv_entry ([.ref b, .int x1]) (n := 2) (Nat.le_of_ble_eq_true rfl)
  rw [lg_entry_eq]
  generalize (lg_sl ([.ref b, .int x1]) ++ List.replicate (2 - (lg_sl ([.ref b, .int x1])).length) Slot.unset).toArray = ls at hl ⊢
  have hl : lv_has ls 2 [(0, .ref b), (1, .int x1)] := hl
  rw [F_X6_score] at h
  refine lv_aload_n hx hb dX6_score_0 rfl (lv_at hl 0 rfl) ?_
  refine lv_iconst (v := 3) hx hb dX6_score_1 (by decide) ?_
  refine lv_iload_n hx hb dX6_score_2 rfl (lv_at hl 1 rfl) ?_
  refine lv_iadd hx hb dX6_score_3 ?_
  obtain ⟨r_1, e_2, h⟩ := ga_gb h
  refine vp_callSi (W.runV (As := [.int (3 + x1)]) (rest := []) ⟨hx, hb, hml, hown, hts⟩ (met_X6_many l D cA b fr fi fa N (3 + x1) r_1 e_2) (cwV 1 hts (lw_V q1623 q1625 qs31 q79 q1626) rfl rfl rfl (by decide +kernel) ⟨Nat.le_of_ble_eq_true rfl, Nat.le_of_ble_eq_true rfl⟩) (ga_PV hK hP (va_recv hK.1 hP (ci := 0) (q0 := 0) rfl rfl)) rfl rfl hl.1 rfl (lv_room (Nat.le_of_ble_eq_true rfl)) dX6_score_4 ⟨Nat.le_of_ble_eq_true rfl, Nat.le_of_ble_eq_true rfl⟩) (fun z_3 w_4 => ?_)
  obtain rfl := w_4
  refine lv_iconst (v := 2) hx hb dX6_score_7 (by decide) ?_
  refine lv_aload_n hx hb dX6_score_8 rfl (lv_at hl 0 rfl) ?_
  refine va_get hx hb hts in_X6 hown hK.1 hP 0 (fs := mF fi fr) rfl rfl 5 (by decide) (hts _ q1517) (fun _ hh => hh) (v := .ref (fr 5)) rfl dX6_score_9 ?_
  refine lv_sipush (v := 147) hx hb dX6_score_12 (by decide) ?_
  refine lv_iload_n hx hb dX6_score_15 rfl (lv_at hl 1 rfl) ?_
  refine lv_iadd hx hb dX6_score_16 ?_
  obtain ⟨i_5, h⟩ := ga_gif h
  refine va_iald hx hb hK.1 hP 2 0 (f := fa 5) rfl rfl (ga_in i_5) dX6_score_17 ?_
  refine lv_imul hx hb dX6_score_18 ?_
  refine lv_iadd hx hb dX6_score_19 ?_
  refine lv_aload_n hx hb dX6_score_20 rfl (lv_at hl 0 rfl) ?_
  refine va_get hx hb hts in_X6 hown hK.1 hP 0 (fs := mF fi fr) rfl rfl 4 (by decide) (hts _ q1516) (fun _ hh => hh) (v := .ref (fr 4)) rfl dX6_score_21 ?_
  refine lv_iload_n hx hb dX6_score_24 rfl (lv_at hl 1 rfl) ?_
  obtain ⟨i_6, h⟩ := ga_gif h
  refine va_iald hx hb hK.1 hP 1 0 (f := fa 4) rfl rfl (ga_in i_6) dX6_score_25 ?_
  refine lv_iadd hx hb dX6_score_26 ?_
  cases h
  exact W.iret hx hb hr (fun t ht hW => ⟨_, rfl, rfl, ht⟩) (fun _ hq => by cases hq) dX6_score_27
abbrev rm_X6_emptyCells : Room := { frames := 3, cells := 0, slots := 0, locals := 55 }
def F_X6_emptyCells (N : Nat) (fi : Nat → Int32) (fa : Nat → Nat → Int32)  : Option (Int32) :=
  ((F_X6_many N fi fa 0).bind fun r_1 =>
  some r_1)
set_option maxHeartbeats 4000000 in
theorem met_X6_emptyCells (l : Launch) (D : va_G) (cA : Nat → ClassId) (b : Nat) (fr : Nat → Nat) (fi : Nat → Int32) (fa : Nat → Nat → Int32) (N : Nat)  (out : Int32) (h : F_X6_emptyCells N fi fa = some out) : Met l yX6_emptyCells (ws_ yX6_emptyCells cX6_emptyCells 1 (some .int)) rm_X6_emptyCells (ga_P D cA (mW b cA fr fi fa) [.ref b]) (vp_Si (fun r => out = r)) 0 0 ga_F := by
  refine Met.ofW (cc := cX6_emptyCells) (maxL := 1) (ret := (some .int)) (by decide) rfl ?_
  intro p e s m args below meth c s₁ B hml hv
  obtain ⟨rfl, hP, hK⟩ := hv
  have C : ga_cx p m c meth s _ RX6 cX6_emptyCells 1 (some .int) := ga_cx_of B hml
  have C0 := C
  obtain ⟨hx, hb, hr, hlocks, hml, hown, hts⟩ := C0
  have hl := lv_entry ([.ref b]) (n := 1) (Nat.le_of_ble_eq_true rfl)
  rw [lg_entry_eq]
  generalize (lg_sl ([.ref b]) ++ List.replicate (1 - (lg_sl ([.ref b])).length) Slot.unset).toArray = ls at hl ⊢
  have hl : lv_has ls 1 [(0, .ref b)] := hl
  rw [F_X6_emptyCells] at h
  refine lv_aload_n hx hb dX6_emptyCells_0 rfl (lv_at hl 0 rfl) ?_
  refine lv_iconst (v := 0) hx hb dX6_emptyCells_1 (by decide) ?_
  obtain ⟨r_1, e_2, h⟩ := ga_gb h
  refine vp_callSi (W.runV (As := [.int 0]) (rest := []) ⟨hx, hb, hml, hown, hts⟩ (met_X6_many l D cA b fr fi fa N 0 r_1 e_2) (cwV 1 hts (lw_V q1623 q1625 qs31 q79 q1626) rfl rfl rfl (by decide +kernel) ⟨Nat.le_of_ble_eq_true rfl, Nat.le_of_ble_eq_true rfl⟩) (ga_PV hK hP (va_recv hK.1 hP (ci := 0) (q0 := 0) rfl rfl)) rfl rfl hl.1 rfl (lv_room (Nat.le_of_ble_eq_true rfl)) dX6_emptyCells_2 ⟨Nat.le_of_ble_eq_true rfl, Nat.le_of_ble_eq_true rfl⟩) (fun z_3 w_4 => ?_)
  obtain rfl := w_4
  cases h
  exact W.iret hx hb hr (fun t ht hW => ⟨_, rfl, rfl, ht⟩) (fun _ hq => by cases hq) dX6_emptyCells_5
abbrev rm_X6_over : Room := { frames := 4, cells := 0, slots := 0, locals := 75 }
def F_X6_over (N : Nat) (fi : Nat → Int32) (fa : Nat → Nat → Int32)  : Option (Int32) :=
  (if (fa 5 (ix 154)) = 1 then
  some 1
  else
  (if (fa 5 (ix 153)) = 60 then
  some 1
  else
  ((F_X6_emptyCells N fi fa).bind fun r_3 =>
  (if r_3 = 0 then
  some 1
  else
  some 0))))
set_option maxHeartbeats 4000000 in
theorem met_X6_over (l : Launch) (D : va_G) (cA : Nat → ClassId) (b : Nat) (fr : Nat → Nat) (fi : Nat → Int32) (fa : Nat → Nat → Int32) (N : Nat)  (out : Int32) (h : F_X6_over N fi fa = some out) : Met l yX6_over (ws_ yX6_over cX6_over 1 (some .boolean)) rm_X6_over (ga_P D cA (mW b cA fr fi fa) [.ref b]) (vp_Si (fun r => out = r ∧ ga_B r)) 0 0 ga_F := by
  refine Met.ofW (cc := cX6_over) (maxL := 1) (ret := (some .boolean)) (by decide) rfl ?_
  intro p e s m args below meth c s₁ B hml hv
  obtain ⟨rfl, hP, hK⟩ := hv
  have C : ga_cx p m c meth s _ RX6 cX6_over 1 (some .boolean) := ga_cx_of B hml
  have C0 := C
  obtain ⟨hx, hb, hr, hlocks, hml, hown, hts⟩ := C0
  have hl := lv_entry ([.ref b]) (n := 1) (Nat.le_of_ble_eq_true rfl)
  rw [lg_entry_eq]
  generalize (lg_sl ([.ref b]) ++ List.replicate (1 - (lg_sl ([.ref b])).length) Slot.unset).toArray = ls at hl ⊢
  have hl : lv_has ls 1 [(0, .ref b)] := hl
  rw [F_X6_over] at h
  refine lv_aload_n hx hb dX6_over_0 rfl (lv_at hl 0 rfl) ?_
  refine va_get hx hb hts in_X6 hown hK.1 hP 0 (fs := mF fi fr) rfl rfl 5 (by decide) (hts _ q1517) (fun _ hh => hh) (v := .ref (fr 5)) rfl dX6_over_1 ?_
  refine lv_sipush (v := 154) hx hb dX6_over_4 (by decide) ?_
  refine va_iald hx hb hK.1 hP 2 0 (f := fa 5) rfl rfl (ga_in (by decide)) dX6_over_7 ?_
  refine lv_iconst (v := 1) hx hb dX6_over_8 (by decide) ?_
  refine lv_icmp_eq (tgt := 32) hx hb dX6_over_9 (by decide) (fun c_1 => ?_) (fun c_1 => ?_)
  · replace h := ga_ift c_1 h
    refine lv_iconst (v := 1) hx hb dX6_over_32 (by decide) ?_
    refine lv_goto (tgt := 37) hx hb dX6_over_33 (by decide) ?_
    cases h
    exact W.zret hx hb hr (ga_nb (Or.inr rfl)) (fun t ht hW => ⟨_, rfl, ⟨rfl, Or.inr rfl⟩, ht⟩) (fun _ hq => by cases hq) dX6_over_37
  · replace h := ga_iff c_1 h
    refine lv_aload_n hx hb dX6_over_12 rfl (lv_at hl 0 rfl) ?_
    refine va_get hx hb hts in_X6 hown hK.1 hP 0 (fs := mF fi fr) rfl rfl 5 (by decide) (hts _ q1517) (fun _ hh => hh) (v := .ref (fr 5)) rfl dX6_over_13 ?_
    refine lv_sipush (v := 153) hx hb dX6_over_16 (by decide) ?_
    refine va_iald hx hb hK.1 hP 2 0 (f := fa 5) rfl rfl (ga_in (by decide)) dX6_over_19 ?_
    refine lv_bipush (v := 60) hx hb dX6_over_20 (by decide) ?_
    refine lv_icmp_eq (tgt := 32) hx hb dX6_over_22 (by decide) (fun c_2 => ?_) (fun c_2 => ?_)
    · replace h := ga_ift c_2 h
      refine lv_iconst (v := 1) hx hb dX6_over_32 (by decide) ?_
      refine lv_goto (tgt := 37) hx hb dX6_over_33 (by decide) ?_
      cases h
      exact W.zret hx hb hr (ga_nb (Or.inr rfl)) (fun t ht hW => ⟨_, rfl, ⟨rfl, Or.inr rfl⟩, ht⟩) (fun _ hq => by cases hq) dX6_over_37
    · replace h := ga_iff c_2 h
      refine lv_aload_n hx hb dX6_over_25 rfl (lv_at hl 0 rfl) ?_
      obtain ⟨r_3, e_4, h⟩ := ga_gb h
      refine vp_callSi (W.runV (As := []) (rest := []) ⟨hx, hb, hml, hown, hts⟩ (met_X6_emptyCells l D cA b fr fi fa N r_3 e_4) (cwV 0 hts (lw_V q1655 q1657 qs36 q79 q1658) rfl rfl rfl (by decide +kernel) ⟨Nat.le_of_ble_eq_true rfl, Nat.le_of_ble_eq_true rfl⟩) (ga_PV hK hP (va_recv hK.1 hP (ci := 0) (q0 := 0) rfl rfl)) rfl rfl hl.1 rfl (lv_room (Nat.le_of_ble_eq_true rfl)) dX6_over_26 ⟨Nat.le_of_ble_eq_true rfl, Nat.le_of_ble_eq_true rfl⟩) (fun z_5 w_6 => ?_)
      obtain rfl := w_6
      refine lv_if_ne (tgt := 36) hx hb dX6_over_29 (by decide) (fun c_7 => ?_) (fun c_7 => ?_)
      · replace h := ga_iff c_7 h
        refine lv_iconst (v := 0) hx hb dX6_over_36 (by decide) ?_
        cases h
        exact W.zret hx hb hr (ga_nb (Or.inl rfl)) (fun t ht hW => ⟨_, rfl, ⟨rfl, Or.inl rfl⟩, ht⟩) (fun _ hq => by cases hq) dX6_over_37
      · replace h := ga_ift c_7 h
        refine lv_iconst (v := 1) hx hb dX6_over_32 (by decide) ?_
        refine lv_goto (tgt := 37) hx hb dX6_over_33 (by decide) ?_
        cases h
        exact W.zret hx hb hr (ga_nb (Or.inr rfl)) (fun t ht hW => ⟨_, rfl, ⟨rfl, Or.inr rfl⟩, ht⟩) (fun _ hq => by cases hq) dX6_over_37
abbrev rm_X6_mayChoose : Room := { frames := 1, cells := 0, slots := 0, locals := 12 }
def F_X6_mayChoose (N : Nat) (fi : Nat → Int32) (fa : Nat → Nat → Int32) (x1 : Int32) : Option (Int32) :=
  (if x1 = (-1) then
  some 1
  else
  (if inb x1 155 = true then
  (if (fa 5 (ix x1)) = 0 then
  some 1
  else
  some 0)
  else none))
set_option maxHeartbeats 4000000 in
theorem met_X6_mayChoose (l : Launch) (D : va_G) (cA : Nat → ClassId) (b : Nat) (fr : Nat → Nat) (fi : Nat → Int32) (fa : Nat → Nat → Int32) (N : Nat) (x1 : Int32) (out : Int32) (h : F_X6_mayChoose N fi fa x1 = some out) : Met l yX6_mayChoose (ws_ yX6_mayChoose cX6_mayChoose 2 (some .boolean)) rm_X6_mayChoose (ga_P D cA (mW b cA fr fi fa) [.ref b, .int x1]) (vp_Si (fun r => out = r ∧ ga_B r)) 0 0 ga_F := by
  refine Met.ofW (cc := cX6_mayChoose) (maxL := 2) (ret := (some .boolean)) (by decide) rfl ?_
  intro p e s m args below meth c s₁ B hml hv
  obtain ⟨rfl, hP, hK⟩ := hv
  have C : ga_cx p m c meth s _ RX6 cX6_mayChoose 2 (some .boolean) := ga_cx_of B hml
  have C0 := C
  obtain ⟨hx, hb, hr, hlocks, hml, hown, hts⟩ := C0
  have hl := lv_entry ([.ref b, .int x1]) (n := 2) (Nat.le_of_ble_eq_true rfl)
  rw [lg_entry_eq]
  generalize (lg_sl ([.ref b, .int x1]) ++ List.replicate (2 - (lg_sl ([.ref b, .int x1])).length) Slot.unset).toArray = ls at hl ⊢
  have hl : lv_has ls 2 [(0, .ref b), (1, .int x1)] := hl
  rw [F_X6_mayChoose] at h
  refine lv_iload_n hx hb dX6_mayChoose_0 rfl (lv_at hl 1 rfl) ?_
  refine lv_iconst (v := (-1)) hx hb dX6_mayChoose_1 (by decide) ?_
  refine lv_icmp_eq (tgt := 14) hx hb dX6_mayChoose_2 (by decide) (fun c_1 => ?_) (fun c_1 => ?_)
  · replace h := ga_ift c_1 h
    refine lv_iconst (v := 1) hx hb dX6_mayChoose_14 (by decide) ?_
    refine lv_goto (tgt := 19) hx hb dX6_mayChoose_15 (by decide) ?_
    cases h
    exact W.zret hx hb hr (ga_nb (Or.inr rfl)) (fun t ht hW => ⟨_, rfl, ⟨rfl, Or.inr rfl⟩, ht⟩) (fun _ hq => by cases hq) dX6_mayChoose_19
  · replace h := ga_iff c_1 h
    refine lv_aload_n hx hb dX6_mayChoose_5 rfl (lv_at hl 0 rfl) ?_
    refine va_get hx hb hts in_X6 hown hK.1 hP 0 (fs := mF fi fr) rfl rfl 5 (by decide) (hts _ q1517) (fun _ hh => hh) (v := .ref (fr 5)) rfl dX6_mayChoose_6 ?_
    refine lv_iload_n hx hb dX6_mayChoose_9 rfl (lv_at hl 1 rfl) ?_
    obtain ⟨i_2, h⟩ := ga_gif h
    refine va_iald hx hb hK.1 hP 2 0 (f := fa 5) rfl rfl (ga_in i_2) dX6_mayChoose_10 ?_
    refine lv_if_ne (tgt := 18) hx hb dX6_mayChoose_11 (by decide) (fun c_3 => ?_) (fun c_3 => ?_)
    · replace h := ga_iff c_3 h
      refine lv_iconst (v := 0) hx hb dX6_mayChoose_18 (by decide) ?_
      cases h
      exact W.zret hx hb hr (ga_nb (Or.inl rfl)) (fun t ht hW => ⟨_, rfl, ⟨rfl, Or.inl rfl⟩, ht⟩) (fun _ hq => by cases hq) dX6_mayChoose_19
    · replace h := ga_ift c_3 h
      refine lv_iconst (v := 1) hx hb dX6_mayChoose_14 (by decide) ?_
      refine lv_goto (tgt := 19) hx hb dX6_mayChoose_15 (by decide) ?_
      cases h
      exact W.zret hx hb hr (ga_nb (Or.inr rfl)) (fun t ht hW => ⟨_, rfl, ⟨rfl, Or.inr rfl⟩, ht⟩) (fun _ hq => by cases hq) dX6_mayChoose_19
abbrev rm_X6_isChoice : Room := { frames := 3, cells := 0, slots := 0, locals := 55 }
def F_X6_isChoice (N : Nat) (fi : Nat → Int32) (fa : Nat → Nat → Int32) (x1 : Int32) : Option (Int32) :=
  (if x1 = (-1) then
  some 1
  else
  ((F_X6_isCell N fi fa x1).bind fun r_2 =>
  (if r_2 = 0 then
  some 0
  else
  some 1)))
set_option maxHeartbeats 4000000 in
theorem met_X6_isChoice (l : Launch) (D : va_G) (cA : Nat → ClassId) (b : Nat) (fr : Nat → Nat) (fi : Nat → Int32) (fa : Nat → Nat → Int32) (N : Nat) (x1 : Int32) (out : Int32) (h : F_X6_isChoice N fi fa x1 = some out) : Met l yX6_isChoice (ws_ yX6_isChoice cX6_isChoice 2 (some .boolean)) rm_X6_isChoice (ga_P D cA (mW b cA fr fi fa) [.ref b, .int x1]) (vp_Si (fun r => out = r ∧ ga_B r)) 0 0 ga_F := by
  refine Met.ofW (cc := cX6_isChoice) (maxL := 2) (ret := (some .boolean)) (by decide) rfl ?_
  intro p e s m args below meth c s₁ B hml hv
  obtain ⟨rfl, hP, hK⟩ := hv
  have C : ga_cx p m c meth s _ RX6 cX6_isChoice 2 (some .boolean) := ga_cx_of B hml
  have C0 := C
  obtain ⟨hx, hb, hr, hlocks, hml, hown, hts⟩ := C0
  have hl := lv_entry ([.ref b, .int x1]) (n := 2) (Nat.le_of_ble_eq_true rfl)
  rw [lg_entry_eq]
  generalize (lg_sl ([.ref b, .int x1]) ++ List.replicate (2 - (lg_sl ([.ref b, .int x1])).length) Slot.unset).toArray = ls at hl ⊢
  have hl : lv_has ls 2 [(0, .ref b), (1, .int x1)] := hl
  rw [F_X6_isChoice] at h
  refine lv_iload_n hx hb dX6_isChoice_0 rfl (lv_at hl 1 rfl) ?_
  refine lv_iconst (v := (-1)) hx hb dX6_isChoice_1 (by decide) ?_
  refine lv_icmp_eq (tgt := 13) hx hb dX6_isChoice_2 (by decide) (fun c_1 => ?_) (fun c_1 => ?_)
  · replace h := ga_ift c_1 h
    refine lv_iconst (v := 1) hx hb dX6_isChoice_13 (by decide) ?_
    refine lv_goto (tgt := 18) hx hb dX6_isChoice_14 (by decide) ?_
    cases h
    exact W.zret hx hb hr (ga_nb (Or.inr rfl)) (fun t ht hW => ⟨_, rfl, ⟨rfl, Or.inr rfl⟩, ht⟩) (fun _ hq => by cases hq) dX6_isChoice_18
  · replace h := ga_iff c_1 h
    refine lv_aload_n hx hb dX6_isChoice_5 rfl (lv_at hl 0 rfl) ?_
    refine lv_iload_n hx hb dX6_isChoice_6 rfl (lv_at hl 1 rfl) ?_
    obtain ⟨r_2, e_3, h⟩ := ga_gb h
    refine vp_callSi (W.runV (As := [.int x1]) (rest := []) ⟨hx, hb, hml, hown, hts⟩ (met_X6_isCell l D cA b fr fi fa N x1 r_2 e_3) (cwV 1 hts (lw_V q1647 q1649 qs34 q79 q1650) rfl rfl rfl (by decide +kernel) ⟨Nat.le_of_ble_eq_true rfl, Nat.le_of_ble_eq_true rfl⟩) (ga_PV hK hP (va_recv hK.1 hP (ci := 0) (q0 := 0) rfl rfl)) rfl rfl hl.1 rfl (lv_room (Nat.le_of_ble_eq_true rfl)) dX6_isChoice_7 ⟨Nat.le_of_ble_eq_true rfl, Nat.le_of_ble_eq_true rfl⟩) (fun z_4 w_5 => ?_)
    obtain ⟨rfl, b_6⟩ := w_5
    refine lv_if_eq (tgt := 17) hx hb dX6_isChoice_10 (by decide) (fun c_7 => ?_) (fun c_7 => ?_)
    · replace h := ga_ift c_7 h
      refine lv_iconst (v := 0) hx hb dX6_isChoice_17 (by decide) ?_
      cases h
      exact W.zret hx hb hr (ga_nb (Or.inl rfl)) (fun t ht hW => ⟨_, rfl, ⟨rfl, Or.inl rfl⟩, ht⟩) (fun _ hq => by cases hq) dX6_isChoice_18
    · replace h := ga_iff c_7 h
      refine lv_iconst (v := 1) hx hb dX6_isChoice_13 (by decide) ?_
      refine lv_goto (tgt := 18) hx hb dX6_isChoice_14 (by decide) ?_
      cases h
      exact W.zret hx hb hr (ga_nb (Or.inr rfl)) (fun t ht hW => ⟨_, rfl, ⟨rfl, Or.inr rfl⟩, ht⟩) (fun _ hq => by cases hq) dX6_isChoice_18
abbrev rm_X6_regions : Room := { frames := 5, cells := 0, slots := 0, locals := 101 }
def lp_X6_regions_12 (N : Nat) (fi : Nat → Int32) (fa : Nat → Nat → Int32) (x1 : Int32) (x2 : Int32) : Nat → Int64 → Int32 → Int32 → Option (Int32)
  | 0, _, _, _ => none
  | n+1, x3, x5, x6 =>
    (if (lg_cmp x3 0) = 0 then
    (if x2 = 0 then
    some x5
    else
    some x6)
    else
    ((F_X6_lowest N x3).bind fun r_7 =>
    ((F_X6_connected N fi fa x3 r_7).bind fun r_11 =>
    ((F_X6_size N r_11).bind fun r_15 =>
    (if r_15 ≤ x6 then
    lp_X6_regions_12 N fi fa x1 x2 n (x3 &&& (r_11 ^^^ (-1))) (x5 + 1) x6
    else
    ((F_X6_size N r_11).bind fun r_20 =>
    lp_X6_regions_12 N fi fa x1 x2 n (x3 &&& (r_11 ^^^ (-1))) (x5 + 1) r_20))))))
set_option maxHeartbeats 4000000 in
theorem w_X6_regions_12 {p : Program} {l : Launch} {e : Env} {s : State} {m : MethodId} {args : Array Value} {below : List Frame} {meth : Method} {c : Code} {D : va_G} {cA : Nat → ClassId} {b : Nat} {fr : Nat → Nat} {N : Nat} {fi : Nat → Int32} {fa : Nat → Nat → Int32} {x1 : Int32} {x2 : Int32} (C : ga_cx p m c meth s args RX6 cX6_regions 9 (some .int)) (hK : ga_K D cA s) (hP : va_P D ga_cl (mW b cA fr fi fa) s.heap) {out : Int32} : ∀ n : Nat, ∀ (x3 : Int64) (x5 : Int32) (x6 : Int32), lp_X6_regions_12 N fi fa x1 x2 n x3 x5 x6 = some out → ∀ ls : Array Slot, lv_has ls 9 [(0, .ref b), (2, .int x2), (3, .long x3), (5, .int x5), (6, .int x6)] → W p l e (headSpec (ws_ yX6_regions cX6_regions 9 (some .int)) rm_X6_regions).room s m args below meth c s.heap [] 0 0 (MQ below (vp_Si (fun r => out = r)) args s 0 0 ga_F) (F0 m 12 ls []) := by
  have C0 := C
  obtain ⟨hx, hb, hr, hlocks, hml, hown, hts⟩ := C0
  intro n
  induction n with
  | zero =>
    intro x3 x5 x6 h
    rw [lp_X6_regions_12.eq_1] at h
    cases h
  | succ n ih =>
    intro x3 x5 x6 h ls hl
    rw [lp_X6_regions_12.eq_2] at h
    refine lv_lload_n hx hb dX6_regions_12 rfl (lv_at hl 2 rfl) ?_
    refine lv_lconst (v := 0) hx hb dX6_regions_13 (by decide) ?_
    refine W.lcmp hx hb dX6_regions_14 ?_
    refine lv_if_eq (tgt := 66) hx hb dX6_regions_15 (by decide) (fun c_5 => ?_) (fun c_5 => ?_)
    · replace h := ga_ift c_5 h
      refine lv_iload_n hx hb dX6_regions_66 rfl (lv_at hl 1 rfl) ?_
      refine lv_if_eq (tgt := 75) hx hb dX6_regions_67 (by decide) (fun c_6 => ?_) (fun c_6 => ?_)
      · replace h := ga_ift c_6 h
        refine lv_iload hx hb dX6_regions_75 (lv_at hl 3 rfl) ?_
        cases h
        exact W.iret hx hb hr (fun t ht hW => ⟨_, rfl, rfl, ht⟩) (fun _ hq => by cases hq) dX6_regions_77
      · replace h := ga_iff c_6 h
        refine lv_iload hx hb dX6_regions_70 (lv_at hl 4 rfl) ?_
        refine lv_goto (tgt := 77) hx hb dX6_regions_72 (by decide) ?_
        cases h
        exact W.iret hx hb hr (fun t ht hW => ⟨_, rfl, rfl, ht⟩) (fun _ hq => by cases hq) dX6_regions_77
    · replace h := ga_iff c_5 h
      refine lv_aload_n hx hb dX6_regions_18 rfl (lv_at hl 0 rfl) ?_
      refine lv_lload_n hx hb dX6_regions_19 rfl (lv_at hl 2 rfl) ?_
      refine lv_lload_n hx hb dX6_regions_20 rfl (lv_at hl 2 rfl) ?_
      obtain ⟨r_7, e_8, h⟩ := ga_gb h
      refine vp_callSi (W.runS (As := [.long x3]) (rest := [.long x3, .ref b]) ⟨hx, hb, hml, hown, hts⟩ (met_X6_lowest l D cA N x3 r_7 e_8) (va_cwS 1 hts (lw_S q1712 q1713 q79 q1714) rfl rfl rfl (by decide +kernel) ⟨Nat.le_of_ble_eq_true rfl, Nat.le_of_ble_eq_true rfl⟩) (ga_PS hK ga_P0) rfl rfl hl.1 rfl (lv_room (Nat.le_of_ble_eq_true rfl)) dX6_regions_21 ⟨Nat.le_of_ble_eq_true rfl, Nat.le_of_ble_eq_true rfl⟩) (fun z_9 w_10 => ?_)
      obtain rfl := w_10
      obtain ⟨r_11, e_12, h⟩ := ga_gb h
      refine vp_callSl (W.runV (As := [.long x3, .int r_7]) (rest := []) ⟨hx, hb, hml, hown, hts⟩ (met_X6_connected l D cA b fr fi fa N x3 r_7 r_11 e_12) (cwV 2 hts (lw_V q1715 q1717 qs50 q79 q1718) rfl rfl rfl (by decide +kernel) ⟨Nat.le_of_ble_eq_true rfl, Nat.le_of_ble_eq_true rfl⟩) (ga_PV hK hP (va_recv hK.1 hP (ci := 0) (q0 := 0) rfl rfl)) rfl rfl hl.1 rfl (lv_room (Nat.le_of_ble_eq_true rfl)) dX6_regions_24 ⟨Nat.le_of_ble_eq_true rfl, Nat.le_of_ble_eq_true rfl⟩) (fun z_13 w_14 => ?_)
      obtain rfl := w_14
      refine lv_lstore (lv' := [(7, .long r_11), (0, .ref b), (2, .int x2), (3, .long x3), (5, .int x5), (6, .int x6)]) hx hb dX6_regions_27 hl (by decide) rfl (fun ls hl => ?_)
      refine lv_lload_n hx hb dX6_regions_29 rfl (lv_at hl 3 rfl) ?_
      refine lv_lload hx hb dX6_regions_30 (lv_at hl 0 rfl) ?_
      refine lv_ldc2 hx hb hown (hts _ q1703) dX6_regions_32 ?_
      refine lv_lxor hx hb dX6_regions_35 ?_
      refine lv_land hx hb dX6_regions_36 ?_
      refine lv_lstore_n (lv' := [(3, .long (x3 &&& (r_11 ^^^ (-1)))), (7, .long r_11), (0, .ref b), (2, .int x2), (5, .int x5), (6, .int x6)]) hx hb dX6_regions_37 rfl hl (by decide) rfl (fun ls hl => ?_)
      refine lv_iinc (v := (x5 + 1)) (lv' := [(5, .int (x5 + 1)), (3, .long (x3 &&& (r_11 ^^^ (-1)))), (7, .long r_11), (0, .ref b), (2, .int x2), (6, .int x6)]) hx hb dX6_regions_38 hl (k := 4) rfl rfl (by decide) rfl (fun ls hl => ?_)
      refine lv_lload hx hb dX6_regions_41 (lv_at hl 2 rfl) ?_
      obtain ⟨r_15, e_16, h⟩ := ga_gb h
      refine vp_callSi (W.runS (As := [.long r_11]) (rest := []) ⟨hx, hb, hml, hown, hts⟩ (met_X6_size l D cA N r_11 r_15 e_16) (va_cwS 1 hts (lw_S q1723 q1724 q79 q1725) rfl rfl rfl (by decide +kernel) ⟨Nat.le_of_ble_eq_true rfl, Nat.le_of_ble_eq_true rfl⟩) (ga_PS hK ga_P0) rfl rfl hl.1 rfl (lv_room (Nat.le_of_ble_eq_true rfl)) dX6_regions_43 ⟨Nat.le_of_ble_eq_true rfl, Nat.le_of_ble_eq_true rfl⟩) (fun z_17 w_18 => ?_)
      obtain rfl := w_18
      refine lv_iload hx hb dX6_regions_46 (lv_at hl 5 rfl) ?_
      refine lv_icmp_le (tgt := 59) hx hb dX6_regions_48 (by decide) (fun c_19 => ?_) (fun c_19 => ?_)
      · replace h := ga_ift c_19 h
        refine lv_iload hx hb dX6_regions_59 (lv_at hl 5 rfl) ?_
        refine lv_istore (lv' := [(6, .int x6), (5, .int (x5 + 1)), (3, .long (x3 &&& (r_11 ^^^ (-1)))), (7, .long r_11), (0, .ref b), (2, .int x2)]) hx hb dX6_regions_61 hl (by decide) rfl (fun ls hl => ?_)
        refine lv_goto (tgt := 12) hx hb dX6_regions_63 (by decide) ?_
        exact ih (x3 &&& (r_11 ^^^ (-1))) (x5 + 1) x6 h _ (lv_sub hl [4, 5, 2, 1, 0] rfl)
      · replace h := ga_iff c_19 h
        refine lv_lload hx hb dX6_regions_51 (lv_at hl 2 rfl) ?_
        obtain ⟨r_20, e_21, h⟩ := ga_gb h
        refine vp_callSi (W.runS (As := [.long r_11]) (rest := []) ⟨hx, hb, hml, hown, hts⟩ (met_X6_size l D cA N r_11 r_20 e_21) (va_cwS 1 hts (lw_S q1723 q1724 q79 q1725) rfl rfl rfl (by decide +kernel) ⟨Nat.le_of_ble_eq_true rfl, Nat.le_of_ble_eq_true rfl⟩) (ga_PS hK ga_P0) rfl rfl hl.1 rfl (lv_room (Nat.le_of_ble_eq_true rfl)) dX6_regions_53 ⟨Nat.le_of_ble_eq_true rfl, Nat.le_of_ble_eq_true rfl⟩) (fun z_22 w_23 => ?_)
        obtain rfl := w_23
        refine lv_goto (tgt := 61) hx hb dX6_regions_56 (by decide) ?_
        refine lv_istore (lv' := [(6, .int r_20), (5, .int (x5 + 1)), (3, .long (x3 &&& (r_11 ^^^ (-1)))), (7, .long r_11), (0, .ref b), (2, .int x2)]) hx hb dX6_regions_61 hl (by decide) rfl (fun ls hl => ?_)
        refine lv_goto (tgt := 12) hx hb dX6_regions_63 (by decide) ?_
        exact ih (x3 &&& (r_11 ^^^ (-1))) (x5 + 1) r_20 h _ (lv_sub hl [4, 5, 2, 1, 0] rfl)
def F_X6_regions (N : Nat) (fi : Nat → Int32) (fa : Nat → Nat → Int32) (x1 : Int32) (x2 : Int32) : Option (Int32) :=
  ((F_X6_outside N fi fa x1).bind fun r_1 =>
  lp_X6_regions_12 N fi fa x1 x2 N r_1 0 0)
set_option maxHeartbeats 4000000 in
theorem met_X6_regions (l : Launch) (D : va_G) (cA : Nat → ClassId) (b : Nat) (fr : Nat → Nat) (fi : Nat → Int32) (fa : Nat → Nat → Int32) (N : Nat) (x1 : Int32) (x2 : Int32) (out : Int32) (h : F_X6_regions N fi fa x1 x2 = some out) : Met l yX6_regions (ws_ yX6_regions cX6_regions 9 (some .int)) rm_X6_regions (ga_P D cA (mW b cA fr fi fa) [.ref b, .int x1, .int x2]) (vp_Si (fun r => out = r)) 0 0 ga_F := by
  refine Met.ofW (cc := cX6_regions) (maxL := 9) (ret := (some .int)) (by decide) rfl ?_
  intro p e s m args below meth c s₁ B hml hv
  obtain ⟨rfl, hP, hK⟩ := hv
  have C : ga_cx p m c meth s _ RX6 cX6_regions 9 (some .int) := ga_cx_of B hml
  have C0 := C
  obtain ⟨hx, hb, hr, hlocks, hml, hown, hts⟩ := C0
  have hl := lv_entry ([.ref b, .int x1, .int x2]) (n := 9) (Nat.le_of_ble_eq_true rfl)
  rw [lg_entry_eq]
  generalize (lg_sl ([.ref b, .int x1, .int x2]) ++ List.replicate (9 - (lg_sl ([.ref b, .int x1, .int x2])).length) Slot.unset).toArray = ls at hl ⊢
  have hl : lv_has ls 9 [(0, .ref b), (1, .int x1), (2, .int x2)] := hl
  rw [F_X6_regions] at h
  refine lv_aload_n hx hb dX6_regions_0 rfl (lv_at hl 0 rfl) ?_
  refine lv_iload_n hx hb dX6_regions_1 rfl (lv_at hl 1 rfl) ?_
  obtain ⟨r_1, e_2, h⟩ := ga_gb h
  refine vp_callSl (W.runV (As := [.int x1]) (rest := []) ⟨hx, hb, hml, hown, hts⟩ (met_X6_outside l D cA b fr fi fa N x1 r_1 e_2) (cwV 1 hts (lw_V q1691 q1693 qs45 q79 q1694) rfl rfl rfl (by decide +kernel) ⟨Nat.le_of_ble_eq_true rfl, Nat.le_of_ble_eq_true rfl⟩) (ga_PV hK hP (va_recv hK.1 hP (ci := 0) (q0 := 0) rfl rfl)) rfl rfl hl.1 rfl (lv_room (Nat.le_of_ble_eq_true rfl)) dX6_regions_2 ⟨Nat.le_of_ble_eq_true rfl, Nat.le_of_ble_eq_true rfl⟩) (fun z_3 w_4 => ?_)
  obtain rfl := w_4
  refine lv_lstore_n (lv' := [(3, .long r_1), (0, .ref b), (1, .int x1), (2, .int x2)]) hx hb dX6_regions_5 rfl hl (by decide) rfl (fun ls hl => ?_)
  refine lv_iconst (v := 0) hx hb dX6_regions_6 (by decide) ?_
  refine lv_istore (lv' := [(5, .int 0), (3, .long r_1), (0, .ref b), (1, .int x1), (2, .int x2)]) hx hb dX6_regions_7 hl (by decide) rfl (fun ls hl => ?_)
  refine lv_iconst (v := 0) hx hb dX6_regions_9 (by decide) ?_
  refine lv_istore (lv' := [(6, .int 0), (5, .int 0), (3, .long r_1), (0, .ref b), (1, .int x1), (2, .int x2)]) hx hb dX6_regions_10 hl (by decide) rfl (fun ls hl => ?_)
  exact w_X6_regions_12 C hK hP N r_1 0 0 h _ (lv_sub hl [3, 5, 2, 1, 0] rfl)
abbrev rm_X6_isOutside : Room := { frames := 4, cells := 0, slots := 0, locals := 77 }
def F_X6_isOutside (N : Nat) (fi : Nat → Int32) (fa : Nat → Nat → Int32) (x1 : Int32) (x2 : Int32) : Option (Int32) :=
  ((F_X6_outside N fi fa x1).bind fun r_1 =>
  (if (lg_cmp ((jlshr r_1 x2) &&& 1) 1) = 0 then
  some 1
  else
  some 0))
set_option maxHeartbeats 4000000 in
theorem met_X6_isOutside (l : Launch) (D : va_G) (cA : Nat → ClassId) (b : Nat) (fr : Nat → Nat) (fi : Nat → Int32) (fa : Nat → Nat → Int32) (N : Nat) (x1 : Int32) (x2 : Int32) (out : Int32) (h : F_X6_isOutside N fi fa x1 x2 = some out) : Met l yX6_isOutside (ws_ yX6_isOutside cX6_isOutside 3 (some .boolean)) rm_X6_isOutside (ga_P D cA (mW b cA fr fi fa) [.ref b, .int x1, .int x2]) (vp_Si (fun r => out = r ∧ ga_B r)) 0 0 ga_F := by
  refine Met.ofW (cc := cX6_isOutside) (maxL := 3) (ret := (some .boolean)) (by decide) rfl ?_
  intro p e s m args below meth c s₁ B hml hv
  obtain ⟨rfl, hP, hK⟩ := hv
  have C : ga_cx p m c meth s _ RX6 cX6_isOutside 3 (some .boolean) := ga_cx_of B hml
  have C0 := C
  obtain ⟨hx, hb, hr, hlocks, hml, hown, hts⟩ := C0
  have hl := lv_entry ([.ref b, .int x1, .int x2]) (n := 3) (Nat.le_of_ble_eq_true rfl)
  rw [lg_entry_eq]
  generalize (lg_sl ([.ref b, .int x1, .int x2]) ++ List.replicate (3 - (lg_sl ([.ref b, .int x1, .int x2])).length) Slot.unset).toArray = ls at hl ⊢
  have hl : lv_has ls 3 [(0, .ref b), (1, .int x1), (2, .int x2)] := hl
  rw [F_X6_isOutside] at h
  refine lv_aload_n hx hb dX6_isOutside_0 rfl (lv_at hl 0 rfl) ?_
  refine lv_iload_n hx hb dX6_isOutside_1 rfl (lv_at hl 1 rfl) ?_
  obtain ⟨r_1, e_2, h⟩ := ga_gb h
  refine vp_callSl (W.runV (As := [.int x1]) (rest := []) ⟨hx, hb, hml, hown, hts⟩ (met_X6_outside l D cA b fr fi fa N x1 r_1 e_2) (cwV 1 hts (lw_V q1691 q1693 qs45 q79 q1694) rfl rfl rfl (by decide +kernel) ⟨Nat.le_of_ble_eq_true rfl, Nat.le_of_ble_eq_true rfl⟩) (ga_PV hK hP (va_recv hK.1 hP (ci := 0) (q0 := 0) rfl rfl)) rfl rfl hl.1 rfl (lv_room (Nat.le_of_ble_eq_true rfl)) dX6_isOutside_2 ⟨Nat.le_of_ble_eq_true rfl, Nat.le_of_ble_eq_true rfl⟩) (fun z_3 w_4 => ?_)
  obtain rfl := w_4
  refine lv_iload_n hx hb dX6_isOutside_5 rfl (lv_at hl 2 rfl) ?_
  refine lv_lshr (v := (jlshr r_1 x2)) hx hb dX6_isOutside_6 rfl ?_
  refine lv_lconst (v := 1) hx hb dX6_isOutside_7 (by decide) ?_
  refine lv_land hx hb dX6_isOutside_8 ?_
  refine lv_lconst (v := 1) hx hb dX6_isOutside_9 (by decide) ?_
  refine W.lcmp hx hb dX6_isOutside_10 ?_
  refine lv_if_ne (tgt := 18) hx hb dX6_isOutside_11 (by decide) (fun c_5 => ?_) (fun c_5 => ?_)
  · replace h := ga_iff c_5 h
    refine lv_iconst (v := 0) hx hb dX6_isOutside_18 (by decide) ?_
    cases h
    exact W.zret hx hb hr (ga_nb (Or.inl rfl)) (fun t ht hW => ⟨_, rfl, ⟨rfl, Or.inl rfl⟩, ht⟩) (fun _ hq => by cases hq) dX6_isOutside_19
  · replace h := ga_ift c_5 h
    refine lv_iconst (v := 1) hx hb dX6_isOutside_14 (by decide) ?_
    refine lv_goto (tgt := 19) hx hb dX6_isOutside_15 (by decide) ?_
    cases h
    exact W.zret hx hb hr (ga_nb (Or.inr rfl)) (fun t ht hW => ⟨_, rfl, ⟨rfl, Or.inr rfl⟩, ht⟩) (fun _ hq => by cases hq) dX6_isOutside_19
abbrev rm_X6_isEnclosed : Room := { frames := 5, cells := 0, slots := 0, locals := 101 }
def F_X6_isEnclosed (N : Nat) (fi : Nat → Int32) (fa : Nat → Nat → Int32) (x1 : Int64) (x3 : Int32) : Option (Int32) :=
  ((F_X6_connected N fi fa x1 x3).bind fun r_1 =>
  ((F_X6_edge N fi fa).bind fun r_5 =>
  (if (lg_cmp (r_1 &&& r_5) 0) = 0 then
  some 1
  else
  some 0)))
set_option maxHeartbeats 4000000 in
theorem met_X6_isEnclosed (l : Launch) (D : va_G) (cA : Nat → ClassId) (b : Nat) (fr : Nat → Nat) (fi : Nat → Int32) (fa : Nat → Nat → Int32) (N : Nat) (x1 : Int64) (x3 : Int32) (out : Int32) (h : F_X6_isEnclosed N fi fa x1 x3 = some out) : Met l yX6_isEnclosed (ws_ yX6_isEnclosed cX6_isEnclosed 4 (some .boolean)) rm_X6_isEnclosed (ga_P D cA (mW b cA fr fi fa) [.ref b, .long x1, .int x3]) (vp_Si (fun r => out = r ∧ ga_B r)) 0 0 ga_F := by
  refine Met.ofW (cc := cX6_isEnclosed) (maxL := 4) (ret := (some .boolean)) (by decide) rfl ?_
  intro p e s m args below meth c s₁ B hml hv
  obtain ⟨rfl, hP, hK⟩ := hv
  have C : ga_cx p m c meth s _ RX6 cX6_isEnclosed 4 (some .boolean) := ga_cx_of B hml
  have C0 := C
  obtain ⟨hx, hb, hr, hlocks, hml, hown, hts⟩ := C0
  have hl := lv_entry ([.ref b, .long x1, .int x3]) (n := 4) (Nat.le_of_ble_eq_true rfl)
  rw [lg_entry_eq]
  generalize (lg_sl ([.ref b, .long x1, .int x3]) ++ List.replicate (4 - (lg_sl ([.ref b, .long x1, .int x3])).length) Slot.unset).toArray = ls at hl ⊢
  have hl : lv_has ls 4 [(0, .ref b), (1, .long x1), (3, .int x3)] := hl
  rw [F_X6_isEnclosed] at h
  refine lv_aload_n hx hb dX6_isEnclosed_0 rfl (lv_at hl 0 rfl) ?_
  refine lv_lload_n hx hb dX6_isEnclosed_1 rfl (lv_at hl 1 rfl) ?_
  refine lv_iload_n hx hb dX6_isEnclosed_2 rfl (lv_at hl 2 rfl) ?_
  obtain ⟨r_1, e_2, h⟩ := ga_gb h
  refine vp_callSl (W.runV (As := [.long x1, .int x3]) (rest := []) ⟨hx, hb, hml, hown, hts⟩ (met_X6_connected l D cA b fr fi fa N x1 x3 r_1 e_2) (cwV 2 hts (lw_V q1715 q1717 qs50 q79 q1718) rfl rfl rfl (by decide +kernel) ⟨Nat.le_of_ble_eq_true rfl, Nat.le_of_ble_eq_true rfl⟩) (ga_PV hK hP (va_recv hK.1 hP (ci := 0) (q0 := 0) rfl rfl)) rfl rfl hl.1 rfl (lv_room (Nat.le_of_ble_eq_true rfl)) dX6_isEnclosed_3 ⟨Nat.le_of_ble_eq_true rfl, Nat.le_of_ble_eq_true rfl⟩) (fun z_3 w_4 => ?_)
  obtain rfl := w_4
  refine lv_aload_n hx hb dX6_isEnclosed_6 rfl (lv_at hl 0 rfl) ?_
  obtain ⟨r_5, e_6, h⟩ := ga_gb h
  refine vp_callSl (W.runV (As := []) (rest := [.long r_1]) ⟨hx, hb, hml, hown, hts⟩ (met_X6_edge l D cA b fr fi fa N r_5 e_6) (cwV 0 hts (lw_V q1704 q1706 qs48 q79 q1707) rfl rfl rfl (by decide +kernel) ⟨Nat.le_of_ble_eq_true rfl, Nat.le_of_ble_eq_true rfl⟩) (ga_PV hK hP (va_recv hK.1 hP (ci := 0) (q0 := 0) rfl rfl)) rfl rfl hl.1 rfl (lv_room (Nat.le_of_ble_eq_true rfl)) dX6_isEnclosed_7 ⟨Nat.le_of_ble_eq_true rfl, Nat.le_of_ble_eq_true rfl⟩) (fun z_7 w_8 => ?_)
  obtain rfl := w_8
  refine lv_land hx hb dX6_isEnclosed_10 ?_
  refine lv_lconst (v := 0) hx hb dX6_isEnclosed_11 (by decide) ?_
  refine W.lcmp hx hb dX6_isEnclosed_12 ?_
  refine lv_if_ne (tgt := 20) hx hb dX6_isEnclosed_13 (by decide) (fun c_9 => ?_) (fun c_9 => ?_)
  · replace h := ga_iff c_9 h
    refine lv_iconst (v := 0) hx hb dX6_isEnclosed_20 (by decide) ?_
    cases h
    exact W.zret hx hb hr (ga_nb (Or.inl rfl)) (fun t ht hW => ⟨_, rfl, ⟨rfl, Or.inl rfl⟩, ht⟩) (fun _ hq => by cases hq) dX6_isEnclosed_21
  · replace h := ga_ift c_9 h
    refine lv_iconst (v := 1) hx hb dX6_isEnclosed_16 (by decide) ?_
    refine lv_goto (tgt := 21) hx hb dX6_isEnclosed_17 (by decide) ?_
    cases h
    exact W.zret hx hb hr (ga_nb (Or.inr rfl)) (fun t ht hW => ⟨_, rfl, ⟨rfl, Or.inr rfl⟩, ht⟩) (fun _ hq => by cases hq) dX6_isEnclosed_21
abbrev rm_X6_outcome : Room := { frames := 4, cells := 0, slots := 0, locals := 76 }
def F_X6_outcome (N : Nat) (fi : Nat → Int32) (fa : Nat → Nat → Int32) (x1 : Int32) : Option (Int32) :=
  ((F_X6_score N fi fa x1).bind fun r_1 =>
  ((F_X6_score N fi fa (1 - x1)).bind fun r_5 =>
  some (r_1 - r_5)))
set_option maxHeartbeats 4000000 in
theorem met_X6_outcome (l : Launch) (D : va_G) (cA : Nat → ClassId) (b : Nat) (fr : Nat → Nat) (fi : Nat → Int32) (fa : Nat → Nat → Int32) (N : Nat) (x1 : Int32) (out : Int32) (h : F_X6_outcome N fi fa x1 = some out) : Met l yX6_outcome (ws_ yX6_outcome cX6_outcome 2 (some .int)) rm_X6_outcome (ga_P D cA (mW b cA fr fi fa) [.ref b, .int x1]) (vp_Si (fun r => out = r)) 0 0 ga_F := by
  refine Met.ofW (cc := cX6_outcome) (maxL := 2) (ret := (some .int)) (by decide) rfl ?_
  intro p e s m args below meth c s₁ B hml hv
  obtain ⟨rfl, hP, hK⟩ := hv
  have C : ga_cx p m c meth s _ RX6 cX6_outcome 2 (some .int) := ga_cx_of B hml
  have C0 := C
  obtain ⟨hx, hb, hr, hlocks, hml, hown, hts⟩ := C0
  have hl := lv_entry ([.ref b, .int x1]) (n := 2) (Nat.le_of_ble_eq_true rfl)
  rw [lg_entry_eq]
  generalize (lg_sl ([.ref b, .int x1]) ++ List.replicate (2 - (lg_sl ([.ref b, .int x1])).length) Slot.unset).toArray = ls at hl ⊢
  have hl : lv_has ls 2 [(0, .ref b), (1, .int x1)] := hl
  rw [F_X6_outcome] at h
  refine lv_aload_n hx hb dX6_outcome_0 rfl (lv_at hl 0 rfl) ?_
  refine lv_iload_n hx hb dX6_outcome_1 rfl (lv_at hl 1 rfl) ?_
  obtain ⟨r_1, e_2, h⟩ := ga_gb h
  refine vp_callSi (W.runV (As := [.int x1]) (rest := []) ⟨hx, hb, hml, hown, hts⟩ (met_X6_score l D cA b fr fi fa N x1 r_1 e_2) (cwV 1 hts (lw_V q1675 q1677 qs41 q79 q1678) rfl rfl rfl (by decide +kernel) ⟨Nat.le_of_ble_eq_true rfl, Nat.le_of_ble_eq_true rfl⟩) (ga_PV hK hP (va_recv hK.1 hP (ci := 0) (q0 := 0) rfl rfl)) rfl rfl hl.1 rfl (lv_room (Nat.le_of_ble_eq_true rfl)) dX6_outcome_2 ⟨Nat.le_of_ble_eq_true rfl, Nat.le_of_ble_eq_true rfl⟩) (fun z_3 w_4 => ?_)
  obtain rfl := w_4
  refine lv_aload_n hx hb dX6_outcome_5 rfl (lv_at hl 0 rfl) ?_
  refine lv_iconst (v := 1) hx hb dX6_outcome_6 (by decide) ?_
  refine lv_iload_n hx hb dX6_outcome_7 rfl (lv_at hl 1 rfl) ?_
  refine lv_isub hx hb dX6_outcome_8 ?_
  obtain ⟨r_5, e_6, h⟩ := ga_gb h
  refine vp_callSi (W.runV (As := [.int (1 - x1)]) (rest := [.int r_1]) ⟨hx, hb, hml, hown, hts⟩ (met_X6_score l D cA b fr fi fa N (1 - x1) r_5 e_6) (cwV 1 hts (lw_V q1675 q1677 qs41 q79 q1678) rfl rfl rfl (by decide +kernel) ⟨Nat.le_of_ble_eq_true rfl, Nat.le_of_ble_eq_true rfl⟩) (ga_PV hK hP (va_recv hK.1 hP (ci := 0) (q0 := 0) rfl rfl)) rfl rfl hl.1 rfl (lv_room (Nat.le_of_ble_eq_true rfl)) dX6_outcome_9 ⟨Nat.le_of_ble_eq_true rfl, Nat.le_of_ble_eq_true rfl⟩) (fun z_7 w_8 => ?_)
  obtain rfl := w_8
  refine lv_isub hx hb dX6_outcome_12 ?_
  cases h
  exact W.iret hx hb hr (fun t ht hW => ⟨_, rfl, rfl, ht⟩) (fun _ hq => by cases hq) dX6_outcome_13
abbrev rm_X6_isHere : Room := { frames := 1, cells := 0, slots := 0, locals := 12 }
def F_X6_isHere (N : Nat) (fi : Nat → Int32) (fa : Nat → Nat → Int32) (x1 : Int32) (x2 : Int32) : Option (Int32) :=
  (if (fi 29) ≤ (fi 30) then
  some 0
  else
  (if inb (fi 30) 80 = true then
  (if (fa 28 (ix (fi 30))) < x1 then
  some 0
  else
  (if inb (fi 30) 80 = true then
  (if x2 < (fa 28 (ix (fi 30))) then
  some 0
  else
  some 1)
  else none))
  else none))
set_option maxHeartbeats 4000000 in
theorem met_X6_isHere (l : Launch) (D : va_G) (cA : Nat → ClassId) (b : Nat) (fr : Nat → Nat) (fi : Nat → Int32) (fa : Nat → Nat → Int32) (N : Nat) (x1 : Int32) (x2 : Int32) (out : Int32) (h : F_X6_isHere N fi fa x1 x2 = some out) : Met l yX6_isHere (ws_ yX6_isHere cX6_isHere 3 (some .boolean)) rm_X6_isHere (ga_P D cA (mW b cA fr fi fa) [.ref b, .int x1, .int x2]) (vp_Si (fun r => out = r ∧ ga_B r)) 0 0 ga_F := by
  refine Met.ofW (cc := cX6_isHere) (maxL := 3) (ret := (some .boolean)) (by decide) rfl ?_
  intro p e s m args below meth c s₁ B hml hv
  obtain ⟨rfl, hP, hK⟩ := hv
  have C : ga_cx p m c meth s _ RX6 cX6_isHere 3 (some .boolean) := ga_cx_of B hml
  have C0 := C
  obtain ⟨hx, hb, hr, hlocks, hml, hown, hts⟩ := C0
  have hl := lv_entry ([.ref b, .int x1, .int x2]) (n := 3) (Nat.le_of_ble_eq_true rfl)
  rw [lg_entry_eq]
  generalize (lg_sl ([.ref b, .int x1, .int x2]) ++ List.replicate (3 - (lg_sl ([.ref b, .int x1, .int x2])).length) Slot.unset).toArray = ls at hl ⊢
  have hl : lv_has ls 3 [(0, .ref b), (1, .int x1), (2, .int x2)] := hl
  rw [F_X6_isHere] at h
  refine lv_aload_n hx hb dX6_isHere_0 rfl (lv_at hl 0 rfl) ?_
  refine va_get hx hb hts in_X6 hown hK.1 hP 0 (fs := mF fi fr) rfl rfl 30 (by decide) (hts _ q1542) (fun _ hh => hh) (v := .int (fi 30)) rfl dX6_isHere_1 ?_
  refine lv_aload_n hx hb dX6_isHere_4 rfl (lv_at hl 0 rfl) ?_
  refine va_get hx hb hts in_X6 hown hK.1 hP 0 (fs := mF fi fr) rfl rfl 29 (by decide) (hts _ q1541) (fun _ hh => hh) (v := .int (fi 29)) rfl dX6_isHere_5 ?_
  refine lv_icmp_ge (tgt := 41) hx hb dX6_isHere_8 (by decide) (fun c_1 => ?_) (fun c_1 => ?_)
  · replace h := ga_ift c_1 h
    refine lv_iconst (v := 0) hx hb dX6_isHere_41 (by decide) ?_
    cases h
    exact W.zret hx hb hr (ga_nb (Or.inl rfl)) (fun t ht hW => ⟨_, rfl, ⟨rfl, Or.inl rfl⟩, ht⟩) (fun _ hq => by cases hq) dX6_isHere_42
  · replace h := ga_iff c_1 h
    refine lv_aload_n hx hb dX6_isHere_11 rfl (lv_at hl 0 rfl) ?_
    refine va_get hx hb hts in_X6 hown hK.1 hP 0 (fs := mF fi fr) rfl rfl 28 (by decide) (hts _ q1540) (fun _ hh => hh) (v := .ref (fr 28)) rfl dX6_isHere_12 ?_
    refine lv_aload_n hx hb dX6_isHere_15 rfl (lv_at hl 0 rfl) ?_
    refine va_get hx hb hts in_X6 hown hK.1 hP 0 (fs := mF fi fr) rfl rfl 30 (by decide) (hts _ q1542) (fun _ hh => hh) (v := .int (fi 30)) rfl dX6_isHere_16 ?_
    obtain ⟨i_2, h⟩ := ga_gif h
    refine va_cald hx hb hK.1 hP 17 2 (f := fa 28) rfl rfl (ga_in i_2) dX6_isHere_19 ?_
    refine lv_iload_n hx hb dX6_isHere_20 rfl (lv_at hl 1 rfl) ?_
    refine lv_icmp_lt (tgt := 41) hx hb dX6_isHere_21 (by decide) (fun c_3 => ?_) (fun c_3 => ?_)
    · replace h := ga_ift c_3 h
      refine lv_iconst (v := 0) hx hb dX6_isHere_41 (by decide) ?_
      cases h
      exact W.zret hx hb hr (ga_nb (Or.inl rfl)) (fun t ht hW => ⟨_, rfl, ⟨rfl, Or.inl rfl⟩, ht⟩) (fun _ hq => by cases hq) dX6_isHere_42
    · replace h := ga_iff c_3 h
      refine lv_aload_n hx hb dX6_isHere_24 rfl (lv_at hl 0 rfl) ?_
      refine va_get hx hb hts in_X6 hown hK.1 hP 0 (fs := mF fi fr) rfl rfl 28 (by decide) (hts _ q1540) (fun _ hh => hh) (v := .ref (fr 28)) rfl dX6_isHere_25 ?_
      refine lv_aload_n hx hb dX6_isHere_28 rfl (lv_at hl 0 rfl) ?_
      refine va_get hx hb hts in_X6 hown hK.1 hP 0 (fs := mF fi fr) rfl rfl 30 (by decide) (hts _ q1542) (fun _ hh => hh) (v := .int (fi 30)) rfl dX6_isHere_29 ?_
      obtain ⟨i_4, h⟩ := ga_gif h
      refine va_cald hx hb hK.1 hP 17 2 (f := fa 28) rfl rfl (ga_in i_4) dX6_isHere_32 ?_
      refine lv_iload_n hx hb dX6_isHere_33 rfl (lv_at hl 2 rfl) ?_
      refine lv_icmp_gt (tgt := 41) hx hb dX6_isHere_34 (by decide) (fun c_5 => ?_) (fun c_5 => ?_)
      · replace h := ga_ift c_5 h
        refine lv_iconst (v := 0) hx hb dX6_isHere_41 (by decide) ?_
        cases h
        exact W.zret hx hb hr (ga_nb (Or.inl rfl)) (fun t ht hW => ⟨_, rfl, ⟨rfl, Or.inl rfl⟩, ht⟩) (fun _ hq => by cases hq) dX6_isHere_42
      · replace h := ga_iff c_5 h
        refine lv_iconst (v := 1) hx hb dX6_isHere_37 (by decide) ?_
        refine lv_goto (tgt := 42) hx hb dX6_isHere_38 (by decide) ?_
        cases h
        exact W.zret hx hb hr (ga_nb (Or.inr rfl)) (fun t ht hW => ⟨_, rfl, ⟨rfl, Or.inr rfl⟩, ht⟩) (fun _ hq => by cases hq) dX6_isHere_42
abbrev rm_X6_signOf : Room := { frames := 1, cells := 0, slots := 0, locals := 12 }
def F_X6_signOf (N : Nat) (fi : Nat → Int32) (fa : Nat → Nat → Int32) (x1 : Int32) (x2 : Int32) : Option (Int32) :=
  (if x1 = (-1) then
  some 45
  else
  (if x2 = 0 then
  (if ¬ (fi 1) = 0 then
  some (ji2c (97 + (jirem x1 (fi 1))))
  else none)
  else
  (if ¬ (fi 1) = 0 then
  some (ji2c (49 + (x1 / (fi 1))))
  else none)))
set_option maxHeartbeats 4000000 in
theorem met_X6_signOf (l : Launch) (D : va_G) (cA : Nat → ClassId) (b : Nat) (fr : Nat → Nat) (fi : Nat → Int32) (fa : Nat → Nat → Int32) (N : Nat) (x1 : Int32) (x2 : Int32) (out : Int32) (h : F_X6_signOf N fi fa x1 x2 = some out) : Met l yX6_signOf (ws_ yX6_signOf cX6_signOf 3 (some .char)) rm_X6_signOf (ga_P D cA (mW b cA fr fi fa) [.ref b, .int x1, .int x2]) (vp_Si (fun r => out = r ∧ ga_C r)) 0 0 ga_F := by
  refine Met.ofW (cc := cX6_signOf) (maxL := 3) (ret := (some .char)) (by decide) rfl ?_
  intro p e s m args below meth c s₁ B hml hv
  obtain ⟨rfl, hP, hK⟩ := hv
  have C : ga_cx p m c meth s _ RX6 cX6_signOf 3 (some .char) := ga_cx_of B hml
  have C0 := C
  obtain ⟨hx, hb, hr, hlocks, hml, hown, hts⟩ := C0
  have hl := lv_entry ([.ref b, .int x1, .int x2]) (n := 3) (Nat.le_of_ble_eq_true rfl)
  rw [lg_entry_eq]
  generalize (lg_sl ([.ref b, .int x1, .int x2]) ++ List.replicate (3 - (lg_sl ([.ref b, .int x1, .int x2])).length) Slot.unset).toArray = ls at hl ⊢
  have hl : lv_has ls 3 [(0, .ref b), (1, .int x1), (2, .int x2)] := hl
  rw [F_X6_signOf] at h
  refine lv_iload_n hx hb dX6_signOf_0 rfl (lv_at hl 1 rfl) ?_
  refine lv_iconst (v := (-1)) hx hb dX6_signOf_1 (by decide) ?_
  refine lv_icmp_ne (tgt := 10) hx hb dX6_signOf_2 (by decide) (fun c_1 => ?_) (fun c_1 => ?_)
  · replace h := ga_iff c_1 h
    refine lv_iload_n hx hb dX6_signOf_10 rfl (lv_at hl 2 rfl) ?_
    refine lv_if_ne (tgt := 26) hx hb dX6_signOf_11 (by decide) (fun c_2 => ?_) (fun c_2 => ?_)
    · replace h := ga_iff c_2 h
      refine lv_bipush (v := 49) hx hb dX6_signOf_26 (by decide) ?_
      refine lv_iload_n hx hb dX6_signOf_28 rfl (lv_at hl 1 rfl) ?_
      refine lv_aload_n hx hb dX6_signOf_29 rfl (lv_at hl 0 rfl) ?_
      refine va_get hx hb hts in_X6 hown hK.1 hP 0 (fs := mF fi fr) rfl rfl 1 (by decide) (hts _ q1513) (fun _ hh => hh) (v := .int (fi 1)) rfl dX6_signOf_30 ?_
      obtain ⟨z_3, h⟩ := ga_gif h
      refine lv_idiv hx hb dX6_signOf_33 z_3 ?_
      refine lv_iadd hx hb dX6_signOf_34 ?_
      refine lv_i2c (v := (ji2c (49 + (x1 / (fi 1))))) hx hb dX6_signOf_35 rfl ?_
      cases h
      exact W.zret hx hb hr (pk_nc _) (fun t ht hW => ⟨_, rfl, ⟨rfl, (pk_nc _)⟩, ht⟩) (fun _ hq => by cases hq) dX6_signOf_36
    · replace h := ga_ift c_2 h
      refine lv_bipush (v := 97) hx hb dX6_signOf_14 (by decide) ?_
      refine lv_iload_n hx hb dX6_signOf_16 rfl (lv_at hl 1 rfl) ?_
      refine lv_aload_n hx hb dX6_signOf_17 rfl (lv_at hl 0 rfl) ?_
      refine va_get hx hb hts in_X6 hown hK.1 hP 0 (fs := mF fi fr) rfl rfl 1 (by decide) (hts _ q1513) (fun _ hh => hh) (v := .int (fi 1)) rfl dX6_signOf_18 ?_
      obtain ⟨z_4, h⟩ := ga_gif h
      refine ga_irem hx hb dX6_signOf_21 z_4 ?_
      refine lv_iadd hx hb dX6_signOf_22 ?_
      refine lv_goto (tgt := 35) hx hb dX6_signOf_23 (by decide) ?_
      refine lv_i2c (v := (ji2c (97 + (jirem x1 (fi 1))))) hx hb dX6_signOf_35 rfl ?_
      cases h
      exact W.zret hx hb hr (pk_nc _) (fun t ht hW => ⟨_, rfl, ⟨rfl, (pk_nc _)⟩, ht⟩) (fun _ hq => by cases hq) dX6_signOf_36
  · replace h := ga_ift c_1 h
    refine lv_bipush (v := 45) hx hb dX6_signOf_5 (by decide) ?_
    refine lv_goto (tgt := 36) hx hb dX6_signOf_7 (by decide) ?_
    cases h
    exact W.zret hx hb hr rfl (fun t ht hW => ⟨_, rfl, ⟨rfl, rfl⟩, ht⟩) (fun _ hq => by cases hq) dX6_signOf_36
