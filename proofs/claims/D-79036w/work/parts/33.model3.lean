abbrev rm_X6_copies_5_7 : Room := { frames := 1, cells := 0, slots := 0, locals := 12 }
def lp_X6_copies_5_7_2 (N : Nat) (x2 : Int32) : Nat → (Nat → Int32) → (Nat → Nat → Int32) → Int32 → Option (ga_MS)
  | 0, _, _, _ => none
  | n+1, fi, fa, x3 =>
    (if x2 ≤ x3 then
    some (fi, fa)
    else
    (if inb x3 155 = true then
    (if inb x3 155 = true then
    lp_X6_copies_5_7_2 N x2 n fi (va_up fa 7 (upd (fa 7) (ix x3) (fa 5 (ix x3)))) (x3 + 1)
    else none)
    else none))
set_option maxHeartbeats 4000000 in
theorem w_X6_copies_5_7_2 {p : Program} {l : Launch} {e : Env} {s : State} {m : MethodId} {args : Array Value} {below : List Frame} {meth : Method} {c : Code} {D : va_G} {cA : Nat → ClassId} {A : Nat → Prop} {b : Nat} {fr : Nat → Nat} {N : Nat} {x2 : Int32} (C : ga_cx p m c meth s args RX6 cX6_copies 4 none) (hK : ga_K D cA s) {out : ga_MS} : ∀ n : Nat, ∀ (fi : Nat → Int32) (fa : Nat → Nat → Int32) (x3 : Int32), lp_X6_copies_5_7_2 N x2 n fi fa x3 = some out → ∀ (H : Heap) (locs : List Loc), va_P D ga_cl (mW b cA fr fi fa) H → va_D A (mW b cA fr fi fa) → va_S A s.heap H locs → ∀ ls : Array Slot, lv_has ls 4 [(0, .ref (fr 5)), (1, .ref (fr 7)), (2, .int x2), (3, .int x3)] → W p l e (headSpec (ws_ yX6_copies cX6_copies 4 none) rm_X6_copies_5_7).room s m args below meth c H locs 0 0 (MQ below (va_Qv (fun (u : ga_MS) => out = u) (ga_MB D cA A b fr) A) args s 0 0 A) (F0 m 2 ls []) := by
  have C0 := C
  obtain ⟨hx, hb, hr, hlocks, hml, hown, hts⟩ := C0
  intro n
  induction n with
  | zero =>
    intro fi fa x3 h
    rw [lp_X6_copies_5_7_2.eq_1] at h
    cases h
  | succ n ih =>
    intro fi fa x3 h H locs hP hD hS ls hl
    rw [lp_X6_copies_5_7_2.eq_2] at h
    refine lv_iload_n hx hb dX6_copies_2 rfl (lv_at hl 3 rfl) ?_
    refine lv_iload_n hx hb dX6_copies_3 rfl (lv_at hl 2 rfl) ?_
    refine lv_icmp_ge (tgt := 19) hx hb dX6_copies_4 (by decide) (fun c_1 => ?_) (fun c_1 => ?_)
    · replace h := ga_ift c_1 h
      obtain rfl := Option.some.inj h
      exact W.vret hx hb hr (fun t ht hW => ⟨⟨_, rfl, rfl, ⟨by rw [ht]; exact hP, hK.warm hW, hD⟩⟩, hS.F ht⟩) hS.2.2 dX6_copies_19
    · replace h := ga_iff c_1 h
      refine lv_aload_n hx hb dX6_copies_7 rfl (lv_at hl 1 rfl) ?_
      refine lv_iload_n hx hb dX6_copies_8 rfl (lv_at hl 3 rfl) ?_
      refine lv_aload_n hx hb dX6_copies_9 rfl (lv_at hl 0 rfl) ?_
      refine lv_iload_n hx hb dX6_copies_10 rfl (lv_at hl 3 rfl) ?_
      obtain ⟨i_2, h⟩ := ga_gif h
      refine va_iald hx hb hK.1 hP 2 0 (f := fa 5) rfl rfl (ga_in i_2) dX6_copies_11 ?_
      obtain ⟨i_3, h⟩ := ga_gif h
      refine va_iast hx hb hK.1 hP hD hS 4 0 (f := fa 7) rfl rfl (ga_in i_3) dX6_copies_12 (fun H locs hP hD hS => ?_)
      replace hP := ga_cg (mA_7 b cA fr fi fa (upd (fa 7) (ix x3) (fa 5 (ix x3)))) hP
      replace hD := ga_cd (mA_7 b cA fr fi fa (upd (fa 7) (ix x3) (fa 5 (ix x3)))) hD
      refine lv_iinc (v := (x3 + 1)) (lv' := [(3, .int (x3 + 1)), (0, .ref (fr 5)), (1, .ref (fr 7)), (2, .int x2)]) hx hb dX6_copies_13 hl (k := 3) rfl rfl (by decide) rfl (fun ls hl => ?_)
      refine lv_goto (tgt := 2) hx hb dX6_copies_16 (by decide) ?_
      exact ih fi (va_up fa 7 (upd (fa 7) (ix x3) (fa 5 (ix x3)))) (x3 + 1) h _ _ hP hD hS _ (lv_sub hl [1, 2, 3, 0] rfl)
def F_X6_copies_5_7 (N : Nat) (fi : Nat → Int32) (fa : Nat → Nat → Int32) (x2 : Int32) : Option (ga_MS) :=
  lp_X6_copies_5_7_2 N x2 N fi fa 0
set_option maxHeartbeats 4000000 in
theorem met_X6_copies_5_7 (l : Launch) (D : va_G) (cA : Nat → ClassId) (A : Nat → Prop) (b : Nat) (fr : Nat → Nat) (fi : Nat → Int32) (fa : Nat → Nat → Int32) (N : Nat) (x2 : Int32) (out : ga_MS) (h : F_X6_copies_5_7 N fi fa x2 = some out) : Met l yX6_copies (ws_ yX6_copies cX6_copies 4 none) rm_X6_copies_5_7 (ga_N D cA A (mW b cA fr fi fa) [.ref (fr 5), .ref (fr 7), .int x2]) (va_Qv (fun (u : ga_MS) => out = u) (ga_MB D cA A b fr) A) 0 0 A := by
  refine Met.ofW (cc := cX6_copies) (maxL := 4) (ret := none) (by decide) rfl ?_
  intro p e s m args below meth c s₁ B hml hv
  obtain ⟨rfl, hP, hK, hD⟩ := hv
  have hS : va_S A s.heap s.heap [] := va_S.rf
  have C : ga_cx p m c meth s _ RX6 cX6_copies 4 none := ga_cx_of B hml
  have C0 := C
  obtain ⟨hx, hb, hr, hlocks, hml, hown, hts⟩ := C0
  have hl := lv_entry ([.ref (fr 5), .ref (fr 7), .int x2]) (n := 4) (Nat.le_of_ble_eq_true rfl)
  rw [lg_entry_eq]
  generalize (lg_sl ([.ref (fr 5), .ref (fr 7), .int x2]) ++ List.replicate (4 - (lg_sl ([.ref (fr 5), .ref (fr 7), .int x2])).length) Slot.unset).toArray = ls at hl ⊢
  have hl : lv_has ls 4 [(0, .ref (fr 5)), (1, .ref (fr 7)), (2, .int x2)] := hl
  rw [F_X6_copies_5_7] at h
  refine lv_iconst (v := 0) hx hb dX6_copies_0 (by decide) ?_
  refine lv_istore_n (lv' := [(3, .int 0), (0, .ref (fr 5)), (1, .ref (fr 7)), (2, .int x2)]) hx hb dX6_copies_1 rfl hl (by decide) rfl (fun ls hl => ?_)
  exact w_X6_copies_5_7_2 C hK N fi fa 0 h _ _ hP hD hS _ (lv_sub hl [1, 2, 3, 0] rfl)
abbrev rm_X6_copies_7_5 : Room := { frames := 1, cells := 0, slots := 0, locals := 12 }
def lp_X6_copies_7_5_2 (N : Nat) (x2 : Int32) : Nat → (Nat → Int32) → (Nat → Nat → Int32) → Int32 → Option (ga_MS)
  | 0, _, _, _ => none
  | n+1, fi, fa, x3 =>
    (if x2 ≤ x3 then
    some (fi, fa)
    else
    (if inb x3 155 = true then
    (if inb x3 155 = true then
    lp_X6_copies_7_5_2 N x2 n fi (va_up fa 5 (upd (fa 5) (ix x3) (fa 7 (ix x3)))) (x3 + 1)
    else none)
    else none))
set_option maxHeartbeats 4000000 in
theorem w_X6_copies_7_5_2 {p : Program} {l : Launch} {e : Env} {s : State} {m : MethodId} {args : Array Value} {below : List Frame} {meth : Method} {c : Code} {D : va_G} {cA : Nat → ClassId} {A : Nat → Prop} {b : Nat} {fr : Nat → Nat} {N : Nat} {x2 : Int32} (C : ga_cx p m c meth s args RX6 cX6_copies 4 none) (hK : ga_K D cA s) {out : ga_MS} : ∀ n : Nat, ∀ (fi : Nat → Int32) (fa : Nat → Nat → Int32) (x3 : Int32), lp_X6_copies_7_5_2 N x2 n fi fa x3 = some out → ∀ (H : Heap) (locs : List Loc), va_P D ga_cl (mW b cA fr fi fa) H → va_D A (mW b cA fr fi fa) → va_S A s.heap H locs → ∀ ls : Array Slot, lv_has ls 4 [(0, .ref (fr 7)), (1, .ref (fr 5)), (2, .int x2), (3, .int x3)] → W p l e (headSpec (ws_ yX6_copies cX6_copies 4 none) rm_X6_copies_7_5).room s m args below meth c H locs 0 0 (MQ below (va_Qv (fun (u : ga_MS) => out = u) (ga_MB D cA A b fr) A) args s 0 0 A) (F0 m 2 ls []) := by
  have C0 := C
  obtain ⟨hx, hb, hr, hlocks, hml, hown, hts⟩ := C0
  intro n
  induction n with
  | zero =>
    intro fi fa x3 h
    rw [lp_X6_copies_7_5_2.eq_1] at h
    cases h
  | succ n ih =>
    intro fi fa x3 h H locs hP hD hS ls hl
    rw [lp_X6_copies_7_5_2.eq_2] at h
    refine lv_iload_n hx hb dX6_copies_2 rfl (lv_at hl 3 rfl) ?_
    refine lv_iload_n hx hb dX6_copies_3 rfl (lv_at hl 2 rfl) ?_
    refine lv_icmp_ge (tgt := 19) hx hb dX6_copies_4 (by decide) (fun c_1 => ?_) (fun c_1 => ?_)
    · replace h := ga_ift c_1 h
      obtain rfl := Option.some.inj h
      exact W.vret hx hb hr (fun t ht hW => ⟨⟨_, rfl, rfl, ⟨by rw [ht]; exact hP, hK.warm hW, hD⟩⟩, hS.F ht⟩) hS.2.2 dX6_copies_19
    · replace h := ga_iff c_1 h
      refine lv_aload_n hx hb dX6_copies_7 rfl (lv_at hl 1 rfl) ?_
      refine lv_iload_n hx hb dX6_copies_8 rfl (lv_at hl 3 rfl) ?_
      refine lv_aload_n hx hb dX6_copies_9 rfl (lv_at hl 0 rfl) ?_
      refine lv_iload_n hx hb dX6_copies_10 rfl (lv_at hl 3 rfl) ?_
      obtain ⟨i_2, h⟩ := ga_gif h
      refine va_iald hx hb hK.1 hP 4 0 (f := fa 7) rfl rfl (ga_in i_2) dX6_copies_11 ?_
      obtain ⟨i_3, h⟩ := ga_gif h
      refine va_iast hx hb hK.1 hP hD hS 2 0 (f := fa 5) rfl rfl (ga_in i_3) dX6_copies_12 (fun H locs hP hD hS => ?_)
      replace hP := ga_cg (mA_5 b cA fr fi fa (upd (fa 5) (ix x3) (fa 7 (ix x3)))) hP
      replace hD := ga_cd (mA_5 b cA fr fi fa (upd (fa 5) (ix x3) (fa 7 (ix x3)))) hD
      refine lv_iinc (v := (x3 + 1)) (lv' := [(3, .int (x3 + 1)), (0, .ref (fr 7)), (1, .ref (fr 5)), (2, .int x2)]) hx hb dX6_copies_13 hl (k := 3) rfl rfl (by decide) rfl (fun ls hl => ?_)
      refine lv_goto (tgt := 2) hx hb dX6_copies_16 (by decide) ?_
      exact ih fi (va_up fa 5 (upd (fa 5) (ix x3) (fa 7 (ix x3)))) (x3 + 1) h _ _ hP hD hS _ (lv_sub hl [1, 2, 3, 0] rfl)
def F_X6_copies_7_5 (N : Nat) (fi : Nat → Int32) (fa : Nat → Nat → Int32) (x2 : Int32) : Option (ga_MS) :=
  lp_X6_copies_7_5_2 N x2 N fi fa 0
set_option maxHeartbeats 4000000 in
theorem met_X6_copies_7_5 (l : Launch) (D : va_G) (cA : Nat → ClassId) (A : Nat → Prop) (b : Nat) (fr : Nat → Nat) (fi : Nat → Int32) (fa : Nat → Nat → Int32) (N : Nat) (x2 : Int32) (out : ga_MS) (h : F_X6_copies_7_5 N fi fa x2 = some out) : Met l yX6_copies (ws_ yX6_copies cX6_copies 4 none) rm_X6_copies_7_5 (ga_N D cA A (mW b cA fr fi fa) [.ref (fr 7), .ref (fr 5), .int x2]) (va_Qv (fun (u : ga_MS) => out = u) (ga_MB D cA A b fr) A) 0 0 A := by
  refine Met.ofW (cc := cX6_copies) (maxL := 4) (ret := none) (by decide) rfl ?_
  intro p e s m args below meth c s₁ B hml hv
  obtain ⟨rfl, hP, hK, hD⟩ := hv
  have hS : va_S A s.heap s.heap [] := va_S.rf
  have C : ga_cx p m c meth s _ RX6 cX6_copies 4 none := ga_cx_of B hml
  have C0 := C
  obtain ⟨hx, hb, hr, hlocks, hml, hown, hts⟩ := C0
  have hl := lv_entry ([.ref (fr 7), .ref (fr 5), .int x2]) (n := 4) (Nat.le_of_ble_eq_true rfl)
  rw [lg_entry_eq]
  generalize (lg_sl ([.ref (fr 7), .ref (fr 5), .int x2]) ++ List.replicate (4 - (lg_sl ([.ref (fr 7), .ref (fr 5), .int x2])).length) Slot.unset).toArray = ls at hl ⊢
  have hl : lv_has ls 4 [(0, .ref (fr 7)), (1, .ref (fr 5)), (2, .int x2)] := hl
  rw [F_X6_copies_7_5] at h
  refine lv_iconst (v := 0) hx hb dX6_copies_0 (by decide) ?_
  refine lv_istore_n (lv' := [(3, .int 0), (0, .ref (fr 7)), (1, .ref (fr 5)), (2, .int x2)]) hx hb dX6_copies_1 rfl hl (by decide) rfl (fun ls hl => ?_)
  exact w_X6_copies_7_5_2 C hK N fi fa 0 h _ _ hP hD hS _ (lv_sub hl [1, 2, 3, 0] rfl)
abbrev rm_X6_copies_5_6 : Room := { frames := 1, cells := 0, slots := 0, locals := 12 }
def lp_X6_copies_5_6_2 (N : Nat) (x2 : Int32) : Nat → (Nat → Int32) → (Nat → Nat → Int32) → Int32 → Option (ga_MS)
  | 0, _, _, _ => none
  | n+1, fi, fa, x3 =>
    (if x2 ≤ x3 then
    some (fi, fa)
    else
    (if inb x3 155 = true then
    (if inb x3 155 = true then
    lp_X6_copies_5_6_2 N x2 n fi (va_up fa 6 (upd (fa 6) (ix x3) (fa 5 (ix x3)))) (x3 + 1)
    else none)
    else none))
set_option maxHeartbeats 4000000 in
theorem w_X6_copies_5_6_2 {p : Program} {l : Launch} {e : Env} {s : State} {m : MethodId} {args : Array Value} {below : List Frame} {meth : Method} {c : Code} {D : va_G} {cA : Nat → ClassId} {A : Nat → Prop} {b : Nat} {fr : Nat → Nat} {N : Nat} {x2 : Int32} (C : ga_cx p m c meth s args RX6 cX6_copies 4 none) (hK : ga_K D cA s) {out : ga_MS} : ∀ n : Nat, ∀ (fi : Nat → Int32) (fa : Nat → Nat → Int32) (x3 : Int32), lp_X6_copies_5_6_2 N x2 n fi fa x3 = some out → ∀ (H : Heap) (locs : List Loc), va_P D ga_cl (mW b cA fr fi fa) H → va_D A (mW b cA fr fi fa) → va_S A s.heap H locs → ∀ ls : Array Slot, lv_has ls 4 [(0, .ref (fr 5)), (1, .ref (fr 6)), (2, .int x2), (3, .int x3)] → W p l e (headSpec (ws_ yX6_copies cX6_copies 4 none) rm_X6_copies_5_6).room s m args below meth c H locs 0 0 (MQ below (va_Qv (fun (u : ga_MS) => out = u) (ga_MB D cA A b fr) A) args s 0 0 A) (F0 m 2 ls []) := by
  have C0 := C
  obtain ⟨hx, hb, hr, hlocks, hml, hown, hts⟩ := C0
  intro n
  induction n with
  | zero =>
    intro fi fa x3 h
    rw [lp_X6_copies_5_6_2.eq_1] at h
    cases h
  | succ n ih =>
    intro fi fa x3 h H locs hP hD hS ls hl
    rw [lp_X6_copies_5_6_2.eq_2] at h
    refine lv_iload_n hx hb dX6_copies_2 rfl (lv_at hl 3 rfl) ?_
    refine lv_iload_n hx hb dX6_copies_3 rfl (lv_at hl 2 rfl) ?_
    refine lv_icmp_ge (tgt := 19) hx hb dX6_copies_4 (by decide) (fun c_1 => ?_) (fun c_1 => ?_)
    · replace h := ga_ift c_1 h
      obtain rfl := Option.some.inj h
      exact W.vret hx hb hr (fun t ht hW => ⟨⟨_, rfl, rfl, ⟨by rw [ht]; exact hP, hK.warm hW, hD⟩⟩, hS.F ht⟩) hS.2.2 dX6_copies_19
    · replace h := ga_iff c_1 h
      refine lv_aload_n hx hb dX6_copies_7 rfl (lv_at hl 1 rfl) ?_
      refine lv_iload_n hx hb dX6_copies_8 rfl (lv_at hl 3 rfl) ?_
      refine lv_aload_n hx hb dX6_copies_9 rfl (lv_at hl 0 rfl) ?_
      refine lv_iload_n hx hb dX6_copies_10 rfl (lv_at hl 3 rfl) ?_
      obtain ⟨i_2, h⟩ := ga_gif h
      refine va_iald hx hb hK.1 hP 2 0 (f := fa 5) rfl rfl (ga_in i_2) dX6_copies_11 ?_
      obtain ⟨i_3, h⟩ := ga_gif h
      refine va_iast hx hb hK.1 hP hD hS 3 0 (f := fa 6) rfl rfl (ga_in i_3) dX6_copies_12 (fun H locs hP hD hS => ?_)
      replace hP := ga_cg (mA_6 b cA fr fi fa (upd (fa 6) (ix x3) (fa 5 (ix x3)))) hP
      replace hD := ga_cd (mA_6 b cA fr fi fa (upd (fa 6) (ix x3) (fa 5 (ix x3)))) hD
      refine lv_iinc (v := (x3 + 1)) (lv' := [(3, .int (x3 + 1)), (0, .ref (fr 5)), (1, .ref (fr 6)), (2, .int x2)]) hx hb dX6_copies_13 hl (k := 3) rfl rfl (by decide) rfl (fun ls hl => ?_)
      refine lv_goto (tgt := 2) hx hb dX6_copies_16 (by decide) ?_
      exact ih fi (va_up fa 6 (upd (fa 6) (ix x3) (fa 5 (ix x3)))) (x3 + 1) h _ _ hP hD hS _ (lv_sub hl [1, 2, 3, 0] rfl)
def F_X6_copies_5_6 (N : Nat) (fi : Nat → Int32) (fa : Nat → Nat → Int32) (x2 : Int32) : Option (ga_MS) :=
  lp_X6_copies_5_6_2 N x2 N fi fa 0
set_option maxHeartbeats 4000000 in
theorem met_X6_copies_5_6 (l : Launch) (D : va_G) (cA : Nat → ClassId) (A : Nat → Prop) (b : Nat) (fr : Nat → Nat) (fi : Nat → Int32) (fa : Nat → Nat → Int32) (N : Nat) (x2 : Int32) (out : ga_MS) (h : F_X6_copies_5_6 N fi fa x2 = some out) : Met l yX6_copies (ws_ yX6_copies cX6_copies 4 none) rm_X6_copies_5_6 (ga_N D cA A (mW b cA fr fi fa) [.ref (fr 5), .ref (fr 6), .int x2]) (va_Qv (fun (u : ga_MS) => out = u) (ga_MB D cA A b fr) A) 0 0 A := by
  refine Met.ofW (cc := cX6_copies) (maxL := 4) (ret := none) (by decide) rfl ?_
  intro p e s m args below meth c s₁ B hml hv
  obtain ⟨rfl, hP, hK, hD⟩ := hv
  have hS : va_S A s.heap s.heap [] := va_S.rf
  have C : ga_cx p m c meth s _ RX6 cX6_copies 4 none := ga_cx_of B hml
  have C0 := C
  obtain ⟨hx, hb, hr, hlocks, hml, hown, hts⟩ := C0
  have hl := lv_entry ([.ref (fr 5), .ref (fr 6), .int x2]) (n := 4) (Nat.le_of_ble_eq_true rfl)
  rw [lg_entry_eq]
  generalize (lg_sl ([.ref (fr 5), .ref (fr 6), .int x2]) ++ List.replicate (4 - (lg_sl ([.ref (fr 5), .ref (fr 6), .int x2])).length) Slot.unset).toArray = ls at hl ⊢
  have hl : lv_has ls 4 [(0, .ref (fr 5)), (1, .ref (fr 6)), (2, .int x2)] := hl
  rw [F_X6_copies_5_6] at h
  refine lv_iconst (v := 0) hx hb dX6_copies_0 (by decide) ?_
  refine lv_istore_n (lv' := [(3, .int 0), (0, .ref (fr 5)), (1, .ref (fr 6)), (2, .int x2)]) hx hb dX6_copies_1 rfl hl (by decide) rfl (fun ls hl => ?_)
  exact w_X6_copies_5_6_2 C hK N fi fa 0 h _ _ hP hD hS _ (lv_sub hl [1, 2, 3, 0] rfl)
abbrev rm_X6_copies_6_5 : Room := { frames := 1, cells := 0, slots := 0, locals := 12 }
def lp_X6_copies_6_5_2 (N : Nat) (x2 : Int32) : Nat → (Nat → Int32) → (Nat → Nat → Int32) → Int32 → Option (ga_MS)
  | 0, _, _, _ => none
  | n+1, fi, fa, x3 =>
    (if x2 ≤ x3 then
    some (fi, fa)
    else
    (if inb x3 155 = true then
    (if inb x3 155 = true then
    lp_X6_copies_6_5_2 N x2 n fi (va_up fa 5 (upd (fa 5) (ix x3) (fa 6 (ix x3)))) (x3 + 1)
    else none)
    else none))
set_option maxHeartbeats 4000000 in
theorem w_X6_copies_6_5_2 {p : Program} {l : Launch} {e : Env} {s : State} {m : MethodId} {args : Array Value} {below : List Frame} {meth : Method} {c : Code} {D : va_G} {cA : Nat → ClassId} {A : Nat → Prop} {b : Nat} {fr : Nat → Nat} {N : Nat} {x2 : Int32} (C : ga_cx p m c meth s args RX6 cX6_copies 4 none) (hK : ga_K D cA s) {out : ga_MS} : ∀ n : Nat, ∀ (fi : Nat → Int32) (fa : Nat → Nat → Int32) (x3 : Int32), lp_X6_copies_6_5_2 N x2 n fi fa x3 = some out → ∀ (H : Heap) (locs : List Loc), va_P D ga_cl (mW b cA fr fi fa) H → va_D A (mW b cA fr fi fa) → va_S A s.heap H locs → ∀ ls : Array Slot, lv_has ls 4 [(0, .ref (fr 6)), (1, .ref (fr 5)), (2, .int x2), (3, .int x3)] → W p l e (headSpec (ws_ yX6_copies cX6_copies 4 none) rm_X6_copies_6_5).room s m args below meth c H locs 0 0 (MQ below (va_Qv (fun (u : ga_MS) => out = u) (ga_MB D cA A b fr) A) args s 0 0 A) (F0 m 2 ls []) := by
  have C0 := C
  obtain ⟨hx, hb, hr, hlocks, hml, hown, hts⟩ := C0
  intro n
  induction n with
  | zero =>
    intro fi fa x3 h
    rw [lp_X6_copies_6_5_2.eq_1] at h
    cases h
  | succ n ih =>
    intro fi fa x3 h H locs hP hD hS ls hl
    rw [lp_X6_copies_6_5_2.eq_2] at h
    refine lv_iload_n hx hb dX6_copies_2 rfl (lv_at hl 3 rfl) ?_
    refine lv_iload_n hx hb dX6_copies_3 rfl (lv_at hl 2 rfl) ?_
    refine lv_icmp_ge (tgt := 19) hx hb dX6_copies_4 (by decide) (fun c_1 => ?_) (fun c_1 => ?_)
    · replace h := ga_ift c_1 h
      obtain rfl := Option.some.inj h
      exact W.vret hx hb hr (fun t ht hW => ⟨⟨_, rfl, rfl, ⟨by rw [ht]; exact hP, hK.warm hW, hD⟩⟩, hS.F ht⟩) hS.2.2 dX6_copies_19
    · replace h := ga_iff c_1 h
      refine lv_aload_n hx hb dX6_copies_7 rfl (lv_at hl 1 rfl) ?_
      refine lv_iload_n hx hb dX6_copies_8 rfl (lv_at hl 3 rfl) ?_
      refine lv_aload_n hx hb dX6_copies_9 rfl (lv_at hl 0 rfl) ?_
      refine lv_iload_n hx hb dX6_copies_10 rfl (lv_at hl 3 rfl) ?_
      obtain ⟨i_2, h⟩ := ga_gif h
      refine va_iald hx hb hK.1 hP 3 0 (f := fa 6) rfl rfl (ga_in i_2) dX6_copies_11 ?_
      obtain ⟨i_3, h⟩ := ga_gif h
      refine va_iast hx hb hK.1 hP hD hS 2 0 (f := fa 5) rfl rfl (ga_in i_3) dX6_copies_12 (fun H locs hP hD hS => ?_)
      replace hP := ga_cg (mA_5 b cA fr fi fa (upd (fa 5) (ix x3) (fa 6 (ix x3)))) hP
      replace hD := ga_cd (mA_5 b cA fr fi fa (upd (fa 5) (ix x3) (fa 6 (ix x3)))) hD
      refine lv_iinc (v := (x3 + 1)) (lv' := [(3, .int (x3 + 1)), (0, .ref (fr 6)), (1, .ref (fr 5)), (2, .int x2)]) hx hb dX6_copies_13 hl (k := 3) rfl rfl (by decide) rfl (fun ls hl => ?_)
      refine lv_goto (tgt := 2) hx hb dX6_copies_16 (by decide) ?_
      exact ih fi (va_up fa 5 (upd (fa 5) (ix x3) (fa 6 (ix x3)))) (x3 + 1) h _ _ hP hD hS _ (lv_sub hl [1, 2, 3, 0] rfl)
def F_X6_copies_6_5 (N : Nat) (fi : Nat → Int32) (fa : Nat → Nat → Int32) (x2 : Int32) : Option (ga_MS) :=
  lp_X6_copies_6_5_2 N x2 N fi fa 0
set_option maxHeartbeats 4000000 in
theorem met_X6_copies_6_5 (l : Launch) (D : va_G) (cA : Nat → ClassId) (A : Nat → Prop) (b : Nat) (fr : Nat → Nat) (fi : Nat → Int32) (fa : Nat → Nat → Int32) (N : Nat) (x2 : Int32) (out : ga_MS) (h : F_X6_copies_6_5 N fi fa x2 = some out) : Met l yX6_copies (ws_ yX6_copies cX6_copies 4 none) rm_X6_copies_6_5 (ga_N D cA A (mW b cA fr fi fa) [.ref (fr 6), .ref (fr 5), .int x2]) (va_Qv (fun (u : ga_MS) => out = u) (ga_MB D cA A b fr) A) 0 0 A := by
  refine Met.ofW (cc := cX6_copies) (maxL := 4) (ret := none) (by decide) rfl ?_
  intro p e s m args below meth c s₁ B hml hv
  obtain ⟨rfl, hP, hK, hD⟩ := hv
  have hS : va_S A s.heap s.heap [] := va_S.rf
  have C : ga_cx p m c meth s _ RX6 cX6_copies 4 none := ga_cx_of B hml
  have C0 := C
  obtain ⟨hx, hb, hr, hlocks, hml, hown, hts⟩ := C0
  have hl := lv_entry ([.ref (fr 6), .ref (fr 5), .int x2]) (n := 4) (Nat.le_of_ble_eq_true rfl)
  rw [lg_entry_eq]
  generalize (lg_sl ([.ref (fr 6), .ref (fr 5), .int x2]) ++ List.replicate (4 - (lg_sl ([.ref (fr 6), .ref (fr 5), .int x2])).length) Slot.unset).toArray = ls at hl ⊢
  have hl : lv_has ls 4 [(0, .ref (fr 6)), (1, .ref (fr 5)), (2, .int x2)] := hl
  rw [F_X6_copies_6_5] at h
  refine lv_iconst (v := 0) hx hb dX6_copies_0 (by decide) ?_
  refine lv_istore_n (lv' := [(3, .int 0), (0, .ref (fr 6)), (1, .ref (fr 5)), (2, .int x2)]) hx hb dX6_copies_1 rfl hl (by decide) rfl (fun ls hl => ?_)
  exact w_X6_copies_6_5_2 C hK N fi fa 0 h _ _ hP hD hS _ (lv_sub hl [1, 2, 3, 0] rfl)
abbrev rm_X6_copies_5_11 : Room := { frames := 1, cells := 0, slots := 0, locals := 12 }
def lp_X6_copies_5_11_2 (N : Nat) (x2 : Int32) : Nat → (Nat → Int32) → (Nat → Nat → Int32) → Int32 → Option (ga_MS)
  | 0, _, _, _ => none
  | n+1, fi, fa, x3 =>
    (if x2 ≤ x3 then
    some (fi, fa)
    else
    (if inb x3 155 = true then
    (if inb x3 155 = true then
    lp_X6_copies_5_11_2 N x2 n fi (va_up fa 11 (upd (fa 11) (ix x3) (fa 5 (ix x3)))) (x3 + 1)
    else none)
    else none))
set_option maxHeartbeats 4000000 in
theorem w_X6_copies_5_11_2 {p : Program} {l : Launch} {e : Env} {s : State} {m : MethodId} {args : Array Value} {below : List Frame} {meth : Method} {c : Code} {D : va_G} {cA : Nat → ClassId} {A : Nat → Prop} {b : Nat} {fr : Nat → Nat} {N : Nat} {x2 : Int32} (C : ga_cx p m c meth s args RX6 cX6_copies 4 none) (hK : ga_K D cA s) {out : ga_MS} : ∀ n : Nat, ∀ (fi : Nat → Int32) (fa : Nat → Nat → Int32) (x3 : Int32), lp_X6_copies_5_11_2 N x2 n fi fa x3 = some out → ∀ (H : Heap) (locs : List Loc), va_P D ga_cl (mW b cA fr fi fa) H → va_D A (mW b cA fr fi fa) → va_S A s.heap H locs → ∀ ls : Array Slot, lv_has ls 4 [(0, .ref (fr 5)), (1, .ref (fr 11)), (2, .int x2), (3, .int x3)] → W p l e (headSpec (ws_ yX6_copies cX6_copies 4 none) rm_X6_copies_5_11).room s m args below meth c H locs 0 0 (MQ below (va_Qv (fun (u : ga_MS) => out = u) (ga_MB D cA A b fr) A) args s 0 0 A) (F0 m 2 ls []) := by
  have C0 := C
  obtain ⟨hx, hb, hr, hlocks, hml, hown, hts⟩ := C0
  intro n
  induction n with
  | zero =>
    intro fi fa x3 h
    rw [lp_X6_copies_5_11_2.eq_1] at h
    cases h
  | succ n ih =>
    intro fi fa x3 h H locs hP hD hS ls hl
    rw [lp_X6_copies_5_11_2.eq_2] at h
    refine lv_iload_n hx hb dX6_copies_2 rfl (lv_at hl 3 rfl) ?_
    refine lv_iload_n hx hb dX6_copies_3 rfl (lv_at hl 2 rfl) ?_
    refine lv_icmp_ge (tgt := 19) hx hb dX6_copies_4 (by decide) (fun c_1 => ?_) (fun c_1 => ?_)
    · replace h := ga_ift c_1 h
      obtain rfl := Option.some.inj h
      exact W.vret hx hb hr (fun t ht hW => ⟨⟨_, rfl, rfl, ⟨by rw [ht]; exact hP, hK.warm hW, hD⟩⟩, hS.F ht⟩) hS.2.2 dX6_copies_19
    · replace h := ga_iff c_1 h
      refine lv_aload_n hx hb dX6_copies_7 rfl (lv_at hl 1 rfl) ?_
      refine lv_iload_n hx hb dX6_copies_8 rfl (lv_at hl 3 rfl) ?_
      refine lv_aload_n hx hb dX6_copies_9 rfl (lv_at hl 0 rfl) ?_
      refine lv_iload_n hx hb dX6_copies_10 rfl (lv_at hl 3 rfl) ?_
      obtain ⟨i_2, h⟩ := ga_gif h
      refine va_iald hx hb hK.1 hP 2 0 (f := fa 5) rfl rfl (ga_in i_2) dX6_copies_11 ?_
      obtain ⟨i_3, h⟩ := ga_gif h
      refine va_iast hx hb hK.1 hP hD hS 8 0 (f := fa 11) rfl rfl (ga_in i_3) dX6_copies_12 (fun H locs hP hD hS => ?_)
      replace hP := ga_cg (mA_11 b cA fr fi fa (upd (fa 11) (ix x3) (fa 5 (ix x3)))) hP
      replace hD := ga_cd (mA_11 b cA fr fi fa (upd (fa 11) (ix x3) (fa 5 (ix x3)))) hD
      refine lv_iinc (v := (x3 + 1)) (lv' := [(3, .int (x3 + 1)), (0, .ref (fr 5)), (1, .ref (fr 11)), (2, .int x2)]) hx hb dX6_copies_13 hl (k := 3) rfl rfl (by decide) rfl (fun ls hl => ?_)
      refine lv_goto (tgt := 2) hx hb dX6_copies_16 (by decide) ?_
      exact ih fi (va_up fa 11 (upd (fa 11) (ix x3) (fa 5 (ix x3)))) (x3 + 1) h _ _ hP hD hS _ (lv_sub hl [1, 2, 3, 0] rfl)
def F_X6_copies_5_11 (N : Nat) (fi : Nat → Int32) (fa : Nat → Nat → Int32) (x2 : Int32) : Option (ga_MS) :=
  lp_X6_copies_5_11_2 N x2 N fi fa 0
set_option maxHeartbeats 4000000 in
theorem met_X6_copies_5_11 (l : Launch) (D : va_G) (cA : Nat → ClassId) (A : Nat → Prop) (b : Nat) (fr : Nat → Nat) (fi : Nat → Int32) (fa : Nat → Nat → Int32) (N : Nat) (x2 : Int32) (out : ga_MS) (h : F_X6_copies_5_11 N fi fa x2 = some out) : Met l yX6_copies (ws_ yX6_copies cX6_copies 4 none) rm_X6_copies_5_11 (ga_N D cA A (mW b cA fr fi fa) [.ref (fr 5), .ref (fr 11), .int x2]) (va_Qv (fun (u : ga_MS) => out = u) (ga_MB D cA A b fr) A) 0 0 A := by
  refine Met.ofW (cc := cX6_copies) (maxL := 4) (ret := none) (by decide) rfl ?_
  intro p e s m args below meth c s₁ B hml hv
  obtain ⟨rfl, hP, hK, hD⟩ := hv
  have hS : va_S A s.heap s.heap [] := va_S.rf
  have C : ga_cx p m c meth s _ RX6 cX6_copies 4 none := ga_cx_of B hml
  have C0 := C
  obtain ⟨hx, hb, hr, hlocks, hml, hown, hts⟩ := C0
  have hl := lv_entry ([.ref (fr 5), .ref (fr 11), .int x2]) (n := 4) (Nat.le_of_ble_eq_true rfl)
  rw [lg_entry_eq]
  generalize (lg_sl ([.ref (fr 5), .ref (fr 11), .int x2]) ++ List.replicate (4 - (lg_sl ([.ref (fr 5), .ref (fr 11), .int x2])).length) Slot.unset).toArray = ls at hl ⊢
  have hl : lv_has ls 4 [(0, .ref (fr 5)), (1, .ref (fr 11)), (2, .int x2)] := hl
  rw [F_X6_copies_5_11] at h
  refine lv_iconst (v := 0) hx hb dX6_copies_0 (by decide) ?_
  refine lv_istore_n (lv' := [(3, .int 0), (0, .ref (fr 5)), (1, .ref (fr 11)), (2, .int x2)]) hx hb dX6_copies_1 rfl hl (by decide) rfl (fun ls hl => ?_)
  exact w_X6_copies_5_11_2 C hK N fi fa 0 h _ _ hP hD hS _ (lv_sub hl [1, 2, 3, 0] rfl)
abbrev rm_X6_copies_8_12 : Room := { frames := 1, cells := 0, slots := 0, locals := 12 }
def lp_X6_copies_8_12_2 (N : Nat) (x2 : Int32) : Nat → (Nat → Int32) → (Nat → Nat → Int32) → Int32 → Option (ga_MS)
  | 0, _, _, _ => none
  | n+1, fi, fa, x3 =>
    (if x2 ≤ x3 then
    some (fi, fa)
    else
    (if inb x3 9300 = true then
    (if inb x3 9300 = true then
    lp_X6_copies_8_12_2 N x2 n fi (va_up fa 12 (upd (fa 12) (ix x3) (fa 8 (ix x3)))) (x3 + 1)
    else none)
    else none))
set_option maxHeartbeats 4000000 in
theorem w_X6_copies_8_12_2 {p : Program} {l : Launch} {e : Env} {s : State} {m : MethodId} {args : Array Value} {below : List Frame} {meth : Method} {c : Code} {D : va_G} {cA : Nat → ClassId} {A : Nat → Prop} {b : Nat} {fr : Nat → Nat} {N : Nat} {x2 : Int32} (C : ga_cx p m c meth s args RX6 cX6_copies 4 none) (hK : ga_K D cA s) {out : ga_MS} : ∀ n : Nat, ∀ (fi : Nat → Int32) (fa : Nat → Nat → Int32) (x3 : Int32), lp_X6_copies_8_12_2 N x2 n fi fa x3 = some out → ∀ (H : Heap) (locs : List Loc), va_P D ga_cl (mW b cA fr fi fa) H → va_D A (mW b cA fr fi fa) → va_S A s.heap H locs → ∀ ls : Array Slot, lv_has ls 4 [(0, .ref (fr 8)), (1, .ref (fr 12)), (2, .int x2), (3, .int x3)] → W p l e (headSpec (ws_ yX6_copies cX6_copies 4 none) rm_X6_copies_8_12).room s m args below meth c H locs 0 0 (MQ below (va_Qv (fun (u : ga_MS) => out = u) (ga_MB D cA A b fr) A) args s 0 0 A) (F0 m 2 ls []) := by
  have C0 := C
  obtain ⟨hx, hb, hr, hlocks, hml, hown, hts⟩ := C0
  intro n
  induction n with
  | zero =>
    intro fi fa x3 h
    rw [lp_X6_copies_8_12_2.eq_1] at h
    cases h
  | succ n ih =>
    intro fi fa x3 h H locs hP hD hS ls hl
    rw [lp_X6_copies_8_12_2.eq_2] at h
    refine lv_iload_n hx hb dX6_copies_2 rfl (lv_at hl 3 rfl) ?_
    refine lv_iload_n hx hb dX6_copies_3 rfl (lv_at hl 2 rfl) ?_
    refine lv_icmp_ge (tgt := 19) hx hb dX6_copies_4 (by decide) (fun c_1 => ?_) (fun c_1 => ?_)
    · replace h := ga_ift c_1 h
      obtain rfl := Option.some.inj h
      exact W.vret hx hb hr (fun t ht hW => ⟨⟨_, rfl, rfl, ⟨by rw [ht]; exact hP, hK.warm hW, hD⟩⟩, hS.F ht⟩) hS.2.2 dX6_copies_19
    · replace h := ga_iff c_1 h
      refine lv_aload_n hx hb dX6_copies_7 rfl (lv_at hl 1 rfl) ?_
      refine lv_iload_n hx hb dX6_copies_8 rfl (lv_at hl 3 rfl) ?_
      refine lv_aload_n hx hb dX6_copies_9 rfl (lv_at hl 0 rfl) ?_
      refine lv_iload_n hx hb dX6_copies_10 rfl (lv_at hl 3 rfl) ?_
      obtain ⟨i_2, h⟩ := ga_gif h
      refine va_iald hx hb hK.1 hP 5 0 (f := fa 8) rfl rfl (ga_in i_2) dX6_copies_11 ?_
      obtain ⟨i_3, h⟩ := ga_gif h
      refine va_iast hx hb hK.1 hP hD hS 9 0 (f := fa 12) rfl rfl (ga_in i_3) dX6_copies_12 (fun H locs hP hD hS => ?_)
      replace hP := ga_cg (mA_12 b cA fr fi fa (upd (fa 12) (ix x3) (fa 8 (ix x3)))) hP
      replace hD := ga_cd (mA_12 b cA fr fi fa (upd (fa 12) (ix x3) (fa 8 (ix x3)))) hD
      refine lv_iinc (v := (x3 + 1)) (lv' := [(3, .int (x3 + 1)), (0, .ref (fr 8)), (1, .ref (fr 12)), (2, .int x2)]) hx hb dX6_copies_13 hl (k := 3) rfl rfl (by decide) rfl (fun ls hl => ?_)
      refine lv_goto (tgt := 2) hx hb dX6_copies_16 (by decide) ?_
      exact ih fi (va_up fa 12 (upd (fa 12) (ix x3) (fa 8 (ix x3)))) (x3 + 1) h _ _ hP hD hS _ (lv_sub hl [1, 2, 3, 0] rfl)
def F_X6_copies_8_12 (N : Nat) (fi : Nat → Int32) (fa : Nat → Nat → Int32) (x2 : Int32) : Option (ga_MS) :=
  lp_X6_copies_8_12_2 N x2 N fi fa 0
set_option maxHeartbeats 4000000 in
theorem met_X6_copies_8_12 (l : Launch) (D : va_G) (cA : Nat → ClassId) (A : Nat → Prop) (b : Nat) (fr : Nat → Nat) (fi : Nat → Int32) (fa : Nat → Nat → Int32) (N : Nat) (x2 : Int32) (out : ga_MS) (h : F_X6_copies_8_12 N fi fa x2 = some out) : Met l yX6_copies (ws_ yX6_copies cX6_copies 4 none) rm_X6_copies_8_12 (ga_N D cA A (mW b cA fr fi fa) [.ref (fr 8), .ref (fr 12), .int x2]) (va_Qv (fun (u : ga_MS) => out = u) (ga_MB D cA A b fr) A) 0 0 A := by
  refine Met.ofW (cc := cX6_copies) (maxL := 4) (ret := none) (by decide) rfl ?_
  intro p e s m args below meth c s₁ B hml hv
  obtain ⟨rfl, hP, hK, hD⟩ := hv
  have hS : va_S A s.heap s.heap [] := va_S.rf
  have C : ga_cx p m c meth s _ RX6 cX6_copies 4 none := ga_cx_of B hml
  have C0 := C
  obtain ⟨hx, hb, hr, hlocks, hml, hown, hts⟩ := C0
  have hl := lv_entry ([.ref (fr 8), .ref (fr 12), .int x2]) (n := 4) (Nat.le_of_ble_eq_true rfl)
  rw [lg_entry_eq]
  generalize (lg_sl ([.ref (fr 8), .ref (fr 12), .int x2]) ++ List.replicate (4 - (lg_sl ([.ref (fr 8), .ref (fr 12), .int x2])).length) Slot.unset).toArray = ls at hl ⊢
  have hl : lv_has ls 4 [(0, .ref (fr 8)), (1, .ref (fr 12)), (2, .int x2)] := hl
  rw [F_X6_copies_8_12] at h
  refine lv_iconst (v := 0) hx hb dX6_copies_0 (by decide) ?_
  refine lv_istore_n (lv' := [(3, .int 0), (0, .ref (fr 8)), (1, .ref (fr 12)), (2, .int x2)]) hx hb dX6_copies_1 rfl hl (by decide) rfl (fun ls hl => ?_)
  exact w_X6_copies_8_12_2 C hK N fi fa 0 h _ _ hP hD hS _ (lv_sub hl [1, 2, 3, 0] rfl)
abbrev rm_X6_copies_9_13 : Room := { frames := 1, cells := 0, slots := 0, locals := 12 }
def lp_X6_copies_9_13_2 (N : Nat) (x2 : Int32) : Nat → (Nat → Int32) → (Nat → Nat → Int32) → Int32 → Option (ga_MS)
  | 0, _, _, _ => none
  | n+1, fi, fa, x3 =>
    (if x2 ≤ x3 then
    some (fi, fa)
    else
    (if inb x3 420 = true then
    (if inb x3 420 = true then
    lp_X6_copies_9_13_2 N x2 n fi (va_up fa 13 (upd (fa 13) (ix x3) (fa 9 (ix x3)))) (x3 + 1)
    else none)
    else none))
set_option maxHeartbeats 4000000 in
theorem w_X6_copies_9_13_2 {p : Program} {l : Launch} {e : Env} {s : State} {m : MethodId} {args : Array Value} {below : List Frame} {meth : Method} {c : Code} {D : va_G} {cA : Nat → ClassId} {A : Nat → Prop} {b : Nat} {fr : Nat → Nat} {N : Nat} {x2 : Int32} (C : ga_cx p m c meth s args RX6 cX6_copies 4 none) (hK : ga_K D cA s) {out : ga_MS} : ∀ n : Nat, ∀ (fi : Nat → Int32) (fa : Nat → Nat → Int32) (x3 : Int32), lp_X6_copies_9_13_2 N x2 n fi fa x3 = some out → ∀ (H : Heap) (locs : List Loc), va_P D ga_cl (mW b cA fr fi fa) H → va_D A (mW b cA fr fi fa) → va_S A s.heap H locs → ∀ ls : Array Slot, lv_has ls 4 [(0, .ref (fr 9)), (1, .ref (fr 13)), (2, .int x2), (3, .int x3)] → W p l e (headSpec (ws_ yX6_copies cX6_copies 4 none) rm_X6_copies_9_13).room s m args below meth c H locs 0 0 (MQ below (va_Qv (fun (u : ga_MS) => out = u) (ga_MB D cA A b fr) A) args s 0 0 A) (F0 m 2 ls []) := by
  have C0 := C
  obtain ⟨hx, hb, hr, hlocks, hml, hown, hts⟩ := C0
  intro n
  induction n with
  | zero =>
    intro fi fa x3 h
    rw [lp_X6_copies_9_13_2.eq_1] at h
    cases h
  | succ n ih =>
    intro fi fa x3 h H locs hP hD hS ls hl
    rw [lp_X6_copies_9_13_2.eq_2] at h
    refine lv_iload_n hx hb dX6_copies_2 rfl (lv_at hl 3 rfl) ?_
    refine lv_iload_n hx hb dX6_copies_3 rfl (lv_at hl 2 rfl) ?_
    refine lv_icmp_ge (tgt := 19) hx hb dX6_copies_4 (by decide) (fun c_1 => ?_) (fun c_1 => ?_)
    · replace h := ga_ift c_1 h
      obtain rfl := Option.some.inj h
      exact W.vret hx hb hr (fun t ht hW => ⟨⟨_, rfl, rfl, ⟨by rw [ht]; exact hP, hK.warm hW, hD⟩⟩, hS.F ht⟩) hS.2.2 dX6_copies_19
    · replace h := ga_iff c_1 h
      refine lv_aload_n hx hb dX6_copies_7 rfl (lv_at hl 1 rfl) ?_
      refine lv_iload_n hx hb dX6_copies_8 rfl (lv_at hl 3 rfl) ?_
      refine lv_aload_n hx hb dX6_copies_9 rfl (lv_at hl 0 rfl) ?_
      refine lv_iload_n hx hb dX6_copies_10 rfl (lv_at hl 3 rfl) ?_
      obtain ⟨i_2, h⟩ := ga_gif h
      refine va_iald hx hb hK.1 hP 6 0 (f := fa 9) rfl rfl (ga_in i_2) dX6_copies_11 ?_
      obtain ⟨i_3, h⟩ := ga_gif h
      refine va_iast hx hb hK.1 hP hD hS 10 0 (f := fa 13) rfl rfl (ga_in i_3) dX6_copies_12 (fun H locs hP hD hS => ?_)
      replace hP := ga_cg (mA_13 b cA fr fi fa (upd (fa 13) (ix x3) (fa 9 (ix x3)))) hP
      replace hD := ga_cd (mA_13 b cA fr fi fa (upd (fa 13) (ix x3) (fa 9 (ix x3)))) hD
      refine lv_iinc (v := (x3 + 1)) (lv' := [(3, .int (x3 + 1)), (0, .ref (fr 9)), (1, .ref (fr 13)), (2, .int x2)]) hx hb dX6_copies_13 hl (k := 3) rfl rfl (by decide) rfl (fun ls hl => ?_)
      refine lv_goto (tgt := 2) hx hb dX6_copies_16 (by decide) ?_
      exact ih fi (va_up fa 13 (upd (fa 13) (ix x3) (fa 9 (ix x3)))) (x3 + 1) h _ _ hP hD hS _ (lv_sub hl [1, 2, 3, 0] rfl)
def F_X6_copies_9_13 (N : Nat) (fi : Nat → Int32) (fa : Nat → Nat → Int32) (x2 : Int32) : Option (ga_MS) :=
  lp_X6_copies_9_13_2 N x2 N fi fa 0
set_option maxHeartbeats 4000000 in
theorem met_X6_copies_9_13 (l : Launch) (D : va_G) (cA : Nat → ClassId) (A : Nat → Prop) (b : Nat) (fr : Nat → Nat) (fi : Nat → Int32) (fa : Nat → Nat → Int32) (N : Nat) (x2 : Int32) (out : ga_MS) (h : F_X6_copies_9_13 N fi fa x2 = some out) : Met l yX6_copies (ws_ yX6_copies cX6_copies 4 none) rm_X6_copies_9_13 (ga_N D cA A (mW b cA fr fi fa) [.ref (fr 9), .ref (fr 13), .int x2]) (va_Qv (fun (u : ga_MS) => out = u) (ga_MB D cA A b fr) A) 0 0 A := by
  refine Met.ofW (cc := cX6_copies) (maxL := 4) (ret := none) (by decide) rfl ?_
  intro p e s m args below meth c s₁ B hml hv
  obtain ⟨rfl, hP, hK, hD⟩ := hv
  have hS : va_S A s.heap s.heap [] := va_S.rf
  have C : ga_cx p m c meth s _ RX6 cX6_copies 4 none := ga_cx_of B hml
  have C0 := C
  obtain ⟨hx, hb, hr, hlocks, hml, hown, hts⟩ := C0
  have hl := lv_entry ([.ref (fr 9), .ref (fr 13), .int x2]) (n := 4) (Nat.le_of_ble_eq_true rfl)
  rw [lg_entry_eq]
  generalize (lg_sl ([.ref (fr 9), .ref (fr 13), .int x2]) ++ List.replicate (4 - (lg_sl ([.ref (fr 9), .ref (fr 13), .int x2])).length) Slot.unset).toArray = ls at hl ⊢
  have hl : lv_has ls 4 [(0, .ref (fr 9)), (1, .ref (fr 13)), (2, .int x2)] := hl
  rw [F_X6_copies_9_13] at h
  refine lv_iconst (v := 0) hx hb dX6_copies_0 (by decide) ?_
  refine lv_istore_n (lv' := [(3, .int 0), (0, .ref (fr 9)), (1, .ref (fr 13)), (2, .int x2)]) hx hb dX6_copies_1 rfl hl (by decide) rfl (fun ls hl => ?_)
  exact w_X6_copies_9_13_2 C hK N fi fa 0 h _ _ hP hD hS _ (lv_sub hl [1, 2, 3, 0] rfl)
abbrev rm_X6_copies_10_14 : Room := { frames := 1, cells := 0, slots := 0, locals := 12 }
def lp_X6_copies_10_14_2 (N : Nat) (x2 : Int32) : Nat → (Nat → Int32) → (Nat → Nat → Int32) → Int32 → Option (ga_MS)
  | 0, _, _, _ => none
  | n+1, fi, fa, x3 =>
    (if x2 ≤ x3 then
    some (fi, fa)
    else
    (if inb x3 480 = true then
    (if inb x3 480 = true then
    lp_X6_copies_10_14_2 N x2 n fi (va_up fa 14 (upd (fa 14) (ix x3) (fa 10 (ix x3)))) (x3 + 1)
    else none)
    else none))
set_option maxHeartbeats 4000000 in
theorem w_X6_copies_10_14_2 {p : Program} {l : Launch} {e : Env} {s : State} {m : MethodId} {args : Array Value} {below : List Frame} {meth : Method} {c : Code} {D : va_G} {cA : Nat → ClassId} {A : Nat → Prop} {b : Nat} {fr : Nat → Nat} {N : Nat} {x2 : Int32} (C : ga_cx p m c meth s args RX6 cX6_copies 4 none) (hK : ga_K D cA s) {out : ga_MS} : ∀ n : Nat, ∀ (fi : Nat → Int32) (fa : Nat → Nat → Int32) (x3 : Int32), lp_X6_copies_10_14_2 N x2 n fi fa x3 = some out → ∀ (H : Heap) (locs : List Loc), va_P D ga_cl (mW b cA fr fi fa) H → va_D A (mW b cA fr fi fa) → va_S A s.heap H locs → ∀ ls : Array Slot, lv_has ls 4 [(0, .ref (fr 10)), (1, .ref (fr 14)), (2, .int x2), (3, .int x3)] → W p l e (headSpec (ws_ yX6_copies cX6_copies 4 none) rm_X6_copies_10_14).room s m args below meth c H locs 0 0 (MQ below (va_Qv (fun (u : ga_MS) => out = u) (ga_MB D cA A b fr) A) args s 0 0 A) (F0 m 2 ls []) := by
  have C0 := C
  obtain ⟨hx, hb, hr, hlocks, hml, hown, hts⟩ := C0
  intro n
  induction n with
  | zero =>
    intro fi fa x3 h
    rw [lp_X6_copies_10_14_2.eq_1] at h
    cases h
  | succ n ih =>
    intro fi fa x3 h H locs hP hD hS ls hl
    rw [lp_X6_copies_10_14_2.eq_2] at h
    refine lv_iload_n hx hb dX6_copies_2 rfl (lv_at hl 3 rfl) ?_
    refine lv_iload_n hx hb dX6_copies_3 rfl (lv_at hl 2 rfl) ?_
    refine lv_icmp_ge (tgt := 19) hx hb dX6_copies_4 (by decide) (fun c_1 => ?_) (fun c_1 => ?_)
    · replace h := ga_ift c_1 h
      obtain rfl := Option.some.inj h
      exact W.vret hx hb hr (fun t ht hW => ⟨⟨_, rfl, rfl, ⟨by rw [ht]; exact hP, hK.warm hW, hD⟩⟩, hS.F ht⟩) hS.2.2 dX6_copies_19
    · replace h := ga_iff c_1 h
      refine lv_aload_n hx hb dX6_copies_7 rfl (lv_at hl 1 rfl) ?_
      refine lv_iload_n hx hb dX6_copies_8 rfl (lv_at hl 3 rfl) ?_
      refine lv_aload_n hx hb dX6_copies_9 rfl (lv_at hl 0 rfl) ?_
      refine lv_iload_n hx hb dX6_copies_10 rfl (lv_at hl 3 rfl) ?_
      obtain ⟨i_2, h⟩ := ga_gif h
      refine va_iald hx hb hK.1 hP 7 0 (f := fa 10) rfl rfl (ga_in i_2) dX6_copies_11 ?_
      obtain ⟨i_3, h⟩ := ga_gif h
      refine va_iast hx hb hK.1 hP hD hS 11 0 (f := fa 14) rfl rfl (ga_in i_3) dX6_copies_12 (fun H locs hP hD hS => ?_)
      replace hP := ga_cg (mA_14 b cA fr fi fa (upd (fa 14) (ix x3) (fa 10 (ix x3)))) hP
      replace hD := ga_cd (mA_14 b cA fr fi fa (upd (fa 14) (ix x3) (fa 10 (ix x3)))) hD
      refine lv_iinc (v := (x3 + 1)) (lv' := [(3, .int (x3 + 1)), (0, .ref (fr 10)), (1, .ref (fr 14)), (2, .int x2)]) hx hb dX6_copies_13 hl (k := 3) rfl rfl (by decide) rfl (fun ls hl => ?_)
      refine lv_goto (tgt := 2) hx hb dX6_copies_16 (by decide) ?_
      exact ih fi (va_up fa 14 (upd (fa 14) (ix x3) (fa 10 (ix x3)))) (x3 + 1) h _ _ hP hD hS _ (lv_sub hl [1, 2, 3, 0] rfl)
def F_X6_copies_10_14 (N : Nat) (fi : Nat → Int32) (fa : Nat → Nat → Int32) (x2 : Int32) : Option (ga_MS) :=
  lp_X6_copies_10_14_2 N x2 N fi fa 0
set_option maxHeartbeats 4000000 in
theorem met_X6_copies_10_14 (l : Launch) (D : va_G) (cA : Nat → ClassId) (A : Nat → Prop) (b : Nat) (fr : Nat → Nat) (fi : Nat → Int32) (fa : Nat → Nat → Int32) (N : Nat) (x2 : Int32) (out : ga_MS) (h : F_X6_copies_10_14 N fi fa x2 = some out) : Met l yX6_copies (ws_ yX6_copies cX6_copies 4 none) rm_X6_copies_10_14 (ga_N D cA A (mW b cA fr fi fa) [.ref (fr 10), .ref (fr 14), .int x2]) (va_Qv (fun (u : ga_MS) => out = u) (ga_MB D cA A b fr) A) 0 0 A := by
  refine Met.ofW (cc := cX6_copies) (maxL := 4) (ret := none) (by decide) rfl ?_
  intro p e s m args below meth c s₁ B hml hv
  obtain ⟨rfl, hP, hK, hD⟩ := hv
  have hS : va_S A s.heap s.heap [] := va_S.rf
  have C : ga_cx p m c meth s _ RX6 cX6_copies 4 none := ga_cx_of B hml
  have C0 := C
  obtain ⟨hx, hb, hr, hlocks, hml, hown, hts⟩ := C0
  have hl := lv_entry ([.ref (fr 10), .ref (fr 14), .int x2]) (n := 4) (Nat.le_of_ble_eq_true rfl)
  rw [lg_entry_eq]
  generalize (lg_sl ([.ref (fr 10), .ref (fr 14), .int x2]) ++ List.replicate (4 - (lg_sl ([.ref (fr 10), .ref (fr 14), .int x2])).length) Slot.unset).toArray = ls at hl ⊢
  have hl : lv_has ls 4 [(0, .ref (fr 10)), (1, .ref (fr 14)), (2, .int x2)] := hl
  rw [F_X6_copies_10_14] at h
  refine lv_iconst (v := 0) hx hb dX6_copies_0 (by decide) ?_
  refine lv_istore_n (lv' := [(3, .int 0), (0, .ref (fr 10)), (1, .ref (fr 14)), (2, .int x2)]) hx hb dX6_copies_1 rfl hl (by decide) rfl (fun ls hl => ?_)
  exact w_X6_copies_10_14_2 C hK N fi fa 0 h _ _ hP hD hS _ (lv_sub hl [1, 2, 3, 0] rfl)
abbrev rm_X6_copies_4_15 : Room := { frames := 1, cells := 0, slots := 0, locals := 12 }
def lp_X6_copies_4_15_2 (N : Nat) (x2 : Int32) : Nat → (Nat → Int32) → (Nat → Nat → Int32) → Int32 → Option (ga_MS)
  | 0, _, _, _ => none
  | n+1, fi, fa, x3 =>
    (if x2 ≤ x3 then
    some (fi, fa)
    else
    (if inb x3 2 = true then
    (if inb x3 2 = true then
    lp_X6_copies_4_15_2 N x2 n fi (va_up fa 15 (upd (fa 15) (ix x3) (fa 4 (ix x3)))) (x3 + 1)
    else none)
    else none))
set_option maxHeartbeats 4000000 in
theorem w_X6_copies_4_15_2 {p : Program} {l : Launch} {e : Env} {s : State} {m : MethodId} {args : Array Value} {below : List Frame} {meth : Method} {c : Code} {D : va_G} {cA : Nat → ClassId} {A : Nat → Prop} {b : Nat} {fr : Nat → Nat} {N : Nat} {x2 : Int32} (C : ga_cx p m c meth s args RX6 cX6_copies 4 none) (hK : ga_K D cA s) {out : ga_MS} : ∀ n : Nat, ∀ (fi : Nat → Int32) (fa : Nat → Nat → Int32) (x3 : Int32), lp_X6_copies_4_15_2 N x2 n fi fa x3 = some out → ∀ (H : Heap) (locs : List Loc), va_P D ga_cl (mW b cA fr fi fa) H → va_D A (mW b cA fr fi fa) → va_S A s.heap H locs → ∀ ls : Array Slot, lv_has ls 4 [(0, .ref (fr 4)), (1, .ref (fr 15)), (2, .int x2), (3, .int x3)] → W p l e (headSpec (ws_ yX6_copies cX6_copies 4 none) rm_X6_copies_4_15).room s m args below meth c H locs 0 0 (MQ below (va_Qv (fun (u : ga_MS) => out = u) (ga_MB D cA A b fr) A) args s 0 0 A) (F0 m 2 ls []) := by
  have C0 := C
  obtain ⟨hx, hb, hr, hlocks, hml, hown, hts⟩ := C0
  intro n
  induction n with
  | zero =>
    intro fi fa x3 h
    rw [lp_X6_copies_4_15_2.eq_1] at h
    cases h
  | succ n ih =>
    intro fi fa x3 h H locs hP hD hS ls hl
    rw [lp_X6_copies_4_15_2.eq_2] at h
    refine lv_iload_n hx hb dX6_copies_2 rfl (lv_at hl 3 rfl) ?_
    refine lv_iload_n hx hb dX6_copies_3 rfl (lv_at hl 2 rfl) ?_
    refine lv_icmp_ge (tgt := 19) hx hb dX6_copies_4 (by decide) (fun c_1 => ?_) (fun c_1 => ?_)
    · replace h := ga_ift c_1 h
      obtain rfl := Option.some.inj h
      exact W.vret hx hb hr (fun t ht hW => ⟨⟨_, rfl, rfl, ⟨by rw [ht]; exact hP, hK.warm hW, hD⟩⟩, hS.F ht⟩) hS.2.2 dX6_copies_19
    · replace h := ga_iff c_1 h
      refine lv_aload_n hx hb dX6_copies_7 rfl (lv_at hl 1 rfl) ?_
      refine lv_iload_n hx hb dX6_copies_8 rfl (lv_at hl 3 rfl) ?_
      refine lv_aload_n hx hb dX6_copies_9 rfl (lv_at hl 0 rfl) ?_
      refine lv_iload_n hx hb dX6_copies_10 rfl (lv_at hl 3 rfl) ?_
      obtain ⟨i_2, h⟩ := ga_gif h
      refine va_iald hx hb hK.1 hP 1 0 (f := fa 4) rfl rfl (ga_in i_2) dX6_copies_11 ?_
      obtain ⟨i_3, h⟩ := ga_gif h
      refine va_iast hx hb hK.1 hP hD hS 12 0 (f := fa 15) rfl rfl (ga_in i_3) dX6_copies_12 (fun H locs hP hD hS => ?_)
      replace hP := ga_cg (mA_15 b cA fr fi fa (upd (fa 15) (ix x3) (fa 4 (ix x3)))) hP
      replace hD := ga_cd (mA_15 b cA fr fi fa (upd (fa 15) (ix x3) (fa 4 (ix x3)))) hD
      refine lv_iinc (v := (x3 + 1)) (lv' := [(3, .int (x3 + 1)), (0, .ref (fr 4)), (1, .ref (fr 15)), (2, .int x2)]) hx hb dX6_copies_13 hl (k := 3) rfl rfl (by decide) rfl (fun ls hl => ?_)
      refine lv_goto (tgt := 2) hx hb dX6_copies_16 (by decide) ?_
      exact ih fi (va_up fa 15 (upd (fa 15) (ix x3) (fa 4 (ix x3)))) (x3 + 1) h _ _ hP hD hS _ (lv_sub hl [1, 2, 3, 0] rfl)
def F_X6_copies_4_15 (N : Nat) (fi : Nat → Int32) (fa : Nat → Nat → Int32) (x2 : Int32) : Option (ga_MS) :=
  lp_X6_copies_4_15_2 N x2 N fi fa 0
set_option maxHeartbeats 4000000 in
theorem met_X6_copies_4_15 (l : Launch) (D : va_G) (cA : Nat → ClassId) (A : Nat → Prop) (b : Nat) (fr : Nat → Nat) (fi : Nat → Int32) (fa : Nat → Nat → Int32) (N : Nat) (x2 : Int32) (out : ga_MS) (h : F_X6_copies_4_15 N fi fa x2 = some out) : Met l yX6_copies (ws_ yX6_copies cX6_copies 4 none) rm_X6_copies_4_15 (ga_N D cA A (mW b cA fr fi fa) [.ref (fr 4), .ref (fr 15), .int x2]) (va_Qv (fun (u : ga_MS) => out = u) (ga_MB D cA A b fr) A) 0 0 A := by
  refine Met.ofW (cc := cX6_copies) (maxL := 4) (ret := none) (by decide) rfl ?_
  intro p e s m args below meth c s₁ B hml hv
  obtain ⟨rfl, hP, hK, hD⟩ := hv
  have hS : va_S A s.heap s.heap [] := va_S.rf
  have C : ga_cx p m c meth s _ RX6 cX6_copies 4 none := ga_cx_of B hml
  have C0 := C
  obtain ⟨hx, hb, hr, hlocks, hml, hown, hts⟩ := C0
  have hl := lv_entry ([.ref (fr 4), .ref (fr 15), .int x2]) (n := 4) (Nat.le_of_ble_eq_true rfl)
  rw [lg_entry_eq]
  generalize (lg_sl ([.ref (fr 4), .ref (fr 15), .int x2]) ++ List.replicate (4 - (lg_sl ([.ref (fr 4), .ref (fr 15), .int x2])).length) Slot.unset).toArray = ls at hl ⊢
  have hl : lv_has ls 4 [(0, .ref (fr 4)), (1, .ref (fr 15)), (2, .int x2)] := hl
  rw [F_X6_copies_4_15] at h
  refine lv_iconst (v := 0) hx hb dX6_copies_0 (by decide) ?_
  refine lv_istore_n (lv' := [(3, .int 0), (0, .ref (fr 4)), (1, .ref (fr 15)), (2, .int x2)]) hx hb dX6_copies_1 rfl hl (by decide) rfl (fun ls hl => ?_)
  exact w_X6_copies_4_15_2 C hK N fi fa 0 h _ _ hP hD hS _ (lv_sub hl [1, 2, 3, 0] rfl)
abbrev rm_X6_copies_11_5 : Room := { frames := 1, cells := 0, slots := 0, locals := 12 }
def lp_X6_copies_11_5_2 (N : Nat) (x2 : Int32) : Nat → (Nat → Int32) → (Nat → Nat → Int32) → Int32 → Option (ga_MS)
  | 0, _, _, _ => none
  | n+1, fi, fa, x3 =>
    (if x2 ≤ x3 then
    some (fi, fa)
    else
    (if inb x3 155 = true then
    (if inb x3 155 = true then
    lp_X6_copies_11_5_2 N x2 n fi (va_up fa 5 (upd (fa 5) (ix x3) (fa 11 (ix x3)))) (x3 + 1)
    else none)
    else none))
set_option maxHeartbeats 4000000 in
theorem w_X6_copies_11_5_2 {p : Program} {l : Launch} {e : Env} {s : State} {m : MethodId} {args : Array Value} {below : List Frame} {meth : Method} {c : Code} {D : va_G} {cA : Nat → ClassId} {A : Nat → Prop} {b : Nat} {fr : Nat → Nat} {N : Nat} {x2 : Int32} (C : ga_cx p m c meth s args RX6 cX6_copies 4 none) (hK : ga_K D cA s) {out : ga_MS} : ∀ n : Nat, ∀ (fi : Nat → Int32) (fa : Nat → Nat → Int32) (x3 : Int32), lp_X6_copies_11_5_2 N x2 n fi fa x3 = some out → ∀ (H : Heap) (locs : List Loc), va_P D ga_cl (mW b cA fr fi fa) H → va_D A (mW b cA fr fi fa) → va_S A s.heap H locs → ∀ ls : Array Slot, lv_has ls 4 [(0, .ref (fr 11)), (1, .ref (fr 5)), (2, .int x2), (3, .int x3)] → W p l e (headSpec (ws_ yX6_copies cX6_copies 4 none) rm_X6_copies_11_5).room s m args below meth c H locs 0 0 (MQ below (va_Qv (fun (u : ga_MS) => out = u) (ga_MB D cA A b fr) A) args s 0 0 A) (F0 m 2 ls []) := by
  have C0 := C
  obtain ⟨hx, hb, hr, hlocks, hml, hown, hts⟩ := C0
  intro n
  induction n with
  | zero =>
    intro fi fa x3 h
    rw [lp_X6_copies_11_5_2.eq_1] at h
    cases h
  | succ n ih =>
    intro fi fa x3 h H locs hP hD hS ls hl
    rw [lp_X6_copies_11_5_2.eq_2] at h
    refine lv_iload_n hx hb dX6_copies_2 rfl (lv_at hl 3 rfl) ?_
    refine lv_iload_n hx hb dX6_copies_3 rfl (lv_at hl 2 rfl) ?_
    refine lv_icmp_ge (tgt := 19) hx hb dX6_copies_4 (by decide) (fun c_1 => ?_) (fun c_1 => ?_)
    · replace h := ga_ift c_1 h
      obtain rfl := Option.some.inj h
      exact W.vret hx hb hr (fun t ht hW => ⟨⟨_, rfl, rfl, ⟨by rw [ht]; exact hP, hK.warm hW, hD⟩⟩, hS.F ht⟩) hS.2.2 dX6_copies_19
    · replace h := ga_iff c_1 h
      refine lv_aload_n hx hb dX6_copies_7 rfl (lv_at hl 1 rfl) ?_
      refine lv_iload_n hx hb dX6_copies_8 rfl (lv_at hl 3 rfl) ?_
      refine lv_aload_n hx hb dX6_copies_9 rfl (lv_at hl 0 rfl) ?_
      refine lv_iload_n hx hb dX6_copies_10 rfl (lv_at hl 3 rfl) ?_
      obtain ⟨i_2, h⟩ := ga_gif h
      refine va_iald hx hb hK.1 hP 8 0 (f := fa 11) rfl rfl (ga_in i_2) dX6_copies_11 ?_
      obtain ⟨i_3, h⟩ := ga_gif h
      refine va_iast hx hb hK.1 hP hD hS 2 0 (f := fa 5) rfl rfl (ga_in i_3) dX6_copies_12 (fun H locs hP hD hS => ?_)
      replace hP := ga_cg (mA_5 b cA fr fi fa (upd (fa 5) (ix x3) (fa 11 (ix x3)))) hP
      replace hD := ga_cd (mA_5 b cA fr fi fa (upd (fa 5) (ix x3) (fa 11 (ix x3)))) hD
      refine lv_iinc (v := (x3 + 1)) (lv' := [(3, .int (x3 + 1)), (0, .ref (fr 11)), (1, .ref (fr 5)), (2, .int x2)]) hx hb dX6_copies_13 hl (k := 3) rfl rfl (by decide) rfl (fun ls hl => ?_)
      refine lv_goto (tgt := 2) hx hb dX6_copies_16 (by decide) ?_
      exact ih fi (va_up fa 5 (upd (fa 5) (ix x3) (fa 11 (ix x3)))) (x3 + 1) h _ _ hP hD hS _ (lv_sub hl [1, 2, 3, 0] rfl)
def F_X6_copies_11_5 (N : Nat) (fi : Nat → Int32) (fa : Nat → Nat → Int32) (x2 : Int32) : Option (ga_MS) :=
  lp_X6_copies_11_5_2 N x2 N fi fa 0
set_option maxHeartbeats 4000000 in
theorem met_X6_copies_11_5 (l : Launch) (D : va_G) (cA : Nat → ClassId) (A : Nat → Prop) (b : Nat) (fr : Nat → Nat) (fi : Nat → Int32) (fa : Nat → Nat → Int32) (N : Nat) (x2 : Int32) (out : ga_MS) (h : F_X6_copies_11_5 N fi fa x2 = some out) : Met l yX6_copies (ws_ yX6_copies cX6_copies 4 none) rm_X6_copies_11_5 (ga_N D cA A (mW b cA fr fi fa) [.ref (fr 11), .ref (fr 5), .int x2]) (va_Qv (fun (u : ga_MS) => out = u) (ga_MB D cA A b fr) A) 0 0 A := by
  refine Met.ofW (cc := cX6_copies) (maxL := 4) (ret := none) (by decide) rfl ?_
  intro p e s m args below meth c s₁ B hml hv
  obtain ⟨rfl, hP, hK, hD⟩ := hv
  have hS : va_S A s.heap s.heap [] := va_S.rf
  have C : ga_cx p m c meth s _ RX6 cX6_copies 4 none := ga_cx_of B hml
  have C0 := C
  obtain ⟨hx, hb, hr, hlocks, hml, hown, hts⟩ := C0
  have hl := lv_entry ([.ref (fr 11), .ref (fr 5), .int x2]) (n := 4) (Nat.le_of_ble_eq_true rfl)
  rw [lg_entry_eq]
  generalize (lg_sl ([.ref (fr 11), .ref (fr 5), .int x2]) ++ List.replicate (4 - (lg_sl ([.ref (fr 11), .ref (fr 5), .int x2])).length) Slot.unset).toArray = ls at hl ⊢
  have hl : lv_has ls 4 [(0, .ref (fr 11)), (1, .ref (fr 5)), (2, .int x2)] := hl
  rw [F_X6_copies_11_5] at h
  refine lv_iconst (v := 0) hx hb dX6_copies_0 (by decide) ?_
  refine lv_istore_n (lv' := [(3, .int 0), (0, .ref (fr 11)), (1, .ref (fr 5)), (2, .int x2)]) hx hb dX6_copies_1 rfl hl (by decide) rfl (fun ls hl => ?_)
  exact w_X6_copies_11_5_2 C hK N fi fa 0 h _ _ hP hD hS _ (lv_sub hl [1, 2, 3, 0] rfl)
abbrev rm_X6_copies_12_8 : Room := { frames := 1, cells := 0, slots := 0, locals := 12 }
def lp_X6_copies_12_8_2 (N : Nat) (x2 : Int32) : Nat → (Nat → Int32) → (Nat → Nat → Int32) → Int32 → Option (ga_MS)
  | 0, _, _, _ => none
  | n+1, fi, fa, x3 =>
    (if x2 ≤ x3 then
    some (fi, fa)
    else
    (if inb x3 9300 = true then
    (if inb x3 9300 = true then
    lp_X6_copies_12_8_2 N x2 n fi (va_up fa 8 (upd (fa 8) (ix x3) (fa 12 (ix x3)))) (x3 + 1)
    else none)
    else none))
set_option maxHeartbeats 4000000 in
theorem w_X6_copies_12_8_2 {p : Program} {l : Launch} {e : Env} {s : State} {m : MethodId} {args : Array Value} {below : List Frame} {meth : Method} {c : Code} {D : va_G} {cA : Nat → ClassId} {A : Nat → Prop} {b : Nat} {fr : Nat → Nat} {N : Nat} {x2 : Int32} (C : ga_cx p m c meth s args RX6 cX6_copies 4 none) (hK : ga_K D cA s) {out : ga_MS} : ∀ n : Nat, ∀ (fi : Nat → Int32) (fa : Nat → Nat → Int32) (x3 : Int32), lp_X6_copies_12_8_2 N x2 n fi fa x3 = some out → ∀ (H : Heap) (locs : List Loc), va_P D ga_cl (mW b cA fr fi fa) H → va_D A (mW b cA fr fi fa) → va_S A s.heap H locs → ∀ ls : Array Slot, lv_has ls 4 [(0, .ref (fr 12)), (1, .ref (fr 8)), (2, .int x2), (3, .int x3)] → W p l e (headSpec (ws_ yX6_copies cX6_copies 4 none) rm_X6_copies_12_8).room s m args below meth c H locs 0 0 (MQ below (va_Qv (fun (u : ga_MS) => out = u) (ga_MB D cA A b fr) A) args s 0 0 A) (F0 m 2 ls []) := by
  have C0 := C
  obtain ⟨hx, hb, hr, hlocks, hml, hown, hts⟩ := C0
  intro n
  induction n with
  | zero =>
    intro fi fa x3 h
    rw [lp_X6_copies_12_8_2.eq_1] at h
    cases h
  | succ n ih =>
    intro fi fa x3 h H locs hP hD hS ls hl
    rw [lp_X6_copies_12_8_2.eq_2] at h
    refine lv_iload_n hx hb dX6_copies_2 rfl (lv_at hl 3 rfl) ?_
    refine lv_iload_n hx hb dX6_copies_3 rfl (lv_at hl 2 rfl) ?_
    refine lv_icmp_ge (tgt := 19) hx hb dX6_copies_4 (by decide) (fun c_1 => ?_) (fun c_1 => ?_)
    · replace h := ga_ift c_1 h
      obtain rfl := Option.some.inj h
      exact W.vret hx hb hr (fun t ht hW => ⟨⟨_, rfl, rfl, ⟨by rw [ht]; exact hP, hK.warm hW, hD⟩⟩, hS.F ht⟩) hS.2.2 dX6_copies_19
    · replace h := ga_iff c_1 h
      refine lv_aload_n hx hb dX6_copies_7 rfl (lv_at hl 1 rfl) ?_
      refine lv_iload_n hx hb dX6_copies_8 rfl (lv_at hl 3 rfl) ?_
      refine lv_aload_n hx hb dX6_copies_9 rfl (lv_at hl 0 rfl) ?_
      refine lv_iload_n hx hb dX6_copies_10 rfl (lv_at hl 3 rfl) ?_
      obtain ⟨i_2, h⟩ := ga_gif h
      refine va_iald hx hb hK.1 hP 9 0 (f := fa 12) rfl rfl (ga_in i_2) dX6_copies_11 ?_
      obtain ⟨i_3, h⟩ := ga_gif h
      refine va_iast hx hb hK.1 hP hD hS 5 0 (f := fa 8) rfl rfl (ga_in i_3) dX6_copies_12 (fun H locs hP hD hS => ?_)
      replace hP := ga_cg (mA_8 b cA fr fi fa (upd (fa 8) (ix x3) (fa 12 (ix x3)))) hP
      replace hD := ga_cd (mA_8 b cA fr fi fa (upd (fa 8) (ix x3) (fa 12 (ix x3)))) hD
      refine lv_iinc (v := (x3 + 1)) (lv' := [(3, .int (x3 + 1)), (0, .ref (fr 12)), (1, .ref (fr 8)), (2, .int x2)]) hx hb dX6_copies_13 hl (k := 3) rfl rfl (by decide) rfl (fun ls hl => ?_)
      refine lv_goto (tgt := 2) hx hb dX6_copies_16 (by decide) ?_
      exact ih fi (va_up fa 8 (upd (fa 8) (ix x3) (fa 12 (ix x3)))) (x3 + 1) h _ _ hP hD hS _ (lv_sub hl [1, 2, 3, 0] rfl)
def F_X6_copies_12_8 (N : Nat) (fi : Nat → Int32) (fa : Nat → Nat → Int32) (x2 : Int32) : Option (ga_MS) :=
  lp_X6_copies_12_8_2 N x2 N fi fa 0
set_option maxHeartbeats 4000000 in
theorem met_X6_copies_12_8 (l : Launch) (D : va_G) (cA : Nat → ClassId) (A : Nat → Prop) (b : Nat) (fr : Nat → Nat) (fi : Nat → Int32) (fa : Nat → Nat → Int32) (N : Nat) (x2 : Int32) (out : ga_MS) (h : F_X6_copies_12_8 N fi fa x2 = some out) : Met l yX6_copies (ws_ yX6_copies cX6_copies 4 none) rm_X6_copies_12_8 (ga_N D cA A (mW b cA fr fi fa) [.ref (fr 12), .ref (fr 8), .int x2]) (va_Qv (fun (u : ga_MS) => out = u) (ga_MB D cA A b fr) A) 0 0 A := by
  refine Met.ofW (cc := cX6_copies) (maxL := 4) (ret := none) (by decide) rfl ?_
  intro p e s m args below meth c s₁ B hml hv
  obtain ⟨rfl, hP, hK, hD⟩ := hv
  have hS : va_S A s.heap s.heap [] := va_S.rf
  have C : ga_cx p m c meth s _ RX6 cX6_copies 4 none := ga_cx_of B hml
  have C0 := C
  obtain ⟨hx, hb, hr, hlocks, hml, hown, hts⟩ := C0
  have hl := lv_entry ([.ref (fr 12), .ref (fr 8), .int x2]) (n := 4) (Nat.le_of_ble_eq_true rfl)
  rw [lg_entry_eq]
  generalize (lg_sl ([.ref (fr 12), .ref (fr 8), .int x2]) ++ List.replicate (4 - (lg_sl ([.ref (fr 12), .ref (fr 8), .int x2])).length) Slot.unset).toArray = ls at hl ⊢
  have hl : lv_has ls 4 [(0, .ref (fr 12)), (1, .ref (fr 8)), (2, .int x2)] := hl
  rw [F_X6_copies_12_8] at h
  refine lv_iconst (v := 0) hx hb dX6_copies_0 (by decide) ?_
  refine lv_istore_n (lv' := [(3, .int 0), (0, .ref (fr 12)), (1, .ref (fr 8)), (2, .int x2)]) hx hb dX6_copies_1 rfl hl (by decide) rfl (fun ls hl => ?_)
  exact w_X6_copies_12_8_2 C hK N fi fa 0 h _ _ hP hD hS _ (lv_sub hl [1, 2, 3, 0] rfl)
abbrev rm_X6_copies_13_9 : Room := { frames := 1, cells := 0, slots := 0, locals := 12 }
def lp_X6_copies_13_9_2 (N : Nat) (x2 : Int32) : Nat → (Nat → Int32) → (Nat → Nat → Int32) → Int32 → Option (ga_MS)
  | 0, _, _, _ => none
  | n+1, fi, fa, x3 =>
    (if x2 ≤ x3 then
    some (fi, fa)
    else
    (if inb x3 420 = true then
    (if inb x3 420 = true then
    lp_X6_copies_13_9_2 N x2 n fi (va_up fa 9 (upd (fa 9) (ix x3) (fa 13 (ix x3)))) (x3 + 1)
    else none)
    else none))
set_option maxHeartbeats 4000000 in
theorem w_X6_copies_13_9_2 {p : Program} {l : Launch} {e : Env} {s : State} {m : MethodId} {args : Array Value} {below : List Frame} {meth : Method} {c : Code} {D : va_G} {cA : Nat → ClassId} {A : Nat → Prop} {b : Nat} {fr : Nat → Nat} {N : Nat} {x2 : Int32} (C : ga_cx p m c meth s args RX6 cX6_copies 4 none) (hK : ga_K D cA s) {out : ga_MS} : ∀ n : Nat, ∀ (fi : Nat → Int32) (fa : Nat → Nat → Int32) (x3 : Int32), lp_X6_copies_13_9_2 N x2 n fi fa x3 = some out → ∀ (H : Heap) (locs : List Loc), va_P D ga_cl (mW b cA fr fi fa) H → va_D A (mW b cA fr fi fa) → va_S A s.heap H locs → ∀ ls : Array Slot, lv_has ls 4 [(0, .ref (fr 13)), (1, .ref (fr 9)), (2, .int x2), (3, .int x3)] → W p l e (headSpec (ws_ yX6_copies cX6_copies 4 none) rm_X6_copies_13_9).room s m args below meth c H locs 0 0 (MQ below (va_Qv (fun (u : ga_MS) => out = u) (ga_MB D cA A b fr) A) args s 0 0 A) (F0 m 2 ls []) := by
  have C0 := C
  obtain ⟨hx, hb, hr, hlocks, hml, hown, hts⟩ := C0
  intro n
  induction n with
  | zero =>
    intro fi fa x3 h
    rw [lp_X6_copies_13_9_2.eq_1] at h
    cases h
  | succ n ih =>
    intro fi fa x3 h H locs hP hD hS ls hl
    rw [lp_X6_copies_13_9_2.eq_2] at h
    refine lv_iload_n hx hb dX6_copies_2 rfl (lv_at hl 3 rfl) ?_
    refine lv_iload_n hx hb dX6_copies_3 rfl (lv_at hl 2 rfl) ?_
    refine lv_icmp_ge (tgt := 19) hx hb dX6_copies_4 (by decide) (fun c_1 => ?_) (fun c_1 => ?_)
    · replace h := ga_ift c_1 h
      obtain rfl := Option.some.inj h
      exact W.vret hx hb hr (fun t ht hW => ⟨⟨_, rfl, rfl, ⟨by rw [ht]; exact hP, hK.warm hW, hD⟩⟩, hS.F ht⟩) hS.2.2 dX6_copies_19
    · replace h := ga_iff c_1 h
      refine lv_aload_n hx hb dX6_copies_7 rfl (lv_at hl 1 rfl) ?_
      refine lv_iload_n hx hb dX6_copies_8 rfl (lv_at hl 3 rfl) ?_
      refine lv_aload_n hx hb dX6_copies_9 rfl (lv_at hl 0 rfl) ?_
      refine lv_iload_n hx hb dX6_copies_10 rfl (lv_at hl 3 rfl) ?_
      obtain ⟨i_2, h⟩ := ga_gif h
      refine va_iald hx hb hK.1 hP 10 0 (f := fa 13) rfl rfl (ga_in i_2) dX6_copies_11 ?_
      obtain ⟨i_3, h⟩ := ga_gif h
      refine va_iast hx hb hK.1 hP hD hS 6 0 (f := fa 9) rfl rfl (ga_in i_3) dX6_copies_12 (fun H locs hP hD hS => ?_)
      replace hP := ga_cg (mA_9 b cA fr fi fa (upd (fa 9) (ix x3) (fa 13 (ix x3)))) hP
      replace hD := ga_cd (mA_9 b cA fr fi fa (upd (fa 9) (ix x3) (fa 13 (ix x3)))) hD
      refine lv_iinc (v := (x3 + 1)) (lv' := [(3, .int (x3 + 1)), (0, .ref (fr 13)), (1, .ref (fr 9)), (2, .int x2)]) hx hb dX6_copies_13 hl (k := 3) rfl rfl (by decide) rfl (fun ls hl => ?_)
      refine lv_goto (tgt := 2) hx hb dX6_copies_16 (by decide) ?_
      exact ih fi (va_up fa 9 (upd (fa 9) (ix x3) (fa 13 (ix x3)))) (x3 + 1) h _ _ hP hD hS _ (lv_sub hl [1, 2, 3, 0] rfl)
def F_X6_copies_13_9 (N : Nat) (fi : Nat → Int32) (fa : Nat → Nat → Int32) (x2 : Int32) : Option (ga_MS) :=
  lp_X6_copies_13_9_2 N x2 N fi fa 0
set_option maxHeartbeats 4000000 in
theorem met_X6_copies_13_9 (l : Launch) (D : va_G) (cA : Nat → ClassId) (A : Nat → Prop) (b : Nat) (fr : Nat → Nat) (fi : Nat → Int32) (fa : Nat → Nat → Int32) (N : Nat) (x2 : Int32) (out : ga_MS) (h : F_X6_copies_13_9 N fi fa x2 = some out) : Met l yX6_copies (ws_ yX6_copies cX6_copies 4 none) rm_X6_copies_13_9 (ga_N D cA A (mW b cA fr fi fa) [.ref (fr 13), .ref (fr 9), .int x2]) (va_Qv (fun (u : ga_MS) => out = u) (ga_MB D cA A b fr) A) 0 0 A := by
  refine Met.ofW (cc := cX6_copies) (maxL := 4) (ret := none) (by decide) rfl ?_
  intro p e s m args below meth c s₁ B hml hv
  obtain ⟨rfl, hP, hK, hD⟩ := hv
  have hS : va_S A s.heap s.heap [] := va_S.rf
  have C : ga_cx p m c meth s _ RX6 cX6_copies 4 none := ga_cx_of B hml
  have C0 := C
  obtain ⟨hx, hb, hr, hlocks, hml, hown, hts⟩ := C0
  have hl := lv_entry ([.ref (fr 13), .ref (fr 9), .int x2]) (n := 4) (Nat.le_of_ble_eq_true rfl)
  rw [lg_entry_eq]
  generalize (lg_sl ([.ref (fr 13), .ref (fr 9), .int x2]) ++ List.replicate (4 - (lg_sl ([.ref (fr 13), .ref (fr 9), .int x2])).length) Slot.unset).toArray = ls at hl ⊢
  have hl : lv_has ls 4 [(0, .ref (fr 13)), (1, .ref (fr 9)), (2, .int x2)] := hl
  rw [F_X6_copies_13_9] at h
  refine lv_iconst (v := 0) hx hb dX6_copies_0 (by decide) ?_
  refine lv_istore_n (lv' := [(3, .int 0), (0, .ref (fr 13)), (1, .ref (fr 9)), (2, .int x2)]) hx hb dX6_copies_1 rfl hl (by decide) rfl (fun ls hl => ?_)
  exact w_X6_copies_13_9_2 C hK N fi fa 0 h _ _ hP hD hS _ (lv_sub hl [1, 2, 3, 0] rfl)
abbrev rm_X6_copies_14_10 : Room := { frames := 1, cells := 0, slots := 0, locals := 12 }
def lp_X6_copies_14_10_2 (N : Nat) (x2 : Int32) : Nat → (Nat → Int32) → (Nat → Nat → Int32) → Int32 → Option (ga_MS)
  | 0, _, _, _ => none
  | n+1, fi, fa, x3 =>
    (if x2 ≤ x3 then
    some (fi, fa)
    else
    (if inb x3 480 = true then
    (if inb x3 480 = true then
    lp_X6_copies_14_10_2 N x2 n fi (va_up fa 10 (upd (fa 10) (ix x3) (fa 14 (ix x3)))) (x3 + 1)
    else none)
    else none))
set_option maxHeartbeats 4000000 in
theorem w_X6_copies_14_10_2 {p : Program} {l : Launch} {e : Env} {s : State} {m : MethodId} {args : Array Value} {below : List Frame} {meth : Method} {c : Code} {D : va_G} {cA : Nat → ClassId} {A : Nat → Prop} {b : Nat} {fr : Nat → Nat} {N : Nat} {x2 : Int32} (C : ga_cx p m c meth s args RX6 cX6_copies 4 none) (hK : ga_K D cA s) {out : ga_MS} : ∀ n : Nat, ∀ (fi : Nat → Int32) (fa : Nat → Nat → Int32) (x3 : Int32), lp_X6_copies_14_10_2 N x2 n fi fa x3 = some out → ∀ (H : Heap) (locs : List Loc), va_P D ga_cl (mW b cA fr fi fa) H → va_D A (mW b cA fr fi fa) → va_S A s.heap H locs → ∀ ls : Array Slot, lv_has ls 4 [(0, .ref (fr 14)), (1, .ref (fr 10)), (2, .int x2), (3, .int x3)] → W p l e (headSpec (ws_ yX6_copies cX6_copies 4 none) rm_X6_copies_14_10).room s m args below meth c H locs 0 0 (MQ below (va_Qv (fun (u : ga_MS) => out = u) (ga_MB D cA A b fr) A) args s 0 0 A) (F0 m 2 ls []) := by
  have C0 := C
  obtain ⟨hx, hb, hr, hlocks, hml, hown, hts⟩ := C0
  intro n
  induction n with
  | zero =>
    intro fi fa x3 h
    rw [lp_X6_copies_14_10_2.eq_1] at h
    cases h
  | succ n ih =>
    intro fi fa x3 h H locs hP hD hS ls hl
    rw [lp_X6_copies_14_10_2.eq_2] at h
    refine lv_iload_n hx hb dX6_copies_2 rfl (lv_at hl 3 rfl) ?_
    refine lv_iload_n hx hb dX6_copies_3 rfl (lv_at hl 2 rfl) ?_
    refine lv_icmp_ge (tgt := 19) hx hb dX6_copies_4 (by decide) (fun c_1 => ?_) (fun c_1 => ?_)
    · replace h := ga_ift c_1 h
      obtain rfl := Option.some.inj h
      exact W.vret hx hb hr (fun t ht hW => ⟨⟨_, rfl, rfl, ⟨by rw [ht]; exact hP, hK.warm hW, hD⟩⟩, hS.F ht⟩) hS.2.2 dX6_copies_19
    · replace h := ga_iff c_1 h
      refine lv_aload_n hx hb dX6_copies_7 rfl (lv_at hl 1 rfl) ?_
      refine lv_iload_n hx hb dX6_copies_8 rfl (lv_at hl 3 rfl) ?_
      refine lv_aload_n hx hb dX6_copies_9 rfl (lv_at hl 0 rfl) ?_
      refine lv_iload_n hx hb dX6_copies_10 rfl (lv_at hl 3 rfl) ?_
      obtain ⟨i_2, h⟩ := ga_gif h
      refine va_iald hx hb hK.1 hP 11 0 (f := fa 14) rfl rfl (ga_in i_2) dX6_copies_11 ?_
      obtain ⟨i_3, h⟩ := ga_gif h
      refine va_iast hx hb hK.1 hP hD hS 7 0 (f := fa 10) rfl rfl (ga_in i_3) dX6_copies_12 (fun H locs hP hD hS => ?_)
      replace hP := ga_cg (mA_10 b cA fr fi fa (upd (fa 10) (ix x3) (fa 14 (ix x3)))) hP
      replace hD := ga_cd (mA_10 b cA fr fi fa (upd (fa 10) (ix x3) (fa 14 (ix x3)))) hD
      refine lv_iinc (v := (x3 + 1)) (lv' := [(3, .int (x3 + 1)), (0, .ref (fr 14)), (1, .ref (fr 10)), (2, .int x2)]) hx hb dX6_copies_13 hl (k := 3) rfl rfl (by decide) rfl (fun ls hl => ?_)
      refine lv_goto (tgt := 2) hx hb dX6_copies_16 (by decide) ?_
      exact ih fi (va_up fa 10 (upd (fa 10) (ix x3) (fa 14 (ix x3)))) (x3 + 1) h _ _ hP hD hS _ (lv_sub hl [1, 2, 3, 0] rfl)
def F_X6_copies_14_10 (N : Nat) (fi : Nat → Int32) (fa : Nat → Nat → Int32) (x2 : Int32) : Option (ga_MS) :=
  lp_X6_copies_14_10_2 N x2 N fi fa 0
set_option maxHeartbeats 4000000 in
theorem met_X6_copies_14_10 (l : Launch) (D : va_G) (cA : Nat → ClassId) (A : Nat → Prop) (b : Nat) (fr : Nat → Nat) (fi : Nat → Int32) (fa : Nat → Nat → Int32) (N : Nat) (x2 : Int32) (out : ga_MS) (h : F_X6_copies_14_10 N fi fa x2 = some out) : Met l yX6_copies (ws_ yX6_copies cX6_copies 4 none) rm_X6_copies_14_10 (ga_N D cA A (mW b cA fr fi fa) [.ref (fr 14), .ref (fr 10), .int x2]) (va_Qv (fun (u : ga_MS) => out = u) (ga_MB D cA A b fr) A) 0 0 A := by
  refine Met.ofW (cc := cX6_copies) (maxL := 4) (ret := none) (by decide) rfl ?_
  intro p e s m args below meth c s₁ B hml hv
  obtain ⟨rfl, hP, hK, hD⟩ := hv
  have hS : va_S A s.heap s.heap [] := va_S.rf
  have C : ga_cx p m c meth s _ RX6 cX6_copies 4 none := ga_cx_of B hml
  have C0 := C
  obtain ⟨hx, hb, hr, hlocks, hml, hown, hts⟩ := C0
  have hl := lv_entry ([.ref (fr 14), .ref (fr 10), .int x2]) (n := 4) (Nat.le_of_ble_eq_true rfl)
  rw [lg_entry_eq]
  generalize (lg_sl ([.ref (fr 14), .ref (fr 10), .int x2]) ++ List.replicate (4 - (lg_sl ([.ref (fr 14), .ref (fr 10), .int x2])).length) Slot.unset).toArray = ls at hl ⊢
  have hl : lv_has ls 4 [(0, .ref (fr 14)), (1, .ref (fr 10)), (2, .int x2)] := hl
  rw [F_X6_copies_14_10] at h
  refine lv_iconst (v := 0) hx hb dX6_copies_0 (by decide) ?_
  refine lv_istore_n (lv' := [(3, .int 0), (0, .ref (fr 14)), (1, .ref (fr 10)), (2, .int x2)]) hx hb dX6_copies_1 rfl hl (by decide) rfl (fun ls hl => ?_)
  exact w_X6_copies_14_10_2 C hK N fi fa 0 h _ _ hP hD hS _ (lv_sub hl [1, 2, 3, 0] rfl)
abbrev rm_X6_copies_15_4 : Room := { frames := 1, cells := 0, slots := 0, locals := 12 }
def lp_X6_copies_15_4_2 (N : Nat) (x2 : Int32) : Nat → (Nat → Int32) → (Nat → Nat → Int32) → Int32 → Option (ga_MS)
  | 0, _, _, _ => none
  | n+1, fi, fa, x3 =>
    (if x2 ≤ x3 then
    some (fi, fa)
    else
    (if inb x3 2 = true then
    (if inb x3 2 = true then
    lp_X6_copies_15_4_2 N x2 n fi (va_up fa 4 (upd (fa 4) (ix x3) (fa 15 (ix x3)))) (x3 + 1)
    else none)
    else none))
set_option maxHeartbeats 4000000 in
theorem w_X6_copies_15_4_2 {p : Program} {l : Launch} {e : Env} {s : State} {m : MethodId} {args : Array Value} {below : List Frame} {meth : Method} {c : Code} {D : va_G} {cA : Nat → ClassId} {A : Nat → Prop} {b : Nat} {fr : Nat → Nat} {N : Nat} {x2 : Int32} (C : ga_cx p m c meth s args RX6 cX6_copies 4 none) (hK : ga_K D cA s) {out : ga_MS} : ∀ n : Nat, ∀ (fi : Nat → Int32) (fa : Nat → Nat → Int32) (x3 : Int32), lp_X6_copies_15_4_2 N x2 n fi fa x3 = some out → ∀ (H : Heap) (locs : List Loc), va_P D ga_cl (mW b cA fr fi fa) H → va_D A (mW b cA fr fi fa) → va_S A s.heap H locs → ∀ ls : Array Slot, lv_has ls 4 [(0, .ref (fr 15)), (1, .ref (fr 4)), (2, .int x2), (3, .int x3)] → W p l e (headSpec (ws_ yX6_copies cX6_copies 4 none) rm_X6_copies_15_4).room s m args below meth c H locs 0 0 (MQ below (va_Qv (fun (u : ga_MS) => out = u) (ga_MB D cA A b fr) A) args s 0 0 A) (F0 m 2 ls []) := by
  have C0 := C
  obtain ⟨hx, hb, hr, hlocks, hml, hown, hts⟩ := C0
  intro n
  induction n with
  | zero =>
    intro fi fa x3 h
    rw [lp_X6_copies_15_4_2.eq_1] at h
    cases h
  | succ n ih =>
    intro fi fa x3 h H locs hP hD hS ls hl
    rw [lp_X6_copies_15_4_2.eq_2] at h
    refine lv_iload_n hx hb dX6_copies_2 rfl (lv_at hl 3 rfl) ?_
    refine lv_iload_n hx hb dX6_copies_3 rfl (lv_at hl 2 rfl) ?_
    refine lv_icmp_ge (tgt := 19) hx hb dX6_copies_4 (by decide) (fun c_1 => ?_) (fun c_1 => ?_)
    · replace h := ga_ift c_1 h
      obtain rfl := Option.some.inj h
      exact W.vret hx hb hr (fun t ht hW => ⟨⟨_, rfl, rfl, ⟨by rw [ht]; exact hP, hK.warm hW, hD⟩⟩, hS.F ht⟩) hS.2.2 dX6_copies_19
    · replace h := ga_iff c_1 h
      refine lv_aload_n hx hb dX6_copies_7 rfl (lv_at hl 1 rfl) ?_
      refine lv_iload_n hx hb dX6_copies_8 rfl (lv_at hl 3 rfl) ?_
      refine lv_aload_n hx hb dX6_copies_9 rfl (lv_at hl 0 rfl) ?_
      refine lv_iload_n hx hb dX6_copies_10 rfl (lv_at hl 3 rfl) ?_
      obtain ⟨i_2, h⟩ := ga_gif h
      refine va_iald hx hb hK.1 hP 12 0 (f := fa 15) rfl rfl (ga_in i_2) dX6_copies_11 ?_
      obtain ⟨i_3, h⟩ := ga_gif h
      refine va_iast hx hb hK.1 hP hD hS 1 0 (f := fa 4) rfl rfl (ga_in i_3) dX6_copies_12 (fun H locs hP hD hS => ?_)
      replace hP := ga_cg (mA_4 b cA fr fi fa (upd (fa 4) (ix x3) (fa 15 (ix x3)))) hP
      replace hD := ga_cd (mA_4 b cA fr fi fa (upd (fa 4) (ix x3) (fa 15 (ix x3)))) hD
      refine lv_iinc (v := (x3 + 1)) (lv' := [(3, .int (x3 + 1)), (0, .ref (fr 15)), (1, .ref (fr 4)), (2, .int x2)]) hx hb dX6_copies_13 hl (k := 3) rfl rfl (by decide) rfl (fun ls hl => ?_)
      refine lv_goto (tgt := 2) hx hb dX6_copies_16 (by decide) ?_
      exact ih fi (va_up fa 4 (upd (fa 4) (ix x3) (fa 15 (ix x3)))) (x3 + 1) h _ _ hP hD hS _ (lv_sub hl [1, 2, 3, 0] rfl)
def F_X6_copies_15_4 (N : Nat) (fi : Nat → Int32) (fa : Nat → Nat → Int32) (x2 : Int32) : Option (ga_MS) :=
  lp_X6_copies_15_4_2 N x2 N fi fa 0
set_option maxHeartbeats 4000000 in
theorem met_X6_copies_15_4 (l : Launch) (D : va_G) (cA : Nat → ClassId) (A : Nat → Prop) (b : Nat) (fr : Nat → Nat) (fi : Nat → Int32) (fa : Nat → Nat → Int32) (N : Nat) (x2 : Int32) (out : ga_MS) (h : F_X6_copies_15_4 N fi fa x2 = some out) : Met l yX6_copies (ws_ yX6_copies cX6_copies 4 none) rm_X6_copies_15_4 (ga_N D cA A (mW b cA fr fi fa) [.ref (fr 15), .ref (fr 4), .int x2]) (va_Qv (fun (u : ga_MS) => out = u) (ga_MB D cA A b fr) A) 0 0 A := by
  refine Met.ofW (cc := cX6_copies) (maxL := 4) (ret := none) (by decide) rfl ?_
  intro p e s m args below meth c s₁ B hml hv
  obtain ⟨rfl, hP, hK, hD⟩ := hv
  have hS : va_S A s.heap s.heap [] := va_S.rf
  have C : ga_cx p m c meth s _ RX6 cX6_copies 4 none := ga_cx_of B hml
  have C0 := C
  obtain ⟨hx, hb, hr, hlocks, hml, hown, hts⟩ := C0
  have hl := lv_entry ([.ref (fr 15), .ref (fr 4), .int x2]) (n := 4) (Nat.le_of_ble_eq_true rfl)
  rw [lg_entry_eq]
  generalize (lg_sl ([.ref (fr 15), .ref (fr 4), .int x2]) ++ List.replicate (4 - (lg_sl ([.ref (fr 15), .ref (fr 4), .int x2])).length) Slot.unset).toArray = ls at hl ⊢
  have hl : lv_has ls 4 [(0, .ref (fr 15)), (1, .ref (fr 4)), (2, .int x2)] := hl
  rw [F_X6_copies_15_4] at h
  refine lv_iconst (v := 0) hx hb dX6_copies_0 (by decide) ?_
  refine lv_istore_n (lv' := [(3, .int 0), (0, .ref (fr 15)), (1, .ref (fr 4)), (2, .int x2)]) hx hb dX6_copies_1 rfl hl (by decide) rfl (fun ls hl => ?_)
  exact w_X6_copies_15_4_2 C hK N fi fa 0 h _ _ hP hD hS _ (lv_sub hl [1, 2, 3, 0] rfl)
abbrev rm_X6_makes : Room := { frames := 8, cells := 0, slots := 0, locals := 180 }
def F_X6_makes (N : Nat) (fi : Nat → Int32) (fa : Nat → Nat → Int32) (x1 : Int32) (x2 : Int32) (x3 : Int32) : Option (ga_MS) :=
  (if x1 = 0 then
  ((F_X6_plays N fi fa x2 x3).bind fun r_7 =>
  some (r_7.1, r_7.2))
  else
  ((F_X6_plays N fi fa x3 x2).bind fun r_2 =>
  some (r_2.1, r_2.2)))
set_option maxHeartbeats 4000000 in
theorem met_X6_makes (l : Launch) (D : va_G) (cA : Nat → ClassId) (A : Nat → Prop) (b : Nat) (fr : Nat → Nat) (fi : Nat → Int32) (fa : Nat → Nat → Int32) (N : Nat) (x1 : Int32) (x2 : Int32) (x3 : Int32) (out : ga_MS) (h : F_X6_makes N fi fa x1 x2 x3 = some out) : Met l yX6_makes (ws_ yX6_makes cX6_makes 4 none) rm_X6_makes (ga_N D cA A (mW b cA fr fi fa) [.ref b, .int x1, .int x2, .int x3]) (va_Qv (fun (u : ga_MS) => out = u) (ga_MB D cA A b fr) A) 0 0 A := by
  refine Met.ofW (cc := cX6_makes) (maxL := 4) (ret := none) (by decide) rfl ?_
  intro p e s m args below meth c s₁ B hml hv
  obtain ⟨rfl, hP, hK, hD⟩ := hv
  have hS : va_S A s.heap s.heap [] := va_S.rf
  have C : ga_cx p m c meth s _ RX6 cX6_makes 4 none := ga_cx_of B hml
  have C0 := C
  obtain ⟨hx, hb, hr, hlocks, hml, hown, hts⟩ := C0
  have hl := lv_entry ([.ref b, .int x1, .int x2, .int x3]) (n := 4) (Nat.le_of_ble_eq_true rfl)
  rw [lg_entry_eq]
  generalize (lg_sl ([.ref b, .int x1, .int x2, .int x3]) ++ List.replicate (4 - (lg_sl ([.ref b, .int x1, .int x2, .int x3])).length) Slot.unset).toArray = ls at hl ⊢
  have hl : lv_has ls 4 [(0, .ref b), (1, .int x1), (2, .int x2), (3, .int x3)] := hl
  rw [F_X6_makes] at h
  refine lv_iload_n hx hb dX6_makes_0 rfl (lv_at hl 1 rfl) ?_
  refine lv_if_ne (tgt := 13) hx hb dX6_makes_1 (by decide) (fun c_1 => ?_) (fun c_1 => ?_)
  · replace h := ga_iff c_1 h
    refine lv_aload_n hx hb dX6_makes_13 rfl (lv_at hl 0 rfl) ?_
    refine lv_iload_n hx hb dX6_makes_14 rfl (lv_at hl 3 rfl) ?_
    refine lv_iload_n hx hb dX6_makes_15 rfl (lv_at hl 2 rfl) ?_
    obtain ⟨r_2, e_3, h⟩ := ga_gb h
    refine va_callv (va_runV (As := [.int x3, .int x2]) (rest := []) ⟨hx, hb, hml, hown, hts⟩ (met_X6_plays l D cA A b fr fi fa N x3 x2 r_2 e_3) (cwV 2 hts (lw_V q1671 q1673 qs40 q79 q1674) rfl rfl rfl (by decide +kernel) ⟨Nat.le_of_ble_eq_true rfl, Nat.le_of_ble_eq_true rfl⟩) (ga_NV hK hP hD (va_recv hK.1 hP (ci := 0) (q0 := 0) rfl rfl)) rfl rfl hl.1 rfl (lv_room (Nat.le_of_ble_eq_true rfl)) dX6_makes_16 ⟨Nat.le_of_ble_eq_true rfl, Nat.le_of_ble_eq_true rfl⟩) hS (fun _ _ hq => hq) (fun _ hq => hq) (fun u t H locs ht _ w_5 hB _ _ hS => ?_)
    obtain rfl := w_5
    obtain ⟨hP, -, hD⟩ := hB
    rw [ht] at hP
    obtain rfl := Option.some.inj h
    exact W.vret hx hb hr (fun t ht hW => ⟨⟨_, rfl, rfl, ⟨by rw [ht]; exact hP, hK.warm hW, hD⟩⟩, hS.F ht⟩) hS.2.2 dX6_makes_19
  · replace h := ga_ift c_1 h
    refine lv_aload_n hx hb dX6_makes_4 rfl (lv_at hl 0 rfl) ?_
    refine lv_iload_n hx hb dX6_makes_5 rfl (lv_at hl 2 rfl) ?_
    refine lv_iload_n hx hb dX6_makes_6 rfl (lv_at hl 3 rfl) ?_
    obtain ⟨r_7, e_8, h⟩ := ga_gb h
    refine va_callv (va_runV (As := [.int x2, .int x3]) (rest := []) ⟨hx, hb, hml, hown, hts⟩ (met_X6_plays l D cA A b fr fi fa N x2 x3 r_7 e_8) (cwV 2 hts (lw_V q1671 q1673 qs40 q79 q1674) rfl rfl rfl (by decide +kernel) ⟨Nat.le_of_ble_eq_true rfl, Nat.le_of_ble_eq_true rfl⟩) (ga_NV hK hP hD (va_recv hK.1 hP (ci := 0) (q0 := 0) rfl rfl)) rfl rfl hl.1 rfl (lv_room (Nat.le_of_ble_eq_true rfl)) dX6_makes_7 ⟨Nat.le_of_ble_eq_true rfl, Nat.le_of_ble_eq_true rfl⟩) hS (fun _ _ hq => hq) (fun _ hq => hq) (fun u t H locs ht _ w_10 hB _ _ hS => ?_)
    obtain rfl := w_10
    obtain ⟨hP, -, hD⟩ := hB
    rw [ht] at hP
    refine lv_goto (tgt := 19) hx hb dX6_makes_10 (by decide) ?_
    obtain rfl := Option.some.inj h
    exact W.vret hx hb hr (fun t ht hW => ⟨⟨_, rfl, rfl, ⟨by rw [ht]; exact hP, hK.warm hW, hD⟩⟩, hS.F ht⟩) hS.2.2 dX6_makes_19
abbrev rm_X6_near : Room := { frames := 9, cells := 0, slots := 0, locals := 203 }
def lp_X6_near_20 (N : Nat) (x1 : Int32) (x2 : Int32) : Nat → (Nat → Int32) → (Nat → Nat → Int32) → Int32 → Int32 → Option (Int32 × ga_MS)
  | 0, _, _, _, _ => none
  | n+1, fi, fa, x3, x4 =>
    ((F_X6_cells N fi fa).bind fun r_6 =>
    (if r_6 ≤ x4 then
    some (x3, (fi, fa))
    else
    ((F_X6_mayChoose N fi fa x4).bind fun r_11 =>
    (if r_11 = 0 then
    lp_X6_near_20 N x1 x2 n fi fa x3 (x4 + 1)
    else
    ((F_X6_makes N fi fa x1 x2 x4).bind fun r_17 =>
    ((F_X6_outcome N r_17.1 r_17.2 x1).bind fun r_22 =>
    (if x3 ≤ r_22 then
    ((F_X6_copies_7_5 N r_17.1 r_17.2 155).bind fun r_27 =>
    lp_X6_near_20 N x1 x2 n r_27.1 r_27.2 x3 (x4 + 1))
    else
    ((F_X6_copies_7_5 N r_17.1 r_17.2 155).bind fun r_32 =>
    lp_X6_near_20 N x1 x2 n r_32.1 r_32.2 r_22 (x4 + 1)))))))))
set_option maxHeartbeats 4000000 in
theorem w_X6_near_20 {p : Program} {l : Launch} {e : Env} {s : State} {m : MethodId} {args : Array Value} {below : List Frame} {meth : Method} {c : Code} {D : va_G} {cA : Nat → ClassId} {A : Nat → Prop} {b : Nat} {fr : Nat → Nat} {N : Nat} {x1 : Int32} {x2 : Int32} (C : ga_cx p m c meth s args RX6 cX6_near 6 (some .int)) (hK : ga_K D cA s) {out : Int32 × ga_MS} : ∀ n : Nat, ∀ (fi : Nat → Int32) (fa : Nat → Nat → Int32) (x3 : Int32) (x4 : Int32), lp_X6_near_20 N x1 x2 n fi fa x3 x4 = some out → ∀ (H : Heap) (locs : List Loc), va_P D ga_cl (mW b cA fr fi fa) H → va_D A (mW b cA fr fi fa) → va_S A s.heap H locs → ∀ ls : Array Slot, lv_has ls 6 [(0, .ref b), (1, .int x1), (2, .int x2), (3, .int x3), (4, .int x4)] → W p l e (headSpec (ws_ yX6_near cX6_near 6 (some .int)) rm_X6_near).room s m args below meth c H locs 0 0 (MQ below (va_Qi (fun (r : Int32) (u : ga_MS) => (out.1 = r) ∧ out.2 = u) (ga_MB D cA A b fr) A) args s 0 0 A) (F0 m 20 ls []) := by
  have C0 := C
  obtain ⟨hx, hb, hr, hlocks, hml, hown, hts⟩ := C0
  intro n
  induction n with
  | zero =>
    intro fi fa x3 x4 h
    rw [lp_X6_near_20.eq_1] at h
    cases h
  | succ n ih =>
    intro fi fa x3 x4 h H locs hP hD hS ls hl
    rw [lp_X6_near_20.eq_2] at h
    refine lv_iload hx hb dX6_near_20 (lv_at hl 4 rfl) ?_
    refine lv_aload_n hx hb dX6_near_22 rfl (lv_at hl 0 rfl) ?_
    obtain ⟨r_6, e_7, h⟩ := ga_gb h
    refine vp_callSi (W.runV (As := []) (rest := [.int x4]) ⟨hx, hb, hml, hown, hts⟩ (met_X6_cells l D cA b fr fi fa N r_6 e_7) (cwV 0 hts (lw_V q1627 q1629 qs32 q79 q1630) rfl rfl rfl (by decide +kernel) ⟨Nat.le_of_ble_eq_true rfl, Nat.le_of_ble_eq_true rfl⟩) (ga_PV hK hP (va_recv hK.1 hP (ci := 0) (q0 := 0) rfl rfl)) rfl rfl hl.1 rfl (lv_room (Nat.le_of_ble_eq_true rfl)) dX6_near_23 ⟨Nat.le_of_ble_eq_true rfl, Nat.le_of_ble_eq_true rfl⟩) (fun z_8 w_9 => ?_)
    obtain rfl := w_9
    refine lv_icmp_ge (tgt := 89) hx hb dX6_near_26 (by decide) (fun c_10 => ?_) (fun c_10 => ?_)
    · replace h := ga_ift c_10 h
      refine lv_iload_n hx hb dX6_near_89 rfl (lv_at hl 3 rfl) ?_
      obtain rfl := Option.some.inj h
      exact W.iret hx hb hr (fun t ht hW => ⟨⟨_, _, rfl, ⟨rfl, rfl⟩, ⟨by rw [ht]; exact hP, hK.warm hW, hD⟩⟩, hS.F ht⟩) hS.2.2 dX6_near_90
    · replace h := ga_iff c_10 h
      refine lv_aload_n hx hb dX6_near_29 rfl (lv_at hl 0 rfl) ?_
      refine lv_iload hx hb dX6_near_30 (lv_at hl 4 rfl) ?_
      obtain ⟨r_11, e_12, h⟩ := ga_gb h
      refine vp_callSi (W.runV (As := [.int x4]) (rest := []) ⟨hx, hb, hml, hown, hts⟩ (met_X6_mayChoose l D cA b fr fi fa N x4 r_11 e_12) (cwV 1 hts (lw_V q1663 q1665 qs38 q79 q1666) rfl rfl rfl (by decide +kernel) ⟨Nat.le_of_ble_eq_true rfl, Nat.le_of_ble_eq_true rfl⟩) (ga_PV hK hP (va_recv hK.1 hP (ci := 0) (q0 := 0) rfl rfl)) rfl rfl hl.1 rfl (lv_room (Nat.le_of_ble_eq_true rfl)) dX6_near_32 ⟨Nat.le_of_ble_eq_true rfl, Nat.le_of_ble_eq_true rfl⟩) (fun z_13 w_14 => ?_)
      obtain ⟨rfl, b_15⟩ := w_14
      refine lv_if_ne (tgt := 41) hx hb dX6_near_35 (by decide) (fun c_16 => ?_) (fun c_16 => ?_)
      · replace h := ga_iff c_16 h
        refine lv_aload_n hx hb dX6_near_41 rfl (lv_at hl 0 rfl) ?_
        refine lv_iload_n hx hb dX6_near_42 rfl (lv_at hl 1 rfl) ?_
        refine lv_iload_n hx hb dX6_near_43 rfl (lv_at hl 2 rfl) ?_
        refine lv_iload hx hb dX6_near_44 (lv_at hl 4 rfl) ?_
        obtain ⟨r_17, e_18, h⟩ := ga_gb h
        refine va_callv (va_runV (As := [.int x1, .int x2, .int x4]) (rest := []) ⟨hx, hb, hml, hown, hts⟩ (met_X6_makes l D cA A b fr fi fa N x1 x2 x4 r_17 e_18) (cwV 3 hts (lw_V q1810 q1812 qs58 q79 q1813) rfl rfl rfl (by decide +kernel) ⟨Nat.le_of_ble_eq_true rfl, Nat.le_of_ble_eq_true rfl⟩) (ga_NV hK hP hD (va_recv hK.1 hP (ci := 0) (q0 := 0) rfl rfl)) rfl rfl hl.1 rfl (lv_room (Nat.le_of_ble_eq_true rfl)) dX6_near_46 ⟨Nat.le_of_ble_eq_true rfl, Nat.le_of_ble_eq_true rfl⟩) hS (fun _ _ hq => hq) (fun _ hq => hq) (fun u t H locs ht _ w_20 hB _ _ hS => ?_)
        obtain rfl := w_20
        obtain ⟨hP, -, hD⟩ := hB
        rw [ht] at hP
        refine lv_aload_n hx hb dX6_near_49 rfl (lv_at hl 0 rfl) ?_
        refine lv_iload_n hx hb dX6_near_50 rfl (lv_at hl 1 rfl) ?_
        obtain ⟨r_22, e_23, h⟩ := ga_gb h
        refine vp_callSi (W.runV (As := [.int x1]) (rest := []) ⟨hx, hb, hml, hown, hts⟩ (met_X6_outcome l D cA b fr r_17.1 r_17.2 N x1 r_22 e_23) (cwV 1 hts (lw_V q1814 q1816 qs59 q79 q1817) rfl rfl rfl (by decide +kernel) ⟨Nat.le_of_ble_eq_true rfl, Nat.le_of_ble_eq_true rfl⟩) (ga_PV hK hP (va_recv hK.1 hP (ci := 0) (q0 := 0) rfl rfl)) rfl rfl hl.1 rfl (lv_room (Nat.le_of_ble_eq_true rfl)) dX6_near_51 ⟨Nat.le_of_ble_eq_true rfl, Nat.le_of_ble_eq_true rfl⟩) (fun z_24 w_25 => ?_)
        obtain rfl := w_25
        refine lv_istore (lv' := [(5, .int r_22), (0, .ref b), (1, .int x1), (2, .int x2), (3, .int x3), (4, .int x4)]) hx hb dX6_near_54 hl (by decide) rfl (fun ls hl => ?_)
        refine lv_iload hx hb dX6_near_56 (lv_at hl 0 rfl) ?_
        refine lv_iload_n hx hb dX6_near_58 rfl (lv_at hl 4 rfl) ?_
        refine lv_icmp_ge (tgt := 67) hx hb dX6_near_59 (by decide) (fun c_26 => ?_) (fun c_26 => ?_)
        · replace h := ga_ift c_26 h
          refine lv_iload_n hx hb dX6_near_67 rfl (lv_at hl 4 rfl) ?_
          refine lv_istore_n (lv' := [(3, .int x3), (5, .int r_22), (0, .ref b), (1, .int x1), (2, .int x2), (4, .int x4)]) hx hb dX6_near_68 rfl hl (by decide) rfl (fun ls hl => ?_)
          refine lv_aload_n hx hb dX6_near_69 rfl (lv_at hl 2 rfl) ?_
          refine va_get hx hb hts in_X6 hown hK.1 hP 0 (fs := mF r_17.1 fr) rfl rfl 7 (by decide) (hts _ q1519) (fun _ hh => hh) (v := .ref (fr 7)) rfl dX6_near_70 ?_
          refine lv_aload_n hx hb dX6_near_73 rfl (lv_at hl 2 rfl) ?_
          refine va_get hx hb hts in_X6 hown hK.1 hP 0 (fs := mF r_17.1 fr) rfl rfl 5 (by decide) (hts _ q1517) (fun _ hh => hh) (v := .ref (fr 5)) rfl dX6_near_74 ?_
          refine lv_sipush (v := 155) hx hb dX6_near_77 (by decide) ?_
          obtain ⟨r_27, e_28, h⟩ := ga_gb h
          refine va_callv (va_runS (As := [.ref (fr 7), .ref (fr 5), .int 155]) (rest := []) ⟨hx, hb, hml, hown, hts⟩ (met_X6_copies_7_5 l D cA A b fr r_17.1 r_17.2 N 155 r_27 e_28) (va_cwS 3 hts (lw_S q1806 q1807 q79 q1808) rfl rfl rfl (by decide +kernel) ⟨Nat.le_of_ble_eq_true rfl, Nat.le_of_ble_eq_true rfl⟩) (ga_NS hK hP hD) rfl rfl hl.1 rfl (lv_room (Nat.le_of_ble_eq_true rfl)) dX6_near_80 ⟨Nat.le_of_ble_eq_true rfl, Nat.le_of_ble_eq_true rfl⟩) hS (fun _ _ hq => hq) (fun _ hq => hq) (fun u t H locs ht _ w_30 hB _ _ hS => ?_)
          obtain rfl := w_30
          obtain ⟨hP, -, hD⟩ := hB
          rw [ht] at hP
          refine lv_iinc (v := (x4 + 1)) (lv' := [(4, .int (x4 + 1)), (3, .int x3), (5, .int r_22), (0, .ref b), (1, .int x1), (2, .int x2)]) hx hb dX6_near_83 hl (k := 5) rfl rfl (by decide) rfl (fun ls hl => ?_)
          refine lv_goto (tgt := 20) hx hb dX6_near_86 (by decide) ?_
          exact ih r_27.1 r_27.2 x3 (x4 + 1) h _ _ hP hD hS _ (lv_sub hl [3, 4, 5, 1, 0] rfl)
        · replace h := ga_iff c_26 h
          refine lv_iload hx hb dX6_near_62 (lv_at hl 0 rfl) ?_
          refine lv_goto (tgt := 68) hx hb dX6_near_64 (by decide) ?_
          refine lv_istore_n (lv' := [(3, .int r_22), (5, .int r_22), (0, .ref b), (1, .int x1), (2, .int x2), (4, .int x4)]) hx hb dX6_near_68 rfl hl (by decide) rfl (fun ls hl => ?_)
          refine lv_aload_n hx hb dX6_near_69 rfl (lv_at hl 2 rfl) ?_
          refine va_get hx hb hts in_X6 hown hK.1 hP 0 (fs := mF r_17.1 fr) rfl rfl 7 (by decide) (hts _ q1519) (fun _ hh => hh) (v := .ref (fr 7)) rfl dX6_near_70 ?_
          refine lv_aload_n hx hb dX6_near_73 rfl (lv_at hl 2 rfl) ?_
          refine va_get hx hb hts in_X6 hown hK.1 hP 0 (fs := mF r_17.1 fr) rfl rfl 5 (by decide) (hts _ q1517) (fun _ hh => hh) (v := .ref (fr 5)) rfl dX6_near_74 ?_
          refine lv_sipush (v := 155) hx hb dX6_near_77 (by decide) ?_
          obtain ⟨r_32, e_33, h⟩ := ga_gb h
          refine va_callv (va_runS (As := [.ref (fr 7), .ref (fr 5), .int 155]) (rest := []) ⟨hx, hb, hml, hown, hts⟩ (met_X6_copies_7_5 l D cA A b fr r_17.1 r_17.2 N 155 r_32 e_33) (va_cwS 3 hts (lw_S q1806 q1807 q79 q1808) rfl rfl rfl (by decide +kernel) ⟨Nat.le_of_ble_eq_true rfl, Nat.le_of_ble_eq_true rfl⟩) (ga_NS hK hP hD) rfl rfl hl.1 rfl (lv_room (Nat.le_of_ble_eq_true rfl)) dX6_near_80 ⟨Nat.le_of_ble_eq_true rfl, Nat.le_of_ble_eq_true rfl⟩) hS (fun _ _ hq => hq) (fun _ hq => hq) (fun u t H locs ht _ w_35 hB _ _ hS => ?_)
          obtain rfl := w_35
          obtain ⟨hP, -, hD⟩ := hB
          rw [ht] at hP
          refine lv_iinc (v := (x4 + 1)) (lv' := [(4, .int (x4 + 1)), (3, .int r_22), (5, .int r_22), (0, .ref b), (1, .int x1), (2, .int x2)]) hx hb dX6_near_83 hl (k := 5) rfl rfl (by decide) rfl (fun ls hl => ?_)
          refine lv_goto (tgt := 20) hx hb dX6_near_86 (by decide) ?_
          exact ih r_32.1 r_32.2 r_22 (x4 + 1) h _ _ hP hD hS _ (lv_sub hl [3, 4, 5, 1, 0] rfl)
      · replace h := ga_ift c_16 h
        refine lv_goto (tgt := 83) hx hb dX6_near_38 (by decide) ?_
        refine lv_iinc (v := (x4 + 1)) (lv' := [(4, .int (x4 + 1)), (0, .ref b), (1, .int x1), (2, .int x2), (3, .int x3)]) hx hb dX6_near_83 hl (k := 4) rfl rfl (by decide) rfl (fun ls hl => ?_)
        refine lv_goto (tgt := 20) hx hb dX6_near_86 (by decide) ?_
        exact ih fi fa x3 (x4 + 1) h _ _ hP hD hS _ (lv_sub hl [1, 2, 3, 4, 0] rfl)
def F_X6_near (N : Nat) (fi : Nat → Int32) (fa : Nat → Nat → Int32) (x1 : Int32) (x2 : Int32) : Option (Int32 × ga_MS) :=
  ((F_X6_copies_5_7 N fi fa 155).bind fun r_1 =>
  lp_X6_near_20 N x1 x2 N r_1.1 r_1.2 2147483647 (-1))
set_option maxHeartbeats 4000000 in
theorem met_X6_near (l : Launch) (D : va_G) (cA : Nat → ClassId) (A : Nat → Prop) (b : Nat) (fr : Nat → Nat) (fi : Nat → Int32) (fa : Nat → Nat → Int32) (N : Nat) (x1 : Int32) (x2 : Int32) (out : Int32 × ga_MS) (h : F_X6_near N fi fa x1 x2 = some out) : Met l yX6_near (ws_ yX6_near cX6_near 6 (some .int)) rm_X6_near (ga_N D cA A (mW b cA fr fi fa) [.ref b, .int x1, .int x2]) (va_Qi (fun (r : Int32) (u : ga_MS) => (out.1 = r) ∧ out.2 = u) (ga_MB D cA A b fr) A) 0 0 A := by
  refine Met.ofW (cc := cX6_near) (maxL := 6) (ret := (some .int)) (by decide) rfl ?_
  intro p e s m args below meth c s₁ B hml hv
  obtain ⟨rfl, hP, hK, hD⟩ := hv
  have hS : va_S A s.heap s.heap [] := va_S.rf
  have C : ga_cx p m c meth s _ RX6 cX6_near 6 (some .int) := ga_cx_of B hml
  have C0 := C
  obtain ⟨hx, hb, hr, hlocks, hml, hown, hts⟩ := C0
  have hl := lv_entry ([.ref b, .int x1, .int x2]) (n := 6) (Nat.le_of_ble_eq_true rfl)
  rw [lg_entry_eq]
  generalize (lg_sl ([.ref b, .int x1, .int x2]) ++ List.replicate (6 - (lg_sl ([.ref b, .int x1, .int x2])).length) Slot.unset).toArray = ls at hl ⊢
  have hl : lv_has ls 6 [(0, .ref b), (1, .int x1), (2, .int x2)] := hl
  rw [F_X6_near] at h
  refine lv_aload_n hx hb dX6_near_0 rfl (lv_at hl 0 rfl) ?_
  refine va_get hx hb hts in_X6 hown hK.1 hP 0 (fs := mF fi fr) rfl rfl 5 (by decide) (hts _ q1517) (fun _ hh => hh) (v := .ref (fr 5)) rfl dX6_near_1 ?_
  refine lv_aload_n hx hb dX6_near_4 rfl (lv_at hl 0 rfl) ?_
  refine va_get hx hb hts in_X6 hown hK.1 hP 0 (fs := mF fi fr) rfl rfl 7 (by decide) (hts _ q1519) (fun _ hh => hh) (v := .ref (fr 7)) rfl dX6_near_5 ?_
  refine lv_sipush (v := 155) hx hb dX6_near_8 (by decide) ?_
  obtain ⟨r_1, e_2, h⟩ := ga_gb h
  refine va_callv (va_runS (As := [.ref (fr 5), .ref (fr 7), .int 155]) (rest := []) ⟨hx, hb, hml, hown, hts⟩ (met_X6_copies_5_7 l D cA A b fr fi fa N 155 r_1 e_2) (va_cwS 3 hts (lw_S q1806 q1807 q79 q1808) rfl rfl rfl (by decide +kernel) ⟨Nat.le_of_ble_eq_true rfl, Nat.le_of_ble_eq_true rfl⟩) (ga_NS hK hP hD) rfl rfl hl.1 rfl (lv_room (Nat.le_of_ble_eq_true rfl)) dX6_near_11 ⟨Nat.le_of_ble_eq_true rfl, Nat.le_of_ble_eq_true rfl⟩) hS (fun _ _ hq => hq) (fun _ hq => hq) (fun u t H locs ht _ w_4 hB _ _ hS => ?_)
  obtain rfl := w_4
  obtain ⟨hP, -, hD⟩ := hB
  rw [ht] at hP
  refine lv_ldc hx hb hown (hts _ q1809) dX6_near_14 ?_
  refine lv_istore_n (lv' := [(3, .int 2147483647), (0, .ref b), (1, .int x1), (2, .int x2)]) hx hb dX6_near_16 rfl hl (by decide) rfl (fun ls hl => ?_)
  refine lv_iconst (v := (-1)) hx hb dX6_near_17 (by decide) ?_
  refine lv_istore (lv' := [(4, .int (-1)), (3, .int 2147483647), (0, .ref b), (1, .int x1), (2, .int x2)]) hx hb dX6_near_18 hl (by decide) rfl (fun ls hl => ?_)
  exact w_X6_near_20 C hK N r_1.1 r_1.2 2147483647 (-1) h _ _ hP hD hS _ (lv_sub hl [2, 3, 4, 1, 0] rfl)
abbrev rm_X6_bestNear : Room := { frames := 10, cells := 0, slots := 0, locals := 228 }
def lp_X6_bestNear_5 (N : Nat) (x1 : Int32) : Nat → (Nat → Int32) → (Nat → Nat → Int32) → Int32 → Int32 → Option (Int32 × ga_MS)
  | 0, _, _, _, _ => none
  | n+1, fi, fa, x2, x3 =>
    ((F_X6_cells N fi fa).bind fun r_1 =>
    (if r_1 ≤ x3 then
    some (x2, (fi, fa))
    else
    ((F_X6_mayChoose N fi fa x3).bind fun r_6 =>
    (if r_6 = 0 then
    lp_X6_bestNear_5 N x1 n fi fa x2 (x3 + 1)
    else
    ((F_X6_near N fi fa x1 x3).bind fun r_12 =>
    (if r_12.1 ≤ x2 then
    lp_X6_bestNear_5 N x1 n r_12.2.1 r_12.2.2 x2 (x3 + 1)
    else
    lp_X6_bestNear_5 N x1 n r_12.2.1 r_12.2.2 r_12.1 (x3 + 1)))))))
set_option maxHeartbeats 4000000 in
theorem w_X6_bestNear_5 {p : Program} {l : Launch} {e : Env} {s : State} {m : MethodId} {args : Array Value} {below : List Frame} {meth : Method} {c : Code} {D : va_G} {cA : Nat → ClassId} {A : Nat → Prop} {b : Nat} {fr : Nat → Nat} {N : Nat} {x1 : Int32} (C : ga_cx p m c meth s args RX6 cX6_bestNear 5 (some .int)) (hK : ga_K D cA s) {out : Int32 × ga_MS} : ∀ n : Nat, ∀ (fi : Nat → Int32) (fa : Nat → Nat → Int32) (x2 : Int32) (x3 : Int32), lp_X6_bestNear_5 N x1 n fi fa x2 x3 = some out → ∀ (H : Heap) (locs : List Loc), va_P D ga_cl (mW b cA fr fi fa) H → va_D A (mW b cA fr fi fa) → va_S A s.heap H locs → ∀ ls : Array Slot, lv_has ls 5 [(0, .ref b), (1, .int x1), (2, .int x2), (3, .int x3)] → W p l e (headSpec (ws_ yX6_bestNear cX6_bestNear 5 (some .int)) rm_X6_bestNear).room s m args below meth c H locs 0 0 (MQ below (va_Qi (fun (r : Int32) (u : ga_MS) => (out.1 = r) ∧ out.2 = u) (ga_MB D cA A b fr) A) args s 0 0 A) (F0 m 5 ls []) := by
  have C0 := C
  obtain ⟨hx, hb, hr, hlocks, hml, hown, hts⟩ := C0
  intro n
  induction n with
  | zero =>
    intro fi fa x2 x3 h
    rw [lp_X6_bestNear_5.eq_1] at h
    cases h
  | succ n ih =>
    intro fi fa x2 x3 h H locs hP hD hS ls hl
    rw [lp_X6_bestNear_5.eq_2] at h
    refine lv_iload_n hx hb dX6_bestNear_5 rfl (lv_at hl 3 rfl) ?_
    refine lv_aload_n hx hb dX6_bestNear_6 rfl (lv_at hl 0 rfl) ?_
    obtain ⟨r_1, e_2, h⟩ := ga_gb h
    refine vp_callSi (W.runV (As := []) (rest := [.int x3]) ⟨hx, hb, hml, hown, hts⟩ (met_X6_cells l D cA b fr fi fa N r_1 e_2) (cwV 0 hts (lw_V q1627 q1629 qs32 q79 q1630) rfl rfl rfl (by decide +kernel) ⟨Nat.le_of_ble_eq_true rfl, Nat.le_of_ble_eq_true rfl⟩) (ga_PV hK hP (va_recv hK.1 hP (ci := 0) (q0 := 0) rfl rfl)) rfl rfl hl.1 rfl (lv_room (Nat.le_of_ble_eq_true rfl)) dX6_bestNear_7 ⟨Nat.le_of_ble_eq_true rfl, Nat.le_of_ble_eq_true rfl⟩) (fun z_3 w_4 => ?_)
    obtain rfl := w_4
    refine lv_icmp_ge (tgt := 51) hx hb dX6_bestNear_10 (by decide) (fun c_5 => ?_) (fun c_5 => ?_)
    · replace h := ga_ift c_5 h
      refine lv_iload_n hx hb dX6_bestNear_51 rfl (lv_at hl 2 rfl) ?_
      obtain rfl := Option.some.inj h
      exact W.iret hx hb hr (fun t ht hW => ⟨⟨_, _, rfl, ⟨rfl, rfl⟩, ⟨by rw [ht]; exact hP, hK.warm hW, hD⟩⟩, hS.F ht⟩) hS.2.2 dX6_bestNear_52
    · replace h := ga_iff c_5 h
      refine lv_aload_n hx hb dX6_bestNear_13 rfl (lv_at hl 0 rfl) ?_
      refine lv_iload_n hx hb dX6_bestNear_14 rfl (lv_at hl 3 rfl) ?_
      obtain ⟨r_6, e_7, h⟩ := ga_gb h
      refine vp_callSi (W.runV (As := [.int x3]) (rest := []) ⟨hx, hb, hml, hown, hts⟩ (met_X6_mayChoose l D cA b fr fi fa N x3 r_6 e_7) (cwV 1 hts (lw_V q1663 q1665 qs38 q79 q1666) rfl rfl rfl (by decide +kernel) ⟨Nat.le_of_ble_eq_true rfl, Nat.le_of_ble_eq_true rfl⟩) (ga_PV hK hP (va_recv hK.1 hP (ci := 0) (q0 := 0) rfl rfl)) rfl rfl hl.1 rfl (lv_room (Nat.le_of_ble_eq_true rfl)) dX6_bestNear_15 ⟨Nat.le_of_ble_eq_true rfl, Nat.le_of_ble_eq_true rfl⟩) (fun z_8 w_9 => ?_)
      obtain ⟨rfl, b_10⟩ := w_9
      refine lv_if_ne (tgt := 24) hx hb dX6_bestNear_18 (by decide) (fun c_11 => ?_) (fun c_11 => ?_)
      · replace h := ga_iff c_11 h
        refine lv_aload_n hx hb dX6_bestNear_24 rfl (lv_at hl 0 rfl) ?_
        refine lv_iload_n hx hb dX6_bestNear_25 rfl (lv_at hl 1 rfl) ?_
        refine lv_iload_n hx hb dX6_bestNear_26 rfl (lv_at hl 3 rfl) ?_
        obtain ⟨r_12, e_13, h⟩ := ga_gb h
        refine va_calli (va_runV (As := [.int x1, .int x3]) (rest := []) ⟨hx, hb, hml, hown, hts⟩ (met_X6_near l D cA A b fr fi fa N x1 x3 r_12 e_13) (cwV 2 hts (lw_V q1802 q1804 qs57 q79 q1805) rfl rfl rfl (by decide +kernel) ⟨Nat.le_of_ble_eq_true rfl, Nat.le_of_ble_eq_true rfl⟩) (ga_NV hK hP hD (va_recv hK.1 hP (ci := 0) (q0 := 0) rfl rfl)) rfl rfl hl.1 rfl (lv_room (Nat.le_of_ble_eq_true rfl)) dX6_bestNear_27 ⟨Nat.le_of_ble_eq_true rfl, Nat.le_of_ble_eq_true rfl⟩) hS (fun _ _ hq => hq) (fun _ hq => hq) (fun z_14 u t H locs ht _ w_15 hB _ _ hS => ?_)
        obtain ⟨rfl, rfl⟩ := w_15
        obtain ⟨hP, -, hD⟩ := hB
        rw [ht] at hP
        refine lv_istore (lv' := [(4, .int r_12.1), (0, .ref b), (1, .int x1), (2, .int x2), (3, .int x3)]) hx hb dX6_bestNear_30 hl (by decide) rfl (fun ls hl => ?_)
        refine lv_iload hx hb dX6_bestNear_32 (lv_at hl 0 rfl) ?_
        refine lv_iload_n hx hb dX6_bestNear_34 rfl (lv_at hl 3 rfl) ?_
        refine lv_icmp_le (tgt := 43) hx hb dX6_bestNear_35 (by decide) (fun c_17 => ?_) (fun c_17 => ?_)
        · replace h := ga_ift c_17 h
          refine lv_iload_n hx hb dX6_bestNear_43 rfl (lv_at hl 3 rfl) ?_
          refine lv_istore_n (lv' := [(2, .int x2), (4, .int r_12.1), (0, .ref b), (1, .int x1), (3, .int x3)]) hx hb dX6_bestNear_44 rfl hl (by decide) rfl (fun ls hl => ?_)
          refine lv_iinc (v := (x3 + 1)) (lv' := [(3, .int (x3 + 1)), (2, .int x2), (4, .int r_12.1), (0, .ref b), (1, .int x1)]) hx hb dX6_bestNear_45 hl (k := 4) rfl rfl (by decide) rfl (fun ls hl => ?_)
          refine lv_goto (tgt := 5) hx hb dX6_bestNear_48 (by decide) ?_
          exact ih r_12.2.1 r_12.2.2 x2 (x3 + 1) h _ _ hP hD hS _ (lv_sub hl [3, 4, 1, 0] rfl)
        · replace h := ga_iff c_17 h
          refine lv_iload hx hb dX6_bestNear_38 (lv_at hl 0 rfl) ?_
          refine lv_goto (tgt := 44) hx hb dX6_bestNear_40 (by decide) ?_
          refine lv_istore_n (lv' := [(2, .int r_12.1), (4, .int r_12.1), (0, .ref b), (1, .int x1), (3, .int x3)]) hx hb dX6_bestNear_44 rfl hl (by decide) rfl (fun ls hl => ?_)
          refine lv_iinc (v := (x3 + 1)) (lv' := [(3, .int (x3 + 1)), (2, .int r_12.1), (4, .int r_12.1), (0, .ref b), (1, .int x1)]) hx hb dX6_bestNear_45 hl (k := 4) rfl rfl (by decide) rfl (fun ls hl => ?_)
          refine lv_goto (tgt := 5) hx hb dX6_bestNear_48 (by decide) ?_
          exact ih r_12.2.1 r_12.2.2 r_12.1 (x3 + 1) h _ _ hP hD hS _ (lv_sub hl [3, 4, 1, 0] rfl)
      · replace h := ga_ift c_11 h
        refine lv_goto (tgt := 45) hx hb dX6_bestNear_21 (by decide) ?_
        refine lv_iinc (v := (x3 + 1)) (lv' := [(3, .int (x3 + 1)), (0, .ref b), (1, .int x1), (2, .int x2)]) hx hb dX6_bestNear_45 hl (k := 3) rfl rfl (by decide) rfl (fun ls hl => ?_)
        refine lv_goto (tgt := 5) hx hb dX6_bestNear_48 (by decide) ?_
        exact ih fi fa x2 (x3 + 1) h _ _ hP hD hS _ (lv_sub hl [1, 2, 3, 0] rfl)
def F_X6_bestNear (N : Nat) (fi : Nat → Int32) (fa : Nat → Nat → Int32) (x1 : Int32) : Option (Int32 × ga_MS) :=
  lp_X6_bestNear_5 N x1 N fi fa (-2147483648) (-1)
set_option maxHeartbeats 4000000 in
theorem met_X6_bestNear (l : Launch) (D : va_G) (cA : Nat → ClassId) (A : Nat → Prop) (b : Nat) (fr : Nat → Nat) (fi : Nat → Int32) (fa : Nat → Nat → Int32) (N : Nat) (x1 : Int32) (out : Int32 × ga_MS) (h : F_X6_bestNear N fi fa x1 = some out) : Met l yX6_bestNear (ws_ yX6_bestNear cX6_bestNear 5 (some .int)) rm_X6_bestNear (ga_N D cA A (mW b cA fr fi fa) [.ref b, .int x1]) (va_Qi (fun (r : Int32) (u : ga_MS) => (out.1 = r) ∧ out.2 = u) (ga_MB D cA A b fr) A) 0 0 A := by
  refine Met.ofW (cc := cX6_bestNear) (maxL := 5) (ret := (some .int)) (by decide) rfl ?_
  intro p e s m args below meth c s₁ B hml hv
  obtain ⟨rfl, hP, hK, hD⟩ := hv
  have hS : va_S A s.heap s.heap [] := va_S.rf
  have C : ga_cx p m c meth s _ RX6 cX6_bestNear 5 (some .int) := ga_cx_of B hml
  have C0 := C
  obtain ⟨hx, hb, hr, hlocks, hml, hown, hts⟩ := C0
  have hl := lv_entry ([.ref b, .int x1]) (n := 5) (Nat.le_of_ble_eq_true rfl)
  rw [lg_entry_eq]
  generalize (lg_sl ([.ref b, .int x1]) ++ List.replicate (5 - (lg_sl ([.ref b, .int x1])).length) Slot.unset).toArray = ls at hl ⊢
  have hl : lv_has ls 5 [(0, .ref b), (1, .int x1)] := hl
  rw [F_X6_bestNear] at h
  refine lv_ldc hx hb hown (hts _ q1826) dX6_bestNear_0 ?_
  refine lv_istore_n (lv' := [(2, .int (-2147483648)), (0, .ref b), (1, .int x1)]) hx hb dX6_bestNear_2 rfl hl (by decide) rfl (fun ls hl => ?_)
  refine lv_iconst (v := (-1)) hx hb dX6_bestNear_3 (by decide) ?_
  refine lv_istore_n (lv' := [(3, .int (-1)), (2, .int (-2147483648)), (0, .ref b), (1, .int x1)]) hx hb dX6_bestNear_4 rfl hl (by decide) rfl (fun ls hl => ?_)
  exact w_X6_bestNear_5 C hK N fi fa (-2147483648) (-1) h _ _ hP hD hS _ (lv_sub hl [2, 3, 1, 0] rfl)
abbrev rm_X6_far : Room := { frames := 11, cells := 0, slots := 0, locals := 252 }
def lp_X6_far_20 (N : Nat) (x1 : Int32) (x2 : Int32) : Nat → (Nat → Int32) → (Nat → Nat → Int32) → Int32 → Int32 → Option (Int32 × ga_MS)
  | 0, _, _, _, _ => none
  | n+1, fi, fa, x3, x4 =>
    ((F_X6_cells N fi fa).bind fun r_6 =>
    (if r_6 ≤ x4 then
    some (x3, (fi, fa))
    else
    ((F_X6_mayChoose N fi fa x4).bind fun r_11 =>
    (if r_11 = 0 then
    lp_X6_far_20 N x1 x2 n fi fa x3 (x4 + 1)
    else
    ((F_X6_makes N fi fa x1 x2 x4).bind fun r_17 =>
    ((F_X6_over N r_17.1 r_17.2).bind fun r_22 =>
    (if r_22 = 0 then
    ((F_X6_bestNear N r_17.1 r_17.2 x1).bind fun r_28 =>
    (if x3 ≤ r_28.1 then
    ((F_X6_copies_6_5 N r_28.2.1 r_28.2.2 155).bind fun r_34 =>
    lp_X6_far_20 N x1 x2 n r_34.1 r_34.2 x3 (x4 + 1))
    else
    ((F_X6_copies_6_5 N r_28.2.1 r_28.2.2 155).bind fun r_39 =>
    lp_X6_far_20 N x1 x2 n r_39.1 r_39.2 r_28.1 (x4 + 1))))
    else
    ((F_X6_outcome N r_17.1 r_17.2 x1).bind fun r_44 =>
    (if x3 ≤ r_44 then
    ((F_X6_copies_6_5 N r_17.1 r_17.2 155).bind fun r_49 =>
    lp_X6_far_20 N x1 x2 n r_49.1 r_49.2 x3 (x4 + 1))
    else
    ((F_X6_copies_6_5 N r_17.1 r_17.2 155).bind fun r_54 =>
    lp_X6_far_20 N x1 x2 n r_54.1 r_54.2 r_44 (x4 + 1)))))))))))
set_option maxHeartbeats 4000000 in
theorem w_X6_far_20 {p : Program} {l : Launch} {e : Env} {s : State} {m : MethodId} {args : Array Value} {below : List Frame} {meth : Method} {c : Code} {D : va_G} {cA : Nat → ClassId} {A : Nat → Prop} {b : Nat} {fr : Nat → Nat} {N : Nat} {x1 : Int32} {x2 : Int32} (C : ga_cx p m c meth s args RX6 cX6_far 6 (some .int)) (hK : ga_K D cA s) {out : Int32 × ga_MS} : ∀ n : Nat, ∀ (fi : Nat → Int32) (fa : Nat → Nat → Int32) (x3 : Int32) (x4 : Int32), lp_X6_far_20 N x1 x2 n fi fa x3 x4 = some out → ∀ (H : Heap) (locs : List Loc), va_P D ga_cl (mW b cA fr fi fa) H → va_D A (mW b cA fr fi fa) → va_S A s.heap H locs → ∀ ls : Array Slot, lv_has ls 6 [(0, .ref b), (1, .int x1), (2, .int x2), (3, .int x3), (4, .int x4)] → W p l e (headSpec (ws_ yX6_far cX6_far 6 (some .int)) rm_X6_far).room s m args below meth c H locs 0 0 (MQ below (va_Qi (fun (r : Int32) (u : ga_MS) => (out.1 = r) ∧ out.2 = u) (ga_MB D cA A b fr) A) args s 0 0 A) (F0 m 20 ls []) := by
  have C0 := C
  obtain ⟨hx, hb, hr, hlocks, hml, hown, hts⟩ := C0
  intro n
  induction n with
  | zero =>
    intro fi fa x3 x4 h
    rw [lp_X6_far_20.eq_1] at h
    cases h
  | succ n ih =>
    intro fi fa x3 x4 h H locs hP hD hS ls hl
    rw [lp_X6_far_20.eq_2] at h
    refine lv_iload hx hb dX6_far_20 (lv_at hl 4 rfl) ?_
    refine lv_aload_n hx hb dX6_far_22 rfl (lv_at hl 0 rfl) ?_
    obtain ⟨r_6, e_7, h⟩ := ga_gb h
    refine vp_callSi (W.runV (As := []) (rest := [.int x4]) ⟨hx, hb, hml, hown, hts⟩ (met_X6_cells l D cA b fr fi fa N r_6 e_7) (cwV 0 hts (lw_V q1627 q1629 qs32 q79 q1630) rfl rfl rfl (by decide +kernel) ⟨Nat.le_of_ble_eq_true rfl, Nat.le_of_ble_eq_true rfl⟩) (ga_PV hK hP (va_recv hK.1 hP (ci := 0) (q0 := 0) rfl rfl)) rfl rfl hl.1 rfl (lv_room (Nat.le_of_ble_eq_true rfl)) dX6_far_23 ⟨Nat.le_of_ble_eq_true rfl, Nat.le_of_ble_eq_true rfl⟩) (fun z_8 w_9 => ?_)
    obtain rfl := w_9
    refine lv_icmp_ge (tgt := 104) hx hb dX6_far_26 (by decide) (fun c_10 => ?_) (fun c_10 => ?_)
    · replace h := ga_ift c_10 h
      refine lv_iload_n hx hb dX6_far_104 rfl (lv_at hl 3 rfl) ?_
      obtain rfl := Option.some.inj h
      exact W.iret hx hb hr (fun t ht hW => ⟨⟨_, _, rfl, ⟨rfl, rfl⟩, ⟨by rw [ht]; exact hP, hK.warm hW, hD⟩⟩, hS.F ht⟩) hS.2.2 dX6_far_105
    · replace h := ga_iff c_10 h
      refine lv_aload_n hx hb dX6_far_29 rfl (lv_at hl 0 rfl) ?_
      refine lv_iload hx hb dX6_far_30 (lv_at hl 4 rfl) ?_
      obtain ⟨r_11, e_12, h⟩ := ga_gb h
      refine vp_callSi (W.runV (As := [.int x4]) (rest := []) ⟨hx, hb, hml, hown, hts⟩ (met_X6_mayChoose l D cA b fr fi fa N x4 r_11 e_12) (cwV 1 hts (lw_V q1663 q1665 qs38 q79 q1666) rfl rfl rfl (by decide +kernel) ⟨Nat.le_of_ble_eq_true rfl, Nat.le_of_ble_eq_true rfl⟩) (ga_PV hK hP (va_recv hK.1 hP (ci := 0) (q0 := 0) rfl rfl)) rfl rfl hl.1 rfl (lv_room (Nat.le_of_ble_eq_true rfl)) dX6_far_32 ⟨Nat.le_of_ble_eq_true rfl, Nat.le_of_ble_eq_true rfl⟩) (fun z_13 w_14 => ?_)
      obtain ⟨rfl, b_15⟩ := w_14
      refine lv_if_ne (tgt := 41) hx hb dX6_far_35 (by decide) (fun c_16 => ?_) (fun c_16 => ?_)
      · replace h := ga_iff c_16 h
        refine lv_aload_n hx hb dX6_far_41 rfl (lv_at hl 0 rfl) ?_
        refine lv_iload_n hx hb dX6_far_42 rfl (lv_at hl 1 rfl) ?_
        refine lv_iload_n hx hb dX6_far_43 rfl (lv_at hl 2 rfl) ?_
        refine lv_iload hx hb dX6_far_44 (lv_at hl 4 rfl) ?_
        obtain ⟨r_17, e_18, h⟩ := ga_gb h
        refine va_callv (va_runV (As := [.int x1, .int x2, .int x4]) (rest := []) ⟨hx, hb, hml, hown, hts⟩ (met_X6_makes l D cA A b fr fi fa N x1 x2 x4 r_17 e_18) (cwV 3 hts (lw_V q1810 q1812 qs58 q79 q1813) rfl rfl rfl (by decide +kernel) ⟨Nat.le_of_ble_eq_true rfl, Nat.le_of_ble_eq_true rfl⟩) (ga_NV hK hP hD (va_recv hK.1 hP (ci := 0) (q0 := 0) rfl rfl)) rfl rfl hl.1 rfl (lv_room (Nat.le_of_ble_eq_true rfl)) dX6_far_46 ⟨Nat.le_of_ble_eq_true rfl, Nat.le_of_ble_eq_true rfl⟩) hS (fun _ _ hq => hq) (fun _ hq => hq) (fun u t H locs ht _ w_20 hB _ _ hS => ?_)
        obtain rfl := w_20
        obtain ⟨hP, -, hD⟩ := hB
        rw [ht] at hP
        refine lv_aload_n hx hb dX6_far_49 rfl (lv_at hl 0 rfl) ?_
        obtain ⟨r_22, e_23, h⟩ := ga_gb h
        refine vp_callSi (W.runV (As := []) (rest := []) ⟨hx, hb, hml, hown, hts⟩ (met_X6_over l D cA b fr r_17.1 r_17.2 N r_22 e_23) (cwV 0 hts (lw_V q1651 q1653 qs35 q79 q1654) rfl rfl rfl (by decide +kernel) ⟨Nat.le_of_ble_eq_true rfl, Nat.le_of_ble_eq_true rfl⟩) (ga_PV hK hP (va_recv hK.1 hP (ci := 0) (q0 := 0) rfl rfl)) rfl rfl hl.1 rfl (lv_room (Nat.le_of_ble_eq_true rfl)) dX6_far_50 ⟨Nat.le_of_ble_eq_true rfl, Nat.le_of_ble_eq_true rfl⟩) (fun z_24 w_25 => ?_)
        obtain ⟨rfl, b_26⟩ := w_25
        refine lv_if_eq (tgt := 64) hx hb dX6_far_53 (by decide) (fun c_27 => ?_) (fun c_27 => ?_)
        · replace h := ga_ift c_27 h
          refine lv_aload_n hx hb dX6_far_64 rfl (lv_at hl 0 rfl) ?_
          refine lv_iload_n hx hb dX6_far_65 rfl (lv_at hl 1 rfl) ?_
          obtain ⟨r_28, e_29, h⟩ := ga_gb h
          refine va_calli (va_runV (As := [.int x1]) (rest := []) ⟨hx, hb, hml, hown, hts⟩ (met_X6_bestNear l D cA A b fr r_17.1 r_17.2 N x1 r_28 e_29) (cwV 1 hts (lw_V q1822 q1824 qs61 q79 q1825) rfl rfl rfl (by decide +kernel) ⟨Nat.le_of_ble_eq_true rfl, Nat.le_of_ble_eq_true rfl⟩) (ga_NV hK hP hD (va_recv hK.1 hP (ci := 0) (q0 := 0) rfl rfl)) rfl rfl hl.1 rfl (lv_room (Nat.le_of_ble_eq_true rfl)) dX6_far_66 ⟨Nat.le_of_ble_eq_true rfl, Nat.le_of_ble_eq_true rfl⟩) hS (fun _ _ hq => hq) (fun _ hq => hq) (fun z_30 u t H locs ht _ w_31 hB _ _ hS => ?_)
          obtain ⟨rfl, rfl⟩ := w_31
          obtain ⟨hP, -, hD⟩ := hB
          rw [ht] at hP
          refine lv_istore (lv' := [(5, .int r_28.1), (0, .ref b), (1, .int x1), (2, .int x2), (3, .int x3), (4, .int x4)]) hx hb dX6_far_69 hl (by decide) rfl (fun ls hl => ?_)
          refine lv_iload hx hb dX6_far_71 (lv_at hl 0 rfl) ?_
          refine lv_iload_n hx hb dX6_far_73 rfl (lv_at hl 4 rfl) ?_
          refine lv_icmp_ge (tgt := 82) hx hb dX6_far_74 (by decide) (fun c_33 => ?_) (fun c_33 => ?_)
          · replace h := ga_ift c_33 h
            refine lv_iload_n hx hb dX6_far_82 rfl (lv_at hl 4 rfl) ?_
            refine lv_istore_n (lv' := [(3, .int x3), (5, .int r_28.1), (0, .ref b), (1, .int x1), (2, .int x2), (4, .int x4)]) hx hb dX6_far_83 rfl hl (by decide) rfl (fun ls hl => ?_)
            refine lv_aload_n hx hb dX6_far_84 rfl (lv_at hl 2 rfl) ?_
            refine va_get hx hb hts in_X6 hown hK.1 hP 0 (fs := mF r_28.2.1 fr) rfl rfl 6 (by decide) (hts _ q1518) (fun _ hh => hh) (v := .ref (fr 6)) rfl dX6_far_85 ?_
            refine lv_aload_n hx hb dX6_far_88 rfl (lv_at hl 2 rfl) ?_
            refine va_get hx hb hts in_X6 hown hK.1 hP 0 (fs := mF r_28.2.1 fr) rfl rfl 5 (by decide) (hts _ q1517) (fun _ hh => hh) (v := .ref (fr 5)) rfl dX6_far_89 ?_
            refine lv_sipush (v := 155) hx hb dX6_far_92 (by decide) ?_
            obtain ⟨r_34, e_35, h⟩ := ga_gb h
            refine va_callv (va_runS (As := [.ref (fr 6), .ref (fr 5), .int 155]) (rest := []) ⟨hx, hb, hml, hown, hts⟩ (met_X6_copies_6_5 l D cA A b fr r_28.2.1 r_28.2.2 N 155 r_34 e_35) (va_cwS 3 hts (lw_S q1806 q1807 q79 q1808) rfl rfl rfl (by decide +kernel) ⟨Nat.le_of_ble_eq_true rfl, Nat.le_of_ble_eq_true rfl⟩) (ga_NS hK hP hD) rfl rfl hl.1 rfl (lv_room (Nat.le_of_ble_eq_true rfl)) dX6_far_95 ⟨Nat.le_of_ble_eq_true rfl, Nat.le_of_ble_eq_true rfl⟩) hS (fun _ _ hq => hq) (fun _ hq => hq) (fun u t H locs ht _ w_37 hB _ _ hS => ?_)
            obtain rfl := w_37
            obtain ⟨hP, -, hD⟩ := hB
            rw [ht] at hP
            refine lv_iinc (v := (x4 + 1)) (lv' := [(4, .int (x4 + 1)), (3, .int x3), (5, .int r_28.1), (0, .ref b), (1, .int x1), (2, .int x2)]) hx hb dX6_far_98 hl (k := 5) rfl rfl (by decide) rfl (fun ls hl => ?_)
            refine lv_goto (tgt := 20) hx hb dX6_far_101 (by decide) ?_
            exact ih r_34.1 r_34.2 x3 (x4 + 1) h _ _ hP hD hS _ (lv_sub hl [3, 4, 5, 1, 0] rfl)
          · replace h := ga_iff c_33 h
            refine lv_iload hx hb dX6_far_77 (lv_at hl 0 rfl) ?_
            refine lv_goto (tgt := 83) hx hb dX6_far_79 (by decide) ?_
            refine lv_istore_n (lv' := [(3, .int r_28.1), (5, .int r_28.1), (0, .ref b), (1, .int x1), (2, .int x2), (4, .int x4)]) hx hb dX6_far_83 rfl hl (by decide) rfl (fun ls hl => ?_)
            refine lv_aload_n hx hb dX6_far_84 rfl (lv_at hl 2 rfl) ?_
            refine va_get hx hb hts in_X6 hown hK.1 hP 0 (fs := mF r_28.2.1 fr) rfl rfl 6 (by decide) (hts _ q1518) (fun _ hh => hh) (v := .ref (fr 6)) rfl dX6_far_85 ?_
            refine lv_aload_n hx hb dX6_far_88 rfl (lv_at hl 2 rfl) ?_
            refine va_get hx hb hts in_X6 hown hK.1 hP 0 (fs := mF r_28.2.1 fr) rfl rfl 5 (by decide) (hts _ q1517) (fun _ hh => hh) (v := .ref (fr 5)) rfl dX6_far_89 ?_
            refine lv_sipush (v := 155) hx hb dX6_far_92 (by decide) ?_
            obtain ⟨r_39, e_40, h⟩ := ga_gb h
            refine va_callv (va_runS (As := [.ref (fr 6), .ref (fr 5), .int 155]) (rest := []) ⟨hx, hb, hml, hown, hts⟩ (met_X6_copies_6_5 l D cA A b fr r_28.2.1 r_28.2.2 N 155 r_39 e_40) (va_cwS 3 hts (lw_S q1806 q1807 q79 q1808) rfl rfl rfl (by decide +kernel) ⟨Nat.le_of_ble_eq_true rfl, Nat.le_of_ble_eq_true rfl⟩) (ga_NS hK hP hD) rfl rfl hl.1 rfl (lv_room (Nat.le_of_ble_eq_true rfl)) dX6_far_95 ⟨Nat.le_of_ble_eq_true rfl, Nat.le_of_ble_eq_true rfl⟩) hS (fun _ _ hq => hq) (fun _ hq => hq) (fun u t H locs ht _ w_42 hB _ _ hS => ?_)
            obtain rfl := w_42
            obtain ⟨hP, -, hD⟩ := hB
            rw [ht] at hP
            refine lv_iinc (v := (x4 + 1)) (lv' := [(4, .int (x4 + 1)), (3, .int r_28.1), (5, .int r_28.1), (0, .ref b), (1, .int x1), (2, .int x2)]) hx hb dX6_far_98 hl (k := 5) rfl rfl (by decide) rfl (fun ls hl => ?_)
            refine lv_goto (tgt := 20) hx hb dX6_far_101 (by decide) ?_
            exact ih r_39.1 r_39.2 r_28.1 (x4 + 1) h _ _ hP hD hS _ (lv_sub hl [3, 4, 5, 1, 0] rfl)
        · replace h := ga_iff c_27 h
          refine lv_aload_n hx hb dX6_far_56 rfl (lv_at hl 0 rfl) ?_
          refine lv_iload_n hx hb dX6_far_57 rfl (lv_at hl 1 rfl) ?_
          obtain ⟨r_44, e_45, h⟩ := ga_gb h
          refine vp_callSi (W.runV (As := [.int x1]) (rest := []) ⟨hx, hb, hml, hown, hts⟩ (met_X6_outcome l D cA b fr r_17.1 r_17.2 N x1 r_44 e_45) (cwV 1 hts (lw_V q1814 q1816 qs59 q79 q1817) rfl rfl rfl (by decide +kernel) ⟨Nat.le_of_ble_eq_true rfl, Nat.le_of_ble_eq_true rfl⟩) (ga_PV hK hP (va_recv hK.1 hP (ci := 0) (q0 := 0) rfl rfl)) rfl rfl hl.1 rfl (lv_room (Nat.le_of_ble_eq_true rfl)) dX6_far_58 ⟨Nat.le_of_ble_eq_true rfl, Nat.le_of_ble_eq_true rfl⟩) (fun z_46 w_47 => ?_)
          obtain rfl := w_47
          refine lv_goto (tgt := 69) hx hb dX6_far_61 (by decide) ?_
          refine lv_istore (lv' := [(5, .int r_44), (0, .ref b), (1, .int x1), (2, .int x2), (3, .int x3), (4, .int x4)]) hx hb dX6_far_69 hl (by decide) rfl (fun ls hl => ?_)
          refine lv_iload hx hb dX6_far_71 (lv_at hl 0 rfl) ?_
          refine lv_iload_n hx hb dX6_far_73 rfl (lv_at hl 4 rfl) ?_
          refine lv_icmp_ge (tgt := 82) hx hb dX6_far_74 (by decide) (fun c_48 => ?_) (fun c_48 => ?_)
          · replace h := ga_ift c_48 h
            refine lv_iload_n hx hb dX6_far_82 rfl (lv_at hl 4 rfl) ?_
            refine lv_istore_n (lv' := [(3, .int x3), (5, .int r_44), (0, .ref b), (1, .int x1), (2, .int x2), (4, .int x4)]) hx hb dX6_far_83 rfl hl (by decide) rfl (fun ls hl => ?_)
            refine lv_aload_n hx hb dX6_far_84 rfl (lv_at hl 2 rfl) ?_
            refine va_get hx hb hts in_X6 hown hK.1 hP 0 (fs := mF r_17.1 fr) rfl rfl 6 (by decide) (hts _ q1518) (fun _ hh => hh) (v := .ref (fr 6)) rfl dX6_far_85 ?_
            refine lv_aload_n hx hb dX6_far_88 rfl (lv_at hl 2 rfl) ?_
            refine va_get hx hb hts in_X6 hown hK.1 hP 0 (fs := mF r_17.1 fr) rfl rfl 5 (by decide) (hts _ q1517) (fun _ hh => hh) (v := .ref (fr 5)) rfl dX6_far_89 ?_
            refine lv_sipush (v := 155) hx hb dX6_far_92 (by decide) ?_
            obtain ⟨r_49, e_50, h⟩ := ga_gb h
            refine va_callv (va_runS (As := [.ref (fr 6), .ref (fr 5), .int 155]) (rest := []) ⟨hx, hb, hml, hown, hts⟩ (met_X6_copies_6_5 l D cA A b fr r_17.1 r_17.2 N 155 r_49 e_50) (va_cwS 3 hts (lw_S q1806 q1807 q79 q1808) rfl rfl rfl (by decide +kernel) ⟨Nat.le_of_ble_eq_true rfl, Nat.le_of_ble_eq_true rfl⟩) (ga_NS hK hP hD) rfl rfl hl.1 rfl (lv_room (Nat.le_of_ble_eq_true rfl)) dX6_far_95 ⟨Nat.le_of_ble_eq_true rfl, Nat.le_of_ble_eq_true rfl⟩) hS (fun _ _ hq => hq) (fun _ hq => hq) (fun u t H locs ht _ w_52 hB _ _ hS => ?_)
            obtain rfl := w_52
            obtain ⟨hP, -, hD⟩ := hB
            rw [ht] at hP
            refine lv_iinc (v := (x4 + 1)) (lv' := [(4, .int (x4 + 1)), (3, .int x3), (5, .int r_44), (0, .ref b), (1, .int x1), (2, .int x2)]) hx hb dX6_far_98 hl (k := 5) rfl rfl (by decide) rfl (fun ls hl => ?_)
            refine lv_goto (tgt := 20) hx hb dX6_far_101 (by decide) ?_
            exact ih r_49.1 r_49.2 x3 (x4 + 1) h _ _ hP hD hS _ (lv_sub hl [3, 4, 5, 1, 0] rfl)
          · replace h := ga_iff c_48 h
            refine lv_iload hx hb dX6_far_77 (lv_at hl 0 rfl) ?_
            refine lv_goto (tgt := 83) hx hb dX6_far_79 (by decide) ?_
            refine lv_istore_n (lv' := [(3, .int r_44), (5, .int r_44), (0, .ref b), (1, .int x1), (2, .int x2), (4, .int x4)]) hx hb dX6_far_83 rfl hl (by decide) rfl (fun ls hl => ?_)
            refine lv_aload_n hx hb dX6_far_84 rfl (lv_at hl 2 rfl) ?_
            refine va_get hx hb hts in_X6 hown hK.1 hP 0 (fs := mF r_17.1 fr) rfl rfl 6 (by decide) (hts _ q1518) (fun _ hh => hh) (v := .ref (fr 6)) rfl dX6_far_85 ?_
            refine lv_aload_n hx hb dX6_far_88 rfl (lv_at hl 2 rfl) ?_
            refine va_get hx hb hts in_X6 hown hK.1 hP 0 (fs := mF r_17.1 fr) rfl rfl 5 (by decide) (hts _ q1517) (fun _ hh => hh) (v := .ref (fr 5)) rfl dX6_far_89 ?_
            refine lv_sipush (v := 155) hx hb dX6_far_92 (by decide) ?_
            obtain ⟨r_54, e_55, h⟩ := ga_gb h
            refine va_callv (va_runS (As := [.ref (fr 6), .ref (fr 5), .int 155]) (rest := []) ⟨hx, hb, hml, hown, hts⟩ (met_X6_copies_6_5 l D cA A b fr r_17.1 r_17.2 N 155 r_54 e_55) (va_cwS 3 hts (lw_S q1806 q1807 q79 q1808) rfl rfl rfl (by decide +kernel) ⟨Nat.le_of_ble_eq_true rfl, Nat.le_of_ble_eq_true rfl⟩) (ga_NS hK hP hD) rfl rfl hl.1 rfl (lv_room (Nat.le_of_ble_eq_true rfl)) dX6_far_95 ⟨Nat.le_of_ble_eq_true rfl, Nat.le_of_ble_eq_true rfl⟩) hS (fun _ _ hq => hq) (fun _ hq => hq) (fun u t H locs ht _ w_57 hB _ _ hS => ?_)
            obtain rfl := w_57
            obtain ⟨hP, -, hD⟩ := hB
            rw [ht] at hP
            refine lv_iinc (v := (x4 + 1)) (lv' := [(4, .int (x4 + 1)), (3, .int r_44), (5, .int r_44), (0, .ref b), (1, .int x1), (2, .int x2)]) hx hb dX6_far_98 hl (k := 5) rfl rfl (by decide) rfl (fun ls hl => ?_)
            refine lv_goto (tgt := 20) hx hb dX6_far_101 (by decide) ?_
            exact ih r_54.1 r_54.2 r_44 (x4 + 1) h _ _ hP hD hS _ (lv_sub hl [3, 4, 5, 1, 0] rfl)
      · replace h := ga_ift c_16 h
        refine lv_goto (tgt := 98) hx hb dX6_far_38 (by decide) ?_
        refine lv_iinc (v := (x4 + 1)) (lv' := [(4, .int (x4 + 1)), (0, .ref b), (1, .int x1), (2, .int x2), (3, .int x3)]) hx hb dX6_far_98 hl (k := 4) rfl rfl (by decide) rfl (fun ls hl => ?_)
        refine lv_goto (tgt := 20) hx hb dX6_far_101 (by decide) ?_
        exact ih fi fa x3 (x4 + 1) h _ _ hP hD hS _ (lv_sub hl [1, 2, 3, 4, 0] rfl)
def F_X6_far (N : Nat) (fi : Nat → Int32) (fa : Nat → Nat → Int32) (x1 : Int32) (x2 : Int32) : Option (Int32 × ga_MS) :=
  ((F_X6_copies_5_6 N fi fa 155).bind fun r_1 =>
  lp_X6_far_20 N x1 x2 N r_1.1 r_1.2 2147483647 (-1))
set_option maxHeartbeats 4000000 in
theorem met_X6_far (l : Launch) (D : va_G) (cA : Nat → ClassId) (A : Nat → Prop) (b : Nat) (fr : Nat → Nat) (fi : Nat → Int32) (fa : Nat → Nat → Int32) (N : Nat) (x1 : Int32) (x2 : Int32) (out : Int32 × ga_MS) (h : F_X6_far N fi fa x1 x2 = some out) : Met l yX6_far (ws_ yX6_far cX6_far 6 (some .int)) rm_X6_far (ga_N D cA A (mW b cA fr fi fa) [.ref b, .int x1, .int x2]) (va_Qi (fun (r : Int32) (u : ga_MS) => (out.1 = r) ∧ out.2 = u) (ga_MB D cA A b fr) A) 0 0 A := by
  refine Met.ofW (cc := cX6_far) (maxL := 6) (ret := (some .int)) (by decide) rfl ?_
  intro p e s m args below meth c s₁ B hml hv
  obtain ⟨rfl, hP, hK, hD⟩ := hv
  have hS : va_S A s.heap s.heap [] := va_S.rf
  have C : ga_cx p m c meth s _ RX6 cX6_far 6 (some .int) := ga_cx_of B hml
  have C0 := C
  obtain ⟨hx, hb, hr, hlocks, hml, hown, hts⟩ := C0
  have hl := lv_entry ([.ref b, .int x1, .int x2]) (n := 6) (Nat.le_of_ble_eq_true rfl)
  rw [lg_entry_eq]
  generalize (lg_sl ([.ref b, .int x1, .int x2]) ++ List.replicate (6 - (lg_sl ([.ref b, .int x1, .int x2])).length) Slot.unset).toArray = ls at hl ⊢
  have hl : lv_has ls 6 [(0, .ref b), (1, .int x1), (2, .int x2)] := hl
  rw [F_X6_far] at h
  refine lv_aload_n hx hb dX6_far_0 rfl (lv_at hl 0 rfl) ?_
  refine va_get hx hb hts in_X6 hown hK.1 hP 0 (fs := mF fi fr) rfl rfl 5 (by decide) (hts _ q1517) (fun _ hh => hh) (v := .ref (fr 5)) rfl dX6_far_1 ?_
  refine lv_aload_n hx hb dX6_far_4 rfl (lv_at hl 0 rfl) ?_
  refine va_get hx hb hts in_X6 hown hK.1 hP 0 (fs := mF fi fr) rfl rfl 6 (by decide) (hts _ q1518) (fun _ hh => hh) (v := .ref (fr 6)) rfl dX6_far_5 ?_
  refine lv_sipush (v := 155) hx hb dX6_far_8 (by decide) ?_
  obtain ⟨r_1, e_2, h⟩ := ga_gb h
  refine va_callv (va_runS (As := [.ref (fr 5), .ref (fr 6), .int 155]) (rest := []) ⟨hx, hb, hml, hown, hts⟩ (met_X6_copies_5_6 l D cA A b fr fi fa N 155 r_1 e_2) (va_cwS 3 hts (lw_S q1806 q1807 q79 q1808) rfl rfl rfl (by decide +kernel) ⟨Nat.le_of_ble_eq_true rfl, Nat.le_of_ble_eq_true rfl⟩) (ga_NS hK hP hD) rfl rfl hl.1 rfl (lv_room (Nat.le_of_ble_eq_true rfl)) dX6_far_11 ⟨Nat.le_of_ble_eq_true rfl, Nat.le_of_ble_eq_true rfl⟩) hS (fun _ _ hq => hq) (fun _ hq => hq) (fun u t H locs ht _ w_4 hB _ _ hS => ?_)
  obtain rfl := w_4
  obtain ⟨hP, -, hD⟩ := hB
  rw [ht] at hP
  refine lv_ldc hx hb hown (hts _ q1809) dX6_far_14 ?_
  refine lv_istore_n (lv' := [(3, .int 2147483647), (0, .ref b), (1, .int x1), (2, .int x2)]) hx hb dX6_far_16 rfl hl (by decide) rfl (fun ls hl => ?_)
  refine lv_iconst (v := (-1)) hx hb dX6_far_17 (by decide) ?_
  refine lv_istore (lv' := [(4, .int (-1)), (3, .int 2147483647), (0, .ref b), (1, .int x1), (2, .int x2)]) hx hb dX6_far_18 hl (by decide) rfl (fun ls hl => ?_)
  exact w_X6_far_20 C hK N r_1.1 r_1.2 2147483647 (-1) h _ _ hP hD hS _ (lv_sub hl [2, 3, 4, 1, 0] rfl)
abbrev rm_X6_guaranteed : Room := { frames := 12, cells := 0, slots := 0, locals := 277 }
def F_X6_guaranteed (N : Nat) (fi : Nat → Int32) (fa : Nat → Nat → Int32) (x1 : Int32) (x2 : Int32) (x3 : Int32) : Option (Int32 × ga_MS) :=
  (if x3 = 1 then
  ((F_X6_near N fi fa x1 x2).bind fun r_7 =>
  some (r_7.1, (r_7.2.1, r_7.2.2)))
  else
  ((F_X6_far N fi fa x1 x2).bind fun r_2 =>
  some (r_2.1, (r_2.2.1, r_2.2.2))))
set_option maxHeartbeats 4000000 in
theorem met_X6_guaranteed (l : Launch) (D : va_G) (cA : Nat → ClassId) (A : Nat → Prop) (b : Nat) (fr : Nat → Nat) (fi : Nat → Int32) (fa : Nat → Nat → Int32) (N : Nat) (x1 : Int32) (x2 : Int32) (x3 : Int32) (out : Int32 × ga_MS) (h : F_X6_guaranteed N fi fa x1 x2 x3 = some out) : Met l yX6_guaranteed (ws_ yX6_guaranteed cX6_guaranteed 4 (some .int)) rm_X6_guaranteed (ga_N D cA A (mW b cA fr fi fa) [.ref b, .int x1, .int x2, .int x3]) (va_Qi (fun (r : Int32) (u : ga_MS) => (out.1 = r) ∧ out.2 = u) (ga_MB D cA A b fr) A) 0 0 A := by
  refine Met.ofW (cc := cX6_guaranteed) (maxL := 4) (ret := (some .int)) (by decide) rfl ?_
  intro p e s m args below meth c s₁ B hml hv
  obtain ⟨rfl, hP, hK, hD⟩ := hv
  have hS : va_S A s.heap s.heap [] := va_S.rf
  have C : ga_cx p m c meth s _ RX6 cX6_guaranteed 4 (some .int) := ga_cx_of B hml
  have C0 := C
  obtain ⟨hx, hb, hr, hlocks, hml, hown, hts⟩ := C0
  have hl := lv_entry ([.ref b, .int x1, .int x2, .int x3]) (n := 4) (Nat.le_of_ble_eq_true rfl)
  rw [lg_entry_eq]
  generalize (lg_sl ([.ref b, .int x1, .int x2, .int x3]) ++ List.replicate (4 - (lg_sl ([.ref b, .int x1, .int x2, .int x3])).length) Slot.unset).toArray = ls at hl ⊢
  have hl : lv_has ls 4 [(0, .ref b), (1, .int x1), (2, .int x2), (3, .int x3)] := hl
  rw [F_X6_guaranteed] at h
  refine lv_iload_n hx hb dX6_guaranteed_0 rfl (lv_at hl 3 rfl) ?_
  refine lv_iconst (v := 1) hx hb dX6_guaranteed_1 (by decide) ?_
  refine lv_icmp_ne (tgt := 14) hx hb dX6_guaranteed_2 (by decide) (fun c_1 => ?_) (fun c_1 => ?_)
  · replace h := ga_iff c_1 h
    refine lv_aload_n hx hb dX6_guaranteed_14 rfl (lv_at hl 0 rfl) ?_
    refine lv_iload_n hx hb dX6_guaranteed_15 rfl (lv_at hl 1 rfl) ?_
    refine lv_iload_n hx hb dX6_guaranteed_16 rfl (lv_at hl 2 rfl) ?_
    obtain ⟨r_2, e_3, h⟩ := ga_gb h
    refine va_calli (va_runV (As := [.int x1, .int x2]) (rest := []) ⟨hx, hb, hml, hown, hts⟩ (met_X6_far l D cA A b fr fi fa N x1 x2 r_2 e_3) (cwV 2 hts (lw_V q1818 q1820 qs60 q79 q1821) rfl rfl rfl (by decide +kernel) ⟨Nat.le_of_ble_eq_true rfl, Nat.le_of_ble_eq_true rfl⟩) (ga_NV hK hP hD (va_recv hK.1 hP (ci := 0) (q0 := 0) rfl rfl)) rfl rfl hl.1 rfl (lv_room (Nat.le_of_ble_eq_true rfl)) dX6_guaranteed_17 ⟨Nat.le_of_ble_eq_true rfl, Nat.le_of_ble_eq_true rfl⟩) hS (fun _ _ hq => hq) (fun _ hq => hq) (fun z_4 u t H locs ht _ w_5 hB _ _ hS => ?_)
    obtain ⟨rfl, rfl⟩ := w_5
    obtain ⟨hP, -, hD⟩ := hB
    rw [ht] at hP
    obtain rfl := Option.some.inj h
    exact W.iret hx hb hr (fun t ht hW => ⟨⟨_, _, rfl, ⟨rfl, rfl⟩, ⟨by rw [ht]; exact hP, hK.warm hW, hD⟩⟩, hS.F ht⟩) hS.2.2 dX6_guaranteed_20
  · replace h := ga_ift c_1 h
    refine lv_aload_n hx hb dX6_guaranteed_5 rfl (lv_at hl 0 rfl) ?_
    refine lv_iload_n hx hb dX6_guaranteed_6 rfl (lv_at hl 1 rfl) ?_
    refine lv_iload_n hx hb dX6_guaranteed_7 rfl (lv_at hl 2 rfl) ?_
    obtain ⟨r_7, e_8, h⟩ := ga_gb h
    refine va_calli (va_runV (As := [.int x1, .int x2]) (rest := []) ⟨hx, hb, hml, hown, hts⟩ (met_X6_near l D cA A b fr fi fa N x1 x2 r_7 e_8) (cwV 2 hts (lw_V q1802 q1804 qs57 q79 q1805) rfl rfl rfl (by decide +kernel) ⟨Nat.le_of_ble_eq_true rfl, Nat.le_of_ble_eq_true rfl⟩) (ga_NV hK hP hD (va_recv hK.1 hP (ci := 0) (q0 := 0) rfl rfl)) rfl rfl hl.1 rfl (lv_room (Nat.le_of_ble_eq_true rfl)) dX6_guaranteed_8 ⟨Nat.le_of_ble_eq_true rfl, Nat.le_of_ble_eq_true rfl⟩) hS (fun _ _ hq => hq) (fun _ hq => hq) (fun z_9 u t H locs ht _ w_10 hB _ _ hS => ?_)
    obtain ⟨rfl, rfl⟩ := w_10
    obtain ⟨hP, -, hD⟩ := hB
    rw [ht] at hP
    refine lv_goto (tgt := 20) hx hb dX6_guaranteed_11 (by decide) ?_
    obtain rfl := Option.some.inj h
    exact W.iret hx hb hr (fun t ht hW => ⟨⟨_, _, rfl, ⟨rfl, rfl⟩, ⟨by rw [ht]; exact hP, hK.warm hW, hD⟩⟩, hS.F ht⟩) hS.2.2 dX6_guaranteed_20
abbrev rm_X6_guarantee : Room := { frames := 13, cells := 0, slots := 0, locals := 300 }
def F_X6_guarantee (N : Nat) (fi : Nat → Int32) (fa : Nat → Nat → Int32) (x1 : Int32) (x2 : Int32) (x3 : Int32) : Option (Int32 × ga_MS) :=
  ((F_X6_isIn N x1 0 1).bind fun r_1 =>
  (if r_1 = 0 then
  some (0, (upd fi 0 1, fa))
  else
  ((F_X6_isChoice N fi fa x2).bind fun r_8 =>
  (if r_8 = 0 then
  some (0, (upd fi 0 1, fa))
  else
  ((F_X6_isIn N x3 1 2).bind fun r_14 =>
  (if r_14 = 0 then
  some (0, (upd fi 0 2, fa))
  else
  ((F_X6_over N fi fa).bind fun r_20 =>
  (if r_20 = 0 then
  ((F_X6_mayChoose N fi fa x2).bind fun r_27 =>
  (if r_27 = 0 then
  some (0, (upd fi 0 3, fa))
  else
  (if x3 = 2 then
  ((F_X6_emptyCells N fi fa).bind fun r_41 =>
  (if r_41 ≤ 6 then
  ((F_X6_guaranteed N (upd fi 0 0) fa x1 x2 x3).bind fun r_47 =>
  some (r_47.1, (r_47.2.1, r_47.2.2)))
  else
  some (0, (upd fi 0 3, fa))))
  else
  ((F_X6_guaranteed N (upd fi 0 0) fa x1 x2 x3).bind fun r_36 =>
  some (r_36.1, (r_36.2.1, r_36.2.2))))))
  else
  some (0, (upd fi 0 3, fa))))))))))
set_option maxHeartbeats 4000000 in
theorem met_X6_guarantee (l : Launch) (D : va_G) (cA : Nat → ClassId) (A : Nat → Prop) (b : Nat) (fr : Nat → Nat) (fi : Nat → Int32) (fa : Nat → Nat → Int32) (N : Nat) (x1 : Int32) (x2 : Int32) (x3 : Int32) (out : Int32 × ga_MS) (h : F_X6_guarantee N fi fa x1 x2 x3 = some out) : Met l yX6_guarantee (ws_ yX6_guarantee cX6_guarantee 4 (some .int)) rm_X6_guarantee (ga_N D cA A (mW b cA fr fi fa) [.ref b, .int x1, .int x2, .int x3]) (va_Qi (fun (r : Int32) (u : ga_MS) => (out.1 = r) ∧ out.2 = u) (ga_MB D cA A b fr) A) 0 0 A := by
  refine Met.ofW (cc := cX6_guarantee) (maxL := 4) (ret := (some .int)) (by decide) rfl ?_
  intro p e s m args below meth c s₁ B hml hv
  obtain ⟨rfl, hP, hK, hD⟩ := hv
  have hS : va_S A s.heap s.heap [] := va_S.rf
  have C : ga_cx p m c meth s _ RX6 cX6_guarantee 4 (some .int) := ga_cx_of B hml
  have C0 := C
  obtain ⟨hx, hb, hr, hlocks, hml, hown, hts⟩ := C0
  have hl := lv_entry ([.ref b, .int x1, .int x2, .int x3]) (n := 4) (Nat.le_of_ble_eq_true rfl)
  rw [lg_entry_eq]
  generalize (lg_sl ([.ref b, .int x1, .int x2, .int x3]) ++ List.replicate (4 - (lg_sl ([.ref b, .int x1, .int x2, .int x3])).length) Slot.unset).toArray = ls at hl ⊢
  have hl : lv_has ls 4 [(0, .ref b), (1, .int x1), (2, .int x2), (3, .int x3)] := hl
  rw [F_X6_guarantee] at h
  refine lv_aload_n hx hb dX6_guarantee_0 rfl (lv_at hl 0 rfl) ?_
  refine lv_iload_n hx hb dX6_guarantee_1 rfl (lv_at hl 1 rfl) ?_
  refine lv_iconst (v := 0) hx hb dX6_guarantee_2 (by decide) ?_
  refine lv_iconst (v := 1) hx hb dX6_guarantee_3 (by decide) ?_
  obtain ⟨r_1, e_2, h⟩ := ga_gb h
  refine vp_callSi (W.runS (As := [.int x1, .int 0, .int 1]) (rest := [.ref b]) ⟨hx, hb, hml, hown, hts⟩ (met_X6_isIn l D cA N x1 0 1 r_1 e_2) (va_cwS 3 hts (lw_S q1620 q1621 q79 q1622) rfl rfl rfl (by decide +kernel) ⟨Nat.le_of_ble_eq_true rfl, Nat.le_of_ble_eq_true rfl⟩) (ga_PS hK ga_P0) rfl rfl hl.1 rfl (lv_room (Nat.le_of_ble_eq_true rfl)) dX6_guarantee_4 ⟨Nat.le_of_ble_eq_true rfl, Nat.le_of_ble_eq_true rfl⟩) (fun z_3 w_4 => ?_)
  obtain ⟨rfl, b_5⟩ := w_4
  refine lv_if_eq (tgt := 18) hx hb dX6_guarantee_7 (by decide) (fun c_6 => ?_) (fun c_6 => ?_)
  · replace h := ga_ift c_6 h
    refine lv_iconst (v := 1) hx hb dX6_guarantee_18 (by decide) ?_
    refine lv_goto (tgt := 69) hx hb dX6_guarantee_19 (by decide) ?_
    refine va_put hx hb hts in_X6 tyX6 tyX6_ok nmX6 hown hK.1 hP hD hS 0 (fs := mF fi fr) rfl rfl 0 (by decide) (hts _ q1512) (fun _ hh => hh) rfl (v := .int 1) rfl rfl rfl (mF_lt (by decide)) dX6_guarantee_69 (fun H locs hP hD hS => ?_)
    rw [mS_0] at hP hD
    refine lv_aload_n hx hb dX6_guarantee_72 rfl (lv_at hl 0 rfl) ?_
    refine va_get hx hb hts in_X6 hown hK.1 hP 0 (fs := mF (upd fi 0 1) fr) rfl rfl 0 (by decide) (hts _ q1512) (fun _ hh => hh) (v := .int 1) rfl dX6_guarantee_73 ?_
    refine lv_if_ne (tgt := 89) hx hb dX6_guarantee_76 (by decide) (fun _ => ?_) (fun c_7 => absurd c_7 (by decide))
    refine lv_iconst (v := 0) hx hb dX6_guarantee_89 (by decide) ?_
    obtain rfl := Option.some.inj h
    exact W.iret hx hb hr (fun t ht hW => ⟨⟨_, _, rfl, ⟨rfl, rfl⟩, ⟨by rw [ht]; exact hP, hK.warm hW, hD⟩⟩, hS.F ht⟩) hS.2.2 dX6_guarantee_90
  · replace h := ga_iff c_6 h
    refine lv_aload_n hx hb dX6_guarantee_10 rfl (lv_at hl 0 rfl) ?_
    refine lv_iload_n hx hb dX6_guarantee_11 rfl (lv_at hl 2 rfl) ?_
    obtain ⟨r_8, e_9, h⟩ := ga_gb h
    refine vp_callSi (W.runV (As := [.int x2]) (rest := [.ref b]) ⟨hx, hb, hml, hown, hts⟩ (met_X6_isChoice l D cA b fr fi fa N x2 r_8 e_9) (cwV 1 hts (lw_V q1643 q1645 qs33 q79 q1646) rfl rfl rfl (by decide +kernel) ⟨Nat.le_of_ble_eq_true rfl, Nat.le_of_ble_eq_true rfl⟩) (ga_PV hK hP (va_recv hK.1 hP (ci := 0) (q0 := 0) rfl rfl)) rfl rfl hl.1 rfl (lv_room (Nat.le_of_ble_eq_true rfl)) dX6_guarantee_12 ⟨Nat.le_of_ble_eq_true rfl, Nat.le_of_ble_eq_true rfl⟩) (fun z_10 w_11 => ?_)
    obtain ⟨rfl, b_12⟩ := w_11
    refine lv_if_ne (tgt := 22) hx hb dX6_guarantee_15 (by decide) (fun c_13 => ?_) (fun c_13 => ?_)
    · replace h := ga_iff c_13 h
      refine lv_iload_n hx hb dX6_guarantee_22 rfl (lv_at hl 3 rfl) ?_
      refine lv_iconst (v := 1) hx hb dX6_guarantee_23 (by decide) ?_
      refine lv_iconst (v := 2) hx hb dX6_guarantee_24 (by decide) ?_
      obtain ⟨r_14, e_15, h⟩ := ga_gb h
      refine vp_callSi (W.runS (As := [.int x3, .int 1, .int 2]) (rest := [.ref b]) ⟨hx, hb, hml, hown, hts⟩ (met_X6_isIn l D cA N x3 1 2 r_14 e_15) (va_cwS 3 hts (lw_S q1620 q1621 q79 q1622) rfl rfl rfl (by decide +kernel) ⟨Nat.le_of_ble_eq_true rfl, Nat.le_of_ble_eq_true rfl⟩) (ga_PS hK ga_P0) rfl rfl hl.1 rfl (lv_room (Nat.le_of_ble_eq_true rfl)) dX6_guarantee_25 ⟨Nat.le_of_ble_eq_true rfl, Nat.le_of_ble_eq_true rfl⟩) (fun z_16 w_17 => ?_)
      obtain ⟨rfl, b_18⟩ := w_17
      refine lv_if_ne (tgt := 35) hx hb dX6_guarantee_28 (by decide) (fun c_19 => ?_) (fun c_19 => ?_)
      · replace h := ga_iff c_19 h
        refine lv_aload_n hx hb dX6_guarantee_35 rfl (lv_at hl 0 rfl) ?_
        obtain ⟨r_20, e_21, h⟩ := ga_gb h
        refine vp_callSi (W.runV (As := []) (rest := [.ref b]) ⟨hx, hb, hml, hown, hts⟩ (met_X6_over l D cA b fr fi fa N r_20 e_21) (cwV 0 hts (lw_V q1651 q1653 qs35 q79 q1654) rfl rfl rfl (by decide +kernel) ⟨Nat.le_of_ble_eq_true rfl, Nat.le_of_ble_eq_true rfl⟩) (ga_PV hK hP (va_recv hK.1 hP (ci := 0) (q0 := 0) rfl rfl)) rfl rfl hl.1 rfl (lv_room (Nat.le_of_ble_eq_true rfl)) dX6_guarantee_36 ⟨Nat.le_of_ble_eq_true rfl, Nat.le_of_ble_eq_true rfl⟩) (fun z_22 w_23 => ?_)
        obtain ⟨rfl, b_24⟩ := w_23
        refine lv_if_ne (tgt := 64) hx hb dX6_guarantee_39 (by decide) (fun c_25 => ?_) (fun c_25 => ?_)
        · replace h := ga_iff c_25 h
          refine lv_iconst (v := 3) hx hb dX6_guarantee_64 (by decide) ?_
          refine lv_goto (tgt := 69) hx hb dX6_guarantee_65 (by decide) ?_
          refine va_put hx hb hts in_X6 tyX6 tyX6_ok nmX6 hown hK.1 hP hD hS 0 (fs := mF fi fr) rfl rfl 0 (by decide) (hts _ q1512) (fun _ hh => hh) rfl (v := .int 3) rfl rfl rfl (mF_lt (by decide)) dX6_guarantee_69 (fun H locs hP hD hS => ?_)
          rw [mS_0] at hP hD
          refine lv_aload_n hx hb dX6_guarantee_72 rfl (lv_at hl 0 rfl) ?_
          refine va_get hx hb hts in_X6 hown hK.1 hP 0 (fs := mF (upd fi 0 3) fr) rfl rfl 0 (by decide) (hts _ q1512) (fun _ hh => hh) (v := .int 3) rfl dX6_guarantee_73 ?_
          refine lv_if_ne (tgt := 89) hx hb dX6_guarantee_76 (by decide) (fun _ => ?_) (fun c_26 => absurd c_26 (by decide))
          refine lv_iconst (v := 0) hx hb dX6_guarantee_89 (by decide) ?_
          obtain rfl := Option.some.inj h
          exact W.iret hx hb hr (fun t ht hW => ⟨⟨_, _, rfl, ⟨rfl, rfl⟩, ⟨by rw [ht]; exact hP, hK.warm hW, hD⟩⟩, hS.F ht⟩) hS.2.2 dX6_guarantee_90
        · replace h := ga_ift c_25 h
          refine lv_aload_n hx hb dX6_guarantee_42 rfl (lv_at hl 0 rfl) ?_
          refine lv_iload_n hx hb dX6_guarantee_43 rfl (lv_at hl 2 rfl) ?_
          obtain ⟨r_27, e_28, h⟩ := ga_gb h
          refine vp_callSi (W.runV (As := [.int x2]) (rest := [.ref b]) ⟨hx, hb, hml, hown, hts⟩ (met_X6_mayChoose l D cA b fr fi fa N x2 r_27 e_28) (cwV 1 hts (lw_V q1663 q1665 qs38 q79 q1666) rfl rfl rfl (by decide +kernel) ⟨Nat.le_of_ble_eq_true rfl, Nat.le_of_ble_eq_true rfl⟩) (ga_PV hK hP (va_recv hK.1 hP (ci := 0) (q0 := 0) rfl rfl)) rfl rfl hl.1 rfl (lv_room (Nat.le_of_ble_eq_true rfl)) dX6_guarantee_44 ⟨Nat.le_of_ble_eq_true rfl, Nat.le_of_ble_eq_true rfl⟩) (fun z_29 w_30 => ?_)
          obtain ⟨rfl, b_31⟩ := w_30
          refine lv_if_eq (tgt := 64) hx hb dX6_guarantee_47 (by decide) (fun c_32 => ?_) (fun c_32 => ?_)
          · replace h := ga_ift c_32 h
            refine lv_iconst (v := 3) hx hb dX6_guarantee_64 (by decide) ?_
            refine lv_goto (tgt := 69) hx hb dX6_guarantee_65 (by decide) ?_
            refine va_put hx hb hts in_X6 tyX6 tyX6_ok nmX6 hown hK.1 hP hD hS 0 (fs := mF fi fr) rfl rfl 0 (by decide) (hts _ q1512) (fun _ hh => hh) rfl (v := .int 3) rfl rfl rfl (mF_lt (by decide)) dX6_guarantee_69 (fun H locs hP hD hS => ?_)
            rw [mS_0] at hP hD
            refine lv_aload_n hx hb dX6_guarantee_72 rfl (lv_at hl 0 rfl) ?_
            refine va_get hx hb hts in_X6 hown hK.1 hP 0 (fs := mF (upd fi 0 3) fr) rfl rfl 0 (by decide) (hts _ q1512) (fun _ hh => hh) (v := .int 3) rfl dX6_guarantee_73 ?_
            refine lv_if_ne (tgt := 89) hx hb dX6_guarantee_76 (by decide) (fun _ => ?_) (fun c_33 => absurd c_33 (by decide))
            refine lv_iconst (v := 0) hx hb dX6_guarantee_89 (by decide) ?_
            obtain rfl := Option.some.inj h
            exact W.iret hx hb hr (fun t ht hW => ⟨⟨_, _, rfl, ⟨rfl, rfl⟩, ⟨by rw [ht]; exact hP, hK.warm hW, hD⟩⟩, hS.F ht⟩) hS.2.2 dX6_guarantee_90
          · replace h := ga_iff c_32 h
            refine lv_iload_n hx hb dX6_guarantee_50 rfl (lv_at hl 3 rfl) ?_
            refine lv_iconst (v := 2) hx hb dX6_guarantee_51 (by decide) ?_
            refine lv_icmp_ne (tgt := 68) hx hb dX6_guarantee_52 (by decide) (fun c_34 => ?_) (fun c_34 => ?_)
            · replace h := ga_iff c_34 h
              refine lv_iconst (v := 0) hx hb dX6_guarantee_68 (by decide) ?_
              refine va_put hx hb hts in_X6 tyX6 tyX6_ok nmX6 hown hK.1 hP hD hS 0 (fs := mF fi fr) rfl rfl 0 (by decide) (hts _ q1512) (fun _ hh => hh) rfl (v := .int 0) rfl rfl rfl (mF_lt (by decide)) dX6_guarantee_69 (fun H locs hP hD hS => ?_)
              rw [mS_0] at hP hD
              refine lv_aload_n hx hb dX6_guarantee_72 rfl (lv_at hl 0 rfl) ?_
              refine va_get hx hb hts in_X6 hown hK.1 hP 0 (fs := mF (upd fi 0 0) fr) rfl rfl 0 (by decide) (hts _ q1512) (fun _ hh => hh) (v := .int 0) rfl dX6_guarantee_73 ?_
              refine lv_if_ne (tgt := 89) hx hb dX6_guarantee_76 (by decide) (fun c_35 => absurd (by decide) c_35) (fun _ => ?_)
              refine lv_aload_n hx hb dX6_guarantee_79 rfl (lv_at hl 0 rfl) ?_
              refine lv_iload_n hx hb dX6_guarantee_80 rfl (lv_at hl 1 rfl) ?_
              refine lv_iload_n hx hb dX6_guarantee_81 rfl (lv_at hl 2 rfl) ?_
              refine lv_iload_n hx hb dX6_guarantee_82 rfl (lv_at hl 3 rfl) ?_
              obtain ⟨r_36, e_37, h⟩ := ga_gb h
              refine va_calli (va_runV (As := [.int x1, .int x2, .int x3]) (rest := []) ⟨hx, hb, hml, hown, hts⟩ (met_X6_guaranteed l D cA A b fr (upd fi 0 0) fa N x1 x2 x3 r_36 e_37) (cwV 3 hts (lw_V q1798 q1800 qs56 q79 q1801) rfl rfl rfl (by decide +kernel) ⟨Nat.le_of_ble_eq_true rfl, Nat.le_of_ble_eq_true rfl⟩) (ga_NV hK hP hD (va_recv hK.1 hP (ci := 0) (q0 := 0) rfl rfl)) rfl rfl hl.1 rfl (lv_room (Nat.le_of_ble_eq_true rfl)) dX6_guarantee_83 ⟨Nat.le_of_ble_eq_true rfl, Nat.le_of_ble_eq_true rfl⟩) hS (fun _ _ hq => hq) (fun _ hq => hq) (fun z_38 u t H locs ht _ w_39 hB _ _ hS => ?_)
              obtain ⟨rfl, rfl⟩ := w_39
              obtain ⟨hP, -, hD⟩ := hB
              rw [ht] at hP
              refine lv_goto (tgt := 90) hx hb dX6_guarantee_86 (by decide) ?_
              obtain rfl := Option.some.inj h
              exact W.iret hx hb hr (fun t ht hW => ⟨⟨_, _, rfl, ⟨rfl, rfl⟩, ⟨by rw [ht]; exact hP, hK.warm hW, hD⟩⟩, hS.F ht⟩) hS.2.2 dX6_guarantee_90
            · replace h := ga_ift c_34 h
              refine lv_aload_n hx hb dX6_guarantee_55 rfl (lv_at hl 0 rfl) ?_
              obtain ⟨r_41, e_42, h⟩ := ga_gb h
              refine vp_callSi (W.runV (As := []) (rest := [.ref b]) ⟨hx, hb, hml, hown, hts⟩ (met_X6_emptyCells l D cA b fr fi fa N r_41 e_42) (cwV 0 hts (lw_V q1655 q1657 qs36 q79 q1658) rfl rfl rfl (by decide +kernel) ⟨Nat.le_of_ble_eq_true rfl, Nat.le_of_ble_eq_true rfl⟩) (ga_PV hK hP (va_recv hK.1 hP (ci := 0) (q0 := 0) rfl rfl)) rfl rfl hl.1 rfl (lv_room (Nat.le_of_ble_eq_true rfl)) dX6_guarantee_56 ⟨Nat.le_of_ble_eq_true rfl, Nat.le_of_ble_eq_true rfl⟩) (fun z_43 w_44 => ?_)
              obtain rfl := w_44
              refine lv_bipush (v := 6) hx hb dX6_guarantee_59 (by decide) ?_
              refine lv_icmp_le (tgt := 68) hx hb dX6_guarantee_61 (by decide) (fun c_45 => ?_) (fun c_45 => ?_)
              · replace h := ga_ift c_45 h
                refine lv_iconst (v := 0) hx hb dX6_guarantee_68 (by decide) ?_
                refine va_put hx hb hts in_X6 tyX6 tyX6_ok nmX6 hown hK.1 hP hD hS 0 (fs := mF fi fr) rfl rfl 0 (by decide) (hts _ q1512) (fun _ hh => hh) rfl (v := .int 0) rfl rfl rfl (mF_lt (by decide)) dX6_guarantee_69 (fun H locs hP hD hS => ?_)
                rw [mS_0] at hP hD
                refine lv_aload_n hx hb dX6_guarantee_72 rfl (lv_at hl 0 rfl) ?_
                refine va_get hx hb hts in_X6 hown hK.1 hP 0 (fs := mF (upd fi 0 0) fr) rfl rfl 0 (by decide) (hts _ q1512) (fun _ hh => hh) (v := .int 0) rfl dX6_guarantee_73 ?_
                refine lv_if_ne (tgt := 89) hx hb dX6_guarantee_76 (by decide) (fun c_46 => absurd (by decide) c_46) (fun _ => ?_)
                refine lv_aload_n hx hb dX6_guarantee_79 rfl (lv_at hl 0 rfl) ?_
                refine lv_iload_n hx hb dX6_guarantee_80 rfl (lv_at hl 1 rfl) ?_
                refine lv_iload_n hx hb dX6_guarantee_81 rfl (lv_at hl 2 rfl) ?_
                refine lv_iload_n hx hb dX6_guarantee_82 rfl (lv_at hl 3 rfl) ?_
                obtain ⟨r_47, e_48, h⟩ := ga_gb h
                refine va_calli (va_runV (As := [.int x1, .int x2, .int x3]) (rest := []) ⟨hx, hb, hml, hown, hts⟩ (met_X6_guaranteed l D cA A b fr (upd fi 0 0) fa N x1 x2 x3 r_47 e_48) (cwV 3 hts (lw_V q1798 q1800 qs56 q79 q1801) rfl rfl rfl (by decide +kernel) ⟨Nat.le_of_ble_eq_true rfl, Nat.le_of_ble_eq_true rfl⟩) (ga_NV hK hP hD (va_recv hK.1 hP (ci := 0) (q0 := 0) rfl rfl)) rfl rfl hl.1 rfl (lv_room (Nat.le_of_ble_eq_true rfl)) dX6_guarantee_83 ⟨Nat.le_of_ble_eq_true rfl, Nat.le_of_ble_eq_true rfl⟩) hS (fun _ _ hq => hq) (fun _ hq => hq) (fun z_49 u t H locs ht _ w_50 hB _ _ hS => ?_)
                obtain ⟨rfl, rfl⟩ := w_50
                obtain ⟨hP, -, hD⟩ := hB
                rw [ht] at hP
                refine lv_goto (tgt := 90) hx hb dX6_guarantee_86 (by decide) ?_
                obtain rfl := Option.some.inj h
                exact W.iret hx hb hr (fun t ht hW => ⟨⟨_, _, rfl, ⟨rfl, rfl⟩, ⟨by rw [ht]; exact hP, hK.warm hW, hD⟩⟩, hS.F ht⟩) hS.2.2 dX6_guarantee_90
              · replace h := ga_iff c_45 h
                refine lv_iconst (v := 3) hx hb dX6_guarantee_64 (by decide) ?_
                refine lv_goto (tgt := 69) hx hb dX6_guarantee_65 (by decide) ?_
                refine va_put hx hb hts in_X6 tyX6 tyX6_ok nmX6 hown hK.1 hP hD hS 0 (fs := mF fi fr) rfl rfl 0 (by decide) (hts _ q1512) (fun _ hh => hh) rfl (v := .int 3) rfl rfl rfl (mF_lt (by decide)) dX6_guarantee_69 (fun H locs hP hD hS => ?_)
                rw [mS_0] at hP hD
                refine lv_aload_n hx hb dX6_guarantee_72 rfl (lv_at hl 0 rfl) ?_
                refine va_get hx hb hts in_X6 hown hK.1 hP 0 (fs := mF (upd fi 0 3) fr) rfl rfl 0 (by decide) (hts _ q1512) (fun _ hh => hh) (v := .int 3) rfl dX6_guarantee_73 ?_
                refine lv_if_ne (tgt := 89) hx hb dX6_guarantee_76 (by decide) (fun _ => ?_) (fun c_52 => absurd c_52 (by decide))
                refine lv_iconst (v := 0) hx hb dX6_guarantee_89 (by decide) ?_
                obtain rfl := Option.some.inj h
                exact W.iret hx hb hr (fun t ht hW => ⟨⟨_, _, rfl, ⟨rfl, rfl⟩, ⟨by rw [ht]; exact hP, hK.warm hW, hD⟩⟩, hS.F ht⟩) hS.2.2 dX6_guarantee_90
      · replace h := ga_ift c_19 h
        refine lv_iconst (v := 2) hx hb dX6_guarantee_31 (by decide) ?_
        refine lv_goto (tgt := 69) hx hb dX6_guarantee_32 (by decide) ?_
        refine va_put hx hb hts in_X6 tyX6 tyX6_ok nmX6 hown hK.1 hP hD hS 0 (fs := mF fi fr) rfl rfl 0 (by decide) (hts _ q1512) (fun _ hh => hh) rfl (v := .int 2) rfl rfl rfl (mF_lt (by decide)) dX6_guarantee_69 (fun H locs hP hD hS => ?_)
        rw [mS_0] at hP hD
        refine lv_aload_n hx hb dX6_guarantee_72 rfl (lv_at hl 0 rfl) ?_
        refine va_get hx hb hts in_X6 hown hK.1 hP 0 (fs := mF (upd fi 0 2) fr) rfl rfl 0 (by decide) (hts _ q1512) (fun _ hh => hh) (v := .int 2) rfl dX6_guarantee_73 ?_
        refine lv_if_ne (tgt := 89) hx hb dX6_guarantee_76 (by decide) (fun _ => ?_) (fun c_53 => absurd c_53 (by decide))
        refine lv_iconst (v := 0) hx hb dX6_guarantee_89 (by decide) ?_
        obtain rfl := Option.some.inj h
        exact W.iret hx hb hr (fun t ht hW => ⟨⟨_, _, rfl, ⟨rfl, rfl⟩, ⟨by rw [ht]; exact hP, hK.warm hW, hD⟩⟩, hS.F ht⟩) hS.2.2 dX6_guarantee_90
    · replace h := ga_ift c_13 h
      refine lv_iconst (v := 1) hx hb dX6_guarantee_18 (by decide) ?_
      refine lv_goto (tgt := 69) hx hb dX6_guarantee_19 (by decide) ?_
      refine va_put hx hb hts in_X6 tyX6 tyX6_ok nmX6 hown hK.1 hP hD hS 0 (fs := mF fi fr) rfl rfl 0 (by decide) (hts _ q1512) (fun _ hh => hh) rfl (v := .int 1) rfl rfl rfl (mF_lt (by decide)) dX6_guarantee_69 (fun H locs hP hD hS => ?_)
      rw [mS_0] at hP hD
      refine lv_aload_n hx hb dX6_guarantee_72 rfl (lv_at hl 0 rfl) ?_
      refine va_get hx hb hts in_X6 hown hK.1 hP 0 (fs := mF (upd fi 0 1) fr) rfl rfl 0 (by decide) (hts _ q1512) (fun _ hh => hh) (v := .int 1) rfl dX6_guarantee_73 ?_
      refine lv_if_ne (tgt := 89) hx hb dX6_guarantee_76 (by decide) (fun _ => ?_) (fun c_54 => absurd c_54 (by decide))
      refine lv_iconst (v := 0) hx hb dX6_guarantee_89 (by decide) ?_
      obtain rfl := Option.some.inj h
      exact W.iret hx hb hr (fun t ht hW => ⟨⟨_, _, rfl, ⟨rfl, rfl⟩, ⟨by rw [ht]; exact hP, hK.warm hW, hD⟩⟩, hS.F ht⟩) hS.2.2 dX6_guarantee_90
abbrev rm_X6_best : Room := { frames := 13, cells := 0, slots := 0, locals := 300 }
def lp_X6_best_74 (N : Nat) (x1 : Int32) (x2 : Int32) : Nat → (Nat → Int32) → (Nat → Nat → Int32) → Int32 → Int32 → Int32 → Option (Int32 × ga_MS)
  | 0, _, _, _, _, _ => none
  | n+1, fi, fa, x3, x4, x5 =>
    ((F_X6_cells N fi fa).bind fun r_31 =>
    (if r_31 < x5 then
    some (x3, (fi, fa))
    else
    ((F_X6_cells N fi fa).bind fun r_36 =>
    (if x5 = r_36 then
    ((F_X6_mayChoose N fi fa (-1)).bind fun r_53 =>
    (if r_53 = 0 then
    lp_X6_best_74 N x1 x2 n fi fa x3 x4 (x5 + 1)
    else
    ((F_X6_guaranteed N fi fa x1 (-1) x2).bind fun r_59 =>
    (if r_59.1 ≤ x4 then
    lp_X6_best_74 N x1 x2 n r_59.2.1 r_59.2.2 x3 x4 (x5 + 1)
    else
    lp_X6_best_74 N x1 x2 n r_59.2.1 r_59.2.2 (-1) r_59.1 (x5 + 1)))))
    else
    ((F_X6_mayChoose N fi fa x5).bind fun r_41 =>
    (if r_41 = 0 then
    lp_X6_best_74 N x1 x2 n fi fa x3 x4 (x5 + 1)
    else
    ((F_X6_guaranteed N fi fa x1 x5 x2).bind fun r_47 =>
    (if r_47.1 ≤ x4 then
    lp_X6_best_74 N x1 x2 n r_47.2.1 r_47.2.2 x3 x4 (x5 + 1)
    else
    lp_X6_best_74 N x1 x2 n r_47.2.1 r_47.2.2 x5 r_47.1 (x5 + 1)))))))))
set_option maxHeartbeats 4000000 in
theorem w_X6_best_74 {p : Program} {l : Launch} {e : Env} {s : State} {m : MethodId} {args : Array Value} {below : List Frame} {meth : Method} {c : Code} {D : va_G} {cA : Nat → ClassId} {A : Nat → Prop} {b : Nat} {fr : Nat → Nat} {N : Nat} {x1 : Int32} {x2 : Int32} (C : ga_cx p m c meth s args RX6 cX6_best 8 (some .int)) (hK : ga_K D cA s) {out : Int32 × ga_MS} : ∀ n : Nat, ∀ (fi : Nat → Int32) (fa : Nat → Nat → Int32) (x3 : Int32) (x4 : Int32) (x5 : Int32), lp_X6_best_74 N x1 x2 n fi fa x3 x4 x5 = some out → ∀ (H : Heap) (locs : List Loc), va_P D ga_cl (mW b cA fr fi fa) H → va_D A (mW b cA fr fi fa) → va_S A s.heap H locs → ∀ ls : Array Slot, lv_has ls 8 [(0, .ref b), (1, .int x1), (2, .int x2), (3, .int x3), (4, .int x4), (5, .int x5)] → W p l e (headSpec (ws_ yX6_best cX6_best 8 (some .int)) rm_X6_best).room s m args below meth c H locs 0 0 (MQ below (va_Qi (fun (r : Int32) (u : ga_MS) => (out.1 = r) ∧ out.2 = u) (ga_MB D cA A b fr) A) args s 0 0 A) (F0 m 74 ls []) := by
  have C0 := C
  obtain ⟨hx, hb, hr, hlocks, hml, hown, hts⟩ := C0
  intro n
  induction n with
  | zero =>
    intro fi fa x3 x4 x5 h
    rw [lp_X6_best_74.eq_1] at h
    cases h
  | succ n ih =>
    intro fi fa x3 x4 x5 h H locs hP hD hS ls hl
    rw [lp_X6_best_74.eq_2] at h
    refine lv_iload hx hb dX6_best_74 (lv_at hl 5 rfl) ?_
    refine lv_aload_n hx hb dX6_best_76 rfl (lv_at hl 0 rfl) ?_
    obtain ⟨r_31, e_32, h⟩ := ga_gb h
    refine vp_callSi (W.runV (As := []) (rest := [.int x5]) ⟨hx, hb, hml, hown, hts⟩ (met_X6_cells l D cA b fr fi fa N r_31 e_32) (cwV 0 hts (lw_V q1627 q1629 qs32 q79 q1630) rfl rfl rfl (by decide +kernel) ⟨Nat.le_of_ble_eq_true rfl, Nat.le_of_ble_eq_true rfl⟩) (ga_PV hK hP (va_recv hK.1 hP (ci := 0) (q0 := 0) rfl rfl)) rfl rfl hl.1 rfl (lv_room (Nat.le_of_ble_eq_true rfl)) dX6_best_77 ⟨Nat.le_of_ble_eq_true rfl, Nat.le_of_ble_eq_true rfl⟩) (fun z_33 w_34 => ?_)
    obtain rfl := w_34
    refine lv_icmp_gt (tgt := 142) hx hb dX6_best_80 (by decide) (fun c_35 => ?_) (fun c_35 => ?_)
    · replace h := ga_ift c_35 h
      refine lv_iload_n hx hb dX6_best_142 rfl (lv_at hl 3 rfl) ?_
      obtain rfl := Option.some.inj h
      exact W.iret hx hb hr (fun t ht hW => ⟨⟨_, _, rfl, ⟨rfl, rfl⟩, ⟨by rw [ht]; exact hP, hK.warm hW, hD⟩⟩, hS.F ht⟩) hS.2.2 dX6_best_143
    · replace h := ga_iff c_35 h
      refine lv_iload hx hb dX6_best_83 (lv_at hl 5 rfl) ?_
      refine lv_aload_n hx hb dX6_best_85 rfl (lv_at hl 0 rfl) ?_
      obtain ⟨r_36, e_37, h⟩ := ga_gb h
      refine vp_callSi (W.runV (As := []) (rest := [.int x5]) ⟨hx, hb, hml, hown, hts⟩ (met_X6_cells l D cA b fr fi fa N r_36 e_37) (cwV 0 hts (lw_V q1627 q1629 qs32 q79 q1630) rfl rfl rfl (by decide +kernel) ⟨Nat.le_of_ble_eq_true rfl, Nat.le_of_ble_eq_true rfl⟩) (ga_PV hK hP (va_recv hK.1 hP (ci := 0) (q0 := 0) rfl rfl)) rfl rfl hl.1 rfl (lv_room (Nat.le_of_ble_eq_true rfl)) dX6_best_86 ⟨Nat.le_of_ble_eq_true rfl, Nat.le_of_ble_eq_true rfl⟩) (fun z_38 w_39 => ?_)
      obtain rfl := w_39
      refine lv_icmp_ne (tgt := 96) hx hb dX6_best_89 (by decide) (fun c_40 => ?_) (fun c_40 => ?_)
      · replace h := ga_iff c_40 h
        refine lv_iload hx hb dX6_best_96 (lv_at hl 5 rfl) ?_
        refine lv_istore (lv' := [(6, .int x5), (0, .ref b), (1, .int x1), (2, .int x2), (3, .int x3), (4, .int x4), (5, .int x5)]) hx hb dX6_best_98 hl (by decide) rfl (fun ls hl => ?_)
        refine lv_aload_n hx hb dX6_best_100 rfl (lv_at hl 1 rfl) ?_
        refine lv_iload hx hb dX6_best_101 (lv_at hl 0 rfl) ?_
        obtain ⟨r_41, e_42, h⟩ := ga_gb h
        refine vp_callSi (W.runV (As := [.int x5]) (rest := []) ⟨hx, hb, hml, hown, hts⟩ (met_X6_mayChoose l D cA b fr fi fa N x5 r_41 e_42) (cwV 1 hts (lw_V q1663 q1665 qs38 q79 q1666) rfl rfl rfl (by decide +kernel) ⟨Nat.le_of_ble_eq_true rfl, Nat.le_of_ble_eq_true rfl⟩) (ga_PV hK hP (va_recv hK.1 hP (ci := 0) (q0 := 0) rfl rfl)) rfl rfl hl.1 rfl (lv_room (Nat.le_of_ble_eq_true rfl)) dX6_best_103 ⟨Nat.le_of_ble_eq_true rfl, Nat.le_of_ble_eq_true rfl⟩) (fun z_43 w_44 => ?_)
        obtain ⟨rfl, b_45⟩ := w_44
        refine lv_if_ne (tgt := 112) hx hb dX6_best_106 (by decide) (fun c_46 => ?_) (fun c_46 => ?_)
        · replace h := ga_iff c_46 h
          refine lv_aload_n hx hb dX6_best_112 rfl (lv_at hl 1 rfl) ?_
          refine lv_iload_n hx hb dX6_best_113 rfl (lv_at hl 2 rfl) ?_
          refine lv_iload hx hb dX6_best_114 (lv_at hl 0 rfl) ?_
          refine lv_iload_n hx hb dX6_best_116 rfl (lv_at hl 3 rfl) ?_
          obtain ⟨r_47, e_48, h⟩ := ga_gb h
          refine va_calli (va_runV (As := [.int x1, .int x5, .int x2]) (rest := []) ⟨hx, hb, hml, hown, hts⟩ (met_X6_guaranteed l D cA A b fr fi fa N x1 x5 x2 r_47 e_48) (cwV 3 hts (lw_V q1798 q1800 qs56 q79 q1801) rfl rfl rfl (by decide +kernel) ⟨Nat.le_of_ble_eq_true rfl, Nat.le_of_ble_eq_true rfl⟩) (ga_NV hK hP hD (va_recv hK.1 hP (ci := 0) (q0 := 0) rfl rfl)) rfl rfl hl.1 rfl (lv_room (Nat.le_of_ble_eq_true rfl)) dX6_best_117 ⟨Nat.le_of_ble_eq_true rfl, Nat.le_of_ble_eq_true rfl⟩) hS (fun _ _ hq => hq) (fun _ hq => hq) (fun z_49 u t H locs ht _ w_50 hB _ _ hS => ?_)
          obtain ⟨rfl, rfl⟩ := w_50
          obtain ⟨hP, -, hD⟩ := hB
          rw [ht] at hP
          refine lv_istore (lv' := [(7, .int r_47.1), (6, .int x5), (0, .ref b), (1, .int x1), (2, .int x2), (3, .int x3), (4, .int x4), (5, .int x5)]) hx hb dX6_best_120 hl (by decide) rfl (fun ls hl => ?_)
          refine lv_iload hx hb dX6_best_122 (lv_at hl 0 rfl) ?_
          refine lv_iload hx hb dX6_best_124 (lv_at hl 6 rfl) ?_
          refine lv_icmp_le (tgt := 136) hx hb dX6_best_126 (by decide) (fun c_52 => ?_) (fun c_52 => ?_)
          · replace h := ga_ift c_52 h
            refine lv_iinc (v := (x5 + 1)) (lv' := [(5, .int (x5 + 1)), (7, .int r_47.1), (6, .int x5), (0, .ref b), (1, .int x1), (2, .int x2), (3, .int x3), (4, .int x4)]) hx hb dX6_best_136 hl (k := 7) rfl rfl (by decide) rfl (fun ls hl => ?_)
            refine lv_goto (tgt := 74) hx hb dX6_best_139 (by decide) ?_
            exact ih r_47.2.1 r_47.2.2 x3 x4 (x5 + 1) h _ _ hP hD hS _ (lv_sub hl [3, 4, 5, 6, 7, 0] rfl)
          · replace h := ga_iff c_52 h
            refine lv_iload hx hb dX6_best_129 (lv_at hl 1 rfl) ?_
            refine lv_istore_n (lv' := [(3, .int x5), (7, .int r_47.1), (6, .int x5), (0, .ref b), (1, .int x1), (2, .int x2), (4, .int x4), (5, .int x5)]) hx hb dX6_best_131 rfl hl (by decide) rfl (fun ls hl => ?_)
            refine lv_iload hx hb dX6_best_132 (lv_at hl 1 rfl) ?_
            refine lv_istore (lv' := [(4, .int r_47.1), (3, .int x5), (7, .int r_47.1), (6, .int x5), (0, .ref b), (1, .int x1), (2, .int x2), (5, .int x5)]) hx hb dX6_best_134 hl (by decide) rfl (fun ls hl => ?_)
            refine lv_iinc (v := (x5 + 1)) (lv' := [(5, .int (x5 + 1)), (4, .int r_47.1), (3, .int x5), (7, .int r_47.1), (6, .int x5), (0, .ref b), (1, .int x1), (2, .int x2)]) hx hb dX6_best_136 hl (k := 7) rfl rfl (by decide) rfl (fun ls hl => ?_)
            refine lv_goto (tgt := 74) hx hb dX6_best_139 (by decide) ?_
            exact ih r_47.2.1 r_47.2.2 x5 r_47.1 (x5 + 1) h _ _ hP hD hS _ (lv_sub hl [5, 6, 7, 2, 1, 0] rfl)
        · replace h := ga_ift c_46 h
          refine lv_goto (tgt := 136) hx hb dX6_best_109 (by decide) ?_
          refine lv_iinc (v := (x5 + 1)) (lv' := [(5, .int (x5 + 1)), (6, .int x5), (0, .ref b), (1, .int x1), (2, .int x2), (3, .int x3), (4, .int x4)]) hx hb dX6_best_136 hl (k := 6) rfl rfl (by decide) rfl (fun ls hl => ?_)
          refine lv_goto (tgt := 74) hx hb dX6_best_139 (by decide) ?_
          exact ih fi fa x3 x4 (x5 + 1) h _ _ hP hD hS _ (lv_sub hl [2, 3, 4, 5, 6, 0] rfl)
      · replace h := ga_ift c_40 h
        refine lv_iconst (v := (-1)) hx hb dX6_best_92 (by decide) ?_
        refine lv_goto (tgt := 98) hx hb dX6_best_93 (by decide) ?_
        refine lv_istore (lv' := [(6, .int (-1)), (0, .ref b), (1, .int x1), (2, .int x2), (3, .int x3), (4, .int x4), (5, .int x5)]) hx hb dX6_best_98 hl (by decide) rfl (fun ls hl => ?_)
        refine lv_aload_n hx hb dX6_best_100 rfl (lv_at hl 1 rfl) ?_
        refine lv_iload hx hb dX6_best_101 (lv_at hl 0 rfl) ?_
        obtain ⟨r_53, e_54, h⟩ := ga_gb h
        refine vp_callSi (W.runV (As := [.int (-1)]) (rest := []) ⟨hx, hb, hml, hown, hts⟩ (met_X6_mayChoose l D cA b fr fi fa N (-1) r_53 e_54) (cwV 1 hts (lw_V q1663 q1665 qs38 q79 q1666) rfl rfl rfl (by decide +kernel) ⟨Nat.le_of_ble_eq_true rfl, Nat.le_of_ble_eq_true rfl⟩) (ga_PV hK hP (va_recv hK.1 hP (ci := 0) (q0 := 0) rfl rfl)) rfl rfl hl.1 rfl (lv_room (Nat.le_of_ble_eq_true rfl)) dX6_best_103 ⟨Nat.le_of_ble_eq_true rfl, Nat.le_of_ble_eq_true rfl⟩) (fun z_55 w_56 => ?_)
        obtain ⟨rfl, b_57⟩ := w_56
        refine lv_if_ne (tgt := 112) hx hb dX6_best_106 (by decide) (fun c_58 => ?_) (fun c_58 => ?_)
        · replace h := ga_iff c_58 h
          refine lv_aload_n hx hb dX6_best_112 rfl (lv_at hl 1 rfl) ?_
          refine lv_iload_n hx hb dX6_best_113 rfl (lv_at hl 2 rfl) ?_
          refine lv_iload hx hb dX6_best_114 (lv_at hl 0 rfl) ?_
          refine lv_iload_n hx hb dX6_best_116 rfl (lv_at hl 3 rfl) ?_
          obtain ⟨r_59, e_60, h⟩ := ga_gb h
          refine va_calli (va_runV (As := [.int x1, .int (-1), .int x2]) (rest := []) ⟨hx, hb, hml, hown, hts⟩ (met_X6_guaranteed l D cA A b fr fi fa N x1 (-1) x2 r_59 e_60) (cwV 3 hts (lw_V q1798 q1800 qs56 q79 q1801) rfl rfl rfl (by decide +kernel) ⟨Nat.le_of_ble_eq_true rfl, Nat.le_of_ble_eq_true rfl⟩) (ga_NV hK hP hD (va_recv hK.1 hP (ci := 0) (q0 := 0) rfl rfl)) rfl rfl hl.1 rfl (lv_room (Nat.le_of_ble_eq_true rfl)) dX6_best_117 ⟨Nat.le_of_ble_eq_true rfl, Nat.le_of_ble_eq_true rfl⟩) hS (fun _ _ hq => hq) (fun _ hq => hq) (fun z_61 u t H locs ht _ w_62 hB _ _ hS => ?_)
          obtain ⟨rfl, rfl⟩ := w_62
          obtain ⟨hP, -, hD⟩ := hB
          rw [ht] at hP
          refine lv_istore (lv' := [(7, .int r_59.1), (6, .int (-1)), (0, .ref b), (1, .int x1), (2, .int x2), (3, .int x3), (4, .int x4), (5, .int x5)]) hx hb dX6_best_120 hl (by decide) rfl (fun ls hl => ?_)
          refine lv_iload hx hb dX6_best_122 (lv_at hl 0 rfl) ?_
          refine lv_iload hx hb dX6_best_124 (lv_at hl 6 rfl) ?_
          refine lv_icmp_le (tgt := 136) hx hb dX6_best_126 (by decide) (fun c_64 => ?_) (fun c_64 => ?_)
          · replace h := ga_ift c_64 h
            refine lv_iinc (v := (x5 + 1)) (lv' := [(5, .int (x5 + 1)), (7, .int r_59.1), (6, .int (-1)), (0, .ref b), (1, .int x1), (2, .int x2), (3, .int x3), (4, .int x4)]) hx hb dX6_best_136 hl (k := 7) rfl rfl (by decide) rfl (fun ls hl => ?_)
            refine lv_goto (tgt := 74) hx hb dX6_best_139 (by decide) ?_
            exact ih r_59.2.1 r_59.2.2 x3 x4 (x5 + 1) h _ _ hP hD hS _ (lv_sub hl [3, 4, 5, 6, 7, 0] rfl)
          · replace h := ga_iff c_64 h
            refine lv_iload hx hb dX6_best_129 (lv_at hl 1 rfl) ?_
            refine lv_istore_n (lv' := [(3, .int (-1)), (7, .int r_59.1), (6, .int (-1)), (0, .ref b), (1, .int x1), (2, .int x2), (4, .int x4), (5, .int x5)]) hx hb dX6_best_131 rfl hl (by decide) rfl (fun ls hl => ?_)
            refine lv_iload hx hb dX6_best_132 (lv_at hl 1 rfl) ?_
            refine lv_istore (lv' := [(4, .int r_59.1), (3, .int (-1)), (7, .int r_59.1), (6, .int (-1)), (0, .ref b), (1, .int x1), (2, .int x2), (5, .int x5)]) hx hb dX6_best_134 hl (by decide) rfl (fun ls hl => ?_)
            refine lv_iinc (v := (x5 + 1)) (lv' := [(5, .int (x5 + 1)), (4, .int r_59.1), (3, .int (-1)), (7, .int r_59.1), (6, .int (-1)), (0, .ref b), (1, .int x1), (2, .int x2)]) hx hb dX6_best_136 hl (k := 7) rfl rfl (by decide) rfl (fun ls hl => ?_)
            refine lv_goto (tgt := 74) hx hb dX6_best_139 (by decide) ?_
            exact ih r_59.2.1 r_59.2.2 (-1) r_59.1 (x5 + 1) h _ _ hP hD hS _ (lv_sub hl [5, 6, 7, 2, 1, 0] rfl)
        · replace h := ga_ift c_58 h
          refine lv_goto (tgt := 136) hx hb dX6_best_109 (by decide) ?_
          refine lv_iinc (v := (x5 + 1)) (lv' := [(5, .int (x5 + 1)), (6, .int (-1)), (0, .ref b), (1, .int x1), (2, .int x2), (3, .int x3), (4, .int x4)]) hx hb dX6_best_136 hl (k := 6) rfl rfl (by decide) rfl (fun ls hl => ?_)
          refine lv_goto (tgt := 74) hx hb dX6_best_139 (by decide) ?_
          exact ih fi fa x3 x4 (x5 + 1) h _ _ hP hD hS _ (lv_sub hl [2, 3, 4, 5, 6, 0] rfl)
def F_X6_best (N : Nat) (fi : Nat → Int32) (fa : Nat → Nat → Int32) (x1 : Int32) (x2 : Int32) : Option (Int32 × ga_MS) :=
  ((F_X6_isIn N x1 0 1).bind fun r_1 =>
  (if r_1 = 0 then
  some (0, (upd fi 0 1, fa))
  else
  ((F_X6_isIn N x2 1 2).bind fun r_7 =>
  (if r_7 = 0 then
  some (0, (upd fi 0 2, fa))
  else
  ((F_X6_over N fi fa).bind fun r_13 =>
  (if r_13 = 0 then
  (if x2 = 2 then
  ((F_X6_emptyCells N fi fa).bind fun r_22 =>
  (if r_22 ≤ 6 then
  lp_X6_best_74 N x1 x2 N (upd fi 0 0) fa (-1) (-2147483648) 0
  else
  some (0, (upd fi 0 3, fa))))
  else
  lp_X6_best_74 N x1 x2 N (upd fi 0 0) fa (-1) (-2147483648) 0)
  else
  some (0, (upd fi 0 3, fa))))))))
set_option maxHeartbeats 4000000 in
theorem met_X6_best (l : Launch) (D : va_G) (cA : Nat → ClassId) (A : Nat → Prop) (b : Nat) (fr : Nat → Nat) (fi : Nat → Int32) (fa : Nat → Nat → Int32) (N : Nat) (x1 : Int32) (x2 : Int32) (out : Int32 × ga_MS) (h : F_X6_best N fi fa x1 x2 = some out) : Met l yX6_best (ws_ yX6_best cX6_best 8 (some .int)) rm_X6_best (ga_N D cA A (mW b cA fr fi fa) [.ref b, .int x1, .int x2]) (va_Qi (fun (r : Int32) (u : ga_MS) => (out.1 = r) ∧ out.2 = u) (ga_MB D cA A b fr) A) 0 0 A := by
  refine Met.ofW (cc := cX6_best) (maxL := 8) (ret := (some .int)) (by decide) rfl ?_
  intro p e s m args below meth c s₁ B hml hv
  obtain ⟨rfl, hP, hK, hD⟩ := hv
  have hS : va_S A s.heap s.heap [] := va_S.rf
  have C : ga_cx p m c meth s _ RX6 cX6_best 8 (some .int) := ga_cx_of B hml
  have C0 := C
  obtain ⟨hx, hb, hr, hlocks, hml, hown, hts⟩ := C0
  have hl := lv_entry ([.ref b, .int x1, .int x2]) (n := 8) (Nat.le_of_ble_eq_true rfl)
  rw [lg_entry_eq]
  generalize (lg_sl ([.ref b, .int x1, .int x2]) ++ List.replicate (8 - (lg_sl ([.ref b, .int x1, .int x2])).length) Slot.unset).toArray = ls at hl ⊢
  have hl : lv_has ls 8 [(0, .ref b), (1, .int x1), (2, .int x2)] := hl
  rw [F_X6_best] at h
  refine lv_aload_n hx hb dX6_best_0 rfl (lv_at hl 0 rfl) ?_
  refine lv_iload_n hx hb dX6_best_1 rfl (lv_at hl 1 rfl) ?_
  refine lv_iconst (v := 0) hx hb dX6_best_2 (by decide) ?_
  refine lv_iconst (v := 1) hx hb dX6_best_3 (by decide) ?_
  obtain ⟨r_1, e_2, h⟩ := ga_gb h
  refine vp_callSi (W.runS (As := [.int x1, .int 0, .int 1]) (rest := [.ref b]) ⟨hx, hb, hml, hown, hts⟩ (met_X6_isIn l D cA N x1 0 1 r_1 e_2) (va_cwS 3 hts (lw_S q1620 q1621 q79 q1622) rfl rfl rfl (by decide +kernel) ⟨Nat.le_of_ble_eq_true rfl, Nat.le_of_ble_eq_true rfl⟩) (ga_PS hK ga_P0) rfl rfl hl.1 rfl (lv_room (Nat.le_of_ble_eq_true rfl)) dX6_best_4 ⟨Nat.le_of_ble_eq_true rfl, Nat.le_of_ble_eq_true rfl⟩) (fun z_3 w_4 => ?_)
  obtain ⟨rfl, b_5⟩ := w_4
  refine lv_if_ne (tgt := 14) hx hb dX6_best_7 (by decide) (fun c_6 => ?_) (fun c_6 => ?_)
  · replace h := ga_iff c_6 h
    refine lv_iload_n hx hb dX6_best_14 rfl (lv_at hl 2 rfl) ?_
    refine lv_iconst (v := 1) hx hb dX6_best_15 (by decide) ?_
    refine lv_iconst (v := 2) hx hb dX6_best_16 (by decide) ?_
    obtain ⟨r_7, e_8, h⟩ := ga_gb h
    refine vp_callSi (W.runS (As := [.int x2, .int 1, .int 2]) (rest := [.ref b]) ⟨hx, hb, hml, hown, hts⟩ (met_X6_isIn l D cA N x2 1 2 r_7 e_8) (va_cwS 3 hts (lw_S q1620 q1621 q79 q1622) rfl rfl rfl (by decide +kernel) ⟨Nat.le_of_ble_eq_true rfl, Nat.le_of_ble_eq_true rfl⟩) (ga_PS hK ga_P0) rfl rfl hl.1 rfl (lv_room (Nat.le_of_ble_eq_true rfl)) dX6_best_17 ⟨Nat.le_of_ble_eq_true rfl, Nat.le_of_ble_eq_true rfl⟩) (fun z_9 w_10 => ?_)
    obtain ⟨rfl, b_11⟩ := w_10
    refine lv_if_ne (tgt := 27) hx hb dX6_best_20 (by decide) (fun c_12 => ?_) (fun c_12 => ?_)
    · replace h := ga_iff c_12 h
      refine lv_aload_n hx hb dX6_best_27 rfl (lv_at hl 0 rfl) ?_
      obtain ⟨r_13, e_14, h⟩ := ga_gb h
      refine vp_callSi (W.runV (As := []) (rest := [.ref b]) ⟨hx, hb, hml, hown, hts⟩ (met_X6_over l D cA b fr fi fa N r_13 e_14) (cwV 0 hts (lw_V q1651 q1653 qs35 q79 q1654) rfl rfl rfl (by decide +kernel) ⟨Nat.le_of_ble_eq_true rfl, Nat.le_of_ble_eq_true rfl⟩) (ga_PV hK hP (va_recv hK.1 hP (ci := 0) (q0 := 0) rfl rfl)) rfl rfl hl.1 rfl (lv_room (Nat.le_of_ble_eq_true rfl)) dX6_best_28 ⟨Nat.le_of_ble_eq_true rfl, Nat.le_of_ble_eq_true rfl⟩) (fun z_15 w_16 => ?_)
      obtain ⟨rfl, b_17⟩ := w_16
      refine lv_if_ne (tgt := 48) hx hb dX6_best_31 (by decide) (fun c_18 => ?_) (fun c_18 => ?_)
      · replace h := ga_iff c_18 h
        refine lv_iconst (v := 3) hx hb dX6_best_48 (by decide) ?_
        refine lv_goto (tgt := 53) hx hb dX6_best_49 (by decide) ?_
        refine va_put hx hb hts in_X6 tyX6 tyX6_ok nmX6 hown hK.1 hP hD hS 0 (fs := mF fi fr) rfl rfl 0 (by decide) (hts _ q1512) (fun _ hh => hh) rfl (v := .int 3) rfl rfl rfl (mF_lt (by decide)) dX6_best_53 (fun H locs hP hD hS => ?_)
        rw [mS_0] at hP hD
        refine lv_aload_n hx hb dX6_best_56 rfl (lv_at hl 0 rfl) ?_
        refine va_get hx hb hts in_X6 hown hK.1 hP 0 (fs := mF (upd fi 0 3) fr) rfl rfl 0 (by decide) (hts _ q1512) (fun _ hh => hh) (v := .int 3) rfl dX6_best_57 ?_
        refine lv_if_le (tgt := 65) hx hb dX6_best_60 (by decide) (fun c_19 => absurd c_19 (by decide)) (fun _ => ?_)
        refine lv_iconst (v := 0) hx hb dX6_best_63 (by decide) ?_
        obtain rfl := Option.some.inj h
        exact W.iret hx hb hr (fun t ht hW => ⟨⟨_, _, rfl, ⟨rfl, rfl⟩, ⟨by rw [ht]; exact hP, hK.warm hW, hD⟩⟩, hS.F ht⟩) hS.2.2 dX6_best_64
      · replace h := ga_ift c_18 h
        refine lv_iload_n hx hb dX6_best_34 rfl (lv_at hl 2 rfl) ?_
        refine lv_iconst (v := 2) hx hb dX6_best_35 (by decide) ?_
        refine lv_icmp_ne (tgt := 52) hx hb dX6_best_36 (by decide) (fun c_20 => ?_) (fun c_20 => ?_)
        · replace h := ga_iff c_20 h
          refine lv_iconst (v := 0) hx hb dX6_best_52 (by decide) ?_
          refine va_put hx hb hts in_X6 tyX6 tyX6_ok nmX6 hown hK.1 hP hD hS 0 (fs := mF fi fr) rfl rfl 0 (by decide) (hts _ q1512) (fun _ hh => hh) rfl (v := .int 0) rfl rfl rfl (mF_lt (by decide)) dX6_best_53 (fun H locs hP hD hS => ?_)
          rw [mS_0] at hP hD
          refine lv_aload_n hx hb dX6_best_56 rfl (lv_at hl 0 rfl) ?_
          refine va_get hx hb hts in_X6 hown hK.1 hP 0 (fs := mF (upd fi 0 0) fr) rfl rfl 0 (by decide) (hts _ q1512) (fun _ hh => hh) (v := .int 0) rfl dX6_best_57 ?_
          refine lv_if_le (tgt := 65) hx hb dX6_best_60 (by decide) (fun _ => ?_) (fun c_21 => absurd (by decide) c_21)
          refine lv_iconst (v := (-1)) hx hb dX6_best_65 (by decide) ?_
          refine lv_istore_n (lv' := [(3, .int (-1)), (0, .ref b), (1, .int x1), (2, .int x2)]) hx hb dX6_best_66 rfl hl (by decide) rfl (fun ls hl => ?_)
          refine lv_ldc hx hb hown (hts _ q1826) dX6_best_67 ?_
          refine lv_istore (lv' := [(4, .int (-2147483648)), (3, .int (-1)), (0, .ref b), (1, .int x1), (2, .int x2)]) hx hb dX6_best_69 hl (by decide) rfl (fun ls hl => ?_)
          refine lv_iconst (v := 0) hx hb dX6_best_71 (by decide) ?_
          refine lv_istore (lv' := [(5, .int 0), (4, .int (-2147483648)), (3, .int (-1)), (0, .ref b), (1, .int x1), (2, .int x2)]) hx hb dX6_best_72 hl (by decide) rfl (fun ls hl => ?_)
          exact w_X6_best_74 C hK N (upd fi 0 0) fa (-1) (-2147483648) 0 h _ _ hP hD hS _ (lv_sub hl [3, 4, 5, 2, 1, 0] rfl)
        · replace h := ga_ift c_20 h
          refine lv_aload_n hx hb dX6_best_39 rfl (lv_at hl 0 rfl) ?_
          obtain ⟨r_22, e_23, h⟩ := ga_gb h
          refine vp_callSi (W.runV (As := []) (rest := [.ref b]) ⟨hx, hb, hml, hown, hts⟩ (met_X6_emptyCells l D cA b fr fi fa N r_22 e_23) (cwV 0 hts (lw_V q1655 q1657 qs36 q79 q1658) rfl rfl rfl (by decide +kernel) ⟨Nat.le_of_ble_eq_true rfl, Nat.le_of_ble_eq_true rfl⟩) (ga_PV hK hP (va_recv hK.1 hP (ci := 0) (q0 := 0) rfl rfl)) rfl rfl hl.1 rfl (lv_room (Nat.le_of_ble_eq_true rfl)) dX6_best_40 ⟨Nat.le_of_ble_eq_true rfl, Nat.le_of_ble_eq_true rfl⟩) (fun z_24 w_25 => ?_)
          obtain rfl := w_25
          refine lv_bipush (v := 6) hx hb dX6_best_43 (by decide) ?_
          refine lv_icmp_le (tgt := 52) hx hb dX6_best_45 (by decide) (fun c_26 => ?_) (fun c_26 => ?_)
          · replace h := ga_ift c_26 h
            refine lv_iconst (v := 0) hx hb dX6_best_52 (by decide) ?_
            refine va_put hx hb hts in_X6 tyX6 tyX6_ok nmX6 hown hK.1 hP hD hS 0 (fs := mF fi fr) rfl rfl 0 (by decide) (hts _ q1512) (fun _ hh => hh) rfl (v := .int 0) rfl rfl rfl (mF_lt (by decide)) dX6_best_53 (fun H locs hP hD hS => ?_)
            rw [mS_0] at hP hD
            refine lv_aload_n hx hb dX6_best_56 rfl (lv_at hl 0 rfl) ?_
            refine va_get hx hb hts in_X6 hown hK.1 hP 0 (fs := mF (upd fi 0 0) fr) rfl rfl 0 (by decide) (hts _ q1512) (fun _ hh => hh) (v := .int 0) rfl dX6_best_57 ?_
            refine lv_if_le (tgt := 65) hx hb dX6_best_60 (by decide) (fun _ => ?_) (fun c_27 => absurd (by decide) c_27)
            refine lv_iconst (v := (-1)) hx hb dX6_best_65 (by decide) ?_
            refine lv_istore_n (lv' := [(3, .int (-1)), (0, .ref b), (1, .int x1), (2, .int x2)]) hx hb dX6_best_66 rfl hl (by decide) rfl (fun ls hl => ?_)
            refine lv_ldc hx hb hown (hts _ q1826) dX6_best_67 ?_
            refine lv_istore (lv' := [(4, .int (-2147483648)), (3, .int (-1)), (0, .ref b), (1, .int x1), (2, .int x2)]) hx hb dX6_best_69 hl (by decide) rfl (fun ls hl => ?_)
            refine lv_iconst (v := 0) hx hb dX6_best_71 (by decide) ?_
            refine lv_istore (lv' := [(5, .int 0), (4, .int (-2147483648)), (3, .int (-1)), (0, .ref b), (1, .int x1), (2, .int x2)]) hx hb dX6_best_72 hl (by decide) rfl (fun ls hl => ?_)
            exact w_X6_best_74 C hK N (upd fi 0 0) fa (-1) (-2147483648) 0 h _ _ hP hD hS _ (lv_sub hl [3, 4, 5, 2, 1, 0] rfl)
          · replace h := ga_iff c_26 h
            refine lv_iconst (v := 3) hx hb dX6_best_48 (by decide) ?_
            refine lv_goto (tgt := 53) hx hb dX6_best_49 (by decide) ?_
            refine va_put hx hb hts in_X6 tyX6 tyX6_ok nmX6 hown hK.1 hP hD hS 0 (fs := mF fi fr) rfl rfl 0 (by decide) (hts _ q1512) (fun _ hh => hh) rfl (v := .int 3) rfl rfl rfl (mF_lt (by decide)) dX6_best_53 (fun H locs hP hD hS => ?_)
            rw [mS_0] at hP hD
            refine lv_aload_n hx hb dX6_best_56 rfl (lv_at hl 0 rfl) ?_
            refine va_get hx hb hts in_X6 hown hK.1 hP 0 (fs := mF (upd fi 0 3) fr) rfl rfl 0 (by decide) (hts _ q1512) (fun _ hh => hh) (v := .int 3) rfl dX6_best_57 ?_
            refine lv_if_le (tgt := 65) hx hb dX6_best_60 (by decide) (fun c_28 => absurd c_28 (by decide)) (fun _ => ?_)
            refine lv_iconst (v := 0) hx hb dX6_best_63 (by decide) ?_
            obtain rfl := Option.some.inj h
            exact W.iret hx hb hr (fun t ht hW => ⟨⟨_, _, rfl, ⟨rfl, rfl⟩, ⟨by rw [ht]; exact hP, hK.warm hW, hD⟩⟩, hS.F ht⟩) hS.2.2 dX6_best_64
    · replace h := ga_ift c_12 h
      refine lv_iconst (v := 2) hx hb dX6_best_23 (by decide) ?_
      refine lv_goto (tgt := 53) hx hb dX6_best_24 (by decide) ?_
      refine va_put hx hb hts in_X6 tyX6 tyX6_ok nmX6 hown hK.1 hP hD hS 0 (fs := mF fi fr) rfl rfl 0 (by decide) (hts _ q1512) (fun _ hh => hh) rfl (v := .int 2) rfl rfl rfl (mF_lt (by decide)) dX6_best_53 (fun H locs hP hD hS => ?_)
      rw [mS_0] at hP hD
      refine lv_aload_n hx hb dX6_best_56 rfl (lv_at hl 0 rfl) ?_
      refine va_get hx hb hts in_X6 hown hK.1 hP 0 (fs := mF (upd fi 0 2) fr) rfl rfl 0 (by decide) (hts _ q1512) (fun _ hh => hh) (v := .int 2) rfl dX6_best_57 ?_
      refine lv_if_le (tgt := 65) hx hb dX6_best_60 (by decide) (fun c_29 => absurd c_29 (by decide)) (fun _ => ?_)
      refine lv_iconst (v := 0) hx hb dX6_best_63 (by decide) ?_
      obtain rfl := Option.some.inj h
      exact W.iret hx hb hr (fun t ht hW => ⟨⟨_, _, rfl, ⟨rfl, rfl⟩, ⟨by rw [ht]; exact hP, hK.warm hW, hD⟩⟩, hS.F ht⟩) hS.2.2 dX6_best_64
  · replace h := ga_ift c_6 h
    refine lv_iconst (v := 1) hx hb dX6_best_10 (by decide) ?_
    refine lv_goto (tgt := 53) hx hb dX6_best_11 (by decide) ?_
    refine va_put hx hb hts in_X6 tyX6 tyX6_ok nmX6 hown hK.1 hP hD hS 0 (fs := mF fi fr) rfl rfl 0 (by decide) (hts _ q1512) (fun _ hh => hh) rfl (v := .int 1) rfl rfl rfl (mF_lt (by decide)) dX6_best_53 (fun H locs hP hD hS => ?_)
    rw [mS_0] at hP hD
    refine lv_aload_n hx hb dX6_best_56 rfl (lv_at hl 0 rfl) ?_
    refine va_get hx hb hts in_X6 hown hK.1 hP 0 (fs := mF (upd fi 0 1) fr) rfl rfl 0 (by decide) (hts _ q1512) (fun _ hh => hh) (v := .int 1) rfl dX6_best_57 ?_
    refine lv_if_le (tgt := 65) hx hb dX6_best_60 (by decide) (fun c_30 => absurd c_30 (by decide)) (fun _ => ?_)
    refine lv_iconst (v := 0) hx hb dX6_best_63 (by decide) ?_
    obtain rfl := Option.some.inj h
    exact W.iret hx hb hr (fun t ht hW => ⟨⟨_, _, rfl, ⟨rfl, rfl⟩, ⟨by rw [ht]; exact hP, hK.warm hW, hD⟩⟩, hS.F ht⟩) hS.2.2 dX6_best_64
abbrev rm_X6_levels : Room := { frames := 1, cells := 0, slots := 0, locals := 12 }
def F_X6_levels (N : Nat) (fi : Nat → Int32) (fa : Nat → Nat → Int32)  : Option (Int32 × ga_MS) :=
  some ((fi 27), (upd fi 0 0, fa))
set_option maxHeartbeats 4000000 in
theorem met_X6_levels (l : Launch) (D : va_G) (cA : Nat → ClassId) (A : Nat → Prop) (b : Nat) (fr : Nat → Nat) (fi : Nat → Int32) (fa : Nat → Nat → Int32) (N : Nat)  (out : Int32 × ga_MS) (h : F_X6_levels N fi fa = some out) : Met l yX6_levels (ws_ yX6_levels cX6_levels 1 (some .int)) rm_X6_levels (ga_N D cA A (mW b cA fr fi fa) [.ref b]) (va_Qi (fun (r : Int32) (u : ga_MS) => (out.1 = r) ∧ out.2 = u) (ga_MB D cA A b fr) A) 0 0 A := by
  refine Met.ofW (cc := cX6_levels) (maxL := 1) (ret := (some .int)) (by decide) rfl ?_
  intro p e s m args below meth c s₁ B hml hv
  obtain ⟨rfl, hP, hK, hD⟩ := hv
  have hS : va_S A s.heap s.heap [] := va_S.rf
  have C : ga_cx p m c meth s _ RX6 cX6_levels 1 (some .int) := ga_cx_of B hml
  have C0 := C
  obtain ⟨hx, hb, hr, hlocks, hml, hown, hts⟩ := C0
  have hl := lv_entry ([.ref b]) (n := 1) (Nat.le_of_ble_eq_true rfl)
  rw [lg_entry_eq]
  generalize (lg_sl ([.ref b]) ++ List.replicate (1 - (lg_sl ([.ref b])).length) Slot.unset).toArray = ls at hl ⊢
  have hl : lv_has ls 1 [(0, .ref b)] := hl
  rw [F_X6_levels] at h
  refine lv_aload_n hx hb dX6_levels_0 rfl (lv_at hl 0 rfl) ?_
  refine lv_iconst (v := 0) hx hb dX6_levels_1 (by decide) ?_
  refine va_put hx hb hts in_X6 tyX6 tyX6_ok nmX6 hown hK.1 hP hD hS 0 (fs := mF fi fr) rfl rfl 0 (by decide) (hts _ q1512) (fun _ hh => hh) rfl (v := .int 0) rfl rfl rfl (mF_lt (by decide)) dX6_levels_2 (fun H locs hP hD hS => ?_)
  rw [mS_0] at hP hD
  refine lv_aload_n hx hb dX6_levels_5 rfl (lv_at hl 0 rfl) ?_
  refine va_get hx hb hts in_X6 hown hK.1 hP 0 (fs := mF (upd fi 0 0) fr) rfl rfl 27 (by decide) (hts _ q1539) (fun _ hh => hh) (v := .int (fi 27)) rfl dX6_levels_6 ?_
  obtain rfl := Option.some.inj h
  exact W.iret hx hb hr (fun t ht hW => ⟨⟨_, _, rfl, ⟨rfl, rfl⟩, ⟨by rw [ht]; exact hP, hK.warm hW, hD⟩⟩, hS.F ht⟩) hS.2.2 dX6_levels_9
abbrev rm_X6_report : Room := { frames := 2, cells := 0, slots := 0, locals := 34 }
def F_X6_report (N : Nat) (fi : Nat → Int32) (fa : Nat → Nat → Int32) (x1 : Int32) (x2 : Int32) : Option (Int32 × ga_MS) :=
  ((F_X6_isIn N x1 0 ((fi 27) - 1)).bind fun r_1 =>
  (if r_1 = 0 then
  some (0, (upd fi 0 1, fa))
  else
  ((F_X6_isIn N x2 0 1).bind fun r_7 =>
  (if r_7 = 0 then
  some (0, (upd fi 0 2, fa))
  else
  (if x2 = 0 then
  (if inb x1 4 = true then
  some ((fa 25 (ix x1)), (upd fi 0 0, fa))
  else none)
  else
  (if inb x1 4 = true then
  some ((fa 26 (ix x1)), (upd fi 0 0, fa))
  else none))))))
set_option maxHeartbeats 4000000 in
theorem met_X6_report (l : Launch) (D : va_G) (cA : Nat → ClassId) (A : Nat → Prop) (b : Nat) (fr : Nat → Nat) (fi : Nat → Int32) (fa : Nat → Nat → Int32) (N : Nat) (x1 : Int32) (x2 : Int32) (out : Int32 × ga_MS) (h : F_X6_report N fi fa x1 x2 = some out) : Met l yX6_report (ws_ yX6_report cX6_report 3 (some .int)) rm_X6_report (ga_N D cA A (mW b cA fr fi fa) [.ref b, .int x1, .int x2]) (va_Qi (fun (r : Int32) (u : ga_MS) => (out.1 = r) ∧ out.2 = u) (ga_MB D cA A b fr) A) 0 0 A := by
  refine Met.ofW (cc := cX6_report) (maxL := 3) (ret := (some .int)) (by decide) rfl ?_
  intro p e s m args below meth c s₁ B hml hv
  obtain ⟨rfl, hP, hK, hD⟩ := hv
  have hS : va_S A s.heap s.heap [] := va_S.rf
  have C : ga_cx p m c meth s _ RX6 cX6_report 3 (some .int) := ga_cx_of B hml
  have C0 := C
  obtain ⟨hx, hb, hr, hlocks, hml, hown, hts⟩ := C0
  have hl := lv_entry ([.ref b, .int x1, .int x2]) (n := 3) (Nat.le_of_ble_eq_true rfl)
  rw [lg_entry_eq]
  generalize (lg_sl ([.ref b, .int x1, .int x2]) ++ List.replicate (3 - (lg_sl ([.ref b, .int x1, .int x2])).length) Slot.unset).toArray = ls at hl ⊢
  have hl : lv_has ls 3 [(0, .ref b), (1, .int x1), (2, .int x2)] := hl
  rw [F_X6_report] at h
  refine lv_aload_n hx hb dX6_report_0 rfl (lv_at hl 0 rfl) ?_
  refine lv_iload_n hx hb dX6_report_1 rfl (lv_at hl 1 rfl) ?_
  refine lv_iconst (v := 0) hx hb dX6_report_2 (by decide) ?_
  refine lv_aload_n hx hb dX6_report_3 rfl (lv_at hl 0 rfl) ?_
  refine va_get hx hb hts in_X6 hown hK.1 hP 0 (fs := mF fi fr) rfl rfl 27 (by decide) (hts _ q1539) (fun _ hh => hh) (v := .int (fi 27)) rfl dX6_report_4 ?_
  refine lv_iconst (v := 1) hx hb dX6_report_7 (by decide) ?_
  refine lv_isub hx hb dX6_report_8 ?_
  obtain ⟨r_1, e_2, h⟩ := ga_gb h
  refine vp_callSi (W.runS (As := [.int x1, .int 0, .int ((fi 27) - 1)]) (rest := [.ref b]) ⟨hx, hb, hml, hown, hts⟩ (met_X6_isIn l D cA N x1 0 ((fi 27) - 1) r_1 e_2) (va_cwS 3 hts (lw_S q1620 q1621 q79 q1622) rfl rfl rfl (by decide +kernel) ⟨Nat.le_of_ble_eq_true rfl, Nat.le_of_ble_eq_true rfl⟩) (ga_PS hK ga_P0) rfl rfl hl.1 rfl (lv_room (Nat.le_of_ble_eq_true rfl)) dX6_report_9 ⟨Nat.le_of_ble_eq_true rfl, Nat.le_of_ble_eq_true rfl⟩) (fun z_3 w_4 => ?_)
  obtain ⟨rfl, b_5⟩ := w_4
  refine lv_if_ne (tgt := 19) hx hb dX6_report_12 (by decide) (fun c_6 => ?_) (fun c_6 => ?_)
  · replace h := ga_iff c_6 h
    refine lv_iload_n hx hb dX6_report_19 rfl (lv_at hl 2 rfl) ?_
    refine lv_iconst (v := 0) hx hb dX6_report_20 (by decide) ?_
    refine lv_iconst (v := 1) hx hb dX6_report_21 (by decide) ?_
    obtain ⟨r_7, e_8, h⟩ := ga_gb h
    refine vp_callSi (W.runS (As := [.int x2, .int 0, .int 1]) (rest := [.ref b]) ⟨hx, hb, hml, hown, hts⟩ (met_X6_isIn l D cA N x2 0 1 r_7 e_8) (va_cwS 3 hts (lw_S q1620 q1621 q79 q1622) rfl rfl rfl (by decide +kernel) ⟨Nat.le_of_ble_eq_true rfl, Nat.le_of_ble_eq_true rfl⟩) (ga_PS hK ga_P0) rfl rfl hl.1 rfl (lv_room (Nat.le_of_ble_eq_true rfl)) dX6_report_22 ⟨Nat.le_of_ble_eq_true rfl, Nat.le_of_ble_eq_true rfl⟩) (fun z_9 w_10 => ?_)
    obtain ⟨rfl, b_11⟩ := w_10
    refine lv_if_ne (tgt := 32) hx hb dX6_report_25 (by decide) (fun c_12 => ?_) (fun c_12 => ?_)
    · replace h := ga_iff c_12 h
      refine lv_iconst (v := 0) hx hb dX6_report_32 (by decide) ?_
      refine va_put hx hb hts in_X6 tyX6 tyX6_ok nmX6 hown hK.1 hP hD hS 0 (fs := mF fi fr) rfl rfl 0 (by decide) (hts _ q1512) (fun _ hh => hh) rfl (v := .int 0) rfl rfl rfl (mF_lt (by decide)) dX6_report_33 (fun H locs hP hD hS => ?_)
      rw [mS_0] at hP hD
      refine lv_aload_n hx hb dX6_report_36 rfl (lv_at hl 0 rfl) ?_
      refine va_get hx hb hts in_X6 hown hK.1 hP 0 (fs := mF (upd fi 0 0) fr) rfl rfl 0 (by decide) (hts _ q1512) (fun _ hh => hh) (v := .int 0) rfl dX6_report_37 ?_
      refine lv_if_le (tgt := 47) hx hb dX6_report_40 (by decide) (fun _ => ?_) (fun c_13 => absurd (by decide) c_13)
      refine lv_iload_n hx hb dX6_report_47 rfl (lv_at hl 2 rfl) ?_
      refine lv_if_ne (tgt := 60) hx hb dX6_report_48 (by decide) (fun c_14 => ?_) (fun c_14 => ?_)
      · replace h := ga_iff c_14 h
        refine lv_aload_n hx hb dX6_report_60 rfl (lv_at hl 0 rfl) ?_
        refine va_get hx hb hts in_X6 hown hK.1 hP 0 (fs := mF (upd fi 0 0) fr) rfl rfl 26 (by decide) (hts _ q1538) (fun _ hh => hh) (v := .ref (fr 26)) rfl dX6_report_61 ?_
        refine lv_iload_n hx hb dX6_report_64 rfl (lv_at hl 1 rfl) ?_
        obtain ⟨i_15, h⟩ := ga_gif h
        refine va_iald hx hb hK.1 hP 16 0 (f := fa 26) rfl rfl (ga_in i_15) dX6_report_65 ?_
        obtain rfl := Option.some.inj h
        exact W.iret hx hb hr (fun t ht hW => ⟨⟨_, _, rfl, ⟨rfl, rfl⟩, ⟨by rw [ht]; exact hP, hK.warm hW, hD⟩⟩, hS.F ht⟩) hS.2.2 dX6_report_66
      · replace h := ga_ift c_14 h
        refine lv_aload_n hx hb dX6_report_51 rfl (lv_at hl 0 rfl) ?_
        refine va_get hx hb hts in_X6 hown hK.1 hP 0 (fs := mF (upd fi 0 0) fr) rfl rfl 25 (by decide) (hts _ q1537) (fun _ hh => hh) (v := .ref (fr 25)) rfl dX6_report_52 ?_
        refine lv_iload_n hx hb dX6_report_55 rfl (lv_at hl 1 rfl) ?_
        obtain ⟨i_16, h⟩ := ga_gif h
        refine va_iald hx hb hK.1 hP 15 0 (f := fa 25) rfl rfl (ga_in i_16) dX6_report_56 ?_
        refine lv_goto (tgt := 66) hx hb dX6_report_57 (by decide) ?_
        obtain rfl := Option.some.inj h
        exact W.iret hx hb hr (fun t ht hW => ⟨⟨_, _, rfl, ⟨rfl, rfl⟩, ⟨by rw [ht]; exact hP, hK.warm hW, hD⟩⟩, hS.F ht⟩) hS.2.2 dX6_report_66
    · replace h := ga_ift c_12 h
      refine lv_iconst (v := 2) hx hb dX6_report_28 (by decide) ?_
      refine lv_goto (tgt := 33) hx hb dX6_report_29 (by decide) ?_
      refine va_put hx hb hts in_X6 tyX6 tyX6_ok nmX6 hown hK.1 hP hD hS 0 (fs := mF fi fr) rfl rfl 0 (by decide) (hts _ q1512) (fun _ hh => hh) rfl (v := .int 2) rfl rfl rfl (mF_lt (by decide)) dX6_report_33 (fun H locs hP hD hS => ?_)
      rw [mS_0] at hP hD
      refine lv_aload_n hx hb dX6_report_36 rfl (lv_at hl 0 rfl) ?_
      refine va_get hx hb hts in_X6 hown hK.1 hP 0 (fs := mF (upd fi 0 2) fr) rfl rfl 0 (by decide) (hts _ q1512) (fun _ hh => hh) (v := .int 2) rfl dX6_report_37 ?_
      refine lv_if_le (tgt := 47) hx hb dX6_report_40 (by decide) (fun c_17 => absurd c_17 (by decide)) (fun _ => ?_)
      refine lv_iconst (v := 0) hx hb dX6_report_43 (by decide) ?_
      refine lv_goto (tgt := 66) hx hb dX6_report_44 (by decide) ?_
      obtain rfl := Option.some.inj h
      exact W.iret hx hb hr (fun t ht hW => ⟨⟨_, _, rfl, ⟨rfl, rfl⟩, ⟨by rw [ht]; exact hP, hK.warm hW, hD⟩⟩, hS.F ht⟩) hS.2.2 dX6_report_66
  · replace h := ga_ift c_6 h
    refine lv_iconst (v := 1) hx hb dX6_report_15 (by decide) ?_
    refine lv_goto (tgt := 33) hx hb dX6_report_16 (by decide) ?_
    refine va_put hx hb hts in_X6 tyX6 tyX6_ok nmX6 hown hK.1 hP hD hS 0 (fs := mF fi fr) rfl rfl 0 (by decide) (hts _ q1512) (fun _ hh => hh) rfl (v := .int 1) rfl rfl rfl (mF_lt (by decide)) dX6_report_33 (fun H locs hP hD hS => ?_)
    rw [mS_0] at hP hD
    refine lv_aload_n hx hb dX6_report_36 rfl (lv_at hl 0 rfl) ?_
    refine va_get hx hb hts in_X6 hown hK.1 hP 0 (fs := mF (upd fi 0 1) fr) rfl rfl 0 (by decide) (hts _ q1512) (fun _ hh => hh) (v := .int 1) rfl dX6_report_37 ?_
    refine lv_if_le (tgt := 47) hx hb dX6_report_40 (by decide) (fun c_18 => absurd c_18 (by decide)) (fun _ => ?_)
    refine lv_iconst (v := 0) hx hb dX6_report_43 (by decide) ?_
    refine lv_goto (tgt := 66) hx hb dX6_report_44 (by decide) ?_
    obtain rfl := Option.some.inj h
    exact W.iret hx hb hr (fun t ht hW => ⟨⟨_, _, rfl, ⟨rfl, rfl⟩, ⟨by rw [ht]; exact hP, hK.warm hW, hD⟩⟩, hS.F ht⟩) hS.2.2 dX6_report_66
abbrev rm_X6_feed : Room := { frames := 1, cells := 0, slots := 0, locals := 12 }
def F_X6_feed (N : Nat) (fi : Nat → Int32) (fa : Nat → Nat → Int32) (x1 : Int32) : Option (Int32 × ga_MS) :=
  (if (fi 29) = 80 then
  some (0, (upd fi 0 1, fa))
  else
  (if inb (fi 29) 80 = true then
  some (((fi 29) + 1), (upd (upd fi 0 0) 29 ((fi 29) + 1), va_up fa 28 (upd (fa 28) (ix (fi 29)) (vp_nar .char x1))))
  else none))
set_option maxHeartbeats 4000000 in
theorem met_X6_feed (l : Launch) (D : va_G) (cA : Nat → ClassId) (A : Nat → Prop) (b : Nat) (fr : Nat → Nat) (fi : Nat → Int32) (fa : Nat → Nat → Int32) (N : Nat) (x1 : Int32) (out : Int32 × ga_MS) (h : F_X6_feed N fi fa x1 = some out) : Met l yX6_feed (ws_ yX6_feed cX6_feed 2 (some .int)) rm_X6_feed (ga_N D cA A (mW b cA fr fi fa) [.ref b, .int x1]) (va_Qi (fun (r : Int32) (u : ga_MS) => (out.1 = r) ∧ out.2 = u) (ga_MB D cA A b fr) A) 0 0 A := by
  refine Met.ofW (cc := cX6_feed) (maxL := 2) (ret := (some .int)) (by decide) rfl ?_
  intro p e s m args below meth c s₁ B hml hv
  obtain ⟨rfl, hP, hK, hD⟩ := hv
  have hS : va_S A s.heap s.heap [] := va_S.rf
  have C : ga_cx p m c meth s _ RX6 cX6_feed 2 (some .int) := ga_cx_of B hml
  have C0 := C
  obtain ⟨hx, hb, hr, hlocks, hml, hown, hts⟩ := C0
  have hl := lv_entry ([.ref b, .int x1]) (n := 2) (Nat.le_of_ble_eq_true rfl)
  rw [lg_entry_eq]
  generalize (lg_sl ([.ref b, .int x1]) ++ List.replicate (2 - (lg_sl ([.ref b, .int x1])).length) Slot.unset).toArray = ls at hl ⊢
  have hl : lv_has ls 2 [(0, .ref b), (1, .int x1)] := hl
  rw [F_X6_feed] at h
  refine lv_aload_n hx hb dX6_feed_0 rfl (lv_at hl 0 rfl) ?_
  refine lv_aload_n hx hb dX6_feed_1 rfl (lv_at hl 0 rfl) ?_
  refine va_get hx hb hts in_X6 hown hK.1 hP 0 (fs := mF fi fr) rfl rfl 29 (by decide) (hts _ q1541) (fun _ hh => hh) (v := .int (fi 29)) rfl dX6_feed_2 ?_
  refine lv_bipush (v := 80) hx hb dX6_feed_5 (by decide) ?_
  refine lv_icmp_ne (tgt := 14) hx hb dX6_feed_7 (by decide) (fun c_1 => ?_) (fun c_1 => ?_)
  · replace h := ga_iff c_1 h
    refine lv_iconst (v := 0) hx hb dX6_feed_14 (by decide) ?_
    refine va_put hx hb hts in_X6 tyX6 tyX6_ok nmX6 hown hK.1 hP hD hS 0 (fs := mF fi fr) rfl rfl 0 (by decide) (hts _ q1512) (fun _ hh => hh) rfl (v := .int 0) rfl rfl rfl (mF_lt (by decide)) dX6_feed_15 (fun H locs hP hD hS => ?_)
    rw [mS_0] at hP hD
    refine lv_aload_n hx hb dX6_feed_18 rfl (lv_at hl 0 rfl) ?_
    refine va_get hx hb hts in_X6 hown hK.1 hP 0 (fs := mF (upd fi 0 0) fr) rfl rfl 0 (by decide) (hts _ q1512) (fun _ hh => hh) (v := .int 0) rfl dX6_feed_19 ?_
    refine lv_iconst (v := 1) hx hb dX6_feed_22 (by decide) ?_
    refine lv_icmp_ne (tgt := 28) hx hb dX6_feed_23 (by decide) (fun _ => ?_) (fun c_2 => absurd c_2 (by decide))
    refine lv_aload_n hx hb dX6_feed_28 rfl (lv_at hl 0 rfl) ?_
    refine va_get hx hb hts in_X6 hown hK.1 hP 0 (fs := mF (upd fi 0 0) fr) rfl rfl 28 (by decide) (hts _ q1540) (fun _ hh => hh) (v := .ref (fr 28)) rfl dX6_feed_29 ?_
    refine lv_aload_n hx hb dX6_feed_32 rfl (lv_at hl 0 rfl) ?_
    refine va_get hx hb hts in_X6 hown hK.1 hP 0 (fs := mF (upd fi 0 0) fr) rfl rfl 29 (by decide) (hts _ q1541) (fun _ hh => hh) (v := .int (fi 29)) rfl dX6_feed_33 ?_
    refine lv_iload_n hx hb dX6_feed_36 rfl (lv_at hl 1 rfl) ?_
    obtain ⟨i_3, h⟩ := ga_gif h
    refine va_cast hx hb hK.1 hP hD hS 17 2 (f := fa 28) rfl rfl (ga_in i_3) dX6_feed_37 (fun H locs hP hD hS => ?_)
    replace hP := ga_cg (mA_28 b cA fr (upd fi 0 0) fa (upd (fa 28) (ix (fi 29)) (vp_nar .char x1))) hP
    replace hD := ga_cd (mA_28 b cA fr (upd fi 0 0) fa (upd (fa 28) (ix (fi 29)) (vp_nar .char x1))) hD
    refine lv_aload_n hx hb dX6_feed_38 rfl (lv_at hl 0 rfl) ?_
    refine lv_dup hx hb dX6_feed_39 rfl ?_
    refine va_get hx hb hts in_X6 hown hK.1 hP 0 (fs := mF (upd fi 0 0) fr) rfl rfl 29 (by decide) (hts _ q1541) (fun _ hh => hh) (v := .int (fi 29)) rfl dX6_feed_40 ?_
    refine lv_iconst (v := 1) hx hb dX6_feed_43 (by decide) ?_
    refine lv_iadd hx hb dX6_feed_44 ?_
    refine va_put hx hb hts in_X6 tyX6 tyX6_ok nmX6 hown hK.1 hP hD hS 0 (fs := mF (upd fi 0 0) fr) rfl rfl 29 (by decide) (hts _ q1541) (fun _ hh => hh) rfl (v := .int ((fi 29) + 1)) rfl rfl rfl (mF_lt (by decide)) dX6_feed_45 (fun H locs hP hD hS => ?_)
    rw [mS_29] at hP hD
    refine lv_aload_n hx hb dX6_feed_48 rfl (lv_at hl 0 rfl) ?_
    refine va_get hx hb hts in_X6 hown hK.1 hP 0 (fs := mF (upd (upd fi 0 0) 29 ((fi 29) + 1)) fr) rfl rfl 29 (by decide) (hts _ q1541) (fun _ hh => hh) (v := .int ((fi 29) + 1)) rfl dX6_feed_49 ?_
    obtain rfl := Option.some.inj h
    exact W.iret hx hb hr (fun t ht hW => ⟨⟨_, _, rfl, ⟨rfl, rfl⟩, ⟨by rw [ht]; exact hP, hK.warm hW, hD⟩⟩, hS.F ht⟩) hS.2.2 dX6_feed_52
  · replace h := ga_ift c_1 h
    refine lv_iconst (v := 1) hx hb dX6_feed_10 (by decide) ?_
    refine lv_goto (tgt := 15) hx hb dX6_feed_11 (by decide) ?_
    refine va_put hx hb hts in_X6 tyX6 tyX6_ok nmX6 hown hK.1 hP hD hS 0 (fs := mF fi fr) rfl rfl 0 (by decide) (hts _ q1512) (fun _ hh => hh) rfl (v := .int 1) rfl rfl rfl (mF_lt (by decide)) dX6_feed_15 (fun H locs hP hD hS => ?_)
    rw [mS_0] at hP hD
    refine lv_aload_n hx hb dX6_feed_18 rfl (lv_at hl 0 rfl) ?_
    refine va_get hx hb hts in_X6 hown hK.1 hP 0 (fs := mF (upd fi 0 1) fr) rfl rfl 0 (by decide) (hts _ q1512) (fun _ hh => hh) (v := .int 1) rfl dX6_feed_19 ?_
    refine lv_iconst (v := 1) hx hb dX6_feed_22 (by decide) ?_
    refine lv_icmp_ne (tgt := 28) hx hb dX6_feed_23 (by decide) (fun c_4 => absurd (by decide) c_4) (fun _ => ?_)
    refine lv_iconst (v := 0) hx hb dX6_feed_26 (by decide) ?_
    obtain rfl := Option.some.inj h
    exact W.iret hx hb hr (fun t ht hW => ⟨⟨_, _, rfl, ⟨rfl, rfl⟩, ⟨by rw [ht]; exact hP, hK.warm hW, hD⟩⟩, hS.F ht⟩) hS.2.2 dX6_feed_27
abbrev rm_X6_choice : Room := { frames := 2, cells := 0, slots := 0, locals := 34 }
def F_X6_choice (N : Nat) (fi : Nat → Int32) (fa : Nat → Nat → Int32)  : Option (Int32 × ga_MS) :=
  ((F_X6_isHere N fi fa 45 45).bind fun r_1 =>
  (if r_1 = 0 then
  ((F_X6_isHere N fi fa 97 (ji2c ((97 + (fi 1)) - 1))).bind fun r_7 =>
  (if r_7 = 0 then
  some ((-2), (fi, fa))
  else
  (if inb (fi 30) 80 = true then
  ((F_X6_isHere N (upd fi 30 ((fi 30) + 1)) fa 49 (ji2c (48 + (fi 2)))).bind fun r_14 =>
  (if r_14 = 0 then
  some ((-2), (upd fi 30 ((fi 30) + 1), fa))
  else
  (if inb ((fi 30) + 1) 80 = true then
  some (((((fa 28 (ix ((fi 30) + 1))) - 49) * (fi 1)) + ((fa 28 (ix (fi 30))) - 97)), (upd (upd fi 30 ((fi 30) + 1)) 30 (((fi 30) + 1) + 1), fa))
  else none)))
  else none)))
  else
  some ((-1), (upd fi 30 ((fi 30) + 1), fa))))
set_option maxHeartbeats 4000000 in
theorem met_X6_choice (l : Launch) (D : va_G) (cA : Nat → ClassId) (A : Nat → Prop) (b : Nat) (fr : Nat → Nat) (fi : Nat → Int32) (fa : Nat → Nat → Int32) (N : Nat)  (out : Int32 × ga_MS) (h : F_X6_choice N fi fa = some out) : Met l yX6_choice (ws_ yX6_choice cX6_choice 3 (some .int)) rm_X6_choice (ga_N D cA A (mW b cA fr fi fa) [.ref b]) (va_Qi (fun (r : Int32) (u : ga_MS) => (out.1 = r) ∧ out.2 = u) (ga_MB D cA A b fr) A) 0 0 A := by
  refine Met.ofW (cc := cX6_choice) (maxL := 3) (ret := (some .int)) (by decide) rfl ?_
  intro p e s m args below meth c s₁ B hml hv
  obtain ⟨rfl, hP, hK, hD⟩ := hv
  have hS : va_S A s.heap s.heap [] := va_S.rf
  have C : ga_cx p m c meth s _ RX6 cX6_choice 3 (some .int) := ga_cx_of B hml
  have C0 := C
  obtain ⟨hx, hb, hr, hlocks, hml, hown, hts⟩ := C0
  have hl := lv_entry ([.ref b]) (n := 3) (Nat.le_of_ble_eq_true rfl)
  rw [lg_entry_eq]
  generalize (lg_sl ([.ref b]) ++ List.replicate (3 - (lg_sl ([.ref b])).length) Slot.unset).toArray = ls at hl ⊢
  have hl : lv_has ls 3 [(0, .ref b)] := hl
  rw [F_X6_choice] at h
  refine lv_aload_n hx hb dX6_choice_0 rfl (lv_at hl 0 rfl) ?_
  refine lv_bipush (v := 45) hx hb dX6_choice_1 (by decide) ?_
  refine lv_bipush (v := 45) hx hb dX6_choice_3 (by decide) ?_
  obtain ⟨r_1, e_2, h⟩ := ga_gb h
  refine vp_callSi (W.runV (As := [.int 45, .int 45]) (rest := []) ⟨hx, hb, hml, hown, hts⟩ (met_X6_isHere l D cA b fr fi fa N 45 45 r_1 e_2) (cwV 2 hts (lw_V q1855 q1857 qs64 q79 q1858) rfl rfl rfl (by decide +kernel) ⟨Nat.le_of_ble_eq_true rfl, Nat.le_of_ble_eq_true rfl⟩) (ga_PV hK hP (va_recv hK.1 hP (ci := 0) (q0 := 0) rfl rfl)) rfl rfl hl.1 rfl (lv_room (Nat.le_of_ble_eq_true rfl)) dX6_choice_5 ⟨Nat.le_of_ble_eq_true rfl, Nat.le_of_ble_eq_true rfl⟩) (fun z_3 w_4 => ?_)
  obtain ⟨rfl, b_5⟩ := w_4
  refine lv_if_eq (tgt := 23) hx hb dX6_choice_8 (by decide) (fun c_6 => ?_) (fun c_6 => ?_)
  · replace h := ga_ift c_6 h
    refine lv_aload_n hx hb dX6_choice_23 rfl (lv_at hl 0 rfl) ?_
    refine lv_bipush (v := 97) hx hb dX6_choice_24 (by decide) ?_
    refine lv_bipush (v := 97) hx hb dX6_choice_26 (by decide) ?_
    refine lv_aload_n hx hb dX6_choice_28 rfl (lv_at hl 0 rfl) ?_
    refine va_get hx hb hts in_X6 hown hK.1 hP 0 (fs := mF fi fr) rfl rfl 1 (by decide) (hts _ q1513) (fun _ hh => hh) (v := .int (fi 1)) rfl dX6_choice_29 ?_
    refine lv_iadd hx hb dX6_choice_32 ?_
    refine lv_iconst (v := 1) hx hb dX6_choice_33 (by decide) ?_
    refine lv_isub hx hb dX6_choice_34 ?_
    refine lv_i2c (v := (ji2c ((97 + (fi 1)) - 1))) hx hb dX6_choice_35 rfl ?_
    obtain ⟨r_7, e_8, h⟩ := ga_gb h
    refine vp_callSi (W.runV (As := [.int 97, .int (ji2c ((97 + (fi 1)) - 1))]) (rest := []) ⟨hx, hb, hml, hown, hts⟩ (met_X6_isHere l D cA b fr fi fa N 97 (ji2c ((97 + (fi 1)) - 1)) r_7 e_8) (cwV 2 hts (lw_V q1855 q1857 qs64 q79 q1858) rfl rfl rfl (by decide +kernel) ⟨Nat.le_of_ble_eq_true rfl, Nat.le_of_ble_eq_true rfl⟩) (ga_PV hK hP (va_recv hK.1 hP (ci := 0) (q0 := 0) rfl rfl)) rfl rfl hl.1 rfl (lv_room (Nat.le_of_ble_eq_true rfl)) dX6_choice_36 ⟨Nat.le_of_ble_eq_true rfl, Nat.le_of_ble_eq_true rfl⟩) (fun z_9 w_10 => ?_)
    obtain ⟨rfl, b_11⟩ := w_10
    refine lv_if_ne (tgt := 45) hx hb dX6_choice_39 (by decide) (fun c_12 => ?_) (fun c_12 => ?_)
    · replace h := ga_iff c_12 h
      refine lv_aload_n hx hb dX6_choice_45 rfl (lv_at hl 0 rfl) ?_
      refine va_get hx hb hts in_X6 hown hK.1 hP 0 (fs := mF fi fr) rfl rfl 28 (by decide) (hts _ q1540) (fun _ hh => hh) (v := .ref (fr 28)) rfl dX6_choice_46 ?_
      refine lv_aload_n hx hb dX6_choice_49 rfl (lv_at hl 0 rfl) ?_
      refine va_get hx hb hts in_X6 hown hK.1 hP 0 (fs := mF fi fr) rfl rfl 30 (by decide) (hts _ q1542) (fun _ hh => hh) (v := .int (fi 30)) rfl dX6_choice_50 ?_
      obtain ⟨i_13, h⟩ := ga_gif h
      refine va_cald hx hb hK.1 hP 17 2 (f := fa 28) rfl rfl (ga_in i_13) dX6_choice_53 ?_
      refine lv_bipush (v := 97) hx hb dX6_choice_54 (by decide) ?_
      refine lv_isub hx hb dX6_choice_56 ?_
      refine lv_istore_n (lv' := [(1, .int ((fa 28 (ix (fi 30))) - 97)), (0, .ref b)]) hx hb dX6_choice_57 rfl hl (by decide) rfl (fun ls hl => ?_)
      refine lv_aload_n hx hb dX6_choice_58 rfl (lv_at hl 1 rfl) ?_
      refine lv_dup hx hb dX6_choice_59 rfl ?_
      refine va_get hx hb hts in_X6 hown hK.1 hP 0 (fs := mF fi fr) rfl rfl 30 (by decide) (hts _ q1542) (fun _ hh => hh) (v := .int (fi 30)) rfl dX6_choice_60 ?_
      refine lv_iconst (v := 1) hx hb dX6_choice_63 (by decide) ?_
      refine lv_iadd hx hb dX6_choice_64 ?_
      refine va_put hx hb hts in_X6 tyX6 tyX6_ok nmX6 hown hK.1 hP hD hS 0 (fs := mF fi fr) rfl rfl 30 (by decide) (hts _ q1542) (fun _ hh => hh) rfl (v := .int ((fi 30) + 1)) rfl rfl rfl (mF_lt (by decide)) dX6_choice_65 (fun H locs hP hD hS => ?_)
      rw [mS_30] at hP hD
      refine lv_aload_n hx hb dX6_choice_68 rfl (lv_at hl 1 rfl) ?_
      refine lv_bipush (v := 49) hx hb dX6_choice_69 (by decide) ?_
      refine lv_bipush (v := 48) hx hb dX6_choice_71 (by decide) ?_
      refine lv_aload_n hx hb dX6_choice_73 rfl (lv_at hl 1 rfl) ?_
      refine va_get hx hb hts in_X6 hown hK.1 hP 0 (fs := mF (upd fi 30 ((fi 30) + 1)) fr) rfl rfl 2 (by decide) (hts _ q1514) (fun _ hh => hh) (v := .int (fi 2)) rfl dX6_choice_74 ?_
      refine lv_iadd hx hb dX6_choice_77 ?_
      refine lv_i2c (v := (ji2c (48 + (fi 2)))) hx hb dX6_choice_78 rfl ?_
      obtain ⟨r_14, e_15, h⟩ := ga_gb h
      refine vp_callSi (W.runV (As := [.int 49, .int (ji2c (48 + (fi 2)))]) (rest := []) ⟨hx, hb, hml, hown, hts⟩ (met_X6_isHere l D cA b fr (upd fi 30 ((fi 30) + 1)) fa N 49 (ji2c (48 + (fi 2))) r_14 e_15) (cwV 2 hts (lw_V q1855 q1857 qs64 q79 q1858) rfl rfl rfl (by decide +kernel) ⟨Nat.le_of_ble_eq_true rfl, Nat.le_of_ble_eq_true rfl⟩) (ga_PV hK hP (va_recv hK.1 hP (ci := 0) (q0 := 0) rfl rfl)) rfl rfl hl.1 rfl (lv_room (Nat.le_of_ble_eq_true rfl)) dX6_choice_79 ⟨Nat.le_of_ble_eq_true rfl, Nat.le_of_ble_eq_true rfl⟩) (fun z_16 w_17 => ?_)
      obtain ⟨rfl, b_18⟩ := w_17
      refine lv_if_ne (tgt := 88) hx hb dX6_choice_82 (by decide) (fun c_19 => ?_) (fun c_19 => ?_)
      · replace h := ga_iff c_19 h
        refine lv_aload_n hx hb dX6_choice_88 rfl (lv_at hl 1 rfl) ?_
        refine va_get hx hb hts in_X6 hown hK.1 hP 0 (fs := mF (upd fi 30 ((fi 30) + 1)) fr) rfl rfl 28 (by decide) (hts _ q1540) (fun _ hh => hh) (v := .ref (fr 28)) rfl dX6_choice_89 ?_
        refine lv_aload_n hx hb dX6_choice_92 rfl (lv_at hl 1 rfl) ?_
        refine va_get hx hb hts in_X6 hown hK.1 hP 0 (fs := mF (upd fi 30 ((fi 30) + 1)) fr) rfl rfl 30 (by decide) (hts _ q1542) (fun _ hh => hh) (v := .int ((fi 30) + 1)) rfl dX6_choice_93 ?_
        obtain ⟨i_20, h⟩ := ga_gif h
        refine va_cald hx hb hK.1 hP 17 2 (f := fa 28) rfl rfl (ga_in i_20) dX6_choice_96 ?_
        refine lv_bipush (v := 49) hx hb dX6_choice_97 (by decide) ?_
        refine lv_isub hx hb dX6_choice_99 ?_
        refine lv_istore_n (lv' := [(2, .int ((fa 28 (ix ((fi 30) + 1))) - 49)), (1, .int ((fa 28 (ix (fi 30))) - 97)), (0, .ref b)]) hx hb dX6_choice_100 rfl hl (by decide) rfl (fun ls hl => ?_)
        refine lv_aload_n hx hb dX6_choice_101 rfl (lv_at hl 2 rfl) ?_
        refine lv_dup hx hb dX6_choice_102 rfl ?_
        refine va_get hx hb hts in_X6 hown hK.1 hP 0 (fs := mF (upd fi 30 ((fi 30) + 1)) fr) rfl rfl 30 (by decide) (hts _ q1542) (fun _ hh => hh) (v := .int ((fi 30) + 1)) rfl dX6_choice_103 ?_
        refine lv_iconst (v := 1) hx hb dX6_choice_106 (by decide) ?_
        refine lv_iadd hx hb dX6_choice_107 ?_
        refine va_put hx hb hts in_X6 tyX6 tyX6_ok nmX6 hown hK.1 hP hD hS 0 (fs := mF (upd fi 30 ((fi 30) + 1)) fr) rfl rfl 30 (by decide) (hts _ q1542) (fun _ hh => hh) rfl (v := .int (((fi 30) + 1) + 1)) rfl rfl rfl (mF_lt (by decide)) dX6_choice_108 (fun H locs hP hD hS => ?_)
        rw [mS_30] at hP hD
        refine lv_iload_n hx hb dX6_choice_111 rfl (lv_at hl 0 rfl) ?_
        refine lv_aload_n hx hb dX6_choice_112 rfl (lv_at hl 2 rfl) ?_
        refine va_get hx hb hts in_X6 hown hK.1 hP 0 (fs := mF (upd (upd fi 30 ((fi 30) + 1)) 30 (((fi 30) + 1) + 1)) fr) rfl rfl 1 (by decide) (hts _ q1513) (fun _ hh => hh) (v := .int (fi 1)) rfl dX6_choice_113 ?_
        refine lv_imul hx hb dX6_choice_116 ?_
        refine lv_iload_n hx hb dX6_choice_117 rfl (lv_at hl 1 rfl) ?_
        refine lv_iadd hx hb dX6_choice_118 ?_
        obtain rfl := Option.some.inj h
        exact W.iret hx hb hr (fun t ht hW => ⟨⟨_, _, rfl, ⟨rfl, rfl⟩, ⟨by rw [ht]; exact hP, hK.warm hW, hD⟩⟩, hS.F ht⟩) hS.2.2 dX6_choice_119
      · replace h := ga_ift c_19 h
        refine lv_bipush (v := (-2)) hx hb dX6_choice_85 (by decide) ?_
        obtain rfl := Option.some.inj h
        exact W.iret hx hb hr (fun t ht hW => ⟨⟨_, _, rfl, ⟨rfl, rfl⟩, ⟨by rw [ht]; exact hP, hK.warm hW, hD⟩⟩, hS.F ht⟩) hS.2.2 dX6_choice_87
    · replace h := ga_ift c_12 h
      refine lv_bipush (v := (-2)) hx hb dX6_choice_42 (by decide) ?_
      obtain rfl := Option.some.inj h
      exact W.iret hx hb hr (fun t ht hW => ⟨⟨_, _, rfl, ⟨rfl, rfl⟩, ⟨by rw [ht]; exact hP, hK.warm hW, hD⟩⟩, hS.F ht⟩) hS.2.2 dX6_choice_44
  · replace h := ga_iff c_6 h
    refine lv_aload_n hx hb dX6_choice_11 rfl (lv_at hl 0 rfl) ?_
    refine lv_dup hx hb dX6_choice_12 rfl ?_
    refine va_get hx hb hts in_X6 hown hK.1 hP 0 (fs := mF fi fr) rfl rfl 30 (by decide) (hts _ q1542) (fun _ hh => hh) (v := .int (fi 30)) rfl dX6_choice_13 ?_
    refine lv_iconst (v := 1) hx hb dX6_choice_16 (by decide) ?_
    refine lv_iadd hx hb dX6_choice_17 ?_
    refine va_put hx hb hts in_X6 tyX6 tyX6_ok nmX6 hown hK.1 hP hD hS 0 (fs := mF fi fr) rfl rfl 30 (by decide) (hts _ q1542) (fun _ hh => hh) rfl (v := .int ((fi 30) + 1)) rfl rfl rfl (mF_lt (by decide)) dX6_choice_18 (fun H locs hP hD hS => ?_)
    rw [mS_30] at hP hD
    refine lv_iconst (v := (-1)) hx hb dX6_choice_21 (by decide) ?_
    obtain rfl := Option.some.inj h
    exact W.iret hx hb hr (fun t ht hW => ⟨⟨_, _, rfl, ⟨rfl, rfl⟩, ⟨by rw [ht]; exact hP, hK.warm hW, hD⟩⟩, hS.F ht⟩) hS.2.2 dX6_choice_22
abbrev rm_X6_isRound : Room := { frames := 3, cells := 0, slots := 0, locals := 56 }
def F_X6_isRound (N : Nat) (fi : Nat → Int32) (fa : Nat → Nat → Int32)  : Option (Int32 × ga_MS) :=
  ((F_X6_choice N fi fa).bind fun r_1 =>
  (if r_1.1 = (-2) then
  some (0, (upd r_1.2.1 31 r_1.1, r_1.2.2))
  else
  ((F_X6_choice N (upd r_1.2.1 31 r_1.1) r_1.2.2).bind fun r_7 =>
  (if r_7.1 = (-2) then
  some (0, (upd r_7.2.1 32 r_7.1, r_7.2.2))
  else
  ((F_X6_isHere N (upd r_7.2.1 32 r_7.1) r_7.2.2 59 59).bind fun r_13 =>
  (if r_13 = 0 then
  some (0, (upd r_7.2.1 32 r_7.1, r_7.2.2))
  else
  some (1, (upd (upd r_7.2.1 32 r_7.1) 30 ((r_7.2.1 30) + 1), r_7.2.2))))))))
set_option maxHeartbeats 4000000 in
theorem met_X6_isRound (l : Launch) (D : va_G) (cA : Nat → ClassId) (A : Nat → Prop) (b : Nat) (fr : Nat → Nat) (fi : Nat → Int32) (fa : Nat → Nat → Int32) (N : Nat)  (out : Int32 × ga_MS) (h : F_X6_isRound N fi fa = some out) : Met l yX6_isRound (ws_ yX6_isRound cX6_isRound 1 (some .boolean)) rm_X6_isRound (ga_N D cA A (mW b cA fr fi fa) [.ref b]) (va_Qi (fun (r : Int32) (u : ga_MS) => (out.1 = r ∧ ga_B r) ∧ out.2 = u) (ga_MB D cA A b fr) A) 0 0 A := by
  refine Met.ofW (cc := cX6_isRound) (maxL := 1) (ret := (some .boolean)) (by decide) rfl ?_
  intro p e s m args below meth c s₁ B hml hv
  obtain ⟨rfl, hP, hK, hD⟩ := hv
  have hS : va_S A s.heap s.heap [] := va_S.rf
  have C : ga_cx p m c meth s _ RX6 cX6_isRound 1 (some .boolean) := ga_cx_of B hml
  have C0 := C
  obtain ⟨hx, hb, hr, hlocks, hml, hown, hts⟩ := C0
  have hl := lv_entry ([.ref b]) (n := 1) (Nat.le_of_ble_eq_true rfl)
  rw [lg_entry_eq]
  generalize (lg_sl ([.ref b]) ++ List.replicate (1 - (lg_sl ([.ref b])).length) Slot.unset).toArray = ls at hl ⊢
  have hl : lv_has ls 1 [(0, .ref b)] := hl
  rw [F_X6_isRound] at h
  refine lv_aload_n hx hb dX6_isRound_0 rfl (lv_at hl 0 rfl) ?_
  refine lv_aload_n hx hb dX6_isRound_1 rfl (lv_at hl 0 rfl) ?_
  obtain ⟨r_1, e_2, h⟩ := ga_gb h
  refine va_calli (va_runV (As := []) (rest := [.ref b]) ⟨hx, hb, hml, hown, hts⟩ (met_X6_choice l D cA A b fr fi fa N r_1 e_2) (cwV 0 hts (lw_V q1851 q1853 qs63 q79 q1854) rfl rfl rfl (by decide +kernel) ⟨Nat.le_of_ble_eq_true rfl, Nat.le_of_ble_eq_true rfl⟩) (ga_NV hK hP hD (va_recv hK.1 hP (ci := 0) (q0 := 0) rfl rfl)) rfl rfl hl.1 rfl (lv_room (Nat.le_of_ble_eq_true rfl)) dX6_isRound_2 ⟨Nat.le_of_ble_eq_true rfl, Nat.le_of_ble_eq_true rfl⟩) hS (fun _ _ hq => hq) (fun _ hq => hq) (fun z_3 u t H locs ht _ w_4 hB _ _ hS => ?_)
  obtain ⟨rfl, rfl⟩ := w_4
  obtain ⟨hP, -, hD⟩ := hB
  rw [ht] at hP
  refine va_put hx hb hts in_X6 tyX6 tyX6_ok nmX6 hown hK.1 hP hD hS 0 (fs := mF r_1.2.1 fr) rfl rfl 31 (by decide) (hts _ q1543) (fun _ hh => hh) rfl (v := .int r_1.1) rfl rfl rfl (mF_lt (by decide)) dX6_isRound_5 (fun H locs hP hD hS => ?_)
  rw [mS_31] at hP hD
  refine lv_aload_n hx hb dX6_isRound_8 rfl (lv_at hl 0 rfl) ?_
  refine va_get hx hb hts in_X6 hown hK.1 hP 0 (fs := mF (upd r_1.2.1 31 r_1.1) fr) rfl rfl 31 (by decide) (hts _ q1543) (fun _ hh => hh) (v := .int r_1.1) rfl dX6_isRound_9 ?_
  refine lv_bipush (v := (-2)) hx hb dX6_isRound_12 (by decide) ?_
  refine lv_icmp_ne (tgt := 19) hx hb dX6_isRound_14 (by decide) (fun c_6 => ?_) (fun c_6 => ?_)
  · replace h := ga_iff c_6 h
    refine lv_aload_n hx hb dX6_isRound_19 rfl (lv_at hl 0 rfl) ?_
    refine lv_aload_n hx hb dX6_isRound_20 rfl (lv_at hl 0 rfl) ?_
    obtain ⟨r_7, e_8, h⟩ := ga_gb h
    refine va_calli (va_runV (As := []) (rest := [.ref b]) ⟨hx, hb, hml, hown, hts⟩ (met_X6_choice l D cA A b fr (upd r_1.2.1 31 r_1.1) r_1.2.2 N r_7 e_8) (cwV 0 hts (lw_V q1851 q1853 qs63 q79 q1854) rfl rfl rfl (by decide +kernel) ⟨Nat.le_of_ble_eq_true rfl, Nat.le_of_ble_eq_true rfl⟩) (ga_NV hK hP hD (va_recv hK.1 hP (ci := 0) (q0 := 0) rfl rfl)) rfl rfl hl.1 rfl (lv_room (Nat.le_of_ble_eq_true rfl)) dX6_isRound_21 ⟨Nat.le_of_ble_eq_true rfl, Nat.le_of_ble_eq_true rfl⟩) hS (fun _ _ hq => hq) (fun _ hq => hq) (fun z_9 u t H locs ht _ w_10 hB _ _ hS => ?_)
    obtain ⟨rfl, rfl⟩ := w_10
    obtain ⟨hP, -, hD⟩ := hB
    rw [ht] at hP
    refine va_put hx hb hts in_X6 tyX6 tyX6_ok nmX6 hown hK.1 hP hD hS 0 (fs := mF r_7.2.1 fr) rfl rfl 32 (by decide) (hts _ q1544) (fun _ hh => hh) rfl (v := .int r_7.1) rfl rfl rfl (mF_lt (by decide)) dX6_isRound_24 (fun H locs hP hD hS => ?_)
    rw [mS_32] at hP hD
    refine lv_aload_n hx hb dX6_isRound_27 rfl (lv_at hl 0 rfl) ?_
    refine va_get hx hb hts in_X6 hown hK.1 hP 0 (fs := mF (upd r_7.2.1 32 r_7.1) fr) rfl rfl 32 (by decide) (hts _ q1544) (fun _ hh => hh) (v := .int r_7.1) rfl dX6_isRound_28 ?_
    refine lv_bipush (v := (-2)) hx hb dX6_isRound_31 (by decide) ?_
    refine lv_icmp_eq (tgt := 47) hx hb dX6_isRound_33 (by decide) (fun c_12 => ?_) (fun c_12 => ?_)
    · replace h := ga_ift c_12 h
      refine lv_iconst (v := 0) hx hb dX6_isRound_47 (by decide) ?_
      obtain rfl := Option.some.inj h
      exact W.zret hx hb hr (ga_nb (Or.inl rfl)) (fun t ht hW => ⟨⟨_, _, rfl, ⟨⟨rfl, Or.inl rfl⟩, rfl⟩, ⟨by rw [ht]; exact hP, hK.warm hW, hD⟩⟩, hS.F ht⟩) hS.2.2 dX6_isRound_48
    · replace h := ga_iff c_12 h
      refine lv_aload_n hx hb dX6_isRound_36 rfl (lv_at hl 0 rfl) ?_
      refine lv_bipush (v := 59) hx hb dX6_isRound_37 (by decide) ?_
      refine lv_bipush (v := 59) hx hb dX6_isRound_39 (by decide) ?_
      obtain ⟨r_13, e_14, h⟩ := ga_gb h
      refine vp_callSi (W.runV (As := [.int 59, .int 59]) (rest := []) ⟨hx, hb, hml, hown, hts⟩ (met_X6_isHere l D cA b fr (upd r_7.2.1 32 r_7.1) r_7.2.2 N 59 59 r_13 e_14) (cwV 2 hts (lw_V q1855 q1857 qs64 q79 q1858) rfl rfl rfl (by decide +kernel) ⟨Nat.le_of_ble_eq_true rfl, Nat.le_of_ble_eq_true rfl⟩) (ga_PV hK hP (va_recv hK.1 hP (ci := 0) (q0 := 0) rfl rfl)) rfl rfl hl.1 rfl (lv_room (Nat.le_of_ble_eq_true rfl)) dX6_isRound_41 ⟨Nat.le_of_ble_eq_true rfl, Nat.le_of_ble_eq_true rfl⟩) (fun z_15 w_16 => ?_)
      obtain ⟨rfl, b_17⟩ := w_16
      refine lv_if_ne (tgt := 49) hx hb dX6_isRound_44 (by decide) (fun c_18 => ?_) (fun c_18 => ?_)
      · replace h := ga_iff c_18 h
        refine lv_aload_n hx hb dX6_isRound_49 rfl (lv_at hl 0 rfl) ?_
        refine lv_dup hx hb dX6_isRound_50 rfl ?_
        refine va_get hx hb hts in_X6 hown hK.1 hP 0 (fs := mF (upd r_7.2.1 32 r_7.1) fr) rfl rfl 30 (by decide) (hts _ q1542) (fun _ hh => hh) (v := .int (r_7.2.1 30)) rfl dX6_isRound_51 ?_
        refine lv_iconst (v := 1) hx hb dX6_isRound_54 (by decide) ?_
        refine lv_iadd hx hb dX6_isRound_55 ?_
        refine va_put hx hb hts in_X6 tyX6 tyX6_ok nmX6 hown hK.1 hP hD hS 0 (fs := mF (upd r_7.2.1 32 r_7.1) fr) rfl rfl 30 (by decide) (hts _ q1542) (fun _ hh => hh) rfl (v := .int ((r_7.2.1 30) + 1)) rfl rfl rfl (mF_lt (by decide)) dX6_isRound_56 (fun H locs hP hD hS => ?_)
        rw [mS_30] at hP hD
        refine lv_iconst (v := 1) hx hb dX6_isRound_59 (by decide) ?_
        obtain rfl := Option.some.inj h
        exact W.zret hx hb hr (ga_nb (Or.inr rfl)) (fun t ht hW => ⟨⟨_, _, rfl, ⟨⟨rfl, Or.inr rfl⟩, rfl⟩, ⟨by rw [ht]; exact hP, hK.warm hW, hD⟩⟩, hS.F ht⟩) hS.2.2 dX6_isRound_60
      · replace h := ga_ift c_18 h
        refine lv_iconst (v := 0) hx hb dX6_isRound_47 (by decide) ?_
        obtain rfl := Option.some.inj h
        exact W.zret hx hb hr (ga_nb (Or.inl rfl)) (fun t ht hW => ⟨⟨_, _, rfl, ⟨⟨rfl, Or.inl rfl⟩, rfl⟩, ⟨by rw [ht]; exact hP, hK.warm hW, hD⟩⟩, hS.F ht⟩) hS.2.2 dX6_isRound_48
  · replace h := ga_ift c_6 h
    refine lv_iconst (v := 0) hx hb dX6_isRound_17 (by decide) ?_
    obtain rfl := Option.some.inj h
    exact W.zret hx hb hr (ga_nb (Or.inl rfl)) (fun t ht hW => ⟨⟨_, _, rfl, ⟨⟨rfl, Or.inl rfl⟩, rfl⟩, ⟨by rw [ht]; exact hP, hK.warm hW, hD⟩⟩, hS.F ht⟩) hS.2.2 dX6_isRound_18
abbrev rm_X6_readRecord : Room := { frames := 9, cells := 0, slots := 0, locals := 205 }
def lp_X6_readRecord_53 (N : Nat) : Nat → (Nat → Int32) → (Nat → Nat → Int32) → Int32 → Int32 → Int32 → Int32 → Option (Int32 × ga_MS)
  | 0, _, _, _, _, _, _ => none
  | n+1, fi, fa, x1, x2, x3, x4 =>
    (if x2 ≤ x4 then
    (if x1 = 0 then
    some (((-100) - x3), (upd fi 29 0, fa))
    else
    (if (fi 0) = 1 then
    some (0, (upd fi 29 0, fa))
    else
    some (x2, (upd fi 29 0, fa))))
    else
    (if x1 = 0 then
    some (((-100) - x3), (upd fi 29 0, fa))
    else
    (if (fi 0) = 0 then
    ((F_X6_isRound N fi fa).bind fun r_16 =>
    ((F_X6_over N r_16.2.1 r_16.2.2).bind fun r_21 =>
    (if r_21 = 0 then
    ((F_X6_goes N r_16.2.1 r_16.2.2 (r_16.2.1 31) (r_16.2.1 32)).bind fun r_27 =>
    (if r_27.1 = 0 then
    lp_X6_readRecord_53 N n (upd r_27.2.1 0 1) r_27.2.2 r_16.1 x2 x3 (x4 + 1)
    else
    lp_X6_readRecord_53 N n r_27.2.1 r_27.2.2 r_16.1 x2 x3 (x4 + 1)))
    else
    lp_X6_readRecord_53 N n (upd r_16.2.1 0 1) r_16.2.2 r_16.1 x2 x3 (x4 + 1))))
    else
    (if (fi 0) = 1 then
    some (0, (upd fi 29 0, fa))
    else
    some (x2, (upd fi 29 0, fa))))))
set_option maxHeartbeats 4000000 in
theorem w_X6_readRecord_53 {p : Program} {l : Launch} {e : Env} {s : State} {m : MethodId} {args : Array Value} {below : List Frame} {meth : Method} {c : Code} {D : va_G} {cA : Nat → ClassId} {A : Nat → Prop} {b : Nat} {fr : Nat → Nat} {N : Nat} (C : ga_cx p m c meth s args RX6 cX6_readRecord 5 (some .int)) (hK : ga_K D cA s) {out : Int32 × ga_MS} : ∀ n : Nat, ∀ (fi : Nat → Int32) (fa : Nat → Nat → Int32) (x1 : Int32) (x2 : Int32) (x3 : Int32) (x4 : Int32), lp_X6_readRecord_53 N n fi fa x1 x2 x3 x4 = some out → ∀ (H : Heap) (locs : List Loc), va_P D ga_cl (mW b cA fr fi fa) H → va_D A (mW b cA fr fi fa) → va_S A s.heap H locs → ∀ ls : Array Slot, lv_has ls 5 [(0, .ref b), (1, .int x1), (2, .int x2), (3, .int x3), (4, .int x4)] → W p l e (headSpec (ws_ yX6_readRecord cX6_readRecord 5 (some .int)) rm_X6_readRecord).room s m args below meth c H locs 0 0 (MQ below (va_Qi (fun (r : Int32) (u : ga_MS) => (out.1 = r) ∧ out.2 = u) (ga_MB D cA A b fr) A) args s 0 0 A) (F0 m 53 ls []) := by
  have C0 := C
  obtain ⟨hx, hb, hr, hlocks, hml, hown, hts⟩ := C0
  intro n
  induction n with
  | zero =>
    intro fi fa x1 x2 x3 x4 h
    rw [lp_X6_readRecord_53.eq_1] at h
    cases h
  | succ n ih =>
    intro fi fa x1 x2 x3 x4 h H locs hP hD hS ls hl
    rw [lp_X6_readRecord_53.eq_2] at h
    refine lv_iload hx hb dX6_readRecord_53 (lv_at hl 4 rfl) ?_
    refine lv_iload_n hx hb dX6_readRecord_55 rfl (lv_at hl 2 rfl) ?_
    refine lv_icmp_ge (tgt := 108) hx hb dX6_readRecord_56 (by decide) (fun c_8 => ?_) (fun c_8 => ?_)
    · replace h := ga_ift c_8 h
      refine lv_aload_n hx hb dX6_readRecord_108 rfl (lv_at hl 0 rfl) ?_
      refine lv_iconst (v := 0) hx hb dX6_readRecord_109 (by decide) ?_
      refine va_put hx hb hts in_X6 tyX6 tyX6_ok nmX6 hown hK.1 hP hD hS 0 (fs := mF fi fr) rfl rfl 29 (by decide) (hts _ q1541) (fun _ hh => hh) rfl (v := .int 0) rfl rfl rfl (mF_lt (by decide)) dX6_readRecord_110 (fun H locs hP hD hS => ?_)
      rw [mS_29] at hP hD
      refine lv_iload_n hx hb dX6_readRecord_113 rfl (lv_at hl 1 rfl) ?_
      refine lv_if_ne (tgt := 124) hx hb dX6_readRecord_114 (by decide) (fun c_9 => ?_) (fun c_9 => ?_)
      · replace h := ga_iff c_9 h
        refine lv_aload_n hx hb dX6_readRecord_124 rfl (lv_at hl 0 rfl) ?_
        refine va_get hx hb hts in_X6 hown hK.1 hP 0 (fs := mF (upd fi 29 0) fr) rfl rfl 0 (by decide) (hts _ q1512) (fun _ hh => hh) (v := .int (fi 0)) rfl dX6_readRecord_125 ?_
        refine lv_iconst (v := 1) hx hb dX6_readRecord_128 (by decide) ?_
        refine lv_icmp_ne (tgt := 136) hx hb dX6_readRecord_129 (by decide) (fun c_10 => ?_) (fun c_10 => ?_)
        · replace h := ga_iff c_10 h
          refine lv_iload_n hx hb dX6_readRecord_136 rfl (lv_at hl 2 rfl) ?_
          obtain rfl := Option.some.inj h
          exact W.iret hx hb hr (fun t ht hW => ⟨⟨_, _, rfl, ⟨rfl, rfl⟩, ⟨by rw [ht]; exact hP, hK.warm hW, hD⟩⟩, hS.F ht⟩) hS.2.2 dX6_readRecord_137
        · replace h := ga_ift c_10 h
          refine lv_iconst (v := 0) hx hb dX6_readRecord_132 (by decide) ?_
          refine lv_goto (tgt := 137) hx hb dX6_readRecord_133 (by decide) ?_
          obtain rfl := Option.some.inj h
          exact W.iret hx hb hr (fun t ht hW => ⟨⟨_, _, rfl, ⟨rfl, rfl⟩, ⟨by rw [ht]; exact hP, hK.warm hW, hD⟩⟩, hS.F ht⟩) hS.2.2 dX6_readRecord_137
      · replace h := ga_ift c_9 h
        refine lv_bipush (v := (-100)) hx hb dX6_readRecord_117 (by decide) ?_
        refine lv_iload_n hx hb dX6_readRecord_119 rfl (lv_at hl 3 rfl) ?_
        refine lv_isub hx hb dX6_readRecord_120 ?_
        refine lv_goto (tgt := 137) hx hb dX6_readRecord_121 (by decide) ?_
        obtain rfl := Option.some.inj h
        exact W.iret hx hb hr (fun t ht hW => ⟨⟨_, _, rfl, ⟨rfl, rfl⟩, ⟨by rw [ht]; exact hP, hK.warm hW, hD⟩⟩, hS.F ht⟩) hS.2.2 dX6_readRecord_137
    · replace h := ga_iff c_8 h
      refine lv_iload_n hx hb dX6_readRecord_59 rfl (lv_at hl 1 rfl) ?_
      refine lv_if_eq (tgt := 108) hx hb dX6_readRecord_60 (by decide) (fun c_11 => ?_) (fun c_11 => ?_)
      · replace h := ga_ift c_11 h
        refine lv_aload_n hx hb dX6_readRecord_108 rfl (lv_at hl 0 rfl) ?_
        refine lv_iconst (v := 0) hx hb dX6_readRecord_109 (by decide) ?_
        refine va_put hx hb hts in_X6 tyX6 tyX6_ok nmX6 hown hK.1 hP hD hS 0 (fs := mF fi fr) rfl rfl 29 (by decide) (hts _ q1541) (fun _ hh => hh) rfl (v := .int 0) rfl rfl rfl (mF_lt (by decide)) dX6_readRecord_110 (fun H locs hP hD hS => ?_)
        rw [mS_29] at hP hD
        refine lv_iload_n hx hb dX6_readRecord_113 rfl (lv_at hl 1 rfl) ?_
        refine lv_if_ne (tgt := 124) hx hb dX6_readRecord_114 (by decide) (fun c_12 => absurd c_11 c_12) (fun _ => ?_)
        refine lv_bipush (v := (-100)) hx hb dX6_readRecord_117 (by decide) ?_
        refine lv_iload_n hx hb dX6_readRecord_119 rfl (lv_at hl 3 rfl) ?_
        refine lv_isub hx hb dX6_readRecord_120 ?_
        refine lv_goto (tgt := 137) hx hb dX6_readRecord_121 (by decide) ?_
        obtain rfl := Option.some.inj h
        exact W.iret hx hb hr (fun t ht hW => ⟨⟨_, _, rfl, ⟨rfl, rfl⟩, ⟨by rw [ht]; exact hP, hK.warm hW, hD⟩⟩, hS.F ht⟩) hS.2.2 dX6_readRecord_137
      · replace h := ga_iff c_11 h
        refine lv_aload_n hx hb dX6_readRecord_63 rfl (lv_at hl 0 rfl) ?_
        refine va_get hx hb hts in_X6 hown hK.1 hP 0 (fs := mF fi fr) rfl rfl 0 (by decide) (hts _ q1512) (fun _ hh => hh) (v := .int (fi 0)) rfl dX6_readRecord_64 ?_
        refine lv_if_ne (tgt := 108) hx hb dX6_readRecord_67 (by decide) (fun c_13 => ?_) (fun c_13 => ?_)
        · replace h := ga_iff c_13 h
          refine lv_aload_n hx hb dX6_readRecord_108 rfl (lv_at hl 0 rfl) ?_
          refine lv_iconst (v := 0) hx hb dX6_readRecord_109 (by decide) ?_
          refine va_put hx hb hts in_X6 tyX6 tyX6_ok nmX6 hown hK.1 hP hD hS 0 (fs := mF fi fr) rfl rfl 29 (by decide) (hts _ q1541) (fun _ hh => hh) rfl (v := .int 0) rfl rfl rfl (mF_lt (by decide)) dX6_readRecord_110 (fun H locs hP hD hS => ?_)
          rw [mS_29] at hP hD
          refine lv_iload_n hx hb dX6_readRecord_113 rfl (lv_at hl 1 rfl) ?_
          refine lv_if_ne (tgt := 124) hx hb dX6_readRecord_114 (by decide) (fun _ => ?_) (fun c_14 => absurd c_14 c_11)
          refine lv_aload_n hx hb dX6_readRecord_124 rfl (lv_at hl 0 rfl) ?_
          refine va_get hx hb hts in_X6 hown hK.1 hP 0 (fs := mF (upd fi 29 0) fr) rfl rfl 0 (by decide) (hts _ q1512) (fun _ hh => hh) (v := .int (fi 0)) rfl dX6_readRecord_125 ?_
          refine lv_iconst (v := 1) hx hb dX6_readRecord_128 (by decide) ?_
          refine lv_icmp_ne (tgt := 136) hx hb dX6_readRecord_129 (by decide) (fun c_15 => ?_) (fun c_15 => ?_)
          · replace h := ga_iff c_15 h
            refine lv_iload_n hx hb dX6_readRecord_136 rfl (lv_at hl 2 rfl) ?_
            obtain rfl := Option.some.inj h
            exact W.iret hx hb hr (fun t ht hW => ⟨⟨_, _, rfl, ⟨rfl, rfl⟩, ⟨by rw [ht]; exact hP, hK.warm hW, hD⟩⟩, hS.F ht⟩) hS.2.2 dX6_readRecord_137
          · replace h := ga_ift c_15 h
            refine lv_iconst (v := 0) hx hb dX6_readRecord_132 (by decide) ?_
            refine lv_goto (tgt := 137) hx hb dX6_readRecord_133 (by decide) ?_
            obtain rfl := Option.some.inj h
            exact W.iret hx hb hr (fun t ht hW => ⟨⟨_, _, rfl, ⟨rfl, rfl⟩, ⟨by rw [ht]; exact hP, hK.warm hW, hD⟩⟩, hS.F ht⟩) hS.2.2 dX6_readRecord_137
        · replace h := ga_ift c_13 h
          refine lv_aload_n hx hb dX6_readRecord_70 rfl (lv_at hl 0 rfl) ?_
          obtain ⟨r_16, e_17, h⟩ := ga_gb h
          refine va_calli (va_runV (As := []) (rest := []) ⟨hx, hb, hml, hown, hts⟩ (met_X6_isRound l D cA A b fr fi fa N r_16 e_17) (cwV 0 hts (lw_V q1847 q1849 qs62 q79 q1850) rfl rfl rfl (by decide +kernel) ⟨Nat.le_of_ble_eq_true rfl, Nat.le_of_ble_eq_true rfl⟩) (ga_NV hK hP hD (va_recv hK.1 hP (ci := 0) (q0 := 0) rfl rfl)) rfl rfl hl.1 rfl (lv_room (Nat.le_of_ble_eq_true rfl)) dX6_readRecord_71 ⟨Nat.le_of_ble_eq_true rfl, Nat.le_of_ble_eq_true rfl⟩) hS (fun _ _ hq => hq) (fun _ hq => hq) (fun z_18 u t H locs ht _ w_19 hB _ _ hS => ?_)
          obtain ⟨⟨rfl, b_20⟩, rfl⟩ := w_19
          obtain ⟨hP, -, hD⟩ := hB
          rw [ht] at hP
          refine lv_istore_n (lv' := [(1, .int r_16.1), (0, .ref b), (2, .int x2), (3, .int x3), (4, .int x4)]) hx hb dX6_readRecord_74 rfl hl (by decide) rfl (fun ls hl => ?_)
          refine lv_aload_n hx hb dX6_readRecord_75 rfl (lv_at hl 1 rfl) ?_
          obtain ⟨r_21, e_22, h⟩ := ga_gb h
          refine vp_callSi (W.runV (As := []) (rest := []) ⟨hx, hb, hml, hown, hts⟩ (met_X6_over l D cA b fr r_16.2.1 r_16.2.2 N r_21 e_22) (cwV 0 hts (lw_V q1651 q1653 qs35 q79 q1654) rfl rfl rfl (by decide +kernel) ⟨Nat.le_of_ble_eq_true rfl, Nat.le_of_ble_eq_true rfl⟩) (ga_PV hK hP (va_recv hK.1 hP (ci := 0) (q0 := 0) rfl rfl)) rfl rfl hl.1 rfl (lv_room (Nat.le_of_ble_eq_true rfl)) dX6_readRecord_76 ⟨Nat.le_of_ble_eq_true rfl, Nat.le_of_ble_eq_true rfl⟩) (fun z_23 w_24 => ?_)
          obtain ⟨rfl, b_25⟩ := w_24
          refine lv_if_ne (tgt := 97) hx hb dX6_readRecord_79 (by decide) (fun c_26 => ?_) (fun c_26 => ?_)
          · replace h := ga_iff c_26 h
            refine lv_aload_n hx hb dX6_readRecord_97 rfl (lv_at hl 1 rfl) ?_
            refine lv_iconst (v := 1) hx hb dX6_readRecord_98 (by decide) ?_
            refine va_put hx hb hts in_X6 tyX6 tyX6_ok nmX6 hown hK.1 hP hD hS 0 (fs := mF r_16.2.1 fr) rfl rfl 0 (by decide) (hts _ q1512) (fun _ hh => hh) rfl (v := .int 1) rfl rfl rfl (mF_lt (by decide)) dX6_readRecord_99 (fun H locs hP hD hS => ?_)
            rw [mS_0] at hP hD
            refine lv_iinc (v := (x4 + 1)) (lv' := [(4, .int (x4 + 1)), (1, .int r_16.1), (0, .ref b), (2, .int x2), (3, .int x3)]) hx hb dX6_readRecord_102 hl (k := 4) rfl rfl (by decide) rfl (fun ls hl => ?_)
            refine lv_goto (tgt := 53) hx hb dX6_readRecord_105 (by decide) ?_
            exact ih (upd r_16.2.1 0 1) r_16.2.2 r_16.1 x2 x3 (x4 + 1) h _ _ hP hD hS _ (lv_sub hl [2, 1, 3, 4, 0] rfl)
          · replace h := ga_ift c_26 h
            refine lv_aload_n hx hb dX6_readRecord_82 rfl (lv_at hl 1 rfl) ?_
            refine lv_aload_n hx hb dX6_readRecord_83 rfl (lv_at hl 1 rfl) ?_
            refine va_get hx hb hts in_X6 hown hK.1 hP 0 (fs := mF r_16.2.1 fr) rfl rfl 31 (by decide) (hts _ q1543) (fun _ hh => hh) (v := .int (r_16.2.1 31)) rfl dX6_readRecord_84 ?_
            refine lv_aload_n hx hb dX6_readRecord_87 rfl (lv_at hl 1 rfl) ?_
            refine va_get hx hb hts in_X6 hown hK.1 hP 0 (fs := mF r_16.2.1 fr) rfl rfl 32 (by decide) (hts _ q1544) (fun _ hh => hh) (v := .int (r_16.2.1 32)) rfl dX6_readRecord_88 ?_
            obtain ⟨r_27, e_28, h⟩ := ga_gb h
            refine va_calli (va_runV (As := [.int (r_16.2.1 31), .int (r_16.2.1 32)]) (rest := []) ⟨hx, hb, hml, hown, hts⟩ (met_X6_goes l D cA A b fr r_16.2.1 r_16.2.2 N (r_16.2.1 31) (r_16.2.1 32) r_27 e_28) (cwV 2 hts (lw_V q1659 q1661 qs37 q79 q1662) rfl rfl rfl (by decide +kernel) ⟨Nat.le_of_ble_eq_true rfl, Nat.le_of_ble_eq_true rfl⟩) (ga_NV hK hP hD (va_recv hK.1 hP (ci := 0) (q0 := 0) rfl rfl)) rfl rfl hl.1 rfl (lv_room (Nat.le_of_ble_eq_true rfl)) dX6_readRecord_91 ⟨Nat.le_of_ble_eq_true rfl, Nat.le_of_ble_eq_true rfl⟩) hS (fun _ _ hq => hq) (fun _ hq => hq) (fun z_29 u t H locs ht _ w_30 hB _ _ hS => ?_)
            obtain ⟨⟨rfl, b_31⟩, rfl⟩ := w_30
            obtain ⟨hP, -, hD⟩ := hB
            rw [ht] at hP
            refine lv_if_ne (tgt := 102) hx hb dX6_readRecord_94 (by decide) (fun c_32 => ?_) (fun c_32 => ?_)
            · replace h := ga_iff c_32 h
              refine lv_iinc (v := (x4 + 1)) (lv' := [(4, .int (x4 + 1)), (1, .int r_16.1), (0, .ref b), (2, .int x2), (3, .int x3)]) hx hb dX6_readRecord_102 hl (k := 4) rfl rfl (by decide) rfl (fun ls hl => ?_)
              refine lv_goto (tgt := 53) hx hb dX6_readRecord_105 (by decide) ?_
              exact ih r_27.2.1 r_27.2.2 r_16.1 x2 x3 (x4 + 1) h _ _ hP hD hS _ (lv_sub hl [2, 1, 3, 4, 0] rfl)
            · replace h := ga_ift c_32 h
              refine lv_aload_n hx hb dX6_readRecord_97 rfl (lv_at hl 1 rfl) ?_
              refine lv_iconst (v := 1) hx hb dX6_readRecord_98 (by decide) ?_
              refine va_put hx hb hts in_X6 tyX6 tyX6_ok nmX6 hown hK.1 hP hD hS 0 (fs := mF r_27.2.1 fr) rfl rfl 0 (by decide) (hts _ q1512) (fun _ hh => hh) rfl (v := .int 1) rfl rfl rfl (mF_lt (by decide)) dX6_readRecord_99 (fun H locs hP hD hS => ?_)
              rw [mS_0] at hP hD
              refine lv_iinc (v := (x4 + 1)) (lv' := [(4, .int (x4 + 1)), (1, .int r_16.1), (0, .ref b), (2, .int x2), (3, .int x3)]) hx hb dX6_readRecord_102 hl (k := 4) rfl rfl (by decide) rfl (fun ls hl => ?_)
              refine lv_goto (tgt := 53) hx hb dX6_readRecord_105 (by decide) ?_
              exact ih (upd r_27.2.1 0 1) r_27.2.2 r_16.1 x2 x3 (x4 + 1) h _ _ hP hD hS _ (lv_sub hl [2, 1, 3, 4, 0] rfl)
def lp_X6_readRecord_14 (N : Nat) : Nat → (Nat → Int32) → (Nat → Nat → Int32) → Int32 → Int32 → Option (Int32 × ga_MS)
  | 0, _, _, _, _ => none
  | n+1, fi, fa, x1, x2 =>
    (if (fi 29) ≤ (fi 30) then
    lp_X6_readRecord_53 N N (upd fi 30 0) fa x1 x2 (fi 30) 0
    else
    (if x1 = 0 then
    lp_X6_readRecord_53 N N (upd fi 30 0) fa x1 x2 (fi 30) 0
    else
    ((F_X6_isRound N fi fa).bind fun r_3 =>
    lp_X6_readRecord_14 N n r_3.2.1 r_3.2.2 r_3.1 (x2 + 1))))
set_option maxHeartbeats 4000000 in
theorem w_X6_readRecord_14 {p : Program} {l : Launch} {e : Env} {s : State} {m : MethodId} {args : Array Value} {below : List Frame} {meth : Method} {c : Code} {D : va_G} {cA : Nat → ClassId} {A : Nat → Prop} {b : Nat} {fr : Nat → Nat} {N : Nat} (C : ga_cx p m c meth s args RX6 cX6_readRecord 5 (some .int)) (hK : ga_K D cA s) {out : Int32 × ga_MS} : ∀ n : Nat, ∀ (fi : Nat → Int32) (fa : Nat → Nat → Int32) (x1 : Int32) (x2 : Int32), lp_X6_readRecord_14 N n fi fa x1 x2 = some out → ∀ (H : Heap) (locs : List Loc), va_P D ga_cl (mW b cA fr fi fa) H → va_D A (mW b cA fr fi fa) → va_S A s.heap H locs → ∀ ls : Array Slot, lv_has ls 5 [(0, .ref b), (1, .int x1), (2, .int x2)] → W p l e (headSpec (ws_ yX6_readRecord cX6_readRecord 5 (some .int)) rm_X6_readRecord).room s m args below meth c H locs 0 0 (MQ below (va_Qi (fun (r : Int32) (u : ga_MS) => (out.1 = r) ∧ out.2 = u) (ga_MB D cA A b fr) A) args s 0 0 A) (F0 m 14 ls []) := by
  have C0 := C
  obtain ⟨hx, hb, hr, hlocks, hml, hown, hts⟩ := C0
  intro n
  induction n with
  | zero =>
    intro fi fa x1 x2 h
    rw [lp_X6_readRecord_14.eq_1] at h
    cases h
  | succ n ih =>
    intro fi fa x1 x2 h H locs hP hD hS ls hl
    rw [lp_X6_readRecord_14.eq_2] at h
    refine lv_aload_n hx hb dX6_readRecord_14 rfl (lv_at hl 0 rfl) ?_
    refine va_get hx hb hts in_X6 hown hK.1 hP 0 (fs := mF fi fr) rfl rfl 30 (by decide) (hts _ q1542) (fun _ hh => hh) (v := .int (fi 30)) rfl dX6_readRecord_15 ?_
    refine lv_aload_n hx hb dX6_readRecord_18 rfl (lv_at hl 0 rfl) ?_
    refine va_get hx hb hts in_X6 hown hK.1 hP 0 (fs := mF fi fr) rfl rfl 29 (by decide) (hts _ q1541) (fun _ hh => hh) (v := .int (fi 29)) rfl dX6_readRecord_19 ?_
    refine lv_icmp_ge (tgt := 40) hx hb dX6_readRecord_22 (by decide) (fun c_1 => ?_) (fun c_1 => ?_)
    · replace h := ga_ift c_1 h
      refine lv_aload_n hx hb dX6_readRecord_40 rfl (lv_at hl 0 rfl) ?_
      refine va_get hx hb hts in_X6 hown hK.1 hP 0 (fs := mF fi fr) rfl rfl 30 (by decide) (hts _ q1542) (fun _ hh => hh) (v := .int (fi 30)) rfl dX6_readRecord_41 ?_
      refine lv_istore_n (lv' := [(3, .int (fi 30)), (0, .ref b), (1, .int x1), (2, .int x2)]) hx hb dX6_readRecord_44 rfl hl (by decide) rfl (fun ls hl => ?_)
      refine lv_aload_n hx hb dX6_readRecord_45 rfl (lv_at hl 1 rfl) ?_
      refine lv_iconst (v := 0) hx hb dX6_readRecord_46 (by decide) ?_
      refine va_put hx hb hts in_X6 tyX6 tyX6_ok nmX6 hown hK.1 hP hD hS 0 (fs := mF fi fr) rfl rfl 30 (by decide) (hts _ q1542) (fun _ hh => hh) rfl (v := .int 0) rfl rfl rfl (mF_lt (by decide)) dX6_readRecord_47 (fun H locs hP hD hS => ?_)
      rw [mS_30] at hP hD
      refine lv_iconst (v := 0) hx hb dX6_readRecord_50 (by decide) ?_
      refine lv_istore (lv' := [(4, .int 0), (3, .int (fi 30)), (0, .ref b), (1, .int x1), (2, .int x2)]) hx hb dX6_readRecord_51 hl (by decide) rfl (fun ls hl => ?_)
      exact w_X6_readRecord_53 C hK N (upd fi 30 0) fa x1 x2 (fi 30) 0 h _ _ hP hD hS _ (lv_sub hl [2, 3, 4, 1, 0] rfl)
    · replace h := ga_iff c_1 h
      refine lv_iload_n hx hb dX6_readRecord_25 rfl (lv_at hl 1 rfl) ?_
      refine lv_if_eq (tgt := 40) hx hb dX6_readRecord_26 (by decide) (fun c_2 => ?_) (fun c_2 => ?_)
      · replace h := ga_ift c_2 h
        refine lv_aload_n hx hb dX6_readRecord_40 rfl (lv_at hl 0 rfl) ?_
        refine va_get hx hb hts in_X6 hown hK.1 hP 0 (fs := mF fi fr) rfl rfl 30 (by decide) (hts _ q1542) (fun _ hh => hh) (v := .int (fi 30)) rfl dX6_readRecord_41 ?_
        refine lv_istore_n (lv' := [(3, .int (fi 30)), (0, .ref b), (1, .int x1), (2, .int x2)]) hx hb dX6_readRecord_44 rfl hl (by decide) rfl (fun ls hl => ?_)
        refine lv_aload_n hx hb dX6_readRecord_45 rfl (lv_at hl 1 rfl) ?_
        refine lv_iconst (v := 0) hx hb dX6_readRecord_46 (by decide) ?_
        refine va_put hx hb hts in_X6 tyX6 tyX6_ok nmX6 hown hK.1 hP hD hS 0 (fs := mF fi fr) rfl rfl 30 (by decide) (hts _ q1542) (fun _ hh => hh) rfl (v := .int 0) rfl rfl rfl (mF_lt (by decide)) dX6_readRecord_47 (fun H locs hP hD hS => ?_)
        rw [mS_30] at hP hD
        refine lv_iconst (v := 0) hx hb dX6_readRecord_50 (by decide) ?_
        refine lv_istore (lv' := [(4, .int 0), (3, .int (fi 30)), (0, .ref b), (1, .int x1), (2, .int x2)]) hx hb dX6_readRecord_51 hl (by decide) rfl (fun ls hl => ?_)
        exact w_X6_readRecord_53 C hK N (upd fi 30 0) fa x1 x2 (fi 30) 0 h _ _ hP hD hS _ (lv_sub hl [2, 3, 4, 1, 0] rfl)
      · replace h := ga_iff c_2 h
        refine lv_aload_n hx hb dX6_readRecord_29 rfl (lv_at hl 0 rfl) ?_
        obtain ⟨r_3, e_4, h⟩ := ga_gb h
        refine va_calli (va_runV (As := []) (rest := []) ⟨hx, hb, hml, hown, hts⟩ (met_X6_isRound l D cA A b fr fi fa N r_3 e_4) (cwV 0 hts (lw_V q1847 q1849 qs62 q79 q1850) rfl rfl rfl (by decide +kernel) ⟨Nat.le_of_ble_eq_true rfl, Nat.le_of_ble_eq_true rfl⟩) (ga_NV hK hP hD (va_recv hK.1 hP (ci := 0) (q0 := 0) rfl rfl)) rfl rfl hl.1 rfl (lv_room (Nat.le_of_ble_eq_true rfl)) dX6_readRecord_30 ⟨Nat.le_of_ble_eq_true rfl, Nat.le_of_ble_eq_true rfl⟩) hS (fun _ _ hq => hq) (fun _ hq => hq) (fun z_5 u t H locs ht _ w_6 hB _ _ hS => ?_)
        obtain ⟨⟨rfl, b_7⟩, rfl⟩ := w_6
        obtain ⟨hP, -, hD⟩ := hB
        rw [ht] at hP
        refine lv_istore_n (lv' := [(1, .int r_3.1), (0, .ref b), (2, .int x2)]) hx hb dX6_readRecord_33 rfl hl (by decide) rfl (fun ls hl => ?_)
        refine lv_iinc (v := (x2 + 1)) (lv' := [(2, .int (x2 + 1)), (1, .int r_3.1), (0, .ref b)]) hx hb dX6_readRecord_34 hl (k := 2) rfl rfl (by decide) rfl (fun ls hl => ?_)
        refine lv_goto (tgt := 14) hx hb dX6_readRecord_37 (by decide) ?_
        exact ih r_3.2.1 r_3.2.2 r_3.1 (x2 + 1) h _ _ hP hD hS _ (lv_sub hl [2, 1, 0] rfl)
def F_X6_readRecord (N : Nat) (fi : Nat → Int32) (fa : Nat → Nat → Int32)  : Option (Int32 × ga_MS) :=
  lp_X6_readRecord_14 N N (upd (upd fi 0 0) 30 0) fa 1 0
set_option maxHeartbeats 4000000 in
theorem met_X6_readRecord (l : Launch) (D : va_G) (cA : Nat → ClassId) (A : Nat → Prop) (b : Nat) (fr : Nat → Nat) (fi : Nat → Int32) (fa : Nat → Nat → Int32) (N : Nat)  (out : Int32 × ga_MS) (h : F_X6_readRecord N fi fa = some out) : Met l yX6_readRecord (ws_ yX6_readRecord cX6_readRecord 5 (some .int)) rm_X6_readRecord (ga_N D cA A (mW b cA fr fi fa) [.ref b]) (va_Qi (fun (r : Int32) (u : ga_MS) => (out.1 = r) ∧ out.2 = u) (ga_MB D cA A b fr) A) 0 0 A := by
  refine Met.ofW (cc := cX6_readRecord) (maxL := 5) (ret := (some .int)) (by decide) rfl ?_
  intro p e s m args below meth c s₁ B hml hv
  obtain ⟨rfl, hP, hK, hD⟩ := hv
  have hS : va_S A s.heap s.heap [] := va_S.rf
  have C : ga_cx p m c meth s _ RX6 cX6_readRecord 5 (some .int) := ga_cx_of B hml
  have C0 := C
  obtain ⟨hx, hb, hr, hlocks, hml, hown, hts⟩ := C0
  have hl := lv_entry ([.ref b]) (n := 5) (Nat.le_of_ble_eq_true rfl)
  rw [lg_entry_eq]
  generalize (lg_sl ([.ref b]) ++ List.replicate (5 - (lg_sl ([.ref b])).length) Slot.unset).toArray = ls at hl ⊢
  have hl : lv_has ls 5 [(0, .ref b)] := hl
  rw [F_X6_readRecord] at h
  refine lv_aload_n hx hb dX6_readRecord_0 rfl (lv_at hl 0 rfl) ?_
  refine lv_iconst (v := 0) hx hb dX6_readRecord_1 (by decide) ?_
  refine va_put hx hb hts in_X6 tyX6 tyX6_ok nmX6 hown hK.1 hP hD hS 0 (fs := mF fi fr) rfl rfl 0 (by decide) (hts _ q1512) (fun _ hh => hh) rfl (v := .int 0) rfl rfl rfl (mF_lt (by decide)) dX6_readRecord_2 (fun H locs hP hD hS => ?_)
  rw [mS_0] at hP hD
  refine lv_aload_n hx hb dX6_readRecord_5 rfl (lv_at hl 0 rfl) ?_
  refine lv_iconst (v := 0) hx hb dX6_readRecord_6 (by decide) ?_
  refine va_put hx hb hts in_X6 tyX6 tyX6_ok nmX6 hown hK.1 hP hD hS 0 (fs := mF (upd fi 0 0) fr) rfl rfl 30 (by decide) (hts _ q1542) (fun _ hh => hh) rfl (v := .int 0) rfl rfl rfl (mF_lt (by decide)) dX6_readRecord_7 (fun H locs hP hD hS => ?_)
  rw [mS_30] at hP hD
  refine lv_iconst (v := 1) hx hb dX6_readRecord_10 (by decide) ?_
  refine lv_istore_n (lv' := [(1, .int 1), (0, .ref b)]) hx hb dX6_readRecord_11 rfl hl (by decide) rfl (fun ls hl => ?_)
  refine lv_iconst (v := 0) hx hb dX6_readRecord_12 (by decide) ?_
  refine lv_istore_n (lv' := [(2, .int 0), (1, .int 1), (0, .ref b)]) hx hb dX6_readRecord_13 rfl hl (by decide) rfl (fun ls hl => ?_)
  exact w_X6_readRecord_14 C hK N (upd (upd fi 0 0) 30 0) fa 1 0 h _ _ hP hD hS _ (lv_sub hl [2, 1, 0] rfl)
abbrev rm_X6_written : Room := { frames := 2, cells := 0, slots := 0, locals := 34 }
def lp_X6_written_9 (N : Nat) (x1 : Int32) : Nat → Nat → (Nat → Int32) → (Nat → Nat → Int32) → Int32 → Int32 → Int32 → Option (Int32 × ga_MS)
  | 0, _, _, _, _, _, _ => none
  | n+1, 0, fi, fa, x2, x3, x4 =>
    (if (fa 5 (ix 153)) ≤ x3 then
    some (0, (upd fi 0 1, fa))
    else
    (if x1 < 0 then
    some (0, (upd fi 0 1, fa))
    else
    lp_X6_written_9 N x1 n 1 fi fa x2 x3 0))
  | n+1, _+1, fi, fa, x2, x3, x4 =>
    (if 2 ≤ x4 then
    (if x2 = 0 then
    some (59, (fi, fa))
    else
    lp_X6_written_9 N x1 n 0 fi fa (x2 + (-1)) (x3 + 1) 0)
    else
    (if inb ((7 * x3) + x4) 420 = true then
    ((F_X6_lengthOf N (fa 9 (ix ((7 * x3) + x4)))).bind fun r_6 =>
    (if r_6 ≤ x2 then
    ((F_X6_lengthOf N (fa 9 (ix ((7 * x3) + x4)))).bind fun r_11 =>
    lp_X6_written_9 N x1 n 1 fi fa (x2 - r_11) x3 (x4 + 1))
    else
    ((F_X6_signOf N fi fa (fa 9 (ix ((7 * x3) + x4))) x2).bind fun r_15 =>
    some (r_15, (fi, fa)))))
    else none))
set_option maxHeartbeats 4000000 in
theorem w_X6_written_9 {p : Program} {l : Launch} {e : Env} {s : State} {m : MethodId} {args : Array Value} {below : List Frame} {meth : Method} {c : Code} {D : va_G} {cA : Nat → ClassId} {A : Nat → Prop} {b : Nat} {fr : Nat → Nat} {N : Nat} {x1 : Int32} (C : ga_cx p m c meth s args RX6 cX6_written 6 (some .char)) (hK : ga_K D cA s) {out : Int32 × ga_MS} : ∀ n : Nat, (∀ (fi : Nat → Int32) (fa : Nat → Nat → Int32) (x2 : Int32) (x3 : Int32), lp_X6_written_9 N x1 n 0 fi fa x2 x3 0 = some out → ∀ (H : Heap) (locs : List Loc), va_P D ga_cl (mW b cA fr fi fa) H → va_D A (mW b cA fr fi fa) → va_S A s.heap H locs → ∀ ls : Array Slot, lv_has ls 6 [(0, .ref b), (1, .int x1), (2, .int x2), (3, .int x3)] → W p l e (headSpec (ws_ yX6_written cX6_written 6 (some .char)) rm_X6_written).room s m args below meth c H locs 0 0 (MQ below (va_Qi (fun (r : Int32) (u : ga_MS) => (out.1 = r ∧ ga_C r) ∧ out.2 = u) (ga_MB D cA A b fr) A) args s 0 0 A) (F0 m 9 ls [])) ∧ (∀ (fi : Nat → Int32) (fa : Nat → Nat → Int32) (x2 : Int32) (x3 : Int32) (x4 : Int32), lp_X6_written_9 N x1 n 1 fi fa x2 x3 x4 = some out → ∀ (H : Heap) (locs : List Loc), va_P D ga_cl (mW b cA fr fi fa) H → va_D A (mW b cA fr fi fa) → va_S A s.heap H locs → ∀ ls : Array Slot, lv_has ls 6 [(0, .ref b), (1, .int x1), (2, .int x2), (3, .int x3), (4, .int x4)] → W p l e (headSpec (ws_ yX6_written cX6_written 6 (some .char)) rm_X6_written).room s m args below meth c H locs 0 0 (MQ below (va_Qi (fun (r : Int32) (u : ga_MS) => (out.1 = r ∧ ga_C r) ∧ out.2 = u) (ga_MB D cA A b fr) A) args s 0 0 A) (F0 m 28 ls [])) := by
  have C0 := C
  obtain ⟨hx, hb, hr, hlocks, hml, hown, hts⟩ := C0
  intro n
  induction n with
  | zero =>
    refine ⟨?_, ?_⟩
    · intro fi fa x2 x3 h
      rw [lp_X6_written_9.eq_1] at h
      cases h
    · intro fi fa x2 x3 x4 h
      rw [lp_X6_written_9.eq_1] at h
      cases h
  | succ n ih =>
    refine ⟨?_, ?_⟩
    · intro fi fa x2 x3 h H locs hP hD hS ls hl
      rw [lp_X6_written_9.eq_2] at h
      refine lv_iload_n hx hb dX6_written_9 rfl (lv_at hl 3 rfl) ?_
      refine lv_aload_n hx hb dX6_written_10 rfl (lv_at hl 0 rfl) ?_
      refine va_get hx hb hts in_X6 hown hK.1 hP 0 (fs := mF fi fr) rfl rfl 5 (by decide) (hts _ q1517) (fun _ hh => hh) (v := .ref (fr 5)) rfl dX6_written_11 ?_
      refine lv_sipush (v := 153) hx hb dX6_written_14 (by decide) ?_
      refine va_iald hx hb hK.1 hP 2 0 (f := fa 5) rfl rfl (ga_in (by decide)) dX6_written_17 ?_
      refine lv_icmp_ge (tgt := 95) hx hb dX6_written_18 (by decide) (fun c_1 => ?_) (fun c_1 => ?_)
      · replace h := ga_ift c_1 h
        refine lv_aload_n hx hb dX6_written_95 rfl (lv_at hl 0 rfl) ?_
        refine lv_iconst (v := 1) hx hb dX6_written_96 (by decide) ?_
        refine va_put hx hb hts in_X6 tyX6 tyX6_ok nmX6 hown hK.1 hP hD hS 0 (fs := mF fi fr) rfl rfl 0 (by decide) (hts _ q1512) (fun _ hh => hh) rfl (v := .int 1) rfl rfl rfl (mF_lt (by decide)) dX6_written_97 (fun H locs hP hD hS => ?_)
        rw [mS_0] at hP hD
        refine lv_iconst (v := 0) hx hb dX6_written_100 (by decide) ?_
        obtain rfl := Option.some.inj h
        exact W.zret hx hb hr rfl (fun t ht hW => ⟨⟨_, _, rfl, ⟨⟨rfl, rfl⟩, rfl⟩, ⟨by rw [ht]; exact hP, hK.warm hW, hD⟩⟩, hS.F ht⟩) hS.2.2 dX6_written_101
      · replace h := ga_iff c_1 h
        refine lv_iload_n hx hb dX6_written_21 rfl (lv_at hl 1 rfl) ?_
        refine lv_if_lt (tgt := 95) hx hb dX6_written_22 (by decide) (fun c_2 => ?_) (fun c_2 => ?_)
        · replace h := ga_ift c_2 h
          refine lv_aload_n hx hb dX6_written_95 rfl (lv_at hl 0 rfl) ?_
          refine lv_iconst (v := 1) hx hb dX6_written_96 (by decide) ?_
          refine va_put hx hb hts in_X6 tyX6 tyX6_ok nmX6 hown hK.1 hP hD hS 0 (fs := mF fi fr) rfl rfl 0 (by decide) (hts _ q1512) (fun _ hh => hh) rfl (v := .int 1) rfl rfl rfl (mF_lt (by decide)) dX6_written_97 (fun H locs hP hD hS => ?_)
          rw [mS_0] at hP hD
          refine lv_iconst (v := 0) hx hb dX6_written_100 (by decide) ?_
          obtain rfl := Option.some.inj h
          exact W.zret hx hb hr rfl (fun t ht hW => ⟨⟨_, _, rfl, ⟨⟨rfl, rfl⟩, rfl⟩, ⟨by rw [ht]; exact hP, hK.warm hW, hD⟩⟩, hS.F ht⟩) hS.2.2 dX6_written_101
        · replace h := ga_iff c_2 h
          refine lv_iconst (v := 0) hx hb dX6_written_25 (by decide) ?_
          refine lv_istore (lv' := [(4, .int 0), (0, .ref b), (1, .int x1), (2, .int x2), (3, .int x3)]) hx hb dX6_written_26 hl (by decide) rfl (fun ls hl => ?_)
          exact ih.2 fi fa x2 x3 0 h _ _ hP hD hS _ (lv_sub hl [1, 2, 3, 4, 0] rfl)
    · intro fi fa x2 x3 x4 h H locs hP hD hS ls hl
      rw [lp_X6_written_9.eq_3] at h
      refine lv_iload hx hb dX6_written_28 (lv_at hl 4 rfl) ?_
      refine lv_iconst (v := 2) hx hb dX6_written_30 (by decide) ?_
      refine lv_icmp_ge (tgt := 79) hx hb dX6_written_31 (by decide) (fun c_3 => ?_) (fun c_3 => ?_)
      · replace h := ga_ift c_3 h
        refine lv_iload_n hx hb dX6_written_79 rfl (lv_at hl 2 rfl) ?_
        refine lv_if_ne (tgt := 86) hx hb dX6_written_80 (by decide) (fun c_4 => ?_) (fun c_4 => ?_)
        · replace h := ga_iff c_4 h
          refine lv_iinc (v := (x2 + (-1))) (lv' := [(2, .int (x2 + (-1))), (0, .ref b), (1, .int x1), (3, .int x3), (4, .int x4)]) hx hb dX6_written_86 hl (k := 2) rfl rfl (by decide) rfl (fun ls hl => ?_)
          refine lv_iinc (v := (x3 + 1)) (lv' := [(3, .int (x3 + 1)), (2, .int (x2 + (-1))), (0, .ref b), (1, .int x1), (4, .int x4)]) hx hb dX6_written_89 hl (k := 3) rfl rfl (by decide) rfl (fun ls hl => ?_)
          refine lv_goto (tgt := 9) hx hb dX6_written_92 (by decide) ?_
          exact ih.1 fi fa (x2 + (-1)) (x3 + 1) h _ _ hP hD hS _ (lv_sub hl [2, 3, 1, 0] rfl)
        · replace h := ga_ift c_4 h
          refine lv_bipush (v := 59) hx hb dX6_written_83 (by decide) ?_
          obtain rfl := Option.some.inj h
          exact W.zret hx hb hr rfl (fun t ht hW => ⟨⟨_, _, rfl, ⟨⟨rfl, rfl⟩, rfl⟩, ⟨by rw [ht]; exact hP, hK.warm hW, hD⟩⟩, hS.F ht⟩) hS.2.2 dX6_written_85
      · replace h := ga_iff c_3 h
        refine lv_aload_n hx hb dX6_written_34 rfl (lv_at hl 0 rfl) ?_
        refine va_get hx hb hts in_X6 hown hK.1 hP 0 (fs := mF fi fr) rfl rfl 9 (by decide) (hts _ q1521) (fun _ hh => hh) (v := .ref (fr 9)) rfl dX6_written_35 ?_
        refine lv_bipush (v := 7) hx hb dX6_written_38 (by decide) ?_
        refine lv_iload_n hx hb dX6_written_40 rfl (lv_at hl 3 rfl) ?_
        refine lv_imul hx hb dX6_written_41 ?_
        refine lv_iload hx hb dX6_written_42 (lv_at hl 4 rfl) ?_
        refine lv_iadd hx hb dX6_written_44 ?_
        obtain ⟨i_5, h⟩ := ga_gif h
        refine va_iald hx hb hK.1 hP 6 0 (f := fa 9) rfl rfl (ga_in i_5) dX6_written_45 ?_
        refine lv_istore (lv' := [(5, .int (fa 9 (ix ((7 * x3) + x4)))), (0, .ref b), (1, .int x1), (2, .int x2), (3, .int x3), (4, .int x4)]) hx hb dX6_written_46 hl (by decide) rfl (fun ls hl => ?_)
        refine lv_iload_n hx hb dX6_written_48 rfl (lv_at hl 3 rfl) ?_
        refine lv_iload hx hb dX6_written_49 (lv_at hl 0 rfl) ?_
        obtain ⟨r_6, e_7, h⟩ := ga_gb h
        refine vp_callSi (W.runS (As := [.int (fa 9 (ix ((7 * x3) + x4)))]) (rest := [.int x2]) ⟨hx, hb, hml, hown, hts⟩ (met_X6_lengthOf l D cA N (fa 9 (ix ((7 * x3) + x4))) r_6 e_7) (va_cwS 1 hts (lw_S q1863 q1864 q79 q1865) rfl rfl rfl (by decide +kernel) ⟨Nat.le_of_ble_eq_true rfl, Nat.le_of_ble_eq_true rfl⟩) (ga_PS hK ga_P0) rfl rfl hl.1 rfl (lv_room (Nat.le_of_ble_eq_true rfl)) dX6_written_51 ⟨Nat.le_of_ble_eq_true rfl, Nat.le_of_ble_eq_true rfl⟩) (fun z_8 w_9 => ?_)
        obtain rfl := w_9
        refine lv_icmp_ge (tgt := 65) hx hb dX6_written_54 (by decide) (fun c_10 => ?_) (fun c_10 => ?_)
        · replace h := ga_ift c_10 h
          refine lv_iload_n hx hb dX6_written_65 rfl (lv_at hl 3 rfl) ?_
          refine lv_iload hx hb dX6_written_66 (lv_at hl 0 rfl) ?_
          obtain ⟨r_11, e_12, h⟩ := ga_gb h
          refine vp_callSi (W.runS (As := [.int (fa 9 (ix ((7 * x3) + x4)))]) (rest := [.int x2]) ⟨hx, hb, hml, hown, hts⟩ (met_X6_lengthOf l D cA N (fa 9 (ix ((7 * x3) + x4))) r_11 e_12) (va_cwS 1 hts (lw_S q1863 q1864 q79 q1865) rfl rfl rfl (by decide +kernel) ⟨Nat.le_of_ble_eq_true rfl, Nat.le_of_ble_eq_true rfl⟩) (ga_PS hK ga_P0) rfl rfl hl.1 rfl (lv_room (Nat.le_of_ble_eq_true rfl)) dX6_written_68 ⟨Nat.le_of_ble_eq_true rfl, Nat.le_of_ble_eq_true rfl⟩) (fun z_13 w_14 => ?_)
          obtain rfl := w_14
          refine lv_isub hx hb dX6_written_71 ?_
          refine lv_istore_n (lv' := [(2, .int (x2 - r_11)), (5, .int (fa 9 (ix ((7 * x3) + x4)))), (0, .ref b), (1, .int x1), (3, .int x3), (4, .int x4)]) hx hb dX6_written_72 rfl hl (by decide) rfl (fun ls hl => ?_)
          refine lv_iinc (v := (x4 + 1)) (lv' := [(4, .int (x4 + 1)), (2, .int (x2 - r_11)), (5, .int (fa 9 (ix ((7 * x3) + x4)))), (0, .ref b), (1, .int x1), (3, .int x3)]) hx hb dX6_written_73 hl (k := 5) rfl rfl (by decide) rfl (fun ls hl => ?_)
          refine lv_goto (tgt := 28) hx hb dX6_written_76 (by decide) ?_
          exact ih.2 fi fa (x2 - r_11) x3 (x4 + 1) h _ _ hP hD hS _ (lv_sub hl [3, 4, 1, 5, 0] rfl)
        · replace h := ga_iff c_10 h
          refine lv_aload_n hx hb dX6_written_57 rfl (lv_at hl 1 rfl) ?_
          refine lv_iload hx hb dX6_written_58 (lv_at hl 0 rfl) ?_
          refine lv_iload_n hx hb dX6_written_60 rfl (lv_at hl 3 rfl) ?_
          obtain ⟨r_15, e_16, h⟩ := ga_gb h
          refine vp_callSi (W.runV (As := [.int (fa 9 (ix ((7 * x3) + x4))), .int x2]) (rest := []) ⟨hx, hb, hml, hown, hts⟩ (met_X6_signOf l D cA b fr fi fa N (fa 9 (ix ((7 * x3) + x4))) x2 r_15 e_16) (cwV 2 hts (lw_V q1866 q1868 qs65 q79 q1869) rfl rfl rfl (by decide +kernel) ⟨Nat.le_of_ble_eq_true rfl, Nat.le_of_ble_eq_true rfl⟩) (ga_PV hK hP (va_recv hK.1 hP (ci := 0) (q0 := 0) rfl rfl)) rfl rfl hl.1 rfl (lv_room (Nat.le_of_ble_eq_true rfl)) dX6_written_61 ⟨Nat.le_of_ble_eq_true rfl, Nat.le_of_ble_eq_true rfl⟩) (fun z_17 w_18 => ?_)
          obtain ⟨rfl, b_19⟩ := w_18
          obtain rfl := Option.some.inj h
          exact W.zret hx hb hr b_19 (fun t ht hW => ⟨⟨_, _, rfl, ⟨⟨rfl, b_19⟩, rfl⟩, ⟨by rw [ht]; exact hP, hK.warm hW, hD⟩⟩, hS.F ht⟩) hS.2.2 dX6_written_64
def F_X6_written (N : Nat) (fi : Nat → Int32) (fa : Nat → Nat → Int32) (x1 : Int32) : Option (Int32 × ga_MS) :=
  lp_X6_written_9 N x1 N 0 (upd fi 0 0) fa x1 0 0
set_option maxHeartbeats 4000000 in
theorem met_X6_written (l : Launch) (D : va_G) (cA : Nat → ClassId) (A : Nat → Prop) (b : Nat) (fr : Nat → Nat) (fi : Nat → Int32) (fa : Nat → Nat → Int32) (N : Nat) (x1 : Int32) (out : Int32 × ga_MS) (h : F_X6_written N fi fa x1 = some out) : Met l yX6_written (ws_ yX6_written cX6_written 6 (some .char)) rm_X6_written (ga_N D cA A (mW b cA fr fi fa) [.ref b, .int x1]) (va_Qi (fun (r : Int32) (u : ga_MS) => (out.1 = r ∧ ga_C r) ∧ out.2 = u) (ga_MB D cA A b fr) A) 0 0 A := by
  refine Met.ofW (cc := cX6_written) (maxL := 6) (ret := (some .char)) (by decide) rfl ?_
  intro p e s m args below meth c s₁ B hml hv
  obtain ⟨rfl, hP, hK, hD⟩ := hv
  have hS : va_S A s.heap s.heap [] := va_S.rf
  have C : ga_cx p m c meth s _ RX6 cX6_written 6 (some .char) := ga_cx_of B hml
  have C0 := C
  obtain ⟨hx, hb, hr, hlocks, hml, hown, hts⟩ := C0
  have hl := lv_entry ([.ref b, .int x1]) (n := 6) (Nat.le_of_ble_eq_true rfl)
  rw [lg_entry_eq]
  generalize (lg_sl ([.ref b, .int x1]) ++ List.replicate (6 - (lg_sl ([.ref b, .int x1])).length) Slot.unset).toArray = ls at hl ⊢
  have hl : lv_has ls 6 [(0, .ref b), (1, .int x1)] := hl
  rw [F_X6_written] at h
  refine lv_aload_n hx hb dX6_written_0 rfl (lv_at hl 0 rfl) ?_
  refine lv_iconst (v := 0) hx hb dX6_written_1 (by decide) ?_
  refine va_put hx hb hts in_X6 tyX6 tyX6_ok nmX6 hown hK.1 hP hD hS 0 (fs := mF fi fr) rfl rfl 0 (by decide) (hts _ q1512) (fun _ hh => hh) rfl (v := .int 0) rfl rfl rfl (mF_lt (by decide)) dX6_written_2 (fun H locs hP hD hS => ?_)
  rw [mS_0] at hP hD
  refine lv_iload_n hx hb dX6_written_5 rfl (lv_at hl 1 rfl) ?_
  refine lv_istore_n (lv' := [(2, .int x1), (0, .ref b), (1, .int x1)]) hx hb dX6_written_6 rfl hl (by decide) rfl (fun ls hl => ?_)
  refine lv_iconst (v := 0) hx hb dX6_written_7 (by decide) ?_
  refine lv_istore_n (lv' := [(3, .int 0), (2, .int x1), (0, .ref b), (1, .int x1)]) hx hb dX6_written_8 rfl hl (by decide) rfl (fun ls hl => ?_)
  exact (w_X6_written_9 C hK N).1 (upd fi 0 0) fa x1 0 h _ _ hP hD hS _ (lv_sub hl [2, 3, 1, 0] rfl)
abbrev rm_X6_save : Room := { frames := 2, cells := 0, slots := 0, locals := 35 }
def F_X6_save (N : Nat) (fi : Nat → Int32) (fa : Nat → Nat → Int32)  : Option (Int32 × ga_MS) :=
  ((F_X6_copies_5_11 N (upd fi 0 0) fa 155).bind fun r_1 =>
  ((F_X6_copies_8_12 N r_1.1 r_1.2 (155 * ((r_1.2 5) (ix 153)))).bind fun r_6 =>
  ((F_X6_copies_9_13 N r_6.1 r_6.2 (7 * ((r_6.2 5) (ix 153)))).bind fun r_11 =>
  ((F_X6_copies_10_14 N r_11.1 r_11.2 (8 * ((r_11.2 5) (ix 153)))).bind fun r_16 =>
  ((F_X6_copies_4_15 N r_16.1 r_16.2 2).bind fun r_21 =>
  some (((r_21.2 5) (ix 153)), (upd (upd (upd (upd r_21.1 16 (r_21.1 1)) 17 (r_21.1 2)) 18 (r_21.1 3)) 19 1, r_21.2)))))))
set_option maxHeartbeats 4000000 in
theorem met_X6_save (l : Launch) (D : va_G) (cA : Nat → ClassId) (A : Nat → Prop) (b : Nat) (fr : Nat → Nat) (fi : Nat → Int32) (fa : Nat → Nat → Int32) (N : Nat)  (out : Int32 × ga_MS) (h : F_X6_save N fi fa = some out) : Met l yX6_save (ws_ yX6_save cX6_save 1 (some .int)) rm_X6_save (ga_N D cA A (mW b cA fr fi fa) [.ref b]) (va_Qi (fun (r : Int32) (u : ga_MS) => (out.1 = r) ∧ out.2 = u) (ga_MB D cA A b fr) A) 0 0 A := by
  refine Met.ofW (cc := cX6_save) (maxL := 1) (ret := (some .int)) (by decide) rfl ?_
  intro p e s m args below meth c s₁ B hml hv
  obtain ⟨rfl, hP, hK, hD⟩ := hv
  have hS : va_S A s.heap s.heap [] := va_S.rf
  have C : ga_cx p m c meth s _ RX6 cX6_save 1 (some .int) := ga_cx_of B hml
  have C0 := C
  obtain ⟨hx, hb, hr, hlocks, hml, hown, hts⟩ := C0
  have hl := lv_entry ([.ref b]) (n := 1) (Nat.le_of_ble_eq_true rfl)
  rw [lg_entry_eq]
  generalize (lg_sl ([.ref b]) ++ List.replicate (1 - (lg_sl ([.ref b])).length) Slot.unset).toArray = ls at hl ⊢
  have hl : lv_has ls 1 [(0, .ref b)] := hl
  rw [F_X6_save] at h
  refine lv_aload_n hx hb dX6_save_0 rfl (lv_at hl 0 rfl) ?_
  refine lv_iconst (v := 0) hx hb dX6_save_1 (by decide) ?_
  refine va_put hx hb hts in_X6 tyX6 tyX6_ok nmX6 hown hK.1 hP hD hS 0 (fs := mF fi fr) rfl rfl 0 (by decide) (hts _ q1512) (fun _ hh => hh) rfl (v := .int 0) rfl rfl rfl (mF_lt (by decide)) dX6_save_2 (fun H locs hP hD hS => ?_)
  rw [mS_0] at hP hD
  refine lv_aload_n hx hb dX6_save_5 rfl (lv_at hl 0 rfl) ?_
  refine va_get hx hb hts in_X6 hown hK.1 hP 0 (fs := mF (upd fi 0 0) fr) rfl rfl 5 (by decide) (hts _ q1517) (fun _ hh => hh) (v := .ref (fr 5)) rfl dX6_save_6 ?_
  refine lv_aload_n hx hb dX6_save_9 rfl (lv_at hl 0 rfl) ?_
  refine va_get hx hb hts in_X6 hown hK.1 hP 0 (fs := mF (upd fi 0 0) fr) rfl rfl 11 (by decide) (hts _ q1523) (fun _ hh => hh) (v := .ref (fr 11)) rfl dX6_save_10 ?_
  refine lv_sipush (v := 155) hx hb dX6_save_13 (by decide) ?_
  obtain ⟨r_1, e_2, h⟩ := ga_gb h
  refine va_callv (va_runS (As := [.ref (fr 5), .ref (fr 11), .int 155]) (rest := []) ⟨hx, hb, hml, hown, hts⟩ (met_X6_copies_5_11 l D cA A b fr (upd fi 0 0) fa N 155 r_1 e_2) (va_cwS 3 hts (lw_S q1806 q1807 q79 q1808) rfl rfl rfl (by decide +kernel) ⟨Nat.le_of_ble_eq_true rfl, Nat.le_of_ble_eq_true rfl⟩) (ga_NS hK hP hD) rfl rfl hl.1 rfl (lv_room (Nat.le_of_ble_eq_true rfl)) dX6_save_16 ⟨Nat.le_of_ble_eq_true rfl, Nat.le_of_ble_eq_true rfl⟩) hS (fun _ _ hq => hq) (fun _ hq => hq) (fun u t H locs ht _ w_4 hB _ _ hS => ?_)
  obtain rfl := w_4
  obtain ⟨hP, -, hD⟩ := hB
  rw [ht] at hP
  refine lv_aload_n hx hb dX6_save_19 rfl (lv_at hl 0 rfl) ?_
  refine va_get hx hb hts in_X6 hown hK.1 hP 0 (fs := mF r_1.1 fr) rfl rfl 8 (by decide) (hts _ q1520) (fun _ hh => hh) (v := .ref (fr 8)) rfl dX6_save_20 ?_
  refine lv_aload_n hx hb dX6_save_23 rfl (lv_at hl 0 rfl) ?_
  refine va_get hx hb hts in_X6 hown hK.1 hP 0 (fs := mF r_1.1 fr) rfl rfl 12 (by decide) (hts _ q1524) (fun _ hh => hh) (v := .ref (fr 12)) rfl dX6_save_24 ?_
  refine lv_sipush (v := 155) hx hb dX6_save_27 (by decide) ?_
  refine lv_aload_n hx hb dX6_save_30 rfl (lv_at hl 0 rfl) ?_
  refine va_get hx hb hts in_X6 hown hK.1 hP 0 (fs := mF r_1.1 fr) rfl rfl 5 (by decide) (hts _ q1517) (fun _ hh => hh) (v := .ref (fr 5)) rfl dX6_save_31 ?_
  refine lv_sipush (v := 153) hx hb dX6_save_34 (by decide) ?_
  refine va_iald hx hb hK.1 hP 2 0 (f := r_1.2 5) rfl rfl (ga_in (by decide)) dX6_save_37 ?_
  refine lv_imul hx hb dX6_save_38 ?_
  obtain ⟨r_6, e_7, h⟩ := ga_gb h
  refine va_callv (va_runS (As := [.ref (fr 8), .ref (fr 12), .int (155 * ((r_1.2 5) (ix 153)))]) (rest := []) ⟨hx, hb, hml, hown, hts⟩ (met_X6_copies_8_12 l D cA A b fr r_1.1 r_1.2 N (155 * ((r_1.2 5) (ix 153))) r_6 e_7) (va_cwS 3 hts (lw_S q1806 q1807 q79 q1808) rfl rfl rfl (by decide +kernel) ⟨Nat.le_of_ble_eq_true rfl, Nat.le_of_ble_eq_true rfl⟩) (ga_NS hK hP hD) rfl rfl hl.1 rfl (lv_room (Nat.le_of_ble_eq_true rfl)) dX6_save_39 ⟨Nat.le_of_ble_eq_true rfl, Nat.le_of_ble_eq_true rfl⟩) hS (fun _ _ hq => hq) (fun _ hq => hq) (fun u t H locs ht _ w_9 hB _ _ hS => ?_)
  obtain rfl := w_9
  obtain ⟨hP, -, hD⟩ := hB
  rw [ht] at hP
  refine lv_aload_n hx hb dX6_save_42 rfl (lv_at hl 0 rfl) ?_
  refine va_get hx hb hts in_X6 hown hK.1 hP 0 (fs := mF r_6.1 fr) rfl rfl 9 (by decide) (hts _ q1521) (fun _ hh => hh) (v := .ref (fr 9)) rfl dX6_save_43 ?_
  refine lv_aload_n hx hb dX6_save_46 rfl (lv_at hl 0 rfl) ?_
  refine va_get hx hb hts in_X6 hown hK.1 hP 0 (fs := mF r_6.1 fr) rfl rfl 13 (by decide) (hts _ q1525) (fun _ hh => hh) (v := .ref (fr 13)) rfl dX6_save_47 ?_
  refine lv_bipush (v := 7) hx hb dX6_save_50 (by decide) ?_
  refine lv_aload_n hx hb dX6_save_52 rfl (lv_at hl 0 rfl) ?_
  refine va_get hx hb hts in_X6 hown hK.1 hP 0 (fs := mF r_6.1 fr) rfl rfl 5 (by decide) (hts _ q1517) (fun _ hh => hh) (v := .ref (fr 5)) rfl dX6_save_53 ?_
  refine lv_sipush (v := 153) hx hb dX6_save_56 (by decide) ?_
  refine va_iald hx hb hK.1 hP 2 0 (f := r_6.2 5) rfl rfl (ga_in (by decide)) dX6_save_59 ?_
  refine lv_imul hx hb dX6_save_60 ?_
  obtain ⟨r_11, e_12, h⟩ := ga_gb h
  refine va_callv (va_runS (As := [.ref (fr 9), .ref (fr 13), .int (7 * ((r_6.2 5) (ix 153)))]) (rest := []) ⟨hx, hb, hml, hown, hts⟩ (met_X6_copies_9_13 l D cA A b fr r_6.1 r_6.2 N (7 * ((r_6.2 5) (ix 153))) r_11 e_12) (va_cwS 3 hts (lw_S q1806 q1807 q79 q1808) rfl rfl rfl (by decide +kernel) ⟨Nat.le_of_ble_eq_true rfl, Nat.le_of_ble_eq_true rfl⟩) (ga_NS hK hP hD) rfl rfl hl.1 rfl (lv_room (Nat.le_of_ble_eq_true rfl)) dX6_save_61 ⟨Nat.le_of_ble_eq_true rfl, Nat.le_of_ble_eq_true rfl⟩) hS (fun _ _ hq => hq) (fun _ hq => hq) (fun u t H locs ht _ w_14 hB _ _ hS => ?_)
  obtain rfl := w_14
  obtain ⟨hP, -, hD⟩ := hB
  rw [ht] at hP
  refine lv_aload_n hx hb dX6_save_64 rfl (lv_at hl 0 rfl) ?_
  refine va_get hx hb hts in_X6 hown hK.1 hP 0 (fs := mF r_11.1 fr) rfl rfl 10 (by decide) (hts _ q1522) (fun _ hh => hh) (v := .ref (fr 10)) rfl dX6_save_65 ?_
  refine lv_aload_n hx hb dX6_save_68 rfl (lv_at hl 0 rfl) ?_
  refine va_get hx hb hts in_X6 hown hK.1 hP 0 (fs := mF r_11.1 fr) rfl rfl 14 (by decide) (hts _ q1526) (fun _ hh => hh) (v := .ref (fr 14)) rfl dX6_save_69 ?_
  refine lv_bipush (v := 8) hx hb dX6_save_72 (by decide) ?_
  refine lv_aload_n hx hb dX6_save_74 rfl (lv_at hl 0 rfl) ?_
  refine va_get hx hb hts in_X6 hown hK.1 hP 0 (fs := mF r_11.1 fr) rfl rfl 5 (by decide) (hts _ q1517) (fun _ hh => hh) (v := .ref (fr 5)) rfl dX6_save_75 ?_
  refine lv_sipush (v := 153) hx hb dX6_save_78 (by decide) ?_
  refine va_iald hx hb hK.1 hP 2 0 (f := r_11.2 5) rfl rfl (ga_in (by decide)) dX6_save_81 ?_
  refine lv_imul hx hb dX6_save_82 ?_
  obtain ⟨r_16, e_17, h⟩ := ga_gb h
  refine va_callv (va_runS (As := [.ref (fr 10), .ref (fr 14), .int (8 * ((r_11.2 5) (ix 153)))]) (rest := []) ⟨hx, hb, hml, hown, hts⟩ (met_X6_copies_10_14 l D cA A b fr r_11.1 r_11.2 N (8 * ((r_11.2 5) (ix 153))) r_16 e_17) (va_cwS 3 hts (lw_S q1806 q1807 q79 q1808) rfl rfl rfl (by decide +kernel) ⟨Nat.le_of_ble_eq_true rfl, Nat.le_of_ble_eq_true rfl⟩) (ga_NS hK hP hD) rfl rfl hl.1 rfl (lv_room (Nat.le_of_ble_eq_true rfl)) dX6_save_83 ⟨Nat.le_of_ble_eq_true rfl, Nat.le_of_ble_eq_true rfl⟩) hS (fun _ _ hq => hq) (fun _ hq => hq) (fun u t H locs ht _ w_19 hB _ _ hS => ?_)
  obtain rfl := w_19
  obtain ⟨hP, -, hD⟩ := hB
  rw [ht] at hP
  refine lv_aload_n hx hb dX6_save_86 rfl (lv_at hl 0 rfl) ?_
  refine va_get hx hb hts in_X6 hown hK.1 hP 0 (fs := mF r_16.1 fr) rfl rfl 4 (by decide) (hts _ q1516) (fun _ hh => hh) (v := .ref (fr 4)) rfl dX6_save_87 ?_
  refine lv_aload_n hx hb dX6_save_90 rfl (lv_at hl 0 rfl) ?_
  refine va_get hx hb hts in_X6 hown hK.1 hP 0 (fs := mF r_16.1 fr) rfl rfl 15 (by decide) (hts _ q1527) (fun _ hh => hh) (v := .ref (fr 15)) rfl dX6_save_91 ?_
  refine lv_iconst (v := 2) hx hb dX6_save_94 (by decide) ?_
  obtain ⟨r_21, e_22, h⟩ := ga_gb h
  refine va_callv (va_runS (As := [.ref (fr 4), .ref (fr 15), .int 2]) (rest := []) ⟨hx, hb, hml, hown, hts⟩ (met_X6_copies_4_15 l D cA A b fr r_16.1 r_16.2 N 2 r_21 e_22) (va_cwS 3 hts (lw_S q1806 q1807 q79 q1808) rfl rfl rfl (by decide +kernel) ⟨Nat.le_of_ble_eq_true rfl, Nat.le_of_ble_eq_true rfl⟩) (ga_NS hK hP hD) rfl rfl hl.1 rfl (lv_room (Nat.le_of_ble_eq_true rfl)) dX6_save_95 ⟨Nat.le_of_ble_eq_true rfl, Nat.le_of_ble_eq_true rfl⟩) hS (fun _ _ hq => hq) (fun _ hq => hq) (fun u t H locs ht _ w_24 hB _ _ hS => ?_)
  obtain rfl := w_24
  obtain ⟨hP, -, hD⟩ := hB
  rw [ht] at hP
  refine lv_aload_n hx hb dX6_save_98 rfl (lv_at hl 0 rfl) ?_
  refine lv_aload_n hx hb dX6_save_99 rfl (lv_at hl 0 rfl) ?_
  refine va_get hx hb hts in_X6 hown hK.1 hP 0 (fs := mF r_21.1 fr) rfl rfl 1 (by decide) (hts _ q1513) (fun _ hh => hh) (v := .int (r_21.1 1)) rfl dX6_save_100 ?_
  refine va_put hx hb hts in_X6 tyX6 tyX6_ok nmX6 hown hK.1 hP hD hS 0 (fs := mF r_21.1 fr) rfl rfl 16 (by decide) (hts _ q1528) (fun _ hh => hh) rfl (v := .int (r_21.1 1)) rfl rfl rfl (mF_lt (by decide)) dX6_save_103 (fun H locs hP hD hS => ?_)
  rw [mS_16] at hP hD
  refine lv_aload_n hx hb dX6_save_106 rfl (lv_at hl 0 rfl) ?_
  refine lv_aload_n hx hb dX6_save_107 rfl (lv_at hl 0 rfl) ?_
  refine va_get hx hb hts in_X6 hown hK.1 hP 0 (fs := mF (upd r_21.1 16 (r_21.1 1)) fr) rfl rfl 2 (by decide) (hts _ q1514) (fun _ hh => hh) (v := .int (r_21.1 2)) rfl dX6_save_108 ?_
  refine va_put hx hb hts in_X6 tyX6 tyX6_ok nmX6 hown hK.1 hP hD hS 0 (fs := mF (upd r_21.1 16 (r_21.1 1)) fr) rfl rfl 17 (by decide) (hts _ q1529) (fun _ hh => hh) rfl (v := .int (r_21.1 2)) rfl rfl rfl (mF_lt (by decide)) dX6_save_111 (fun H locs hP hD hS => ?_)
  rw [mS_17] at hP hD
  refine lv_aload_n hx hb dX6_save_114 rfl (lv_at hl 0 rfl) ?_
  refine lv_aload_n hx hb dX6_save_115 rfl (lv_at hl 0 rfl) ?_
  refine va_get hx hb hts in_X6 hown hK.1 hP 0 (fs := mF (upd (upd r_21.1 16 (r_21.1 1)) 17 (r_21.1 2)) fr) rfl rfl 3 (by decide) (hts _ q1515) (fun _ hh => hh) (v := .int (r_21.1 3)) rfl dX6_save_116 ?_
  refine va_put hx hb hts in_X6 tyX6 tyX6_ok nmX6 hown hK.1 hP hD hS 0 (fs := mF (upd (upd r_21.1 16 (r_21.1 1)) 17 (r_21.1 2)) fr) rfl rfl 18 (by decide) (hts _ q1530) (fun _ hh => hh) rfl (v := .int (r_21.1 3)) rfl rfl rfl (mF_lt (by decide)) dX6_save_119 (fun H locs hP hD hS => ?_)
  rw [mS_18] at hP hD
  refine lv_aload_n hx hb dX6_save_122 rfl (lv_at hl 0 rfl) ?_
  refine lv_iconst (v := 1) hx hb dX6_save_123 (by decide) ?_
  refine va_put hx hb hts in_X6 tyX6 tyX6_ok nmX6 hown hK.1 hP hD hS 0 (fs := mF (upd (upd (upd r_21.1 16 (r_21.1 1)) 17 (r_21.1 2)) 18 (r_21.1 3)) fr) rfl rfl 19 (by decide) (hts _ q1531) (fun _ hh => hh) rfl (v := .int 1) rfl rfl rfl (mF_lt (by decide)) dX6_save_124 (fun H locs hP hD hS => ?_)
  rw [mS_19] at hP hD
  refine lv_aload_n hx hb dX6_save_127 rfl (lv_at hl 0 rfl) ?_
  refine va_get hx hb hts in_X6 hown hK.1 hP 0 (fs := mF (upd (upd (upd (upd r_21.1 16 (r_21.1 1)) 17 (r_21.1 2)) 18 (r_21.1 3)) 19 1) fr) rfl rfl 5 (by decide) (hts _ q1517) (fun _ hh => hh) (v := .ref (fr 5)) rfl dX6_save_128 ?_
  refine lv_sipush (v := 153) hx hb dX6_save_131 (by decide) ?_
  refine va_iald hx hb hK.1 hP 2 0 (f := r_21.2 5) rfl rfl (ga_in (by decide)) dX6_save_134 ?_
  obtain rfl := Option.some.inj h
  exact W.iret hx hb hr (fun t ht hW => ⟨⟨_, _, rfl, ⟨rfl, rfl⟩, ⟨by rw [ht]; exact hP, hK.warm hW, hD⟩⟩, hS.F ht⟩) hS.2.2 dX6_save_135
abbrev rm_X6_restore : Room := { frames := 2, cells := 0, slots := 0, locals := 35 }
def F_X6_restore (N : Nat) (fi : Nat → Int32) (fa : Nat → Nat → Int32)  : Option (Int32 × ga_MS) :=
  (if (fi 19) = 0 then
  some (0, (upd fi 0 1, fa))
  else
  ((F_X6_copies_11_5 N (upd fi 0 0) fa 155).bind fun r_4 =>
  ((F_X6_copies_12_8 N r_4.1 r_4.2 (155 * ((r_4.2 5) (ix 153)))).bind fun r_9 =>
  ((F_X6_copies_13_9 N r_9.1 r_9.2 (7 * ((r_9.2 5) (ix 153)))).bind fun r_14 =>
  ((F_X6_copies_14_10 N r_14.1 r_14.2 (8 * ((r_14.2 5) (ix 153)))).bind fun r_19 =>
  ((F_X6_copies_15_4 N r_19.1 r_19.2 2).bind fun r_24 =>
  some (((r_24.2 5) (ix 153)), (upd (upd (upd r_24.1 1 (r_24.1 16)) 2 (r_24.1 17)) 3 (r_24.1 18), r_24.2))))))))
set_option maxHeartbeats 4000000 in
theorem met_X6_restore (l : Launch) (D : va_G) (cA : Nat → ClassId) (A : Nat → Prop) (b : Nat) (fr : Nat → Nat) (fi : Nat → Int32) (fa : Nat → Nat → Int32) (N : Nat)  (out : Int32 × ga_MS) (h : F_X6_restore N fi fa = some out) : Met l yX6_restore (ws_ yX6_restore cX6_restore 1 (some .int)) rm_X6_restore (ga_N D cA A (mW b cA fr fi fa) [.ref b]) (va_Qi (fun (r : Int32) (u : ga_MS) => (out.1 = r) ∧ out.2 = u) (ga_MB D cA A b fr) A) 0 0 A := by
  refine Met.ofW (cc := cX6_restore) (maxL := 1) (ret := (some .int)) (by decide) rfl ?_
  intro p e s m args below meth c s₁ B hml hv
  obtain ⟨rfl, hP, hK, hD⟩ := hv
  have hS : va_S A s.heap s.heap [] := va_S.rf
  have C : ga_cx p m c meth s _ RX6 cX6_restore 1 (some .int) := ga_cx_of B hml
  have C0 := C
  obtain ⟨hx, hb, hr, hlocks, hml, hown, hts⟩ := C0
  have hl := lv_entry ([.ref b]) (n := 1) (Nat.le_of_ble_eq_true rfl)
  rw [lg_entry_eq]
  generalize (lg_sl ([.ref b]) ++ List.replicate (1 - (lg_sl ([.ref b])).length) Slot.unset).toArray = ls at hl ⊢
  have hl : lv_has ls 1 [(0, .ref b)] := hl
  rw [F_X6_restore] at h
  refine lv_aload_n hx hb dX6_restore_0 rfl (lv_at hl 0 rfl) ?_
  refine lv_aload_n hx hb dX6_restore_1 rfl (lv_at hl 0 rfl) ?_
  refine va_get hx hb hts in_X6 hown hK.1 hP 0 (fs := mF fi fr) rfl rfl 19 (by decide) (hts _ q1531) (fun _ hh => hh) (v := .int (fi 19)) rfl dX6_restore_2 ?_
  refine lv_if_eq (tgt := 12) hx hb dX6_restore_5 (by decide) (fun c_1 => ?_) (fun c_1 => ?_)
  · replace h := ga_ift c_1 h
    refine lv_iconst (v := 1) hx hb dX6_restore_12 (by decide) ?_
    refine va_put hx hb hts in_X6 tyX6 tyX6_ok nmX6 hown hK.1 hP hD hS 0 (fs := mF fi fr) rfl rfl 0 (by decide) (hts _ q1512) (fun _ hh => hh) rfl (v := .int 1) rfl rfl rfl (mF_lt (by decide)) dX6_restore_13 (fun H locs hP hD hS => ?_)
    rw [mS_0] at hP hD
    refine lv_aload_n hx hb dX6_restore_16 rfl (lv_at hl 0 rfl) ?_
    refine va_get hx hb hts in_X6 hown hK.1 hP 0 (fs := mF (upd fi 0 1) fr) rfl rfl 19 (by decide) (hts _ q1531) (fun _ hh => hh) (v := .int (fi 19)) rfl dX6_restore_17 ?_
    refine lv_if_ne (tgt := 25) hx hb dX6_restore_20 (by decide) (fun c_2 => absurd c_1 c_2) (fun _ => ?_)
    refine lv_iconst (v := 0) hx hb dX6_restore_23 (by decide) ?_
    obtain rfl := Option.some.inj h
    exact W.iret hx hb hr (fun t ht hW => ⟨⟨_, _, rfl, ⟨rfl, rfl⟩, ⟨by rw [ht]; exact hP, hK.warm hW, hD⟩⟩, hS.F ht⟩) hS.2.2 dX6_restore_24
  · replace h := ga_iff c_1 h
    refine lv_iconst (v := 0) hx hb dX6_restore_8 (by decide) ?_
    refine lv_goto (tgt := 13) hx hb dX6_restore_9 (by decide) ?_
    refine va_put hx hb hts in_X6 tyX6 tyX6_ok nmX6 hown hK.1 hP hD hS 0 (fs := mF fi fr) rfl rfl 0 (by decide) (hts _ q1512) (fun _ hh => hh) rfl (v := .int 0) rfl rfl rfl (mF_lt (by decide)) dX6_restore_13 (fun H locs hP hD hS => ?_)
    rw [mS_0] at hP hD
    refine lv_aload_n hx hb dX6_restore_16 rfl (lv_at hl 0 rfl) ?_
    refine va_get hx hb hts in_X6 hown hK.1 hP 0 (fs := mF (upd fi 0 0) fr) rfl rfl 19 (by decide) (hts _ q1531) (fun _ hh => hh) (v := .int (fi 19)) rfl dX6_restore_17 ?_
    refine lv_if_ne (tgt := 25) hx hb dX6_restore_20 (by decide) (fun _ => ?_) (fun c_3 => absurd c_3 c_1)
    refine lv_aload_n hx hb dX6_restore_25 rfl (lv_at hl 0 rfl) ?_
    refine va_get hx hb hts in_X6 hown hK.1 hP 0 (fs := mF (upd fi 0 0) fr) rfl rfl 11 (by decide) (hts _ q1523) (fun _ hh => hh) (v := .ref (fr 11)) rfl dX6_restore_26 ?_
    refine lv_aload_n hx hb dX6_restore_29 rfl (lv_at hl 0 rfl) ?_
    refine va_get hx hb hts in_X6 hown hK.1 hP 0 (fs := mF (upd fi 0 0) fr) rfl rfl 5 (by decide) (hts _ q1517) (fun _ hh => hh) (v := .ref (fr 5)) rfl dX6_restore_30 ?_
    refine lv_sipush (v := 155) hx hb dX6_restore_33 (by decide) ?_
    obtain ⟨r_4, e_5, h⟩ := ga_gb h
    refine va_callv (va_runS (As := [.ref (fr 11), .ref (fr 5), .int 155]) (rest := []) ⟨hx, hb, hml, hown, hts⟩ (met_X6_copies_11_5 l D cA A b fr (upd fi 0 0) fa N 155 r_4 e_5) (va_cwS 3 hts (lw_S q1806 q1807 q79 q1808) rfl rfl rfl (by decide +kernel) ⟨Nat.le_of_ble_eq_true rfl, Nat.le_of_ble_eq_true rfl⟩) (ga_NS hK hP hD) rfl rfl hl.1 rfl (lv_room (Nat.le_of_ble_eq_true rfl)) dX6_restore_36 ⟨Nat.le_of_ble_eq_true rfl, Nat.le_of_ble_eq_true rfl⟩) hS (fun _ _ hq => hq) (fun _ hq => hq) (fun u t H locs ht _ w_7 hB _ _ hS => ?_)
    obtain rfl := w_7
    obtain ⟨hP, -, hD⟩ := hB
    rw [ht] at hP
    refine lv_aload_n hx hb dX6_restore_39 rfl (lv_at hl 0 rfl) ?_
    refine va_get hx hb hts in_X6 hown hK.1 hP 0 (fs := mF r_4.1 fr) rfl rfl 12 (by decide) (hts _ q1524) (fun _ hh => hh) (v := .ref (fr 12)) rfl dX6_restore_40 ?_
    refine lv_aload_n hx hb dX6_restore_43 rfl (lv_at hl 0 rfl) ?_
    refine va_get hx hb hts in_X6 hown hK.1 hP 0 (fs := mF r_4.1 fr) rfl rfl 8 (by decide) (hts _ q1520) (fun _ hh => hh) (v := .ref (fr 8)) rfl dX6_restore_44 ?_
    refine lv_sipush (v := 155) hx hb dX6_restore_47 (by decide) ?_
    refine lv_aload_n hx hb dX6_restore_50 rfl (lv_at hl 0 rfl) ?_
    refine va_get hx hb hts in_X6 hown hK.1 hP 0 (fs := mF r_4.1 fr) rfl rfl 5 (by decide) (hts _ q1517) (fun _ hh => hh) (v := .ref (fr 5)) rfl dX6_restore_51 ?_
    refine lv_sipush (v := 153) hx hb dX6_restore_54 (by decide) ?_
    refine va_iald hx hb hK.1 hP 2 0 (f := r_4.2 5) rfl rfl (ga_in (by decide)) dX6_restore_57 ?_
    refine lv_imul hx hb dX6_restore_58 ?_
    obtain ⟨r_9, e_10, h⟩ := ga_gb h
    refine va_callv (va_runS (As := [.ref (fr 12), .ref (fr 8), .int (155 * ((r_4.2 5) (ix 153)))]) (rest := []) ⟨hx, hb, hml, hown, hts⟩ (met_X6_copies_12_8 l D cA A b fr r_4.1 r_4.2 N (155 * ((r_4.2 5) (ix 153))) r_9 e_10) (va_cwS 3 hts (lw_S q1806 q1807 q79 q1808) rfl rfl rfl (by decide +kernel) ⟨Nat.le_of_ble_eq_true rfl, Nat.le_of_ble_eq_true rfl⟩) (ga_NS hK hP hD) rfl rfl hl.1 rfl (lv_room (Nat.le_of_ble_eq_true rfl)) dX6_restore_59 ⟨Nat.le_of_ble_eq_true rfl, Nat.le_of_ble_eq_true rfl⟩) hS (fun _ _ hq => hq) (fun _ hq => hq) (fun u t H locs ht _ w_12 hB _ _ hS => ?_)
    obtain rfl := w_12
    obtain ⟨hP, -, hD⟩ := hB
    rw [ht] at hP
    refine lv_aload_n hx hb dX6_restore_62 rfl (lv_at hl 0 rfl) ?_
    refine va_get hx hb hts in_X6 hown hK.1 hP 0 (fs := mF r_9.1 fr) rfl rfl 13 (by decide) (hts _ q1525) (fun _ hh => hh) (v := .ref (fr 13)) rfl dX6_restore_63 ?_
    refine lv_aload_n hx hb dX6_restore_66 rfl (lv_at hl 0 rfl) ?_
    refine va_get hx hb hts in_X6 hown hK.1 hP 0 (fs := mF r_9.1 fr) rfl rfl 9 (by decide) (hts _ q1521) (fun _ hh => hh) (v := .ref (fr 9)) rfl dX6_restore_67 ?_
    refine lv_bipush (v := 7) hx hb dX6_restore_70 (by decide) ?_
    refine lv_aload_n hx hb dX6_restore_72 rfl (lv_at hl 0 rfl) ?_
    refine va_get hx hb hts in_X6 hown hK.1 hP 0 (fs := mF r_9.1 fr) rfl rfl 5 (by decide) (hts _ q1517) (fun _ hh => hh) (v := .ref (fr 5)) rfl dX6_restore_73 ?_
    refine lv_sipush (v := 153) hx hb dX6_restore_76 (by decide) ?_
    refine va_iald hx hb hK.1 hP 2 0 (f := r_9.2 5) rfl rfl (ga_in (by decide)) dX6_restore_79 ?_
    refine lv_imul hx hb dX6_restore_80 ?_
    obtain ⟨r_14, e_15, h⟩ := ga_gb h
    refine va_callv (va_runS (As := [.ref (fr 13), .ref (fr 9), .int (7 * ((r_9.2 5) (ix 153)))]) (rest := []) ⟨hx, hb, hml, hown, hts⟩ (met_X6_copies_13_9 l D cA A b fr r_9.1 r_9.2 N (7 * ((r_9.2 5) (ix 153))) r_14 e_15) (va_cwS 3 hts (lw_S q1806 q1807 q79 q1808) rfl rfl rfl (by decide +kernel) ⟨Nat.le_of_ble_eq_true rfl, Nat.le_of_ble_eq_true rfl⟩) (ga_NS hK hP hD) rfl rfl hl.1 rfl (lv_room (Nat.le_of_ble_eq_true rfl)) dX6_restore_81 ⟨Nat.le_of_ble_eq_true rfl, Nat.le_of_ble_eq_true rfl⟩) hS (fun _ _ hq => hq) (fun _ hq => hq) (fun u t H locs ht _ w_17 hB _ _ hS => ?_)
    obtain rfl := w_17
    obtain ⟨hP, -, hD⟩ := hB
    rw [ht] at hP
    refine lv_aload_n hx hb dX6_restore_84 rfl (lv_at hl 0 rfl) ?_
    refine va_get hx hb hts in_X6 hown hK.1 hP 0 (fs := mF r_14.1 fr) rfl rfl 14 (by decide) (hts _ q1526) (fun _ hh => hh) (v := .ref (fr 14)) rfl dX6_restore_85 ?_
    refine lv_aload_n hx hb dX6_restore_88 rfl (lv_at hl 0 rfl) ?_
    refine va_get hx hb hts in_X6 hown hK.1 hP 0 (fs := mF r_14.1 fr) rfl rfl 10 (by decide) (hts _ q1522) (fun _ hh => hh) (v := .ref (fr 10)) rfl dX6_restore_89 ?_
    refine lv_bipush (v := 8) hx hb dX6_restore_92 (by decide) ?_
    refine lv_aload_n hx hb dX6_restore_94 rfl (lv_at hl 0 rfl) ?_
    refine va_get hx hb hts in_X6 hown hK.1 hP 0 (fs := mF r_14.1 fr) rfl rfl 5 (by decide) (hts _ q1517) (fun _ hh => hh) (v := .ref (fr 5)) rfl dX6_restore_95 ?_
    refine lv_sipush (v := 153) hx hb dX6_restore_98 (by decide) ?_
    refine va_iald hx hb hK.1 hP 2 0 (f := r_14.2 5) rfl rfl (ga_in (by decide)) dX6_restore_101 ?_
    refine lv_imul hx hb dX6_restore_102 ?_
    obtain ⟨r_19, e_20, h⟩ := ga_gb h
    refine va_callv (va_runS (As := [.ref (fr 14), .ref (fr 10), .int (8 * ((r_14.2 5) (ix 153)))]) (rest := []) ⟨hx, hb, hml, hown, hts⟩ (met_X6_copies_14_10 l D cA A b fr r_14.1 r_14.2 N (8 * ((r_14.2 5) (ix 153))) r_19 e_20) (va_cwS 3 hts (lw_S q1806 q1807 q79 q1808) rfl rfl rfl (by decide +kernel) ⟨Nat.le_of_ble_eq_true rfl, Nat.le_of_ble_eq_true rfl⟩) (ga_NS hK hP hD) rfl rfl hl.1 rfl (lv_room (Nat.le_of_ble_eq_true rfl)) dX6_restore_103 ⟨Nat.le_of_ble_eq_true rfl, Nat.le_of_ble_eq_true rfl⟩) hS (fun _ _ hq => hq) (fun _ hq => hq) (fun u t H locs ht _ w_22 hB _ _ hS => ?_)
    obtain rfl := w_22
    obtain ⟨hP, -, hD⟩ := hB
    rw [ht] at hP
    refine lv_aload_n hx hb dX6_restore_106 rfl (lv_at hl 0 rfl) ?_
    refine va_get hx hb hts in_X6 hown hK.1 hP 0 (fs := mF r_19.1 fr) rfl rfl 15 (by decide) (hts _ q1527) (fun _ hh => hh) (v := .ref (fr 15)) rfl dX6_restore_107 ?_
    refine lv_aload_n hx hb dX6_restore_110 rfl (lv_at hl 0 rfl) ?_
    refine va_get hx hb hts in_X6 hown hK.1 hP 0 (fs := mF r_19.1 fr) rfl rfl 4 (by decide) (hts _ q1516) (fun _ hh => hh) (v := .ref (fr 4)) rfl dX6_restore_111 ?_
    refine lv_iconst (v := 2) hx hb dX6_restore_114 (by decide) ?_
    obtain ⟨r_24, e_25, h⟩ := ga_gb h
    refine va_callv (va_runS (As := [.ref (fr 15), .ref (fr 4), .int 2]) (rest := []) ⟨hx, hb, hml, hown, hts⟩ (met_X6_copies_15_4 l D cA A b fr r_19.1 r_19.2 N 2 r_24 e_25) (va_cwS 3 hts (lw_S q1806 q1807 q79 q1808) rfl rfl rfl (by decide +kernel) ⟨Nat.le_of_ble_eq_true rfl, Nat.le_of_ble_eq_true rfl⟩) (ga_NS hK hP hD) rfl rfl hl.1 rfl (lv_room (Nat.le_of_ble_eq_true rfl)) dX6_restore_115 ⟨Nat.le_of_ble_eq_true rfl, Nat.le_of_ble_eq_true rfl⟩) hS (fun _ _ hq => hq) (fun _ hq => hq) (fun u t H locs ht _ w_27 hB _ _ hS => ?_)
    obtain rfl := w_27
    obtain ⟨hP, -, hD⟩ := hB
    rw [ht] at hP
    refine lv_aload_n hx hb dX6_restore_118 rfl (lv_at hl 0 rfl) ?_
    refine lv_aload_n hx hb dX6_restore_119 rfl (lv_at hl 0 rfl) ?_
    refine va_get hx hb hts in_X6 hown hK.1 hP 0 (fs := mF r_24.1 fr) rfl rfl 16 (by decide) (hts _ q1528) (fun _ hh => hh) (v := .int (r_24.1 16)) rfl dX6_restore_120 ?_
    refine va_put hx hb hts in_X6 tyX6 tyX6_ok nmX6 hown hK.1 hP hD hS 0 (fs := mF r_24.1 fr) rfl rfl 1 (by decide) (hts _ q1513) (fun _ hh => hh) rfl (v := .int (r_24.1 16)) rfl rfl rfl (mF_lt (by decide)) dX6_restore_123 (fun H locs hP hD hS => ?_)
    rw [mS_1] at hP hD
    refine lv_aload_n hx hb dX6_restore_126 rfl (lv_at hl 0 rfl) ?_
    refine lv_aload_n hx hb dX6_restore_127 rfl (lv_at hl 0 rfl) ?_
    refine va_get hx hb hts in_X6 hown hK.1 hP 0 (fs := mF (upd r_24.1 1 (r_24.1 16)) fr) rfl rfl 17 (by decide) (hts _ q1529) (fun _ hh => hh) (v := .int (r_24.1 17)) rfl dX6_restore_128 ?_
    refine va_put hx hb hts in_X6 tyX6 tyX6_ok nmX6 hown hK.1 hP hD hS 0 (fs := mF (upd r_24.1 1 (r_24.1 16)) fr) rfl rfl 2 (by decide) (hts _ q1514) (fun _ hh => hh) rfl (v := .int (r_24.1 17)) rfl rfl rfl (mF_lt (by decide)) dX6_restore_131 (fun H locs hP hD hS => ?_)
    rw [mS_2] at hP hD
    refine lv_aload_n hx hb dX6_restore_134 rfl (lv_at hl 0 rfl) ?_
    refine lv_aload_n hx hb dX6_restore_135 rfl (lv_at hl 0 rfl) ?_
    refine va_get hx hb hts in_X6 hown hK.1 hP 0 (fs := mF (upd (upd r_24.1 1 (r_24.1 16)) 2 (r_24.1 17)) fr) rfl rfl 18 (by decide) (hts _ q1530) (fun _ hh => hh) (v := .int (r_24.1 18)) rfl dX6_restore_136 ?_
    refine va_put hx hb hts in_X6 tyX6 tyX6_ok nmX6 hown hK.1 hP hD hS 0 (fs := mF (upd (upd r_24.1 1 (r_24.1 16)) 2 (r_24.1 17)) fr) rfl rfl 3 (by decide) (hts _ q1515) (fun _ hh => hh) rfl (v := .int (r_24.1 18)) rfl rfl rfl (mF_lt (by decide)) dX6_restore_139 (fun H locs hP hD hS => ?_)
    rw [mS_3] at hP hD
    refine lv_aload_n hx hb dX6_restore_142 rfl (lv_at hl 0 rfl) ?_
    refine va_get hx hb hts in_X6 hown hK.1 hP 0 (fs := mF (upd (upd (upd r_24.1 1 (r_24.1 16)) 2 (r_24.1 17)) 3 (r_24.1 18)) fr) rfl rfl 5 (by decide) (hts _ q1517) (fun _ hh => hh) (v := .ref (fr 5)) rfl dX6_restore_143 ?_
    refine lv_sipush (v := 153) hx hb dX6_restore_146 (by decide) ?_
    refine va_iald hx hb hK.1 hP 2 0 (f := r_24.2 5) rfl rfl (ga_in (by decide)) dX6_restore_149 ?_
    obtain rfl := Option.some.inj h
    exact W.iret hx hb hr (fun t ht hW => ⟨⟨_, _, rfl, ⟨rfl, rfl⟩, ⟨by rw [ht]; exact hP, hK.warm hW, hD⟩⟩, hS.F ht⟩) hS.2.2 dX6_restore_150
