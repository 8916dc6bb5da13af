abbrev rm_X6_no : Room := { frames := 1, cells := 0, slots := 0, locals := 12 }
def F_X6_no (N : Nat) (fi : Nat → Int32) (fa : Nat → Nat → Int32) (x1 : Int32) : Option (Int32 × ga_MS) :=
  some (0, (upd fi 0 x1, fa))
set_option maxHeartbeats 4000000 in
theorem met_X6_no (l : Launch) (D : va_G) (cA : Nat → ClassId) (A : Nat → Prop) (b : Nat) (fr : Nat → Nat) (fi : Nat → Int32) (fa : Nat → Nat → Int32) (N : Nat) (x1 : Int32) (out : Int32 × ga_MS) (h : F_X6_no N fi fa x1 = some out) : Met l yX6_no (ws_ yX6_no cX6_no 2 (some .int)) rm_X6_no (ga_N D cA A (mW b cA fr fi fa) [.ref b, .int x1]) (va_Qi (fun (r : Int32) (u : ga_MS) => (out.1 = r) ∧ out.2 = u) (ga_MB D cA A b fr) A) 0 0 A := by
  refine Met.ofW (cc := cX6_no) (maxL := 2) (ret := (some .int)) (by decide) rfl ?_
  intro p e s m args below meth c s₁ B hml hv
  obtain ⟨rfl, hP, hK, hD⟩ := hv
  have hS : va_S A s.heap s.heap [] := va_S.rf
  have C : ga_cx p m c meth s _ RX6 cX6_no 2 (some .int) := ga_cx_of B hml
  have C0 := C
  obtain ⟨hx, hb, hr, hlocks, hml, hown, hts⟩ := C0
  have hl := lv_entry ([.ref b, .int x1]) (n := 2) (Nat.le_of_ble_eq_true rfl)
  rw [lg_entry_eq]
  generalize (lg_sl ([.ref b, .int x1]) ++ List.replicate (2 - (lg_sl ([.ref b, .int x1])).length) Slot.unset).toArray = ls at hl ⊢
  have hl : lv_has ls 2 [(0, .ref b), (1, .int x1)] := hl
  rw [F_X6_no] at h
  refine lv_aload_n hx hb dX6_no_0 rfl (lv_at hl 0 rfl) ?_
  refine lv_iload_n hx hb dX6_no_1 rfl (lv_at hl 1 rfl) ?_
  refine va_put hx hb hts in_X6 tyX6 tyX6_ok nmX6 hown hK.1 hP hD hS 0 (fs := mF fi fr) rfl rfl 0 (by decide) (hts _ q1512) (fun _ hh => hh) rfl (v := .int x1) rfl rfl rfl (mF_lt (by decide)) dX6_no_2 (fun H locs hP hD hS => ?_)
  rw [mS_0] at hP hD
  refine lv_iconst (v := 0) hx hb dX6_no_5 (by decide) ?_
  cases h
  exact W.iret hx hb hr (fun t ht hW => ⟨⟨_, _, rfl, ⟨rfl, rfl⟩, ⟨by rw [ht]; exact hP, hK.warm hW, hD⟩⟩, hS.F ht⟩) hS.2.2 dX6_no_6
abbrev rm_X6_begins : Room := { frames := 1, cells := 0, slots := 0, locals := 12 }
def lp_X6_begins_41 (N : Nat) (x1 : Int32) : Nat → (Nat → Int32) → (Nat → Nat → Int32) → Int32 → Option (ga_MS)
  | 0, _, _, _ => none
  | n+1, fi, fa, x2 =>
    (if x1 ≤ x2 then
    some (fi, fa)
    else
    (if x2 = 0 then
    (if inb ((1 * (fi 1)) + 1) 155 = true then
    lp_X6_begins_41 N x1 n fi (va_up fa 5 (upd (fa 5) (ix ((1 * (fi 1)) + 1)) 2)) (x2 + 1)
    else none)
    else
    (if x2 = 2 then
    (if x2 = 3 then
    (if inb ((1 * (fi 1)) + 1) 155 = true then
    lp_X6_begins_41 N x1 n fi (va_up fa 5 (upd (fa 5) (ix ((1 * (fi 1)) + 1)) 2)) (x2 + 1)
    else none)
    else
    (if inb ((1 * (fi 1)) + ((fi 1) - 2)) 155 = true then
    lp_X6_begins_41 N x1 n fi (va_up fa 5 (upd (fa 5) (ix ((1 * (fi 1)) + ((fi 1) - 2))) 2)) (x2 + 1)
    else none))
    else
    (if x2 = 3 then
    (if inb ((((fi 2) - 2) * (fi 1)) + 1) 155 = true then
    lp_X6_begins_41 N x1 n fi (va_up fa 5 (upd (fa 5) (ix ((((fi 2) - 2) * (fi 1)) + 1)) 2)) (x2 + 1)
    else none)
    else
    (if inb ((((fi 2) - 2) * (fi 1)) + ((fi 1) - 2)) 155 = true then
    lp_X6_begins_41 N x1 n fi (va_up fa 5 (upd (fa 5) (ix ((((fi 2) - 2) * (fi 1)) + ((fi 1) - 2))) 2)) (x2 + 1)
    else none)))))
set_option maxHeartbeats 4000000 in
theorem w_X6_begins_41 {p : Program} {l : Launch} {e : Env} {s : State} {m : MethodId} {args : Array Value} {below : List Frame} {meth : Method} {c : Code} {D : va_G} {cA : Nat → ClassId} {A : Nat → Prop} {b : Nat} {fr : Nat → Nat} {N : Nat} {x1 : Int32} (C : ga_cx p m c meth s args RX6 cX6_begins 5 none) (hK : ga_K D cA s) {out : ga_MS} : ∀ n : Nat, ∀ (fi : Nat → Int32) (fa : Nat → Nat → Int32) (x2 : Int32), lp_X6_begins_41 N x1 n fi fa x2 = some out → ∀ (H : Heap) (locs : List Loc), va_P D ga_cl (mW b cA fr fi fa) H → va_D A (mW b cA fr fi fa) → va_S A s.heap H locs → ∀ ls : Array Slot, lv_has ls 5 [(0, .ref b), (1, .int x1), (2, .int x2)] → W p l e (headSpec (ws_ yX6_begins cX6_begins 5 none) rm_X6_begins).room s m args below meth c H locs 0 0 (MQ below (va_Qv (fun (u : ga_MS) => out = u) (ga_MB D cA A b fr) A) args s 0 0 A) (F0 m 41 ls []) := by
  have C0 := C
  obtain ⟨hx, hb, hr, hlocks, hml, hown, hts⟩ := C0
  intro n
  induction n with
  | zero =>
    intro fi fa x2 h
    rw [lp_X6_begins_41.eq_1] at h
    cases h
  | succ n ih =>
    intro fi fa x2 h H locs hP hD hS ls hl
    rw [lp_X6_begins_41.eq_2] at h
    refine lv_iload_n hx hb dX6_begins_41 rfl (lv_at hl 2 rfl) ?_
    refine lv_iload_n hx hb dX6_begins_42 rfl (lv_at hl 1 rfl) ?_
    refine lv_icmp_ge (tgt := 108) hx hb dX6_begins_43 (by decide) (fun c_7 => ?_) (fun c_7 => ?_)
    · replace h := ga_ift c_7 h
      cases h
      exact W.vret hx hb hr (fun t ht hW => ⟨⟨_, rfl, rfl, ⟨by rw [ht]; exact hP, hK.warm hW, hD⟩⟩, hS.F ht⟩) hS.2.2 dX6_begins_108
    · replace h := ga_iff c_7 h
      refine lv_iload_n hx hb dX6_begins_46 rfl (lv_at hl 2 rfl) ?_
      refine lv_if_eq (tgt := 55) hx hb dX6_begins_47 (by decide) (fun c_8 => ?_) (fun c_8 => ?_)
      · replace h := ga_ift c_8 h
        refine lv_iconst (v := 1) hx hb dX6_begins_55 (by decide) ?_
        refine lv_goto (tgt := 65) hx hb dX6_begins_56 (by decide) ?_
        refine lv_istore_n (lv' := [(3, .int 1), (0, .ref b), (1, .int x1), (2, .int x2)]) hx hb dX6_begins_65 rfl hl (by decide) rfl (fun ls hl => ?_)
        refine lv_iload_n hx hb dX6_begins_66 rfl (lv_at hl 3 rfl) ?_
        refine lv_if_eq (tgt := 75) hx hb dX6_begins_67 (by decide) (fun _ => ?_) (fun c_9 => absurd c_8 c_9)
        refine lv_iconst (v := 1) hx hb dX6_begins_75 (by decide) ?_
        refine lv_goto (tgt := 85) hx hb dX6_begins_76 (by decide) ?_
        refine lv_istore (lv' := [(4, .int 1), (3, .int 1), (0, .ref b), (1, .int x1), (2, .int x2)]) hx hb dX6_begins_85 hl (by decide) rfl (fun ls hl => ?_)
        refine lv_aload_n hx hb dX6_begins_87 rfl (lv_at hl 2 rfl) ?_
        refine va_get hx hb hts in_X6 hown hK.1 hP 0 (fs := mF fi fr) rfl rfl 5 (by decide) (hts _ q1517) (fun _ hh => hh) (v := .ref (fr 5)) rfl dX6_begins_88 ?_
        refine lv_iload_n hx hb dX6_begins_91 rfl (lv_at hl 1 rfl) ?_
        refine lv_aload_n hx hb dX6_begins_92 rfl (lv_at hl 2 rfl) ?_
        refine va_get hx hb hts in_X6 hown hK.1 hP 0 (fs := mF fi fr) rfl rfl 1 (by decide) (hts _ q1513) (fun _ hh => hh) (v := .int (fi 1)) rfl dX6_begins_93 ?_
        refine lv_imul hx hb dX6_begins_96 ?_
        refine lv_iload hx hb dX6_begins_97 (lv_at hl 0 rfl) ?_
        refine lv_iadd hx hb dX6_begins_99 ?_
        refine lv_iconst (v := 2) hx hb dX6_begins_100 (by decide) ?_
        obtain ⟨i_10, h⟩ := ga_gif h
        refine va_iast hx hb hK.1 hP hD hS 2 0 (f := fa 5) rfl rfl (ga_in i_10) dX6_begins_101 (fun H locs hP hD hS => ?_)
        replace hP := ga_cg (mA_5 b cA fr fi fa (upd (fa 5) (ix ((1 * (fi 1)) + 1)) 2)) hP
        replace hD := ga_cd (mA_5 b cA fr fi fa (upd (fa 5) (ix ((1 * (fi 1)) + 1)) 2)) hD
        refine lv_iinc (v := (x2 + 1)) (lv' := [(2, .int (x2 + 1)), (4, .int 1), (3, .int 1), (0, .ref b), (1, .int x1)]) hx hb dX6_begins_102 hl (k := 4) rfl rfl (by decide) rfl (fun ls hl => ?_)
        refine lv_goto (tgt := 41) hx hb dX6_begins_105 (by decide) ?_
        exact ih fi (va_up fa 5 (upd (fa 5) (ix ((1 * (fi 1)) + 1)) 2)) (x2 + 1) h _ _ hP hD hS _ (lv_sub hl [3, 4, 0] rfl)
      · replace h := ga_iff c_8 h
        refine lv_iload_n hx hb dX6_begins_50 rfl (lv_at hl 2 rfl) ?_
        refine lv_iconst (v := 2) hx hb dX6_begins_51 (by decide) ?_
        refine lv_icmp_ne (tgt := 59) hx hb dX6_begins_52 (by decide) (fun c_11 => ?_) (fun c_11 => ?_)
        · replace h := ga_iff c_11 h
          refine lv_aload_n hx hb dX6_begins_59 rfl (lv_at hl 0 rfl) ?_
          refine va_get hx hb hts in_X6 hown hK.1 hP 0 (fs := mF fi fr) rfl rfl 2 (by decide) (hts _ q1514) (fun _ hh => hh) (v := .int (fi 2)) rfl dX6_begins_60 ?_
          refine lv_iconst (v := 2) hx hb dX6_begins_63 (by decide) ?_
          refine lv_isub hx hb dX6_begins_64 ?_
          refine lv_istore_n (lv' := [(3, .int ((fi 2) - 2)), (0, .ref b), (1, .int x1), (2, .int x2)]) hx hb dX6_begins_65 rfl hl (by decide) rfl (fun ls hl => ?_)
          refine lv_iload_n hx hb dX6_begins_66 rfl (lv_at hl 3 rfl) ?_
          refine lv_if_eq (tgt := 75) hx hb dX6_begins_67 (by decide) (fun c_12 => absurd c_12 c_8) (fun _ => ?_)
          refine lv_iload_n hx hb dX6_begins_70 rfl (lv_at hl 3 rfl) ?_
          refine lv_iconst (v := 3) hx hb dX6_begins_71 (by decide) ?_
          refine lv_icmp_ne (tgt := 79) hx hb dX6_begins_72 (by decide) (fun c_13 => ?_) (fun c_13 => ?_)
          · replace h := ga_iff c_13 h
            refine lv_aload_n hx hb dX6_begins_79 rfl (lv_at hl 1 rfl) ?_
            refine va_get hx hb hts in_X6 hown hK.1 hP 0 (fs := mF fi fr) rfl rfl 1 (by decide) (hts _ q1513) (fun _ hh => hh) (v := .int (fi 1)) rfl dX6_begins_80 ?_
            refine lv_iconst (v := 2) hx hb dX6_begins_83 (by decide) ?_
            refine lv_isub hx hb dX6_begins_84 ?_
            refine lv_istore (lv' := [(4, .int ((fi 1) - 2)), (3, .int ((fi 2) - 2)), (0, .ref b), (1, .int x1), (2, .int x2)]) hx hb dX6_begins_85 hl (by decide) rfl (fun ls hl => ?_)
            refine lv_aload_n hx hb dX6_begins_87 rfl (lv_at hl 2 rfl) ?_
            refine va_get hx hb hts in_X6 hown hK.1 hP 0 (fs := mF fi fr) rfl rfl 5 (by decide) (hts _ q1517) (fun _ hh => hh) (v := .ref (fr 5)) rfl dX6_begins_88 ?_
            refine lv_iload_n hx hb dX6_begins_91 rfl (lv_at hl 1 rfl) ?_
            refine lv_aload_n hx hb dX6_begins_92 rfl (lv_at hl 2 rfl) ?_
            refine va_get hx hb hts in_X6 hown hK.1 hP 0 (fs := mF fi fr) rfl rfl 1 (by decide) (hts _ q1513) (fun _ hh => hh) (v := .int (fi 1)) rfl dX6_begins_93 ?_
            refine lv_imul hx hb dX6_begins_96 ?_
            refine lv_iload hx hb dX6_begins_97 (lv_at hl 0 rfl) ?_
            refine lv_iadd hx hb dX6_begins_99 ?_
            refine lv_iconst (v := 2) hx hb dX6_begins_100 (by decide) ?_
            obtain ⟨i_14, h⟩ := ga_gif h
            refine va_iast hx hb hK.1 hP hD hS 2 0 (f := fa 5) rfl rfl (ga_in i_14) dX6_begins_101 (fun H locs hP hD hS => ?_)
            replace hP := ga_cg (mA_5 b cA fr fi fa (upd (fa 5) (ix ((((fi 2) - 2) * (fi 1)) + ((fi 1) - 2))) 2)) hP
            replace hD := ga_cd (mA_5 b cA fr fi fa (upd (fa 5) (ix ((((fi 2) - 2) * (fi 1)) + ((fi 1) - 2))) 2)) hD
            refine lv_iinc (v := (x2 + 1)) (lv' := [(2, .int (x2 + 1)), (4, .int ((fi 1) - 2)), (3, .int ((fi 2) - 2)), (0, .ref b), (1, .int x1)]) hx hb dX6_begins_102 hl (k := 4) rfl rfl (by decide) rfl (fun ls hl => ?_)
            refine lv_goto (tgt := 41) hx hb dX6_begins_105 (by decide) ?_
            exact ih fi (va_up fa 5 (upd (fa 5) (ix ((((fi 2) - 2) * (fi 1)) + ((fi 1) - 2))) 2)) (x2 + 1) h _ _ hP hD hS _ (lv_sub hl [3, 4, 0] rfl)
          · replace h := ga_ift c_13 h
            refine lv_iconst (v := 1) hx hb dX6_begins_75 (by decide) ?_
            refine lv_goto (tgt := 85) hx hb dX6_begins_76 (by decide) ?_
            refine lv_istore (lv' := [(4, .int 1), (3, .int ((fi 2) - 2)), (0, .ref b), (1, .int x1), (2, .int x2)]) hx hb dX6_begins_85 hl (by decide) rfl (fun ls hl => ?_)
            refine lv_aload_n hx hb dX6_begins_87 rfl (lv_at hl 2 rfl) ?_
            refine va_get hx hb hts in_X6 hown hK.1 hP 0 (fs := mF fi fr) rfl rfl 5 (by decide) (hts _ q1517) (fun _ hh => hh) (v := .ref (fr 5)) rfl dX6_begins_88 ?_
            refine lv_iload_n hx hb dX6_begins_91 rfl (lv_at hl 1 rfl) ?_
            refine lv_aload_n hx hb dX6_begins_92 rfl (lv_at hl 2 rfl) ?_
            refine va_get hx hb hts in_X6 hown hK.1 hP 0 (fs := mF fi fr) rfl rfl 1 (by decide) (hts _ q1513) (fun _ hh => hh) (v := .int (fi 1)) rfl dX6_begins_93 ?_
            refine lv_imul hx hb dX6_begins_96 ?_
            refine lv_iload hx hb dX6_begins_97 (lv_at hl 0 rfl) ?_
            refine lv_iadd hx hb dX6_begins_99 ?_
            refine lv_iconst (v := 2) hx hb dX6_begins_100 (by decide) ?_
            obtain ⟨i_15, h⟩ := ga_gif h
            refine va_iast hx hb hK.1 hP hD hS 2 0 (f := fa 5) rfl rfl (ga_in i_15) dX6_begins_101 (fun H locs hP hD hS => ?_)
            replace hP := ga_cg (mA_5 b cA fr fi fa (upd (fa 5) (ix ((((fi 2) - 2) * (fi 1)) + 1)) 2)) hP
            replace hD := ga_cd (mA_5 b cA fr fi fa (upd (fa 5) (ix ((((fi 2) - 2) * (fi 1)) + 1)) 2)) hD
            refine lv_iinc (v := (x2 + 1)) (lv' := [(2, .int (x2 + 1)), (4, .int 1), (3, .int ((fi 2) - 2)), (0, .ref b), (1, .int x1)]) hx hb dX6_begins_102 hl (k := 4) rfl rfl (by decide) rfl (fun ls hl => ?_)
            refine lv_goto (tgt := 41) hx hb dX6_begins_105 (by decide) ?_
            exact ih fi (va_up fa 5 (upd (fa 5) (ix ((((fi 2) - 2) * (fi 1)) + 1)) 2)) (x2 + 1) h _ _ hP hD hS _ (lv_sub hl [3, 4, 0] rfl)
        · replace h := ga_ift c_11 h
          refine lv_iconst (v := 1) hx hb dX6_begins_55 (by decide) ?_
          refine lv_goto (tgt := 65) hx hb dX6_begins_56 (by decide) ?_
          refine lv_istore_n (lv' := [(3, .int 1), (0, .ref b), (1, .int x1), (2, .int x2)]) hx hb dX6_begins_65 rfl hl (by decide) rfl (fun ls hl => ?_)
          refine lv_iload_n hx hb dX6_begins_66 rfl (lv_at hl 3 rfl) ?_
          refine lv_if_eq (tgt := 75) hx hb dX6_begins_67 (by decide) (fun c_16 => absurd c_16 c_8) (fun _ => ?_)
          refine lv_iload_n hx hb dX6_begins_70 rfl (lv_at hl 3 rfl) ?_
          refine lv_iconst (v := 3) hx hb dX6_begins_71 (by decide) ?_
          refine lv_icmp_ne (tgt := 79) hx hb dX6_begins_72 (by decide) (fun c_17 => ?_) (fun c_17 => ?_)
          · replace h := ga_iff c_17 h
            refine lv_aload_n hx hb dX6_begins_79 rfl (lv_at hl 1 rfl) ?_
            refine va_get hx hb hts in_X6 hown hK.1 hP 0 (fs := mF fi fr) rfl rfl 1 (by decide) (hts _ q1513) (fun _ hh => hh) (v := .int (fi 1)) rfl dX6_begins_80 ?_
            refine lv_iconst (v := 2) hx hb dX6_begins_83 (by decide) ?_
            refine lv_isub hx hb dX6_begins_84 ?_
            refine lv_istore (lv' := [(4, .int ((fi 1) - 2)), (3, .int 1), (0, .ref b), (1, .int x1), (2, .int x2)]) hx hb dX6_begins_85 hl (by decide) rfl (fun ls hl => ?_)
            refine lv_aload_n hx hb dX6_begins_87 rfl (lv_at hl 2 rfl) ?_
            refine va_get hx hb hts in_X6 hown hK.1 hP 0 (fs := mF fi fr) rfl rfl 5 (by decide) (hts _ q1517) (fun _ hh => hh) (v := .ref (fr 5)) rfl dX6_begins_88 ?_
            refine lv_iload_n hx hb dX6_begins_91 rfl (lv_at hl 1 rfl) ?_
            refine lv_aload_n hx hb dX6_begins_92 rfl (lv_at hl 2 rfl) ?_
            refine va_get hx hb hts in_X6 hown hK.1 hP 0 (fs := mF fi fr) rfl rfl 1 (by decide) (hts _ q1513) (fun _ hh => hh) (v := .int (fi 1)) rfl dX6_begins_93 ?_
            refine lv_imul hx hb dX6_begins_96 ?_
            refine lv_iload hx hb dX6_begins_97 (lv_at hl 0 rfl) ?_
            refine lv_iadd hx hb dX6_begins_99 ?_
            refine lv_iconst (v := 2) hx hb dX6_begins_100 (by decide) ?_
            obtain ⟨i_18, h⟩ := ga_gif h
            refine va_iast hx hb hK.1 hP hD hS 2 0 (f := fa 5) rfl rfl (ga_in i_18) dX6_begins_101 (fun H locs hP hD hS => ?_)
            replace hP := ga_cg (mA_5 b cA fr fi fa (upd (fa 5) (ix ((1 * (fi 1)) + ((fi 1) - 2))) 2)) hP
            replace hD := ga_cd (mA_5 b cA fr fi fa (upd (fa 5) (ix ((1 * (fi 1)) + ((fi 1) - 2))) 2)) hD
            refine lv_iinc (v := (x2 + 1)) (lv' := [(2, .int (x2 + 1)), (4, .int ((fi 1) - 2)), (3, .int 1), (0, .ref b), (1, .int x1)]) hx hb dX6_begins_102 hl (k := 4) rfl rfl (by decide) rfl (fun ls hl => ?_)
            refine lv_goto (tgt := 41) hx hb dX6_begins_105 (by decide) ?_
            exact ih fi (va_up fa 5 (upd (fa 5) (ix ((1 * (fi 1)) + ((fi 1) - 2))) 2)) (x2 + 1) h _ _ hP hD hS _ (lv_sub hl [3, 4, 0] rfl)
          · replace h := ga_ift c_17 h
            refine lv_iconst (v := 1) hx hb dX6_begins_75 (by decide) ?_
            refine lv_goto (tgt := 85) hx hb dX6_begins_76 (by decide) ?_
            refine lv_istore (lv' := [(4, .int 1), (3, .int 1), (0, .ref b), (1, .int x1), (2, .int x2)]) hx hb dX6_begins_85 hl (by decide) rfl (fun ls hl => ?_)
            refine lv_aload_n hx hb dX6_begins_87 rfl (lv_at hl 2 rfl) ?_
            refine va_get hx hb hts in_X6 hown hK.1 hP 0 (fs := mF fi fr) rfl rfl 5 (by decide) (hts _ q1517) (fun _ hh => hh) (v := .ref (fr 5)) rfl dX6_begins_88 ?_
            refine lv_iload_n hx hb dX6_begins_91 rfl (lv_at hl 1 rfl) ?_
            refine lv_aload_n hx hb dX6_begins_92 rfl (lv_at hl 2 rfl) ?_
            refine va_get hx hb hts in_X6 hown hK.1 hP 0 (fs := mF fi fr) rfl rfl 1 (by decide) (hts _ q1513) (fun _ hh => hh) (v := .int (fi 1)) rfl dX6_begins_93 ?_
            refine lv_imul hx hb dX6_begins_96 ?_
            refine lv_iload hx hb dX6_begins_97 (lv_at hl 0 rfl) ?_
            refine lv_iadd hx hb dX6_begins_99 ?_
            refine lv_iconst (v := 2) hx hb dX6_begins_100 (by decide) ?_
            obtain ⟨i_19, h⟩ := ga_gif h
            refine va_iast hx hb hK.1 hP hD hS 2 0 (f := fa 5) rfl rfl (ga_in i_19) dX6_begins_101 (fun H locs hP hD hS => ?_)
            replace hP := ga_cg (mA_5 b cA fr fi fa (upd (fa 5) (ix ((1 * (fi 1)) + 1)) 2)) hP
            replace hD := ga_cd (mA_5 b cA fr fi fa (upd (fa 5) (ix ((1 * (fi 1)) + 1)) 2)) hD
            refine lv_iinc (v := (x2 + 1)) (lv' := [(2, .int (x2 + 1)), (4, .int 1), (3, .int 1), (0, .ref b), (1, .int x1)]) hx hb dX6_begins_102 hl (k := 4) rfl rfl (by decide) rfl (fun ls hl => ?_)
            refine lv_goto (tgt := 41) hx hb dX6_begins_105 (by decide) ?_
            exact ih fi (va_up fa 5 (upd (fa 5) (ix ((1 * (fi 1)) + 1)) 2)) (x2 + 1) h _ _ hP hD hS _ (lv_sub hl [3, 4, 0] rfl)
def lp_X6_begins_2 (N : Nat) (x1 : Int32) : Nat → (Nat → Int32) → (Nat → Nat → Int32) → Int32 → Option (ga_MS)
  | 0, _, _, _ => none
  | n+1, fi, fa, x2 =>
    (if 155 ≤ x2 then
    lp_X6_begins_41 N x1 N fi fa 0
    else
    (if x2 < 49 then
    (if inb x2 155 = true then
    lp_X6_begins_2 N x1 n fi (va_up fa 5 (upd (fa 5) (ix x2) 0)) (x2 + 1)
    else none)
    else
    (if 147 ≤ x2 then
    (if inb x2 155 = true then
    lp_X6_begins_2 N x1 n fi (va_up fa 5 (upd (fa 5) (ix x2) 0)) (x2 + 1)
    else none)
    else
    (if inb x2 155 = true then
    lp_X6_begins_2 N x1 n fi (va_up fa 5 (upd (fa 5) (ix x2) (-1))) (x2 + 1)
    else none))))
set_option maxHeartbeats 4000000 in
theorem w_X6_begins_2 {p : Program} {l : Launch} {e : Env} {s : State} {m : MethodId} {args : Array Value} {below : List Frame} {meth : Method} {c : Code} {D : va_G} {cA : Nat → ClassId} {A : Nat → Prop} {b : Nat} {fr : Nat → Nat} {N : Nat} {x1 : Int32} (C : ga_cx p m c meth s args RX6 cX6_begins 5 none) (hK : ga_K D cA s) {out : ga_MS} : ∀ n : Nat, ∀ (fi : Nat → Int32) (fa : Nat → Nat → Int32) (x2 : Int32), lp_X6_begins_2 N x1 n fi fa x2 = some out → ∀ (H : Heap) (locs : List Loc), va_P D ga_cl (mW b cA fr fi fa) H → va_D A (mW b cA fr fi fa) → va_S A s.heap H locs → ∀ ls : Array Slot, lv_has ls 5 [(0, .ref b), (1, .int x1), (2, .int x2)] → W p l e (headSpec (ws_ yX6_begins cX6_begins 5 none) rm_X6_begins).room s m args below meth c H locs 0 0 (MQ below (va_Qv (fun (u : ga_MS) => out = u) (ga_MB D cA A b fr) A) args s 0 0 A) (F0 m 2 ls []) := by
  have C0 := C
  obtain ⟨hx, hb, hr, hlocks, hml, hown, hts⟩ := C0
  intro n
  induction n with
  | zero =>
    intro fi fa x2 h
    rw [lp_X6_begins_2.eq_1] at h
    cases h
  | succ n ih =>
    intro fi fa x2 h H locs hP hD hS ls hl
    rw [lp_X6_begins_2.eq_2] at h
    refine lv_iload_n hx hb dX6_begins_2 rfl (lv_at hl 2 rfl) ?_
    refine lv_sipush (v := 155) hx hb dX6_begins_3 (by decide) ?_
    refine lv_icmp_ge (tgt := 39) hx hb dX6_begins_6 (by decide) (fun c_1 => ?_) (fun c_1 => ?_)
    · replace h := ga_ift c_1 h
      refine lv_iconst (v := 0) hx hb dX6_begins_39 (by decide) ?_
      refine lv_istore_n (lv' := [(2, .int 0), (0, .ref b), (1, .int x1)]) hx hb dX6_begins_40 rfl hl (by decide) rfl (fun ls hl => ?_)
      exact w_X6_begins_41 C hK N fi fa 0 h _ _ hP hD hS _ (lv_sub hl [1, 2, 0] rfl)
    · replace h := ga_iff c_1 h
      refine lv_aload_n hx hb dX6_begins_9 rfl (lv_at hl 0 rfl) ?_
      refine va_get hx hb hts in_X6 hown hK.1 hP 0 (fs := mF fi fr) rfl rfl 5 (by decide) (hts _ q1517) (fun _ hh => hh) (v := .ref (fr 5)) rfl dX6_begins_10 ?_
      refine lv_iload_n hx hb dX6_begins_13 rfl (lv_at hl 2 rfl) ?_
      refine lv_iload_n hx hb dX6_begins_14 rfl (lv_at hl 2 rfl) ?_
      refine lv_bipush (v := 49) hx hb dX6_begins_15 (by decide) ?_
      refine lv_icmp_lt (tgt := 31) hx hb dX6_begins_17 (by decide) (fun c_2 => ?_) (fun c_2 => ?_)
      · replace h := ga_ift c_2 h
        refine lv_iconst (v := 0) hx hb dX6_begins_31 (by decide) ?_
        obtain ⟨i_3, h⟩ := ga_gif h
        refine va_iast hx hb hK.1 hP hD hS 2 0 (f := fa 5) rfl rfl (ga_in i_3) dX6_begins_32 (fun H locs hP hD hS => ?_)
        replace hP := ga_cg (mA_5 b cA fr fi fa (upd (fa 5) (ix x2) 0)) hP
        replace hD := ga_cd (mA_5 b cA fr fi fa (upd (fa 5) (ix x2) 0)) hD
        refine lv_iinc (v := (x2 + 1)) (lv' := [(2, .int (x2 + 1)), (0, .ref b), (1, .int x1)]) hx hb dX6_begins_33 hl (k := 2) rfl rfl (by decide) rfl (fun ls hl => ?_)
        refine lv_goto (tgt := 2) hx hb dX6_begins_36 (by decide) ?_
        exact ih fi (va_up fa 5 (upd (fa 5) (ix x2) 0)) (x2 + 1) h _ _ hP hD hS _ (lv_sub hl [1, 2, 0] rfl)
      · replace h := ga_iff c_2 h
        refine lv_iload_n hx hb dX6_begins_20 rfl (lv_at hl 2 rfl) ?_
        refine lv_sipush (v := 147) hx hb dX6_begins_21 (by decide) ?_
        refine lv_icmp_ge (tgt := 31) hx hb dX6_begins_24 (by decide) (fun c_4 => ?_) (fun c_4 => ?_)
        · replace h := ga_ift c_4 h
          refine lv_iconst (v := 0) hx hb dX6_begins_31 (by decide) ?_
          obtain ⟨i_5, h⟩ := ga_gif h
          refine va_iast hx hb hK.1 hP hD hS 2 0 (f := fa 5) rfl rfl (ga_in i_5) dX6_begins_32 (fun H locs hP hD hS => ?_)
          replace hP := ga_cg (mA_5 b cA fr fi fa (upd (fa 5) (ix x2) 0)) hP
          replace hD := ga_cd (mA_5 b cA fr fi fa (upd (fa 5) (ix x2) 0)) hD
          refine lv_iinc (v := (x2 + 1)) (lv' := [(2, .int (x2 + 1)), (0, .ref b), (1, .int x1)]) hx hb dX6_begins_33 hl (k := 2) rfl rfl (by decide) rfl (fun ls hl => ?_)
          refine lv_goto (tgt := 2) hx hb dX6_begins_36 (by decide) ?_
          exact ih fi (va_up fa 5 (upd (fa 5) (ix x2) 0)) (x2 + 1) h _ _ hP hD hS _ (lv_sub hl [1, 2, 0] rfl)
        · replace h := ga_iff c_4 h
          refine lv_iconst (v := (-1)) hx hb dX6_begins_27 (by decide) ?_
          refine lv_goto (tgt := 32) hx hb dX6_begins_28 (by decide) ?_
          obtain ⟨i_6, h⟩ := ga_gif h
          refine va_iast hx hb hK.1 hP hD hS 2 0 (f := fa 5) rfl rfl (ga_in i_6) dX6_begins_32 (fun H locs hP hD hS => ?_)
          replace hP := ga_cg (mA_5 b cA fr fi fa (upd (fa 5) (ix x2) (-1))) hP
          replace hD := ga_cd (mA_5 b cA fr fi fa (upd (fa 5) (ix x2) (-1))) hD
          refine lv_iinc (v := (x2 + 1)) (lv' := [(2, .int (x2 + 1)), (0, .ref b), (1, .int x1)]) hx hb dX6_begins_33 hl (k := 2) rfl rfl (by decide) rfl (fun ls hl => ?_)
          refine lv_goto (tgt := 2) hx hb dX6_begins_36 (by decide) ?_
          exact ih fi (va_up fa 5 (upd (fa 5) (ix x2) (-1))) (x2 + 1) h _ _ hP hD hS _ (lv_sub hl [1, 2, 0] rfl)
def F_X6_begins (N : Nat) (fi : Nat → Int32) (fa : Nat → Nat → Int32) (x1 : Int32) : Option (ga_MS) :=
  lp_X6_begins_2 N x1 N fi fa 0
set_option maxHeartbeats 4000000 in
theorem met_X6_begins (l : Launch) (D : va_G) (cA : Nat → ClassId) (A : Nat → Prop) (b : Nat) (fr : Nat → Nat) (fi : Nat → Int32) (fa : Nat → Nat → Int32) (N : Nat) (x1 : Int32) (out : ga_MS) (h : F_X6_begins N fi fa x1 = some out) : Met l yX6_begins (ws_ yX6_begins cX6_begins 5 none) rm_X6_begins (ga_N D cA A (mW b cA fr fi fa) [.ref b, .int x1]) (va_Qv (fun (u : ga_MS) => out = u) (ga_MB D cA A b fr) A) 0 0 A := by
  refine Met.ofW (cc := cX6_begins) (maxL := 5) (ret := none) (by decide) rfl ?_
  intro p e s m args below meth c s₁ B hml hv
  obtain ⟨rfl, hP, hK, hD⟩ := hv
  have hS : va_S A s.heap s.heap [] := va_S.rf
  have C : ga_cx p m c meth s _ RX6 cX6_begins 5 none := ga_cx_of B hml
  have C0 := C
  obtain ⟨hx, hb, hr, hlocks, hml, hown, hts⟩ := C0
  have hl := lv_entry ([.ref b, .int x1]) (n := 5) (Nat.le_of_ble_eq_true rfl)
  rw [lg_entry_eq]
  generalize (lg_sl ([.ref b, .int x1]) ++ List.replicate (5 - (lg_sl ([.ref b, .int x1])).length) Slot.unset).toArray = ls at hl ⊢
  have hl : lv_has ls 5 [(0, .ref b), (1, .int x1)] := hl
  rw [F_X6_begins] at h
  refine lv_iconst (v := 0) hx hb dX6_begins_0 (by decide) ?_
  refine lv_istore_n (lv' := [(2, .int 0), (0, .ref b), (1, .int x1)]) hx hb dX6_begins_1 rfl hl (by decide) rfl (fun ls hl => ?_)
  exact w_X6_begins_2 C hK N fi fa 0 h _ _ hP hD hS _ (lv_sub hl [1, 2, 0] rfl)
abbrev rm_X6_start : Room := { frames := 3, cells := 0, slots := 0, locals := 55 }
def F_X6_start (N : Nat) (fi : Nat → Int32) (fa : Nat → Nat → Int32) (x1 : Int32) (x2 : Int32) (x3 : Int32) : Option (Int32 × ga_MS) :=
  ((F_X6_isIn N x1 4 7).bind fun r_1 =>
  (if r_1 = 0 then
  some (0, (upd fi 0 1, fa))
  else
  ((F_X6_isIn N x2 4 7).bind fun r_8 =>
  (if r_8 = 0 then
  some (0, (upd fi 0 1, fa))
  else
  ((F_X6_isIn N x3 0 4).bind fun r_15 =>
  (if r_15 = 0 then
  some (0, (upd fi 0 1, fa))
  else
  ((F_X6_begins N (upd (upd (upd fi 0 0) 1 x1) 2 x2) (va_up (va_up fa 4 (upd (fa 4) (ix 0) 0)) 4 (upd (upd (fa 4) (ix 0) 0) (ix 1) 0)) x3).bind fun r_23 =>
  ((F_X6_many N r_23.1 r_23.2 0).bind fun r_28 =>
  some (r_28, (r_23.1, r_23.2))))))))))
set_option maxHeartbeats 4000000 in
theorem met_X6_start (l : Launch) (D : va_G) (cA : Nat → ClassId) (A : Nat → Prop) (b : Nat) (fr : Nat → Nat) (fi : Nat → Int32) (fa : Nat → Nat → Int32) (N : Nat) (x1 : Int32) (x2 : Int32) (x3 : Int32) (out : Int32 × ga_MS) (h : F_X6_start N fi fa x1 x2 x3 = some out) : Met l yX6_start (ws_ yX6_start cX6_start 4 (some .int)) rm_X6_start (ga_N D cA A (mW b cA fr fi fa) [.ref b, .int x1, .int x2, .int x3]) (va_Qi (fun (r : Int32) (u : ga_MS) => (out.1 = r) ∧ out.2 = u) (ga_MB D cA A b fr) A) 0 0 A := by
  refine Met.ofW (cc := cX6_start) (maxL := 4) (ret := (some .int)) (by decide) rfl ?_
  intro p e s m args below meth c s₁ B hml hv
  obtain ⟨rfl, hP, hK, hD⟩ := hv
  have hS : va_S A s.heap s.heap [] := va_S.rf
  have C : ga_cx p m c meth s _ RX6 cX6_start 4 (some .int) := ga_cx_of B hml
  have C0 := C
  obtain ⟨hx, hb, hr, hlocks, hml, hown, hts⟩ := C0
  have hl := lv_entry ([.ref b, .int x1, .int x2, .int x3]) (n := 4) (Nat.le_of_ble_eq_true rfl)
  rw [lg_entry_eq]
  generalize (lg_sl ([.ref b, .int x1, .int x2, .int x3]) ++ List.replicate (4 - (lg_sl ([.ref b, .int x1, .int x2, .int x3])).length) Slot.unset).toArray = ls at hl ⊢
  have hl : lv_has ls 4 [(0, .ref b), (1, .int x1), (2, .int x2), (3, .int x3)] := hl
  rw [F_X6_start] at h
  refine lv_aload_n hx hb dX6_start_0 rfl (lv_at hl 0 rfl) ?_
  refine lv_iload_n hx hb dX6_start_1 rfl (lv_at hl 1 rfl) ?_
  refine lv_iconst (v := 4) hx hb dX6_start_2 (by decide) ?_
  refine lv_bipush (v := 7) hx hb dX6_start_3 (by decide) ?_
  obtain ⟨r_1, e_2, h⟩ := ga_gb h
  refine vp_callSi (W.runS (As := [.int x1, .int 4, .int 7]) (rest := [.ref b]) ⟨hx, hb, hml, hown, hts⟩ (met_X6_isIn l D cA N x1 4 7 r_1 e_2) (va_cwS 3 hts (lw_S q1620 q1621 q79 q1622) rfl rfl rfl (by decide +kernel) ⟨Nat.le_of_ble_eq_true rfl, Nat.le_of_ble_eq_true rfl⟩) (ga_PS hK ga_P0) rfl rfl hl.1 rfl (lv_room (Nat.le_of_ble_eq_true rfl)) dX6_start_5 ⟨Nat.le_of_ble_eq_true rfl, Nat.le_of_ble_eq_true rfl⟩) (fun z_3 w_4 => ?_)
  obtain ⟨rfl, b_5⟩ := w_4
  refine lv_if_eq (tgt := 34) hx hb dX6_start_8 (by decide) (fun c_6 => ?_) (fun c_6 => ?_)
  · replace h := ga_ift c_6 h
    refine lv_iconst (v := 1) hx hb dX6_start_34 (by decide) ?_
    refine va_put hx hb hts in_X6 tyX6 tyX6_ok nmX6 hown hK.1 hP hD hS 0 (fs := mF fi fr) rfl rfl 0 (by decide) (hts _ q1512) (fun _ hh => hh) rfl (v := .int 1) rfl rfl rfl (mF_lt (by decide)) dX6_start_35 (fun H locs hP hD hS => ?_)
    rw [mS_0] at hP hD
    refine lv_aload_n hx hb dX6_start_38 rfl (lv_at hl 0 rfl) ?_
    refine va_get hx hb hts in_X6 hown hK.1 hP 0 (fs := mF (upd fi 0 1) fr) rfl rfl 0 (by decide) (hts _ q1512) (fun _ hh => hh) (v := .int 1) rfl dX6_start_39 ?_
    refine lv_iconst (v := 1) hx hb dX6_start_42 (by decide) ?_
    refine lv_icmp_ne (tgt := 48) hx hb dX6_start_43 (by decide) (fun c_7 => absurd (by decide) c_7) (fun _ => ?_)
    refine lv_iconst (v := 0) hx hb dX6_start_46 (by decide) ?_
    cases h
    exact W.iret hx hb hr (fun t ht hW => ⟨⟨_, _, rfl, ⟨rfl, rfl⟩, ⟨by rw [ht]; exact hP, hK.warm hW, hD⟩⟩, hS.F ht⟩) hS.2.2 dX6_start_47
  · replace h := ga_iff c_6 h
    refine lv_iload_n hx hb dX6_start_11 rfl (lv_at hl 2 rfl) ?_
    refine lv_iconst (v := 4) hx hb dX6_start_12 (by decide) ?_
    refine lv_bipush (v := 7) hx hb dX6_start_13 (by decide) ?_
    obtain ⟨r_8, e_9, h⟩ := ga_gb h
    refine vp_callSi (W.runS (As := [.int x2, .int 4, .int 7]) (rest := [.ref b]) ⟨hx, hb, hml, hown, hts⟩ (met_X6_isIn l D cA N x2 4 7 r_8 e_9) (va_cwS 3 hts (lw_S q1620 q1621 q79 q1622) rfl rfl rfl (by decide +kernel) ⟨Nat.le_of_ble_eq_true rfl, Nat.le_of_ble_eq_true rfl⟩) (ga_PS hK ga_P0) rfl rfl hl.1 rfl (lv_room (Nat.le_of_ble_eq_true rfl)) dX6_start_15 ⟨Nat.le_of_ble_eq_true rfl, Nat.le_of_ble_eq_true rfl⟩) (fun z_10 w_11 => ?_)
    obtain ⟨rfl, b_12⟩ := w_11
    refine lv_if_eq (tgt := 34) hx hb dX6_start_18 (by decide) (fun c_13 => ?_) (fun c_13 => ?_)
    · replace h := ga_ift c_13 h
      refine lv_iconst (v := 1) hx hb dX6_start_34 (by decide) ?_
      refine va_put hx hb hts in_X6 tyX6 tyX6_ok nmX6 hown hK.1 hP hD hS 0 (fs := mF fi fr) rfl rfl 0 (by decide) (hts _ q1512) (fun _ hh => hh) rfl (v := .int 1) rfl rfl rfl (mF_lt (by decide)) dX6_start_35 (fun H locs hP hD hS => ?_)
      rw [mS_0] at hP hD
      refine lv_aload_n hx hb dX6_start_38 rfl (lv_at hl 0 rfl) ?_
      refine va_get hx hb hts in_X6 hown hK.1 hP 0 (fs := mF (upd fi 0 1) fr) rfl rfl 0 (by decide) (hts _ q1512) (fun _ hh => hh) (v := .int 1) rfl dX6_start_39 ?_
      refine lv_iconst (v := 1) hx hb dX6_start_42 (by decide) ?_
      refine lv_icmp_ne (tgt := 48) hx hb dX6_start_43 (by decide) (fun c_14 => absurd (by decide) c_14) (fun _ => ?_)
      refine lv_iconst (v := 0) hx hb dX6_start_46 (by decide) ?_
      cases h
      exact W.iret hx hb hr (fun t ht hW => ⟨⟨_, _, rfl, ⟨rfl, rfl⟩, ⟨by rw [ht]; exact hP, hK.warm hW, hD⟩⟩, hS.F ht⟩) hS.2.2 dX6_start_47
    · replace h := ga_iff c_13 h
      refine lv_iload_n hx hb dX6_start_21 rfl (lv_at hl 3 rfl) ?_
      refine lv_iconst (v := 0) hx hb dX6_start_22 (by decide) ?_
      refine lv_iconst (v := 4) hx hb dX6_start_23 (by decide) ?_
      obtain ⟨r_15, e_16, h⟩ := ga_gb h
      refine vp_callSi (W.runS (As := [.int x3, .int 0, .int 4]) (rest := [.ref b]) ⟨hx, hb, hml, hown, hts⟩ (met_X6_isIn l D cA N x3 0 4 r_15 e_16) (va_cwS 3 hts (lw_S q1620 q1621 q79 q1622) rfl rfl rfl (by decide +kernel) ⟨Nat.le_of_ble_eq_true rfl, Nat.le_of_ble_eq_true rfl⟩) (ga_PS hK ga_P0) rfl rfl hl.1 rfl (lv_room (Nat.le_of_ble_eq_true rfl)) dX6_start_24 ⟨Nat.le_of_ble_eq_true rfl, Nat.le_of_ble_eq_true rfl⟩) (fun z_17 w_18 => ?_)
      obtain ⟨rfl, b_19⟩ := w_18
      refine lv_if_eq (tgt := 34) hx hb dX6_start_27 (by decide) (fun c_20 => ?_) (fun c_20 => ?_)
      · replace h := ga_ift c_20 h
        refine lv_iconst (v := 1) hx hb dX6_start_34 (by decide) ?_
        refine va_put hx hb hts in_X6 tyX6 tyX6_ok nmX6 hown hK.1 hP hD hS 0 (fs := mF fi fr) rfl rfl 0 (by decide) (hts _ q1512) (fun _ hh => hh) rfl (v := .int 1) rfl rfl rfl (mF_lt (by decide)) dX6_start_35 (fun H locs hP hD hS => ?_)
        rw [mS_0] at hP hD
        refine lv_aload_n hx hb dX6_start_38 rfl (lv_at hl 0 rfl) ?_
        refine va_get hx hb hts in_X6 hown hK.1 hP 0 (fs := mF (upd fi 0 1) fr) rfl rfl 0 (by decide) (hts _ q1512) (fun _ hh => hh) (v := .int 1) rfl dX6_start_39 ?_
        refine lv_iconst (v := 1) hx hb dX6_start_42 (by decide) ?_
        refine lv_icmp_ne (tgt := 48) hx hb dX6_start_43 (by decide) (fun c_21 => absurd (by decide) c_21) (fun _ => ?_)
        refine lv_iconst (v := 0) hx hb dX6_start_46 (by decide) ?_
        cases h
        exact W.iret hx hb hr (fun t ht hW => ⟨⟨_, _, rfl, ⟨rfl, rfl⟩, ⟨by rw [ht]; exact hP, hK.warm hW, hD⟩⟩, hS.F ht⟩) hS.2.2 dX6_start_47
      · replace h := ga_iff c_20 h
        refine lv_iconst (v := 0) hx hb dX6_start_30 (by decide) ?_
        refine lv_goto (tgt := 35) hx hb dX6_start_31 (by decide) ?_
        refine va_put hx hb hts in_X6 tyX6 tyX6_ok nmX6 hown hK.1 hP hD hS 0 (fs := mF fi fr) rfl rfl 0 (by decide) (hts _ q1512) (fun _ hh => hh) rfl (v := .int 0) rfl rfl rfl (mF_lt (by decide)) dX6_start_35 (fun H locs hP hD hS => ?_)
        rw [mS_0] at hP hD
        refine lv_aload_n hx hb dX6_start_38 rfl (lv_at hl 0 rfl) ?_
        refine va_get hx hb hts in_X6 hown hK.1 hP 0 (fs := mF (upd fi 0 0) fr) rfl rfl 0 (by decide) (hts _ q1512) (fun _ hh => hh) (v := .int 0) rfl dX6_start_39 ?_
        refine lv_iconst (v := 1) hx hb dX6_start_42 (by decide) ?_
        refine lv_icmp_ne (tgt := 48) hx hb dX6_start_43 (by decide) (fun _ => ?_) (fun c_22 => absurd c_22 (by decide))
        refine lv_aload_n hx hb dX6_start_48 rfl (lv_at hl 0 rfl) ?_
        refine lv_iload_n hx hb dX6_start_49 rfl (lv_at hl 1 rfl) ?_
        refine va_put hx hb hts in_X6 tyX6 tyX6_ok nmX6 hown hK.1 hP hD hS 0 (fs := mF (upd fi 0 0) fr) rfl rfl 1 (by decide) (hts _ q1513) (fun _ hh => hh) rfl (v := .int x1) rfl rfl rfl (mF_lt (by decide)) dX6_start_50 (fun H locs hP hD hS => ?_)
        rw [mS_1] at hP hD
        refine lv_aload_n hx hb dX6_start_53 rfl (lv_at hl 0 rfl) ?_
        refine lv_iload_n hx hb dX6_start_54 rfl (lv_at hl 2 rfl) ?_
        refine va_put hx hb hts in_X6 tyX6 tyX6_ok nmX6 hown hK.1 hP hD hS 0 (fs := mF (upd (upd fi 0 0) 1 x1) fr) rfl rfl 2 (by decide) (hts _ q1514) (fun _ hh => hh) rfl (v := .int x2) rfl rfl rfl (mF_lt (by decide)) dX6_start_55 (fun H locs hP hD hS => ?_)
        rw [mS_2] at hP hD
        refine lv_aload_n hx hb dX6_start_58 rfl (lv_at hl 0 rfl) ?_
        refine va_get hx hb hts in_X6 hown hK.1 hP 0 (fs := mF (upd (upd (upd fi 0 0) 1 x1) 2 x2) fr) rfl rfl 4 (by decide) (hts _ q1516) (fun _ hh => hh) (v := .ref (fr 4)) rfl dX6_start_59 ?_
        refine lv_iconst (v := 0) hx hb dX6_start_62 (by decide) ?_
        refine lv_iconst (v := 0) hx hb dX6_start_63 (by decide) ?_
        refine va_iast hx hb hK.1 hP hD hS 1 0 (f := fa 4) rfl rfl (ga_in (by decide)) dX6_start_64 (fun H locs hP hD hS => ?_)
        replace hP := ga_cg (mA_4 b cA fr (upd (upd (upd fi 0 0) 1 x1) 2 x2) fa (upd (fa 4) (ix 0) 0)) hP
        replace hD := ga_cd (mA_4 b cA fr (upd (upd (upd fi 0 0) 1 x1) 2 x2) fa (upd (fa 4) (ix 0) 0)) hD
        refine lv_aload_n hx hb dX6_start_65 rfl (lv_at hl 0 rfl) ?_
        refine va_get hx hb hts in_X6 hown hK.1 hP 0 (fs := mF (upd (upd (upd fi 0 0) 1 x1) 2 x2) fr) rfl rfl 4 (by decide) (hts _ q1516) (fun _ hh => hh) (v := .ref (fr 4)) rfl dX6_start_66 ?_
        refine lv_iconst (v := 1) hx hb dX6_start_69 (by decide) ?_
        refine lv_iconst (v := 0) hx hb dX6_start_70 (by decide) ?_
        refine va_iast hx hb hK.1 hP hD hS 1 0 (f := (upd (fa 4) (ix 0) 0)) rfl rfl (ga_in (by decide)) dX6_start_71 (fun H locs hP hD hS => ?_)
        replace hP := ga_cg (mA_4 b cA fr (upd (upd (upd fi 0 0) 1 x1) 2 x2) (va_up fa 4 (upd (fa 4) (ix 0) 0)) (upd (upd (fa 4) (ix 0) 0) (ix 1) 0)) hP
        replace hD := ga_cd (mA_4 b cA fr (upd (upd (upd fi 0 0) 1 x1) 2 x2) (va_up fa 4 (upd (fa 4) (ix 0) 0)) (upd (upd (fa 4) (ix 0) 0) (ix 1) 0)) hD
        refine lv_aload_n hx hb dX6_start_72 rfl (lv_at hl 0 rfl) ?_
        refine lv_iload_n hx hb dX6_start_73 rfl (lv_at hl 3 rfl) ?_
        obtain ⟨r_23, e_24, h⟩ := ga_gb h
        refine va_callv (va_runV (As := [.int x3]) (rest := []) ⟨hx, hb, hml, hown, hts⟩ (met_X6_begins l D cA A b fr (upd (upd (upd fi 0 0) 1 x1) 2 x2) (va_up (va_up fa 4 (upd (fa 4) (ix 0) 0)) 4 (upd (upd (fa 4) (ix 0) 0) (ix 1) 0)) N x3 r_23 e_24) (cwV 1 hts (lw_V q1508 q1510 qs30 q79 q1511) rfl rfl rfl (by decide +kernel) ⟨Nat.le_of_ble_eq_true rfl, Nat.le_of_ble_eq_true rfl⟩) (ga_NV hK hP hD (va_recv hK.1 hP (ci := 0) (q0 := 0) rfl rfl)) rfl rfl hl.1 rfl (lv_room (Nat.le_of_ble_eq_true rfl)) dX6_start_74 ⟨Nat.le_of_ble_eq_true rfl, Nat.le_of_ble_eq_true rfl⟩) hS (fun _ _ hq => hq) (fun _ hq => hq) (fun u t H locs ht _ w_26 hB _ _ hS => ?_)
        obtain rfl := w_26
        obtain ⟨hP, -, hD⟩ := hB
        rw [ht] at hP
        refine lv_aload_n hx hb dX6_start_77 rfl (lv_at hl 0 rfl) ?_
        refine lv_iconst (v := 0) hx hb dX6_start_78 (by decide) ?_
        obtain ⟨r_28, e_29, h⟩ := ga_gb h
        refine vp_callSi (W.runV (As := [.int 0]) (rest := []) ⟨hx, hb, hml, hown, hts⟩ (met_X6_many l D cA b fr r_23.1 r_23.2 N 0 r_28 e_29) (cwV 1 hts (lw_V q1623 q1625 qs31 q79 q1626) rfl rfl rfl (by decide +kernel) ⟨Nat.le_of_ble_eq_true rfl, Nat.le_of_ble_eq_true rfl⟩) (ga_PV hK hP (va_recv hK.1 hP (ci := 0) (q0 := 0) rfl rfl)) rfl rfl hl.1 rfl (lv_room (Nat.le_of_ble_eq_true rfl)) dX6_start_79 ⟨Nat.le_of_ble_eq_true rfl, Nat.le_of_ble_eq_true rfl⟩) (fun z_30 w_31 => ?_)
        obtain rfl := w_31
        cases h
        exact W.iret hx hb hr (fun t ht hW => ⟨⟨_, _, rfl, ⟨rfl, rfl⟩, ⟨by rw [ht]; exact hP, hK.warm hW, hD⟩⟩, hS.F ht⟩) hS.2.2 dX6_start_82
abbrev rm_X6_setRule : Room := { frames := 2, cells := 0, slots := 0, locals := 34 }
def F_X6_setRule (N : Nat) (fi : Nat → Int32) (fa : Nat → Nat → Int32) (x1 : Int32) : Option (Int32 × ga_MS) :=
  ((F_X6_isIn N x1 0 2).bind fun r_1 =>
  (if r_1 = 0 then
  some (0, (upd fi 0 1, fa))
  else
  some ((fi 3), (upd (upd fi 0 0) 3 x1, fa))))
set_option maxHeartbeats 4000000 in
theorem met_X6_setRule (l : Launch) (D : va_G) (cA : Nat → ClassId) (A : Nat → Prop) (b : Nat) (fr : Nat → Nat) (fi : Nat → Int32) (fa : Nat → Nat → Int32) (N : Nat) (x1 : Int32) (out : Int32 × ga_MS) (h : F_X6_setRule N fi fa x1 = some out) : Met l yX6_setRule (ws_ yX6_setRule cX6_setRule 3 (some .int)) rm_X6_setRule (ga_N D cA A (mW b cA fr fi fa) [.ref b, .int x1]) (va_Qi (fun (r : Int32) (u : ga_MS) => (out.1 = r) ∧ out.2 = u) (ga_MB D cA A b fr) A) 0 0 A := by
  refine Met.ofW (cc := cX6_setRule) (maxL := 3) (ret := (some .int)) (by decide) rfl ?_
  intro p e s m args below meth c s₁ B hml hv
  obtain ⟨rfl, hP, hK, hD⟩ := hv
  have hS : va_S A s.heap s.heap [] := va_S.rf
  have C : ga_cx p m c meth s _ RX6 cX6_setRule 3 (some .int) := ga_cx_of B hml
  have C0 := C
  obtain ⟨hx, hb, hr, hlocks, hml, hown, hts⟩ := C0
  have hl := lv_entry ([.ref b, .int x1]) (n := 3) (Nat.le_of_ble_eq_true rfl)
  rw [lg_entry_eq]
  generalize (lg_sl ([.ref b, .int x1]) ++ List.replicate (3 - (lg_sl ([.ref b, .int x1])).length) Slot.unset).toArray = ls at hl ⊢
  have hl : lv_has ls 3 [(0, .ref b), (1, .int x1)] := hl
  rw [F_X6_setRule] at h
  refine lv_aload_n hx hb dX6_setRule_0 rfl (lv_at hl 0 rfl) ?_
  refine lv_iload_n hx hb dX6_setRule_1 rfl (lv_at hl 1 rfl) ?_
  refine lv_iconst (v := 0) hx hb dX6_setRule_2 (by decide) ?_
  refine lv_iconst (v := 2) hx hb dX6_setRule_3 (by decide) ?_
  obtain ⟨r_1, e_2, h⟩ := ga_gb h
  refine vp_callSi (W.runS (As := [.int x1, .int 0, .int 2]) (rest := [.ref b]) ⟨hx, hb, hml, hown, hts⟩ (met_X6_isIn l D cA N x1 0 2 r_1 e_2) (va_cwS 3 hts (lw_S q1620 q1621 q79 q1622) rfl rfl rfl (by decide +kernel) ⟨Nat.le_of_ble_eq_true rfl, Nat.le_of_ble_eq_true rfl⟩) (ga_PS hK ga_P0) rfl rfl hl.1 rfl (lv_room (Nat.le_of_ble_eq_true rfl)) dX6_setRule_4 ⟨Nat.le_of_ble_eq_true rfl, Nat.le_of_ble_eq_true rfl⟩) (fun z_3 w_4 => ?_)
  obtain ⟨rfl, b_5⟩ := w_4
  refine lv_if_eq (tgt := 14) hx hb dX6_setRule_7 (by decide) (fun c_6 => ?_) (fun c_6 => ?_)
  · replace h := ga_ift c_6 h
    refine lv_iconst (v := 1) hx hb dX6_setRule_14 (by decide) ?_
    refine va_put hx hb hts in_X6 tyX6 tyX6_ok nmX6 hown hK.1 hP hD hS 0 (fs := mF fi fr) rfl rfl 0 (by decide) (hts _ q1512) (fun _ hh => hh) rfl (v := .int 1) rfl rfl rfl (mF_lt (by decide)) dX6_setRule_15 (fun H locs hP hD hS => ?_)
    rw [mS_0] at hP hD
    refine lv_aload_n hx hb dX6_setRule_18 rfl (lv_at hl 0 rfl) ?_
    refine va_get hx hb hts in_X6 hown hK.1 hP 0 (fs := mF (upd fi 0 1) fr) rfl rfl 0 (by decide) (hts _ q1512) (fun _ hh => hh) (v := .int 1) rfl dX6_setRule_19 ?_
    refine lv_iconst (v := 1) hx hb dX6_setRule_22 (by decide) ?_
    refine lv_icmp_ne (tgt := 28) hx hb dX6_setRule_23 (by decide) (fun c_7 => absurd (by decide) c_7) (fun _ => ?_)
    refine lv_iconst (v := 0) hx hb dX6_setRule_26 (by decide) ?_
    cases h
    exact W.iret hx hb hr (fun t ht hW => ⟨⟨_, _, rfl, ⟨rfl, rfl⟩, ⟨by rw [ht]; exact hP, hK.warm hW, hD⟩⟩, hS.F ht⟩) hS.2.2 dX6_setRule_27
  · replace h := ga_iff c_6 h
    refine lv_iconst (v := 0) hx hb dX6_setRule_10 (by decide) ?_
    refine lv_goto (tgt := 15) hx hb dX6_setRule_11 (by decide) ?_
    refine va_put hx hb hts in_X6 tyX6 tyX6_ok nmX6 hown hK.1 hP hD hS 0 (fs := mF fi fr) rfl rfl 0 (by decide) (hts _ q1512) (fun _ hh => hh) rfl (v := .int 0) rfl rfl rfl (mF_lt (by decide)) dX6_setRule_15 (fun H locs hP hD hS => ?_)
    rw [mS_0] at hP hD
    refine lv_aload_n hx hb dX6_setRule_18 rfl (lv_at hl 0 rfl) ?_
    refine va_get hx hb hts in_X6 hown hK.1 hP 0 (fs := mF (upd fi 0 0) fr) rfl rfl 0 (by decide) (hts _ q1512) (fun _ hh => hh) (v := .int 0) rfl dX6_setRule_19 ?_
    refine lv_iconst (v := 1) hx hb dX6_setRule_22 (by decide) ?_
    refine lv_icmp_ne (tgt := 28) hx hb dX6_setRule_23 (by decide) (fun _ => ?_) (fun c_8 => absurd c_8 (by decide))
    refine lv_aload_n hx hb dX6_setRule_28 rfl (lv_at hl 0 rfl) ?_
    refine va_get hx hb hts in_X6 hown hK.1 hP 0 (fs := mF (upd fi 0 0) fr) rfl rfl 3 (by decide) (hts _ q1515) (fun _ hh => hh) (v := .int (fi 3)) rfl dX6_setRule_29 ?_
    refine lv_istore_n (lv' := [(2, .int (fi 3)), (0, .ref b), (1, .int x1)]) hx hb dX6_setRule_32 rfl hl (by decide) rfl (fun ls hl => ?_)
    refine lv_aload_n hx hb dX6_setRule_33 rfl (lv_at hl 1 rfl) ?_
    refine lv_iload_n hx hb dX6_setRule_34 rfl (lv_at hl 2 rfl) ?_
    refine va_put hx hb hts in_X6 tyX6 tyX6_ok nmX6 hown hK.1 hP hD hS 0 (fs := mF (upd fi 0 0) fr) rfl rfl 3 (by decide) (hts _ q1515) (fun _ hh => hh) rfl (v := .int x1) rfl rfl rfl (mF_lt (by decide)) dX6_setRule_35 (fun H locs hP hD hS => ?_)
    rw [mS_3] at hP hD
    refine lv_iload_n hx hb dX6_setRule_38 rfl (lv_at hl 0 rfl) ?_
    cases h
    exact W.iret hx hb hr (fun t ht hW => ⟨⟨_, _, rfl, ⟨rfl, rfl⟩, ⟨by rw [ht]; exact hP, hK.warm hW, hD⟩⟩, hS.F ht⟩) hS.2.2 dX6_setRule_39
abbrev rm_X6_setBonus : Room := { frames := 2, cells := 0, slots := 0, locals := 34 }
def F_X6_setBonus (N : Nat) (fi : Nat → Int32) (fa : Nat → Nat → Int32) (x1 : Int32) (x2 : Int32) : Option (Int32 × ga_MS) :=
  ((F_X6_isIn N x1 0 1).bind fun r_1 =>
  (if r_1 = 0 then
  some (0, (upd fi 0 1, fa))
  else
  ((F_X6_isIn N x2 0 20).bind fun r_7 =>
  (if r_7 = 0 then
  some (0, (upd fi 0 2, fa))
  else
  (if inb x1 2 = true then
  (if inb x1 2 = true then
  some ((fa 4 (ix x1)), (upd fi 0 0, va_up fa 4 (upd (fa 4) (ix x1) x2)))
  else none)
  else none)))))
set_option maxHeartbeats 4000000 in
theorem met_X6_setBonus (l : Launch) (D : va_G) (cA : Nat → ClassId) (A : Nat → Prop) (b : Nat) (fr : Nat → Nat) (fi : Nat → Int32) (fa : Nat → Nat → Int32) (N : Nat) (x1 : Int32) (x2 : Int32) (out : Int32 × ga_MS) (h : F_X6_setBonus N fi fa x1 x2 = some out) : Met l yX6_setBonus (ws_ yX6_setBonus cX6_setBonus 4 (some .int)) rm_X6_setBonus (ga_N D cA A (mW b cA fr fi fa) [.ref b, .int x1, .int x2]) (va_Qi (fun (r : Int32) (u : ga_MS) => (out.1 = r) ∧ out.2 = u) (ga_MB D cA A b fr) A) 0 0 A := by
  refine Met.ofW (cc := cX6_setBonus) (maxL := 4) (ret := (some .int)) (by decide) rfl ?_
  intro p e s m args below meth c s₁ B hml hv
  obtain ⟨rfl, hP, hK, hD⟩ := hv
  have hS : va_S A s.heap s.heap [] := va_S.rf
  have C : ga_cx p m c meth s _ RX6 cX6_setBonus 4 (some .int) := ga_cx_of B hml
  have C0 := C
  obtain ⟨hx, hb, hr, hlocks, hml, hown, hts⟩ := C0
  have hl := lv_entry ([.ref b, .int x1, .int x2]) (n := 4) (Nat.le_of_ble_eq_true rfl)
  rw [lg_entry_eq]
  generalize (lg_sl ([.ref b, .int x1, .int x2]) ++ List.replicate (4 - (lg_sl ([.ref b, .int x1, .int x2])).length) Slot.unset).toArray = ls at hl ⊢
  have hl : lv_has ls 4 [(0, .ref b), (1, .int x1), (2, .int x2)] := hl
  rw [F_X6_setBonus] at h
  refine lv_aload_n hx hb dX6_setBonus_0 rfl (lv_at hl 0 rfl) ?_
  refine lv_iload_n hx hb dX6_setBonus_1 rfl (lv_at hl 1 rfl) ?_
  refine lv_iconst (v := 0) hx hb dX6_setBonus_2 (by decide) ?_
  refine lv_iconst (v := 1) hx hb dX6_setBonus_3 (by decide) ?_
  obtain ⟨r_1, e_2, h⟩ := ga_gb h
  refine vp_callSi (W.runS (As := [.int x1, .int 0, .int 1]) (rest := [.ref b]) ⟨hx, hb, hml, hown, hts⟩ (met_X6_isIn l D cA N x1 0 1 r_1 e_2) (va_cwS 3 hts (lw_S q1620 q1621 q79 q1622) rfl rfl rfl (by decide +kernel) ⟨Nat.le_of_ble_eq_true rfl, Nat.le_of_ble_eq_true rfl⟩) (ga_PS hK ga_P0) rfl rfl hl.1 rfl (lv_room (Nat.le_of_ble_eq_true rfl)) dX6_setBonus_4 ⟨Nat.le_of_ble_eq_true rfl, Nat.le_of_ble_eq_true rfl⟩) (fun z_3 w_4 => ?_)
  obtain ⟨rfl, b_5⟩ := w_4
  refine lv_if_ne (tgt := 14) hx hb dX6_setBonus_7 (by decide) (fun c_6 => ?_) (fun c_6 => ?_)
  · replace h := ga_iff c_6 h
    refine lv_iload_n hx hb dX6_setBonus_14 rfl (lv_at hl 2 rfl) ?_
    refine lv_iconst (v := 0) hx hb dX6_setBonus_15 (by decide) ?_
    refine lv_bipush (v := 20) hx hb dX6_setBonus_16 (by decide) ?_
    obtain ⟨r_7, e_8, h⟩ := ga_gb h
    refine vp_callSi (W.runS (As := [.int x2, .int 0, .int 20]) (rest := [.ref b]) ⟨hx, hb, hml, hown, hts⟩ (met_X6_isIn l D cA N x2 0 20 r_7 e_8) (va_cwS 3 hts (lw_S q1620 q1621 q79 q1622) rfl rfl rfl (by decide +kernel) ⟨Nat.le_of_ble_eq_true rfl, Nat.le_of_ble_eq_true rfl⟩) (ga_PS hK ga_P0) rfl rfl hl.1 rfl (lv_room (Nat.le_of_ble_eq_true rfl)) dX6_setBonus_18 ⟨Nat.le_of_ble_eq_true rfl, Nat.le_of_ble_eq_true rfl⟩) (fun z_9 w_10 => ?_)
    obtain ⟨rfl, b_11⟩ := w_10
    refine lv_if_ne (tgt := 28) hx hb dX6_setBonus_21 (by decide) (fun c_12 => ?_) (fun c_12 => ?_)
    · replace h := ga_iff c_12 h
      refine lv_iconst (v := 0) hx hb dX6_setBonus_28 (by decide) ?_
      refine va_put hx hb hts in_X6 tyX6 tyX6_ok nmX6 hown hK.1 hP hD hS 0 (fs := mF fi fr) rfl rfl 0 (by decide) (hts _ q1512) (fun _ hh => hh) rfl (v := .int 0) rfl rfl rfl (mF_lt (by decide)) dX6_setBonus_29 (fun H locs hP hD hS => ?_)
      rw [mS_0] at hP hD
      refine lv_aload_n hx hb dX6_setBonus_32 rfl (lv_at hl 0 rfl) ?_
      refine va_get hx hb hts in_X6 hown hK.1 hP 0 (fs := mF (upd fi 0 0) fr) rfl rfl 0 (by decide) (hts _ q1512) (fun _ hh => hh) (v := .int 0) rfl dX6_setBonus_33 ?_
      refine lv_if_le (tgt := 41) hx hb dX6_setBonus_36 (by decide) (fun _ => ?_) (fun c_13 => absurd (by decide) c_13)
      refine lv_aload_n hx hb dX6_setBonus_41 rfl (lv_at hl 0 rfl) ?_
      refine va_get hx hb hts in_X6 hown hK.1 hP 0 (fs := mF (upd fi 0 0) fr) rfl rfl 4 (by decide) (hts _ q1516) (fun _ hh => hh) (v := .ref (fr 4)) rfl dX6_setBonus_42 ?_
      refine lv_iload_n hx hb dX6_setBonus_45 rfl (lv_at hl 1 rfl) ?_
      obtain ⟨i_14, h⟩ := ga_gif h
      refine va_iald hx hb hK.1 hP 1 0 (f := fa 4) rfl rfl (ga_in i_14) dX6_setBonus_46 ?_
      refine lv_istore_n (lv' := [(3, .int (fa 4 (ix x1))), (0, .ref b), (1, .int x1), (2, .int x2)]) hx hb dX6_setBonus_47 rfl hl (by decide) rfl (fun ls hl => ?_)
      refine lv_aload_n hx hb dX6_setBonus_48 rfl (lv_at hl 1 rfl) ?_
      refine va_get hx hb hts in_X6 hown hK.1 hP 0 (fs := mF (upd fi 0 0) fr) rfl rfl 4 (by decide) (hts _ q1516) (fun _ hh => hh) (v := .ref (fr 4)) rfl dX6_setBonus_49 ?_
      refine lv_iload_n hx hb dX6_setBonus_52 rfl (lv_at hl 2 rfl) ?_
      refine lv_iload_n hx hb dX6_setBonus_53 rfl (lv_at hl 3 rfl) ?_
      obtain ⟨i_15, h⟩ := ga_gif h
      refine va_iast hx hb hK.1 hP hD hS 1 0 (f := fa 4) rfl rfl (ga_in i_15) dX6_setBonus_54 (fun H locs hP hD hS => ?_)
      replace hP := ga_cg (mA_4 b cA fr (upd fi 0 0) fa (upd (fa 4) (ix x1) x2)) hP
      replace hD := ga_cd (mA_4 b cA fr (upd fi 0 0) fa (upd (fa 4) (ix x1) x2)) hD
      refine lv_iload_n hx hb dX6_setBonus_55 rfl (lv_at hl 0 rfl) ?_
      cases h
      exact W.iret hx hb hr (fun t ht hW => ⟨⟨_, _, rfl, ⟨rfl, rfl⟩, ⟨by rw [ht]; exact hP, hK.warm hW, hD⟩⟩, hS.F ht⟩) hS.2.2 dX6_setBonus_56
    · replace h := ga_ift c_12 h
      refine lv_iconst (v := 2) hx hb dX6_setBonus_24 (by decide) ?_
      refine lv_goto (tgt := 29) hx hb dX6_setBonus_25 (by decide) ?_
      refine va_put hx hb hts in_X6 tyX6 tyX6_ok nmX6 hown hK.1 hP hD hS 0 (fs := mF fi fr) rfl rfl 0 (by decide) (hts _ q1512) (fun _ hh => hh) rfl (v := .int 2) rfl rfl rfl (mF_lt (by decide)) dX6_setBonus_29 (fun H locs hP hD hS => ?_)
      rw [mS_0] at hP hD
      refine lv_aload_n hx hb dX6_setBonus_32 rfl (lv_at hl 0 rfl) ?_
      refine va_get hx hb hts in_X6 hown hK.1 hP 0 (fs := mF (upd fi 0 2) fr) rfl rfl 0 (by decide) (hts _ q1512) (fun _ hh => hh) (v := .int 2) rfl dX6_setBonus_33 ?_
      refine lv_if_le (tgt := 41) hx hb dX6_setBonus_36 (by decide) (fun c_16 => absurd c_16 (by decide)) (fun _ => ?_)
      refine lv_iconst (v := 0) hx hb dX6_setBonus_39 (by decide) ?_
      cases h
      exact W.iret hx hb hr (fun t ht hW => ⟨⟨_, _, rfl, ⟨rfl, rfl⟩, ⟨by rw [ht]; exact hP, hK.warm hW, hD⟩⟩, hS.F ht⟩) hS.2.2 dX6_setBonus_40
  · replace h := ga_ift c_6 h
    refine lv_iconst (v := 1) hx hb dX6_setBonus_10 (by decide) ?_
    refine lv_goto (tgt := 29) hx hb dX6_setBonus_11 (by decide) ?_
    refine va_put hx hb hts in_X6 tyX6 tyX6_ok nmX6 hown hK.1 hP hD hS 0 (fs := mF fi fr) rfl rfl 0 (by decide) (hts _ q1512) (fun _ hh => hh) rfl (v := .int 1) rfl rfl rfl (mF_lt (by decide)) dX6_setBonus_29 (fun H locs hP hD hS => ?_)
    rw [mS_0] at hP hD
    refine lv_aload_n hx hb dX6_setBonus_32 rfl (lv_at hl 0 rfl) ?_
    refine va_get hx hb hts in_X6 hown hK.1 hP 0 (fs := mF (upd fi 0 1) fr) rfl rfl 0 (by decide) (hts _ q1512) (fun _ hh => hh) (v := .int 1) rfl dX6_setBonus_33 ?_
    refine lv_if_le (tgt := 41) hx hb dX6_setBonus_36 (by decide) (fun c_17 => absurd c_17 (by decide)) (fun _ => ?_)
    refine lv_iconst (v := 0) hx hb dX6_setBonus_39 (by decide) ?_
    cases h
    exact W.iret hx hb hr (fun t ht hW => ⟨⟨_, _, rfl, ⟨rfl, rfl⟩, ⟨by rw [ht]; exact hP, hK.warm hW, hD⟩⟩, hS.F ht⟩) hS.2.2 dX6_setBonus_40
abbrev rm_X6_becomes : Room := { frames := 1, cells := 0, slots := 0, locals := 12 }
def F_X6_becomes (N : Nat) (fi : Nat → Int32) (fa : Nat → Nat → Int32) (x1 : Int32) (x2 : Int32) (x3 : Int32) : Option (ga_MS) :=
  (if inb x1 155 = true then
  (if inb (49 + x1) 155 = true then
  (if inb (98 + x1) 155 = true then
  some (fi, va_up (va_up (va_up fa 5 (upd (fa 5) (ix x1) x2)) 5 (upd (upd (fa 5) (ix x1) x2) (ix (49 + x1)) ((upd (fa 5) (ix x1) x2) (ix 153)))) 5 (upd (upd (upd (fa 5) (ix x1) x2) (ix (49 + x1)) ((upd (fa 5) (ix x1) x2) (ix 153))) (ix (98 + x1)) x3))
  else none)
  else none)
  else none)
set_option maxHeartbeats 4000000 in
theorem met_X6_becomes (l : Launch) (D : va_G) (cA : Nat → ClassId) (A : Nat → Prop) (b : Nat) (fr : Nat → Nat) (fi : Nat → Int32) (fa : Nat → Nat → Int32) (N : Nat) (x1 : Int32) (x2 : Int32) (x3 : Int32) (out : ga_MS) (h : F_X6_becomes N fi fa x1 x2 x3 = some out) : Met l yX6_becomes (ws_ yX6_becomes cX6_becomes 4 none) rm_X6_becomes (ga_N D cA A (mW b cA fr fi fa) [.ref b, .int x1, .int x2, .int x3]) (va_Qv (fun (u : ga_MS) => out = u) (ga_MB D cA A b fr) A) 0 0 A := by
  refine Met.ofW (cc := cX6_becomes) (maxL := 4) (ret := none) (by decide) rfl ?_
  intro p e s m args below meth c s₁ B hml hv
  obtain ⟨rfl, hP, hK, hD⟩ := hv
  have hS : va_S A s.heap s.heap [] := va_S.rf
  have C : ga_cx p m c meth s _ RX6 cX6_becomes 4 none := ga_cx_of B hml
  have C0 := C
  obtain ⟨hx, hb, hr, hlocks, hml, hown, hts⟩ := C0
  have hl := lv_entry ([.ref b, .int x1, .int x2, .int x3]) (n := 4) (Nat.le_of_ble_eq_true rfl)
  rw [lg_entry_eq]
  generalize (lg_sl ([.ref b, .int x1, .int x2, .int x3]) ++ List.replicate (4 - (lg_sl ([.ref b, .int x1, .int x2, .int x3])).length) Slot.unset).toArray = ls at hl ⊢
  have hl : lv_has ls 4 [(0, .ref b), (1, .int x1), (2, .int x2), (3, .int x3)] := hl
  rw [F_X6_becomes] at h
  refine lv_aload_n hx hb dX6_becomes_0 rfl (lv_at hl 0 rfl) ?_
  refine va_get hx hb hts in_X6 hown hK.1 hP 0 (fs := mF fi fr) rfl rfl 5 (by decide) (hts _ q1517) (fun _ hh => hh) (v := .ref (fr 5)) rfl dX6_becomes_1 ?_
  refine lv_iload_n hx hb dX6_becomes_4 rfl (lv_at hl 1 rfl) ?_
  refine lv_iload_n hx hb dX6_becomes_5 rfl (lv_at hl 2 rfl) ?_
  obtain ⟨i_1, h⟩ := ga_gif h
  refine va_iast hx hb hK.1 hP hD hS 2 0 (f := fa 5) rfl rfl (ga_in i_1) dX6_becomes_6 (fun H locs hP hD hS => ?_)
  replace hP := ga_cg (mA_5 b cA fr fi fa (upd (fa 5) (ix x1) x2)) hP
  replace hD := ga_cd (mA_5 b cA fr fi fa (upd (fa 5) (ix x1) x2)) hD
  refine lv_aload_n hx hb dX6_becomes_7 rfl (lv_at hl 0 rfl) ?_
  refine va_get hx hb hts in_X6 hown hK.1 hP 0 (fs := mF fi fr) rfl rfl 5 (by decide) (hts _ q1517) (fun _ hh => hh) (v := .ref (fr 5)) rfl dX6_becomes_8 ?_
  refine lv_bipush (v := 49) hx hb dX6_becomes_11 (by decide) ?_
  refine lv_iload_n hx hb dX6_becomes_13 rfl (lv_at hl 1 rfl) ?_
  refine lv_iadd hx hb dX6_becomes_14 ?_
  refine lv_aload_n hx hb dX6_becomes_15 rfl (lv_at hl 0 rfl) ?_
  refine va_get hx hb hts in_X6 hown hK.1 hP 0 (fs := mF fi fr) rfl rfl 5 (by decide) (hts _ q1517) (fun _ hh => hh) (v := .ref (fr 5)) rfl dX6_becomes_16 ?_
  refine lv_sipush (v := 153) hx hb dX6_becomes_19 (by decide) ?_
  refine va_iald hx hb hK.1 hP 2 0 (f := (upd (fa 5) (ix x1) x2)) rfl rfl (ga_in (by decide)) dX6_becomes_22 ?_
  obtain ⟨i_2, h⟩ := ga_gif h
  refine va_iast hx hb hK.1 hP hD hS 2 0 (f := (upd (fa 5) (ix x1) x2)) rfl rfl (ga_in i_2) dX6_becomes_23 (fun H locs hP hD hS => ?_)
  replace hP := ga_cg (mA_5 b cA fr fi (va_up fa 5 (upd (fa 5) (ix x1) x2)) (upd (upd (fa 5) (ix x1) x2) (ix (49 + x1)) ((upd (fa 5) (ix x1) x2) (ix 153)))) hP
  replace hD := ga_cd (mA_5 b cA fr fi (va_up fa 5 (upd (fa 5) (ix x1) x2)) (upd (upd (fa 5) (ix x1) x2) (ix (49 + x1)) ((upd (fa 5) (ix x1) x2) (ix 153)))) hD
  refine lv_aload_n hx hb dX6_becomes_24 rfl (lv_at hl 0 rfl) ?_
  refine va_get hx hb hts in_X6 hown hK.1 hP 0 (fs := mF fi fr) rfl rfl 5 (by decide) (hts _ q1517) (fun _ hh => hh) (v := .ref (fr 5)) rfl dX6_becomes_25 ?_
  refine lv_bipush (v := 98) hx hb dX6_becomes_28 (by decide) ?_
  refine lv_iload_n hx hb dX6_becomes_30 rfl (lv_at hl 1 rfl) ?_
  refine lv_iadd hx hb dX6_becomes_31 ?_
  refine lv_iload_n hx hb dX6_becomes_32 rfl (lv_at hl 3 rfl) ?_
  obtain ⟨i_3, h⟩ := ga_gif h
  refine va_iast hx hb hK.1 hP hD hS 2 0 (f := (upd (upd (fa 5) (ix x1) x2) (ix (49 + x1)) ((upd (fa 5) (ix x1) x2) (ix 153)))) rfl rfl (ga_in i_3) dX6_becomes_33 (fun H locs hP hD hS => ?_)
  replace hP := ga_cg (mA_5 b cA fr fi (va_up (va_up fa 5 (upd (fa 5) (ix x1) x2)) 5 (upd (upd (fa 5) (ix x1) x2) (ix (49 + x1)) ((upd (fa 5) (ix x1) x2) (ix 153)))) (upd (upd (upd (fa 5) (ix x1) x2) (ix (49 + x1)) ((upd (fa 5) (ix x1) x2) (ix 153))) (ix (98 + x1)) x3)) hP
  replace hD := ga_cd (mA_5 b cA fr fi (va_up (va_up fa 5 (upd (fa 5) (ix x1) x2)) 5 (upd (upd (fa 5) (ix x1) x2) (ix (49 + x1)) ((upd (fa 5) (ix x1) x2) (ix 153)))) (upd (upd (upd (fa 5) (ix x1) x2) (ix (49 + x1)) ((upd (fa 5) (ix x1) x2) (ix 153))) (ix (98 + x1)) x3)) hD
  cases h
  exact W.vret hx hb hr (fun t ht hW => ⟨⟨_, rfl, rfl, ⟨by rw [ht]; exact hP, hK.warm hW, hD⟩⟩, hS.F ht⟩) hS.2.2 dX6_becomes_34
abbrev rm_X6_encloses : Room := { frames := 5, cells := 0, slots := 0, locals := 101 }
def lp_X6_encloses_41 (N : Nat) (x1 : Int32) : Nat → Nat → (Nat → Int32) → (Nat → Nat → Int32) → Int64 → Int64 → Int64 → Int32 → Int32 → Option (ga_MS)
  | 0, _, _, _, _, _, _, _, _ => none
  | n+1, 0, fi, fa, x2, x4, x6, x8, x9 =>
    (if (lg_cmp x2 0) = 0 then
    some (fi, fa)
    else
    ((F_X6_lowest N x2).bind fun r_12 =>
    ((F_X6_connected N fi fa x2 r_12).bind fun r_16 =>
    (if (lg_cmp (r_16 &&& x4) 0) = 0 then
    ((F_X6_size N r_16).bind fun r_21 =>
    lp_X6_encloses_41 N x1 n 1 fi fa (x2 &&& (r_16 ^^^ (-1))) x4 r_16 r_21 0)
    else
    lp_X6_encloses_41 N x1 n 1 fi fa (x2 &&& (r_16 ^^^ (-1))) x4 r_16 0 0))))
  | n+1, _+1, fi, fa, x2, x4, x6, x8, x9 =>
    ((F_X6_cells N fi fa).bind fun r_25 =>
    (if r_25 ≤ x9 then
    lp_X6_encloses_41 N x1 n 0 fi fa x2 x4 0 0 0
    else
    (if inb ((49 * x1) + x9) 98 = true then
    (if (lg_cmp ((jlshr x6 x9) &&& 1) 1) = 0 then
    (if inb ((49 * x1) + x9) 98 = true then
    lp_X6_encloses_41 N x1 n 1 fi (va_up fa 20 (upd (fa 20) (ix ((49 * x1) + x9)) ((fa 20 (ix ((49 * x1) + x9))) + x8))) x2 x4 x6 x8 (x9 + 1)
    else none)
    else
    (if inb ((49 * x1) + x9) 98 = true then
    lp_X6_encloses_41 N x1 n 1 fi (va_up fa 20 (upd (fa 20) (ix ((49 * x1) + x9)) ((fa 20 (ix ((49 * x1) + x9))) + 0))) x2 x4 x6 x8 (x9 + 1)
    else none))
    else none)))
set_option maxHeartbeats 4000000 in
theorem w_X6_encloses_41 {p : Program} {l : Launch} {e : Env} {s : State} {m : MethodId} {args : Array Value} {below : List Frame} {meth : Method} {c : Code} {D : va_G} {cA : Nat → ClassId} {A : Nat → Prop} {b : Nat} {fr : Nat → Nat} {N : Nat} {x1 : Int32} (C : ga_cx p m c meth s args RX6 cX6_encloses 10 none) (hK : ga_K D cA s) {out : ga_MS} : ∀ n : Nat, (∀ (fi : Nat → Int32) (fa : Nat → Nat → Int32) (x2 : Int64) (x4 : Int64), lp_X6_encloses_41 N x1 n 0 fi fa x2 x4 0 0 0 = some out → ∀ (H : Heap) (locs : List Loc), va_P D ga_cl (mW b cA fr fi fa) H → va_D A (mW b cA fr fi fa) → va_S A s.heap H locs → ∀ ls : Array Slot, lv_has ls 10 [(0, .ref b), (1, .int x1), (2, .long x2), (4, .long x4)] → W p l e (headSpec (ws_ yX6_encloses cX6_encloses 10 none) rm_X6_encloses).room s m args below meth c H locs 0 0 (MQ below (va_Qv (fun (u : ga_MS) => out = u) (ga_MB D cA A b fr) A) args s 0 0 A) (F0 m 41 ls [])) ∧ (∀ (fi : Nat → Int32) (fa : Nat → Nat → Int32) (x2 : Int64) (x4 : Int64) (x6 : Int64) (x8 : Int32) (x9 : Int32), lp_X6_encloses_41 N x1 n 1 fi fa x2 x4 x6 x8 x9 = some out → ∀ (H : Heap) (locs : List Loc), va_P D ga_cl (mW b cA fr fi fa) H → va_D A (mW b cA fr fi fa) → va_S A s.heap H locs → ∀ ls : Array Slot, lv_has ls 10 [(0, .ref b), (1, .int x1), (2, .long x2), (4, .long x4), (6, .long x6), (8, .int x8), (9, .int x9)] → W p l e (headSpec (ws_ yX6_encloses cX6_encloses 10 none) rm_X6_encloses).room s m args below meth c H locs 0 0 (MQ below (va_Qv (fun (u : ga_MS) => out = u) (ga_MB D cA A b fr) A) args s 0 0 A) (F0 m 91 ls [])) := by
  have C0 := C
  obtain ⟨hx, hb, hr, hlocks, hml, hown, hts⟩ := C0
  intro n
  induction n with
  | zero =>
    refine ⟨?_, ?_⟩
    · intro fi fa x2 x4 h
      rw [lp_X6_encloses_41.eq_1] at h
      cases h
    · intro fi fa x2 x4 x6 x8 x9 h
      rw [lp_X6_encloses_41.eq_1] at h
      cases h
  | succ n ih =>
    refine ⟨?_, ?_⟩
    · intro fi fa x2 x4 h H locs hP hD hS ls hl
      rw [lp_X6_encloses_41.eq_2] at h
      refine lv_lload_n hx hb dX6_encloses_41 rfl (lv_at hl 2 rfl) ?_
      refine lv_lconst (v := 0) hx hb dX6_encloses_42 (by decide) ?_
      refine W.lcmp hx hb dX6_encloses_43 ?_
      refine lv_if_eq (tgt := 142) hx hb dX6_encloses_44 (by decide) (fun c_11 => ?_) (fun c_11 => ?_)
      · replace h := ga_ift c_11 h
        cases h
        exact W.vret hx hb hr (fun t ht hW => ⟨⟨_, rfl, rfl, ⟨by rw [ht]; exact hP, hK.warm hW, hD⟩⟩, hS.F ht⟩) hS.2.2 dX6_encloses_142
      · replace h := ga_iff c_11 h
        refine lv_aload_n hx hb dX6_encloses_47 rfl (lv_at hl 0 rfl) ?_
        refine lv_lload_n hx hb dX6_encloses_48 rfl (lv_at hl 2 rfl) ?_
        refine lv_lload_n hx hb dX6_encloses_49 rfl (lv_at hl 2 rfl) ?_
        obtain ⟨r_12, e_13, h⟩ := ga_gb h
        refine vp_callSi (W.runS (As := [.long x2]) (rest := [.long x2, .ref b]) ⟨hx, hb, hml, hown, hts⟩ (met_X6_lowest l D cA N x2 r_12 e_13) (va_cwS 1 hts (lw_S q1712 q1713 q79 q1714) rfl rfl rfl (by decide +kernel) ⟨Nat.le_of_ble_eq_true rfl, Nat.le_of_ble_eq_true rfl⟩) (ga_PS hK ga_P0) rfl rfl hl.1 rfl (lv_room (Nat.le_of_ble_eq_true rfl)) dX6_encloses_50 ⟨Nat.le_of_ble_eq_true rfl, Nat.le_of_ble_eq_true rfl⟩) (fun z_14 w_15 => ?_)
        obtain rfl := w_15
        obtain ⟨r_16, e_17, h⟩ := ga_gb h
        refine vp_callSl (W.runV (As := [.long x2, .int r_12]) (rest := []) ⟨hx, hb, hml, hown, hts⟩ (met_X6_connected l D cA b fr fi fa N x2 r_12 r_16 e_17) (cwV 2 hts (lw_V q1715 q1717 qs50 q79 q1718) rfl rfl rfl (by decide +kernel) ⟨Nat.le_of_ble_eq_true rfl, Nat.le_of_ble_eq_true rfl⟩) (ga_PV hK hP (va_recv hK.1 hP (ci := 0) (q0 := 0) rfl rfl)) rfl rfl hl.1 rfl (lv_room (Nat.le_of_ble_eq_true rfl)) dX6_encloses_53 ⟨Nat.le_of_ble_eq_true rfl, Nat.le_of_ble_eq_true rfl⟩) (fun z_18 w_19 => ?_)
        obtain rfl := w_19
        refine lv_lstore (lv' := [(6, .long r_16), (0, .ref b), (1, .int x1), (2, .long x2), (4, .long x4)]) hx hb dX6_encloses_56 hl (by decide) rfl (fun ls hl => ?_)
        refine lv_lload_n hx hb dX6_encloses_58 rfl (lv_at hl 3 rfl) ?_
        refine lv_lload hx hb dX6_encloses_59 (lv_at hl 0 rfl) ?_
        refine lv_ldc2 hx hb hown (hts _ q1703) dX6_encloses_61 ?_
        refine lv_lxor hx hb dX6_encloses_64 ?_
        refine lv_land hx hb dX6_encloses_65 ?_
        refine lv_lstore_n (lv' := [(2, .long (x2 &&& (r_16 ^^^ (-1)))), (6, .long r_16), (0, .ref b), (1, .int x1), (4, .long x4)]) hx hb dX6_encloses_66 rfl hl (by decide) rfl (fun ls hl => ?_)
        refine lv_lload hx hb dX6_encloses_67 (lv_at hl 1 rfl) ?_
        refine lv_lload hx hb dX6_encloses_69 (lv_at hl 4 rfl) ?_
        refine lv_land hx hb dX6_encloses_71 ?_
        refine lv_lconst (v := 0) hx hb dX6_encloses_72 (by decide) ?_
        refine W.lcmp hx hb dX6_encloses_73 ?_
        refine lv_if_ne (tgt := 85) hx hb dX6_encloses_74 (by decide) (fun c_20 => ?_) (fun c_20 => ?_)
        · replace h := ga_iff c_20 h
          refine lv_iconst (v := 0) hx hb dX6_encloses_85 (by decide) ?_
          refine lv_istore (lv' := [(8, .int 0), (2, .long (x2 &&& (r_16 ^^^ (-1)))), (6, .long r_16), (0, .ref b), (1, .int x1), (4, .long x4)]) hx hb dX6_encloses_86 hl (by decide) rfl (fun ls hl => ?_)
          refine lv_iconst (v := 0) hx hb dX6_encloses_88 (by decide) ?_
          refine lv_istore (lv' := [(9, .int 0), (8, .int 0), (2, .long (x2 &&& (r_16 ^^^ (-1)))), (6, .long r_16), (0, .ref b), (1, .int x1), (4, .long x4)]) hx hb dX6_encloses_89 hl (by decide) rfl (fun ls hl => ?_)
          exact ih.2 fi fa (x2 &&& (r_16 ^^^ (-1))) x4 r_16 0 0 h _ _ hP hD hS _ (lv_sub hl [4, 5, 2, 6, 3, 1, 0] rfl)
        · replace h := ga_ift c_20 h
          refine lv_lload hx hb dX6_encloses_77 (lv_at hl 1 rfl) ?_
          obtain ⟨r_21, e_22, h⟩ := ga_gb h
          refine vp_callSi (W.runS (As := [.long r_16]) (rest := []) ⟨hx, hb, hml, hown, hts⟩ (met_X6_size l D cA N r_16 r_21 e_22) (va_cwS 1 hts (lw_S q1723 q1724 q79 q1725) rfl rfl rfl (by decide +kernel) ⟨Nat.le_of_ble_eq_true rfl, Nat.le_of_ble_eq_true rfl⟩) (ga_PS hK ga_P0) rfl rfl hl.1 rfl (lv_room (Nat.le_of_ble_eq_true rfl)) dX6_encloses_79 ⟨Nat.le_of_ble_eq_true rfl, Nat.le_of_ble_eq_true rfl⟩) (fun z_23 w_24 => ?_)
          obtain rfl := w_24
          refine lv_goto (tgt := 86) hx hb dX6_encloses_82 (by decide) ?_
          refine lv_istore (lv' := [(8, .int r_21), (2, .long (x2 &&& (r_16 ^^^ (-1)))), (6, .long r_16), (0, .ref b), (1, .int x1), (4, .long x4)]) hx hb dX6_encloses_86 hl (by decide) rfl (fun ls hl => ?_)
          refine lv_iconst (v := 0) hx hb dX6_encloses_88 (by decide) ?_
          refine lv_istore (lv' := [(9, .int 0), (8, .int r_21), (2, .long (x2 &&& (r_16 ^^^ (-1)))), (6, .long r_16), (0, .ref b), (1, .int x1), (4, .long x4)]) hx hb dX6_encloses_89 hl (by decide) rfl (fun ls hl => ?_)
          exact ih.2 fi fa (x2 &&& (r_16 ^^^ (-1))) x4 r_16 r_21 0 h _ _ hP hD hS _ (lv_sub hl [4, 5, 2, 6, 3, 1, 0] rfl)
    · intro fi fa x2 x4 x6 x8 x9 h H locs hP hD hS ls hl
      rw [lp_X6_encloses_41.eq_3] at h
      refine lv_iload hx hb dX6_encloses_91 (lv_at hl 6 rfl) ?_
      refine lv_aload_n hx hb dX6_encloses_93 rfl (lv_at hl 0 rfl) ?_
      obtain ⟨r_25, e_26, h⟩ := ga_gb h
      refine vp_callSi (W.runV (As := []) (rest := [.int x9]) ⟨hx, hb, hml, hown, hts⟩ (met_X6_cells l D cA b fr fi fa N r_25 e_26) (cwV 0 hts (lw_V q1627 q1629 qs32 q79 q1630) rfl rfl rfl (by decide +kernel) ⟨Nat.le_of_ble_eq_true rfl, Nat.le_of_ble_eq_true rfl⟩) (ga_PV hK hP (va_recv hK.1 hP (ci := 0) (q0 := 0) rfl rfl)) rfl rfl hl.1 rfl (lv_room (Nat.le_of_ble_eq_true rfl)) dX6_encloses_94 ⟨Nat.le_of_ble_eq_true rfl, Nat.le_of_ble_eq_true rfl⟩) (fun z_27 w_28 => ?_)
      obtain rfl := w_28
      refine lv_icmp_ge (tgt := 139) hx hb dX6_encloses_97 (by decide) (fun c_29 => ?_) (fun c_29 => ?_)
      · replace h := ga_ift c_29 h
        refine lv_goto (tgt := 41) hx hb dX6_encloses_139 (by decide) ?_
        exact ih.1 fi fa x2 x4 h _ _ hP hD hS _ (lv_sub hl [0, 1, 2, 3] rfl)
      · replace h := ga_iff c_29 h
        refine lv_aload_n hx hb dX6_encloses_100 rfl (lv_at hl 0 rfl) ?_
        refine va_get hx hb hts in_X6 hown hK.1 hP 0 (fs := mF fi fr) rfl rfl 20 (by decide) (hts _ q1532) (fun _ hh => hh) (v := .ref (fr 20)) rfl dX6_encloses_101 ?_
        refine lv_bipush (v := 49) hx hb dX6_encloses_104 (by decide) ?_
        refine lv_iload_n hx hb dX6_encloses_106 rfl (lv_at hl 1 rfl) ?_
        refine lv_imul hx hb dX6_encloses_107 ?_
        refine lv_iload hx hb dX6_encloses_108 (lv_at hl 6 rfl) ?_
        refine lv_iadd hx hb dX6_encloses_110 ?_
        refine lv_dup2_11 hx hb dX6_encloses_111 rfl rfl ?_
        obtain ⟨i_30, h⟩ := ga_gif h
        refine va_iald hx hb hK.1 hP 13 0 (f := fa 20) rfl rfl (ga_in i_30) dX6_encloses_112 ?_
        refine lv_lload hx hb dX6_encloses_113 (lv_at hl 4 rfl) ?_
        refine lv_iload hx hb dX6_encloses_115 (lv_at hl 6 rfl) ?_
        refine lv_lshr (v := (jlshr x6 x9)) hx hb dX6_encloses_117 rfl ?_
        refine lv_lconst (v := 1) hx hb dX6_encloses_118 (by decide) ?_
        refine lv_land hx hb dX6_encloses_119 ?_
        refine lv_lconst (v := 1) hx hb dX6_encloses_120 (by decide) ?_
        refine W.lcmp hx hb dX6_encloses_121 ?_
        refine lv_if_ne (tgt := 130) hx hb dX6_encloses_122 (by decide) (fun c_31 => ?_) (fun c_31 => ?_)
        · replace h := ga_iff c_31 h
          refine lv_iconst (v := 0) hx hb dX6_encloses_130 (by decide) ?_
          refine lv_iadd hx hb dX6_encloses_131 ?_
          obtain ⟨i_32, h⟩ := ga_gif h
          refine va_iast hx hb hK.1 hP hD hS 13 0 (f := fa 20) rfl rfl (ga_in i_32) dX6_encloses_132 (fun H locs hP hD hS => ?_)
          replace hP := ga_cg (mA_20 b cA fr fi fa (upd (fa 20) (ix ((49 * x1) + x9)) ((fa 20 (ix ((49 * x1) + x9))) + 0))) hP
          replace hD := ga_cd (mA_20 b cA fr fi fa (upd (fa 20) (ix ((49 * x1) + x9)) ((fa 20 (ix ((49 * x1) + x9))) + 0))) hD
          refine lv_iinc (v := (x9 + 1)) (lv' := [(9, .int (x9 + 1)), (0, .ref b), (1, .int x1), (2, .long x2), (4, .long x4), (6, .long x6), (8, .int x8)]) hx hb dX6_encloses_133 hl (k := 6) rfl rfl (by decide) rfl (fun ls hl => ?_)
          refine lv_goto (tgt := 91) hx hb dX6_encloses_136 (by decide) ?_
          exact ih.2 fi (va_up fa 20 (upd (fa 20) (ix ((49 * x1) + x9)) ((fa 20 (ix ((49 * x1) + x9))) + 0))) x2 x4 x6 x8 (x9 + 1) h _ _ hP hD hS _ (lv_sub hl [1, 2, 3, 4, 5, 6, 0] rfl)
        · replace h := ga_ift c_31 h
          refine lv_iload hx hb dX6_encloses_125 (lv_at hl 5 rfl) ?_
          refine lv_goto (tgt := 131) hx hb dX6_encloses_127 (by decide) ?_
          refine lv_iadd hx hb dX6_encloses_131 ?_
          obtain ⟨i_33, h⟩ := ga_gif h
          refine va_iast hx hb hK.1 hP hD hS 13 0 (f := fa 20) rfl rfl (ga_in i_33) dX6_encloses_132 (fun H locs hP hD hS => ?_)
          replace hP := ga_cg (mA_20 b cA fr fi fa (upd (fa 20) (ix ((49 * x1) + x9)) ((fa 20 (ix ((49 * x1) + x9))) + x8))) hP
          replace hD := ga_cd (mA_20 b cA fr fi fa (upd (fa 20) (ix ((49 * x1) + x9)) ((fa 20 (ix ((49 * x1) + x9))) + x8))) hD
          refine lv_iinc (v := (x9 + 1)) (lv' := [(9, .int (x9 + 1)), (0, .ref b), (1, .int x1), (2, .long x2), (4, .long x4), (6, .long x6), (8, .int x8)]) hx hb dX6_encloses_133 hl (k := 6) rfl rfl (by decide) rfl (fun ls hl => ?_)
          refine lv_goto (tgt := 91) hx hb dX6_encloses_136 (by decide) ?_
          exact ih.2 fi (va_up fa 20 (upd (fa 20) (ix ((49 * x1) + x9)) ((fa 20 (ix ((49 * x1) + x9))) + x8))) x2 x4 x6 x8 (x9 + 1) h _ _ hP hD hS _ (lv_sub hl [1, 2, 3, 4, 5, 6, 0] rfl)
def lp_X6_encloses_15 (N : Nat) (x1 : Int32) : Nat → (Nat → Int32) → (Nat → Nat → Int32) → Int64 → Int64 → Int32 → Option (ga_MS)
  | 0, _, _, _, _, _ => none
  | n+1, fi, fa, x2, x4, x6 =>
    (if 49 ≤ x6 then
    lp_X6_encloses_41 N x1 N 0 fi fa x2 x4 0 0 0
    else
    (if inb ((49 * x1) + x6) 98 = true then
    lp_X6_encloses_15 N x1 n fi (va_up fa 20 (upd (fa 20) (ix ((49 * x1) + x6)) 0)) x2 x4 (x6 + 1)
    else none))
set_option maxHeartbeats 4000000 in
theorem w_X6_encloses_15 {p : Program} {l : Launch} {e : Env} {s : State} {m : MethodId} {args : Array Value} {below : List Frame} {meth : Method} {c : Code} {D : va_G} {cA : Nat → ClassId} {A : Nat → Prop} {b : Nat} {fr : Nat → Nat} {N : Nat} {x1 : Int32} (C : ga_cx p m c meth s args RX6 cX6_encloses 10 none) (hK : ga_K D cA s) {out : ga_MS} : ∀ n : Nat, ∀ (fi : Nat → Int32) (fa : Nat → Nat → Int32) (x2 : Int64) (x4 : Int64) (x6 : Int32), lp_X6_encloses_15 N x1 n fi fa x2 x4 x6 = some out → ∀ (H : Heap) (locs : List Loc), va_P D ga_cl (mW b cA fr fi fa) H → va_D A (mW b cA fr fi fa) → va_S A s.heap H locs → ∀ ls : Array Slot, lv_has ls 10 [(0, .ref b), (1, .int x1), (2, .long x2), (4, .long x4), (6, .int x6)] → W p l e (headSpec (ws_ yX6_encloses cX6_encloses 10 none) rm_X6_encloses).room s m args below meth c H locs 0 0 (MQ below (va_Qv (fun (u : ga_MS) => out = u) (ga_MB D cA A b fr) A) args s 0 0 A) (F0 m 15 ls []) := by
  have C0 := C
  obtain ⟨hx, hb, hr, hlocks, hml, hown, hts⟩ := C0
  intro n
  induction n with
  | zero =>
    intro fi fa x2 x4 x6 h
    rw [lp_X6_encloses_15.eq_1] at h
    cases h
  | succ n ih =>
    intro fi fa x2 x4 x6 h H locs hP hD hS ls hl
    rw [lp_X6_encloses_15.eq_2] at h
    refine lv_iload hx hb dX6_encloses_15 (lv_at hl 4 rfl) ?_
    refine lv_bipush (v := 49) hx hb dX6_encloses_17 (by decide) ?_
    refine lv_icmp_ge (tgt := 41) hx hb dX6_encloses_19 (by decide) (fun c_9 => ?_) (fun c_9 => ?_)
    · replace h := ga_ift c_9 h
      exact (w_X6_encloses_41 C hK N).1 fi fa x2 x4 h _ _ hP hD hS _ (lv_sub hl [0, 1, 2, 3] rfl)
    · replace h := ga_iff c_9 h
      refine lv_aload_n hx hb dX6_encloses_22 rfl (lv_at hl 0 rfl) ?_
      refine va_get hx hb hts in_X6 hown hK.1 hP 0 (fs := mF fi fr) rfl rfl 20 (by decide) (hts _ q1532) (fun _ hh => hh) (v := .ref (fr 20)) rfl dX6_encloses_23 ?_
      refine lv_bipush (v := 49) hx hb dX6_encloses_26 (by decide) ?_
      refine lv_iload_n hx hb dX6_encloses_28 rfl (lv_at hl 1 rfl) ?_
      refine lv_imul hx hb dX6_encloses_29 ?_
      refine lv_iload hx hb dX6_encloses_30 (lv_at hl 4 rfl) ?_
      refine lv_iadd hx hb dX6_encloses_32 ?_
      refine lv_iconst (v := 0) hx hb dX6_encloses_33 (by decide) ?_
      obtain ⟨i_10, h⟩ := ga_gif h
      refine va_iast hx hb hK.1 hP hD hS 13 0 (f := fa 20) rfl rfl (ga_in i_10) dX6_encloses_34 (fun H locs hP hD hS => ?_)
      replace hP := ga_cg (mA_20 b cA fr fi fa (upd (fa 20) (ix ((49 * x1) + x6)) 0)) hP
      replace hD := ga_cd (mA_20 b cA fr fi fa (upd (fa 20) (ix ((49 * x1) + x6)) 0)) hD
      refine lv_iinc (v := (x6 + 1)) (lv' := [(6, .int (x6 + 1)), (0, .ref b), (1, .int x1), (2, .long x2), (4, .long x4)]) hx hb dX6_encloses_35 hl (k := 4) rfl rfl (by decide) rfl (fun ls hl => ?_)
      refine lv_goto (tgt := 15) hx hb dX6_encloses_38 (by decide) ?_
      exact ih fi (va_up fa 20 (upd (fa 20) (ix ((49 * x1) + x6)) 0)) x2 x4 (x6 + 1) h _ _ hP hD hS _ (lv_sub hl [1, 2, 3, 4, 0] rfl)
def F_X6_encloses (N : Nat) (fi : Nat → Int32) (fa : Nat → Nat → Int32) (x1 : Int32) : Option (ga_MS) :=
  ((F_X6_outside N fi fa x1).bind fun r_1 =>
  ((F_X6_edge N fi fa).bind fun r_5 =>
  lp_X6_encloses_15 N x1 N fi fa r_1 r_5 0))
set_option maxHeartbeats 4000000 in
theorem met_X6_encloses (l : Launch) (D : va_G) (cA : Nat → ClassId) (A : Nat → Prop) (b : Nat) (fr : Nat → Nat) (fi : Nat → Int32) (fa : Nat → Nat → Int32) (N : Nat) (x1 : Int32) (out : ga_MS) (h : F_X6_encloses N fi fa x1 = some out) : Met l yX6_encloses (ws_ yX6_encloses cX6_encloses 10 none) rm_X6_encloses (ga_N D cA A (mW b cA fr fi fa) [.ref b, .int x1]) (va_Qv (fun (u : ga_MS) => out = u) (ga_MB D cA A b fr) A) 0 0 A := by
  refine Met.ofW (cc := cX6_encloses) (maxL := 10) (ret := none) (by decide) rfl ?_
  intro p e s m args below meth c s₁ B hml hv
  obtain ⟨rfl, hP, hK, hD⟩ := hv
  have hS : va_S A s.heap s.heap [] := va_S.rf
  have C : ga_cx p m c meth s _ RX6 cX6_encloses 10 none := ga_cx_of B hml
  have C0 := C
  obtain ⟨hx, hb, hr, hlocks, hml, hown, hts⟩ := C0
  have hl := lv_entry ([.ref b, .int x1]) (n := 10) (Nat.le_of_ble_eq_true rfl)
  rw [lg_entry_eq]
  generalize (lg_sl ([.ref b, .int x1]) ++ List.replicate (10 - (lg_sl ([.ref b, .int x1])).length) Slot.unset).toArray = ls at hl ⊢
  have hl : lv_has ls 10 [(0, .ref b), (1, .int x1)] := hl
  rw [F_X6_encloses] at h
  refine lv_aload_n hx hb dX6_encloses_0 rfl (lv_at hl 0 rfl) ?_
  refine lv_iload_n hx hb dX6_encloses_1 rfl (lv_at hl 1 rfl) ?_
  obtain ⟨r_1, e_2, h⟩ := ga_gb h
  refine vp_callSl (W.runV (As := [.int x1]) (rest := []) ⟨hx, hb, hml, hown, hts⟩ (met_X6_outside l D cA b fr fi fa N x1 r_1 e_2) (cwV 1 hts (lw_V q1691 q1693 qs45 q79 q1694) rfl rfl rfl (by decide +kernel) ⟨Nat.le_of_ble_eq_true rfl, Nat.le_of_ble_eq_true rfl⟩) (ga_PV hK hP (va_recv hK.1 hP (ci := 0) (q0 := 0) rfl rfl)) rfl rfl hl.1 rfl (lv_room (Nat.le_of_ble_eq_true rfl)) dX6_encloses_2 ⟨Nat.le_of_ble_eq_true rfl, Nat.le_of_ble_eq_true rfl⟩) (fun z_3 w_4 => ?_)
  obtain rfl := w_4
  refine lv_lstore_n (lv' := [(2, .long r_1), (0, .ref b), (1, .int x1)]) hx hb dX6_encloses_5 rfl hl (by decide) rfl (fun ls hl => ?_)
  refine lv_aload_n hx hb dX6_encloses_6 rfl (lv_at hl 1 rfl) ?_
  obtain ⟨r_5, e_6, h⟩ := ga_gb h
  refine vp_callSl (W.runV (As := []) (rest := []) ⟨hx, hb, hml, hown, hts⟩ (met_X6_edge l D cA b fr fi fa N r_5 e_6) (cwV 0 hts (lw_V q1704 q1706 qs48 q79 q1707) rfl rfl rfl (by decide +kernel) ⟨Nat.le_of_ble_eq_true rfl, Nat.le_of_ble_eq_true rfl⟩) (ga_PV hK hP (va_recv hK.1 hP (ci := 0) (q0 := 0) rfl rfl)) rfl rfl hl.1 rfl (lv_room (Nat.le_of_ble_eq_true rfl)) dX6_encloses_7 ⟨Nat.le_of_ble_eq_true rfl, Nat.le_of_ble_eq_true rfl⟩) (fun z_7 w_8 => ?_)
  obtain rfl := w_8
  refine lv_lstore (lv' := [(4, .long r_5), (2, .long r_1), (0, .ref b), (1, .int x1)]) hx hb dX6_encloses_10 hl (by decide) rfl (fun ls hl => ?_)
  refine lv_iconst (v := 0) hx hb dX6_encloses_12 (by decide) ?_
  refine lv_istore (lv' := [(6, .int 0), (4, .long r_5), (2, .long r_1), (0, .ref b), (1, .int x1)]) hx hb dX6_encloses_13 hl (by decide) rfl (fun ls hl => ?_)
  exact w_X6_encloses_15 C hK N fi fa r_1 r_5 0 h _ _ hP hD hS _ (lv_sub hl [3, 4, 2, 1, 0] rfl)
abbrev rm_X6_wave : Room := { frames := 6, cells := 0, slots := 0, locals := 130 }
def lp_X6_wave_14 (N : Nat) (x1 : Int32) : Nat → (Nat → Int32) → (Nat → Nat → Int32) → Int32 → Int32 → Option (Int32 × ga_MS)
  | 0, _, _, _, _ => none
  | n+1, fi, fa, x2, x3 =>
    ((F_X6_cells N fi fa).bind fun r_11 =>
    (if r_11 ≤ x3 then
    some (x2, (fi, fa))
    else
    (if inb x3 98 = true then
    (if inb (49 + x3) 98 = true then
    (if (fa 20 (ix x3)) = (fa 20 (ix (49 + x3))) then
    lp_X6_wave_14 N x1 n fi fa x2 (x3 + 1)
    else
    (if (fa 20 (ix x3)) ≤ (fa 20 (ix (49 + x3))) then
    (if inb (147 + 1) 155 = true then
    (if inb x3 155 = true then
    (if (fa 5 (ix x3)) = (2 - 1) then
    (if inb (147 + 1) 155 = true then
    ((F_X6_becomes N fi (va_up fa 5 (upd (fa 5) (ix (147 + 1)) ((fa 5 (ix (147 + 1))) + 1))) x3 (3 + 1) x1).bind fun r_30 =>
    lp_X6_wave_14 N x1 n r_30.1 r_30.2 (x2 + 1) (x3 + 1))
    else none)
    else
    (if inb (147 + 1) 155 = true then
    ((F_X6_becomes N fi (va_up fa 5 (upd (fa 5) (ix (147 + 1)) ((fa 5 (ix (147 + 1))) + 0))) x3 (3 + 1) x1).bind fun r_24 =>
    lp_X6_wave_14 N x1 n r_24.1 r_24.2 (x2 + 1) (x3 + 1))
    else none))
    else none)
    else none)
    else
    (if inb (147 + 0) 155 = true then
    (if inb x3 155 = true then
    (if (fa 5 (ix x3)) = (2 - 0) then
    (if inb (147 + 0) 155 = true then
    ((F_X6_becomes N fi (va_up fa 5 (upd (fa 5) (ix (147 + 0)) ((fa 5 (ix (147 + 0))) + 1))) x3 (3 + 0) x1).bind fun r_45 =>
    lp_X6_wave_14 N x1 n r_45.1 r_45.2 (x2 + 1) (x3 + 1))
    else none)
    else
    (if inb (147 + 0) 155 = true then
    ((F_X6_becomes N fi (va_up fa 5 (upd (fa 5) (ix (147 + 0)) ((fa 5 (ix (147 + 0))) + 0))) x3 (3 + 0) x1).bind fun r_39 =>
    lp_X6_wave_14 N x1 n r_39.1 r_39.2 (x2 + 1) (x3 + 1))
    else none))
    else none)
    else none)))
    else none)
    else none)))
set_option maxHeartbeats 4000000 in
theorem w_X6_wave_14 {p : Program} {l : Launch} {e : Env} {s : State} {m : MethodId} {args : Array Value} {below : List Frame} {meth : Method} {c : Code} {D : va_G} {cA : Nat → ClassId} {A : Nat → Prop} {b : Nat} {fr : Nat → Nat} {N : Nat} {x1 : Int32} (C : ga_cx p m c meth s args RX6 cX6_wave 7 (some .int)) (hK : ga_K D cA s) {out : Int32 × ga_MS} : ∀ n : Nat, ∀ (fi : Nat → Int32) (fa : Nat → Nat → Int32) (x2 : Int32) (x3 : Int32), lp_X6_wave_14 N x1 n fi fa x2 x3 = some out → ∀ (H : Heap) (locs : List Loc), va_P D ga_cl (mW b cA fr fi fa) H → va_D A (mW b cA fr fi fa) → va_S A s.heap H locs → ∀ ls : Array Slot, lv_has ls 7 [(0, .ref b), (1, .int x1), (2, .int x2), (3, .int x3)] → W p l e (headSpec (ws_ yX6_wave cX6_wave 7 (some .int)) rm_X6_wave).room s m args below meth c H locs 0 0 (MQ below (va_Qi (fun (r : Int32) (u : ga_MS) => (out.1 = r) ∧ out.2 = u) (ga_MB D cA A b fr) A) args s 0 0 A) (F0 m 14 ls []) := by
  have C0 := C
  obtain ⟨hx, hb, hr, hlocks, hml, hown, hts⟩ := C0
  intro n
  induction n with
  | zero =>
    intro fi fa x2 x3 h
    rw [lp_X6_wave_14.eq_1] at h
    cases h
  | succ n ih =>
    intro fi fa x2 x3 h H locs hP hD hS ls hl
    rw [lp_X6_wave_14.eq_2] at h
    refine lv_iload_n hx hb dX6_wave_14 rfl (lv_at hl 3 rfl) ?_
    refine lv_aload_n hx hb dX6_wave_15 rfl (lv_at hl 0 rfl) ?_
    obtain ⟨r_11, e_12, h⟩ := ga_gb h
    refine vp_callSi (W.runV (As := []) (rest := [.int x3]) ⟨hx, hb, hml, hown, hts⟩ (met_X6_cells l D cA b fr fi fa N r_11 e_12) (cwV 0 hts (lw_V q1627 q1629 qs32 q79 q1630) rfl rfl rfl (by decide +kernel) ⟨Nat.le_of_ble_eq_true rfl, Nat.le_of_ble_eq_true rfl⟩) (ga_PV hK hP (va_recv hK.1 hP (ci := 0) (q0 := 0) rfl rfl)) rfl rfl hl.1 rfl (lv_room (Nat.le_of_ble_eq_true rfl)) dX6_wave_16 ⟨Nat.le_of_ble_eq_true rfl, Nat.le_of_ble_eq_true rfl⟩) (fun z_13 w_14 => ?_)
    obtain rfl := w_14
    refine lv_icmp_ge (tgt := 116) hx hb dX6_wave_19 (by decide) (fun c_15 => ?_) (fun c_15 => ?_)
    · replace h := ga_ift c_15 h
      refine lv_iload_n hx hb dX6_wave_116 rfl (lv_at hl 2 rfl) ?_
      cases h
      exact W.iret hx hb hr (fun t ht hW => ⟨⟨_, _, rfl, ⟨rfl, rfl⟩, ⟨by rw [ht]; exact hP, hK.warm hW, hD⟩⟩, hS.F ht⟩) hS.2.2 dX6_wave_117
    · replace h := ga_iff c_15 h
      refine lv_aload_n hx hb dX6_wave_22 rfl (lv_at hl 0 rfl) ?_
      refine va_get hx hb hts in_X6 hown hK.1 hP 0 (fs := mF fi fr) rfl rfl 20 (by decide) (hts _ q1532) (fun _ hh => hh) (v := .ref (fr 20)) rfl dX6_wave_23 ?_
      refine lv_iload_n hx hb dX6_wave_26 rfl (lv_at hl 3 rfl) ?_
      obtain ⟨i_16, h⟩ := ga_gif h
      refine va_iald hx hb hK.1 hP 13 0 (f := fa 20) rfl rfl (ga_in i_16) dX6_wave_27 ?_
      refine lv_istore (lv' := [(4, .int (fa 20 (ix x3))), (0, .ref b), (1, .int x1), (2, .int x2), (3, .int x3)]) hx hb dX6_wave_28 hl (by decide) rfl (fun ls hl => ?_)
      refine lv_aload_n hx hb dX6_wave_30 rfl (lv_at hl 1 rfl) ?_
      refine va_get hx hb hts in_X6 hown hK.1 hP 0 (fs := mF fi fr) rfl rfl 20 (by decide) (hts _ q1532) (fun _ hh => hh) (v := .ref (fr 20)) rfl dX6_wave_31 ?_
      refine lv_bipush (v := 49) hx hb dX6_wave_34 (by decide) ?_
      refine lv_iload_n hx hb dX6_wave_36 rfl (lv_at hl 4 rfl) ?_
      refine lv_iadd hx hb dX6_wave_37 ?_
      obtain ⟨i_17, h⟩ := ga_gif h
      refine va_iald hx hb hK.1 hP 13 0 (f := fa 20) rfl rfl (ga_in i_17) dX6_wave_38 ?_
      refine lv_istore (lv' := [(5, .int (fa 20 (ix (49 + x3)))), (4, .int (fa 20 (ix x3))), (0, .ref b), (1, .int x1), (2, .int x2), (3, .int x3)]) hx hb dX6_wave_39 hl (by decide) rfl (fun ls hl => ?_)
      refine lv_iload hx hb dX6_wave_41 (lv_at hl 1 rfl) ?_
      refine lv_iload hx hb dX6_wave_43 (lv_at hl 0 rfl) ?_
      refine lv_icmp_ne (tgt := 51) hx hb dX6_wave_45 (by decide) (fun c_18 => ?_) (fun c_18 => ?_)
      · replace h := ga_iff c_18 h
        refine lv_iload hx hb dX6_wave_51 (lv_at hl 1 rfl) ?_
        refine lv_iload hx hb dX6_wave_53 (lv_at hl 0 rfl) ?_
        refine lv_icmp_le (tgt := 62) hx hb dX6_wave_55 (by decide) (fun c_19 => ?_) (fun c_19 => ?_)
        · replace h := ga_ift c_19 h
          refine lv_iconst (v := 1) hx hb dX6_wave_62 (by decide) ?_
          refine lv_istore (lv' := [(6, .int 1), (5, .int (fa 20 (ix (49 + x3)))), (4, .int (fa 20 (ix x3))), (0, .ref b), (1, .int x1), (2, .int x2), (3, .int x3)]) hx hb dX6_wave_63 hl (by decide) rfl (fun ls hl => ?_)
          refine lv_aload_n hx hb dX6_wave_65 rfl (lv_at hl 3 rfl) ?_
          refine va_get hx hb hts in_X6 hown hK.1 hP 0 (fs := mF fi fr) rfl rfl 5 (by decide) (hts _ q1517) (fun _ hh => hh) (v := .ref (fr 5)) rfl dX6_wave_66 ?_
          refine lv_sipush (v := 147) hx hb dX6_wave_69 (by decide) ?_
          refine lv_iload hx hb dX6_wave_72 (lv_at hl 0 rfl) ?_
          refine lv_iadd hx hb dX6_wave_74 ?_
          refine lv_dup2_11 hx hb dX6_wave_75 rfl rfl ?_
          obtain ⟨i_20, h⟩ := ga_gif h
          refine va_iald hx hb hK.1 hP 2 0 (f := fa 5) rfl rfl (ga_in i_20) dX6_wave_76 ?_
          refine lv_aload_n hx hb dX6_wave_77 rfl (lv_at hl 3 rfl) ?_
          refine va_get hx hb hts in_X6 hown hK.1 hP 0 (fs := mF fi fr) rfl rfl 5 (by decide) (hts _ q1517) (fun _ hh => hh) (v := .ref (fr 5)) rfl dX6_wave_78 ?_
          refine lv_iload_n hx hb dX6_wave_81 rfl (lv_at hl 6 rfl) ?_
          obtain ⟨i_21, h⟩ := ga_gif h
          refine va_iald hx hb hK.1 hP 2 0 (f := fa 5) rfl rfl (ga_in i_21) dX6_wave_82 ?_
          refine lv_iconst (v := 2) hx hb dX6_wave_83 (by decide) ?_
          refine lv_iload hx hb dX6_wave_84 (lv_at hl 0 rfl) ?_
          refine lv_isub hx hb dX6_wave_86 ?_
          refine lv_icmp_ne (tgt := 94) hx hb dX6_wave_87 (by decide) (fun c_22 => ?_) (fun c_22 => ?_)
          · replace h := ga_iff c_22 h
            refine lv_iconst (v := 0) hx hb dX6_wave_94 (by decide) ?_
            refine lv_iadd hx hb dX6_wave_95 ?_
            obtain ⟨i_23, h⟩ := ga_gif h
            refine va_iast hx hb hK.1 hP hD hS 2 0 (f := fa 5) rfl rfl (ga_in i_23) dX6_wave_96 (fun H locs hP hD hS => ?_)
            replace hP := ga_cg (mA_5 b cA fr fi fa (upd (fa 5) (ix (147 + 1)) ((fa 5 (ix (147 + 1))) + 0))) hP
            replace hD := ga_cd (mA_5 b cA fr fi fa (upd (fa 5) (ix (147 + 1)) ((fa 5 (ix (147 + 1))) + 0))) hD
            refine lv_aload_n hx hb dX6_wave_97 rfl (lv_at hl 3 rfl) ?_
            refine lv_iload_n hx hb dX6_wave_98 rfl (lv_at hl 6 rfl) ?_
            refine lv_iconst (v := 3) hx hb dX6_wave_99 (by decide) ?_
            refine lv_iload hx hb dX6_wave_100 (lv_at hl 0 rfl) ?_
            refine lv_iadd hx hb dX6_wave_102 ?_
            refine lv_iload_n hx hb dX6_wave_103 rfl (lv_at hl 4 rfl) ?_
            obtain ⟨r_24, e_25, h⟩ := ga_gb h
            refine va_callv (va_runV (As := [.int x3, .int (3 + 1), .int x1]) (rest := []) ⟨hx, hb, hml, hown, hts⟩ (met_X6_becomes l D cA A b fr fi (va_up fa 5 (upd (fa 5) (ix (147 + 1)) ((fa 5 (ix (147 + 1))) + 0))) N x3 (3 + 1) x1 r_24 e_25) (cwV 3 hts (lw_V q1679 q1681 qs42 q79 q1682) rfl rfl rfl (by decide +kernel) ⟨Nat.le_of_ble_eq_true rfl, Nat.le_of_ble_eq_true rfl⟩) (ga_NV hK hP hD (va_recv hK.1 hP (ci := 0) (q0 := 0) rfl rfl)) rfl rfl hl.1 rfl (lv_room (Nat.le_of_ble_eq_true rfl)) dX6_wave_104 ⟨Nat.le_of_ble_eq_true rfl, Nat.le_of_ble_eq_true rfl⟩) hS (fun _ _ hq => hq) (fun _ hq => hq) (fun u t H locs ht _ w_27 hB _ _ hS => ?_)
            obtain rfl := w_27
            obtain ⟨hP, -, hD⟩ := hB
            rw [ht] at hP
            refine lv_iinc (v := (x2 + 1)) (lv' := [(2, .int (x2 + 1)), (6, .int 1), (5, .int (fa 20 (ix (49 + x3)))), (4, .int (fa 20 (ix x3))), (0, .ref b), (1, .int x1), (3, .int x3)]) hx hb dX6_wave_107 hl (k := 5) rfl rfl (by decide) rfl (fun ls hl => ?_)
            refine lv_iinc (v := (x3 + 1)) (lv' := [(3, .int (x3 + 1)), (2, .int (x2 + 1)), (6, .int 1), (5, .int (fa 20 (ix (49 + x3)))), (4, .int (fa 20 (ix x3))), (0, .ref b), (1, .int x1)]) hx hb dX6_wave_110 hl (k := 6) rfl rfl (by decide) rfl (fun ls hl => ?_)
            refine lv_goto (tgt := 14) hx hb dX6_wave_113 (by decide) ?_
            exact ih r_24.1 r_24.2 (x2 + 1) (x3 + 1) h _ _ hP hD hS _ (lv_sub hl [5, 6, 1, 0] rfl)
          · replace h := ga_ift c_22 h
            refine lv_iconst (v := 1) hx hb dX6_wave_90 (by decide) ?_
            refine lv_goto (tgt := 95) hx hb dX6_wave_91 (by decide) ?_
            refine lv_iadd hx hb dX6_wave_95 ?_
            obtain ⟨i_29, h⟩ := ga_gif h
            refine va_iast hx hb hK.1 hP hD hS 2 0 (f := fa 5) rfl rfl (ga_in i_29) dX6_wave_96 (fun H locs hP hD hS => ?_)
            replace hP := ga_cg (mA_5 b cA fr fi fa (upd (fa 5) (ix (147 + 1)) ((fa 5 (ix (147 + 1))) + 1))) hP
            replace hD := ga_cd (mA_5 b cA fr fi fa (upd (fa 5) (ix (147 + 1)) ((fa 5 (ix (147 + 1))) + 1))) hD
            refine lv_aload_n hx hb dX6_wave_97 rfl (lv_at hl 3 rfl) ?_
            refine lv_iload_n hx hb dX6_wave_98 rfl (lv_at hl 6 rfl) ?_
            refine lv_iconst (v := 3) hx hb dX6_wave_99 (by decide) ?_
            refine lv_iload hx hb dX6_wave_100 (lv_at hl 0 rfl) ?_
            refine lv_iadd hx hb dX6_wave_102 ?_
            refine lv_iload_n hx hb dX6_wave_103 rfl (lv_at hl 4 rfl) ?_
            obtain ⟨r_30, e_31, h⟩ := ga_gb h
            refine va_callv (va_runV (As := [.int x3, .int (3 + 1), .int x1]) (rest := []) ⟨hx, hb, hml, hown, hts⟩ (met_X6_becomes l D cA A b fr fi (va_up fa 5 (upd (fa 5) (ix (147 + 1)) ((fa 5 (ix (147 + 1))) + 1))) N x3 (3 + 1) x1 r_30 e_31) (cwV 3 hts (lw_V q1679 q1681 qs42 q79 q1682) rfl rfl rfl (by decide +kernel) ⟨Nat.le_of_ble_eq_true rfl, Nat.le_of_ble_eq_true rfl⟩) (ga_NV hK hP hD (va_recv hK.1 hP (ci := 0) (q0 := 0) rfl rfl)) rfl rfl hl.1 rfl (lv_room (Nat.le_of_ble_eq_true rfl)) dX6_wave_104 ⟨Nat.le_of_ble_eq_true rfl, Nat.le_of_ble_eq_true rfl⟩) hS (fun _ _ hq => hq) (fun _ hq => hq) (fun u t H locs ht _ w_33 hB _ _ hS => ?_)
            obtain rfl := w_33
            obtain ⟨hP, -, hD⟩ := hB
            rw [ht] at hP
            refine lv_iinc (v := (x2 + 1)) (lv' := [(2, .int (x2 + 1)), (6, .int 1), (5, .int (fa 20 (ix (49 + x3)))), (4, .int (fa 20 (ix x3))), (0, .ref b), (1, .int x1), (3, .int x3)]) hx hb dX6_wave_107 hl (k := 5) rfl rfl (by decide) rfl (fun ls hl => ?_)
            refine lv_iinc (v := (x3 + 1)) (lv' := [(3, .int (x3 + 1)), (2, .int (x2 + 1)), (6, .int 1), (5, .int (fa 20 (ix (49 + x3)))), (4, .int (fa 20 (ix x3))), (0, .ref b), (1, .int x1)]) hx hb dX6_wave_110 hl (k := 6) rfl rfl (by decide) rfl (fun ls hl => ?_)
            refine lv_goto (tgt := 14) hx hb dX6_wave_113 (by decide) ?_
            exact ih r_30.1 r_30.2 (x2 + 1) (x3 + 1) h _ _ hP hD hS _ (lv_sub hl [5, 6, 1, 0] rfl)
        · replace h := ga_iff c_19 h
          refine lv_iconst (v := 0) hx hb dX6_wave_58 (by decide) ?_
          refine lv_goto (tgt := 63) hx hb dX6_wave_59 (by decide) ?_
          refine lv_istore (lv' := [(6, .int 0), (5, .int (fa 20 (ix (49 + x3)))), (4, .int (fa 20 (ix x3))), (0, .ref b), (1, .int x1), (2, .int x2), (3, .int x3)]) hx hb dX6_wave_63 hl (by decide) rfl (fun ls hl => ?_)
          refine lv_aload_n hx hb dX6_wave_65 rfl (lv_at hl 3 rfl) ?_
          refine va_get hx hb hts in_X6 hown hK.1 hP 0 (fs := mF fi fr) rfl rfl 5 (by decide) (hts _ q1517) (fun _ hh => hh) (v := .ref (fr 5)) rfl dX6_wave_66 ?_
          refine lv_sipush (v := 147) hx hb dX6_wave_69 (by decide) ?_
          refine lv_iload hx hb dX6_wave_72 (lv_at hl 0 rfl) ?_
          refine lv_iadd hx hb dX6_wave_74 ?_
          refine lv_dup2_11 hx hb dX6_wave_75 rfl rfl ?_
          obtain ⟨i_35, h⟩ := ga_gif h
          refine va_iald hx hb hK.1 hP 2 0 (f := fa 5) rfl rfl (ga_in i_35) dX6_wave_76 ?_
          refine lv_aload_n hx hb dX6_wave_77 rfl (lv_at hl 3 rfl) ?_
          refine va_get hx hb hts in_X6 hown hK.1 hP 0 (fs := mF fi fr) rfl rfl 5 (by decide) (hts _ q1517) (fun _ hh => hh) (v := .ref (fr 5)) rfl dX6_wave_78 ?_
          refine lv_iload_n hx hb dX6_wave_81 rfl (lv_at hl 6 rfl) ?_
          obtain ⟨i_36, h⟩ := ga_gif h
          refine va_iald hx hb hK.1 hP 2 0 (f := fa 5) rfl rfl (ga_in i_36) dX6_wave_82 ?_
          refine lv_iconst (v := 2) hx hb dX6_wave_83 (by decide) ?_
          refine lv_iload hx hb dX6_wave_84 (lv_at hl 0 rfl) ?_
          refine lv_isub hx hb dX6_wave_86 ?_
          refine lv_icmp_ne (tgt := 94) hx hb dX6_wave_87 (by decide) (fun c_37 => ?_) (fun c_37 => ?_)
          · replace h := ga_iff c_37 h
            refine lv_iconst (v := 0) hx hb dX6_wave_94 (by decide) ?_
            refine lv_iadd hx hb dX6_wave_95 ?_
            obtain ⟨i_38, h⟩ := ga_gif h
            refine va_iast hx hb hK.1 hP hD hS 2 0 (f := fa 5) rfl rfl (ga_in i_38) dX6_wave_96 (fun H locs hP hD hS => ?_)
            replace hP := ga_cg (mA_5 b cA fr fi fa (upd (fa 5) (ix (147 + 0)) ((fa 5 (ix (147 + 0))) + 0))) hP
            replace hD := ga_cd (mA_5 b cA fr fi fa (upd (fa 5) (ix (147 + 0)) ((fa 5 (ix (147 + 0))) + 0))) hD
            refine lv_aload_n hx hb dX6_wave_97 rfl (lv_at hl 3 rfl) ?_
            refine lv_iload_n hx hb dX6_wave_98 rfl (lv_at hl 6 rfl) ?_
            refine lv_iconst (v := 3) hx hb dX6_wave_99 (by decide) ?_
            refine lv_iload hx hb dX6_wave_100 (lv_at hl 0 rfl) ?_
            refine lv_iadd hx hb dX6_wave_102 ?_
            refine lv_iload_n hx hb dX6_wave_103 rfl (lv_at hl 4 rfl) ?_
            obtain ⟨r_39, e_40, h⟩ := ga_gb h
            refine va_callv (va_runV (As := [.int x3, .int (3 + 0), .int x1]) (rest := []) ⟨hx, hb, hml, hown, hts⟩ (met_X6_becomes l D cA A b fr fi (va_up fa 5 (upd (fa 5) (ix (147 + 0)) ((fa 5 (ix (147 + 0))) + 0))) N x3 (3 + 0) x1 r_39 e_40) (cwV 3 hts (lw_V q1679 q1681 qs42 q79 q1682) rfl rfl rfl (by decide +kernel) ⟨Nat.le_of_ble_eq_true rfl, Nat.le_of_ble_eq_true rfl⟩) (ga_NV hK hP hD (va_recv hK.1 hP (ci := 0) (q0 := 0) rfl rfl)) rfl rfl hl.1 rfl (lv_room (Nat.le_of_ble_eq_true rfl)) dX6_wave_104 ⟨Nat.le_of_ble_eq_true rfl, Nat.le_of_ble_eq_true rfl⟩) hS (fun _ _ hq => hq) (fun _ hq => hq) (fun u t H locs ht _ w_42 hB _ _ hS => ?_)
            obtain rfl := w_42
            obtain ⟨hP, -, hD⟩ := hB
            rw [ht] at hP
            refine lv_iinc (v := (x2 + 1)) (lv' := [(2, .int (x2 + 1)), (6, .int 0), (5, .int (fa 20 (ix (49 + x3)))), (4, .int (fa 20 (ix x3))), (0, .ref b), (1, .int x1), (3, .int x3)]) hx hb dX6_wave_107 hl (k := 5) rfl rfl (by decide) rfl (fun ls hl => ?_)
            refine lv_iinc (v := (x3 + 1)) (lv' := [(3, .int (x3 + 1)), (2, .int (x2 + 1)), (6, .int 0), (5, .int (fa 20 (ix (49 + x3)))), (4, .int (fa 20 (ix x3))), (0, .ref b), (1, .int x1)]) hx hb dX6_wave_110 hl (k := 6) rfl rfl (by decide) rfl (fun ls hl => ?_)
            refine lv_goto (tgt := 14) hx hb dX6_wave_113 (by decide) ?_
            exact ih r_39.1 r_39.2 (x2 + 1) (x3 + 1) h _ _ hP hD hS _ (lv_sub hl [5, 6, 1, 0] rfl)
          · replace h := ga_ift c_37 h
            refine lv_iconst (v := 1) hx hb dX6_wave_90 (by decide) ?_
            refine lv_goto (tgt := 95) hx hb dX6_wave_91 (by decide) ?_
            refine lv_iadd hx hb dX6_wave_95 ?_
            obtain ⟨i_44, h⟩ := ga_gif h
            refine va_iast hx hb hK.1 hP hD hS 2 0 (f := fa 5) rfl rfl (ga_in i_44) dX6_wave_96 (fun H locs hP hD hS => ?_)
            replace hP := ga_cg (mA_5 b cA fr fi fa (upd (fa 5) (ix (147 + 0)) ((fa 5 (ix (147 + 0))) + 1))) hP
            replace hD := ga_cd (mA_5 b cA fr fi fa (upd (fa 5) (ix (147 + 0)) ((fa 5 (ix (147 + 0))) + 1))) hD
            refine lv_aload_n hx hb dX6_wave_97 rfl (lv_at hl 3 rfl) ?_
            refine lv_iload_n hx hb dX6_wave_98 rfl (lv_at hl 6 rfl) ?_
            refine lv_iconst (v := 3) hx hb dX6_wave_99 (by decide) ?_
            refine lv_iload hx hb dX6_wave_100 (lv_at hl 0 rfl) ?_
            refine lv_iadd hx hb dX6_wave_102 ?_
            refine lv_iload_n hx hb dX6_wave_103 rfl (lv_at hl 4 rfl) ?_
            obtain ⟨r_45, e_46, h⟩ := ga_gb h
            refine va_callv (va_runV (As := [.int x3, .int (3 + 0), .int x1]) (rest := []) ⟨hx, hb, hml, hown, hts⟩ (met_X6_becomes l D cA A b fr fi (va_up fa 5 (upd (fa 5) (ix (147 + 0)) ((fa 5 (ix (147 + 0))) + 1))) N x3 (3 + 0) x1 r_45 e_46) (cwV 3 hts (lw_V q1679 q1681 qs42 q79 q1682) rfl rfl rfl (by decide +kernel) ⟨Nat.le_of_ble_eq_true rfl, Nat.le_of_ble_eq_true rfl⟩) (ga_NV hK hP hD (va_recv hK.1 hP (ci := 0) (q0 := 0) rfl rfl)) rfl rfl hl.1 rfl (lv_room (Nat.le_of_ble_eq_true rfl)) dX6_wave_104 ⟨Nat.le_of_ble_eq_true rfl, Nat.le_of_ble_eq_true rfl⟩) hS (fun _ _ hq => hq) (fun _ hq => hq) (fun u t H locs ht _ w_48 hB _ _ hS => ?_)
            obtain rfl := w_48
            obtain ⟨hP, -, hD⟩ := hB
            rw [ht] at hP
            refine lv_iinc (v := (x2 + 1)) (lv' := [(2, .int (x2 + 1)), (6, .int 0), (5, .int (fa 20 (ix (49 + x3)))), (4, .int (fa 20 (ix x3))), (0, .ref b), (1, .int x1), (3, .int x3)]) hx hb dX6_wave_107 hl (k := 5) rfl rfl (by decide) rfl (fun ls hl => ?_)
            refine lv_iinc (v := (x3 + 1)) (lv' := [(3, .int (x3 + 1)), (2, .int (x2 + 1)), (6, .int 0), (5, .int (fa 20 (ix (49 + x3)))), (4, .int (fa 20 (ix x3))), (0, .ref b), (1, .int x1)]) hx hb dX6_wave_110 hl (k := 6) rfl rfl (by decide) rfl (fun ls hl => ?_)
            refine lv_goto (tgt := 14) hx hb dX6_wave_113 (by decide) ?_
            exact ih r_45.1 r_45.2 (x2 + 1) (x3 + 1) h _ _ hP hD hS _ (lv_sub hl [5, 6, 1, 0] rfl)
      · replace h := ga_ift c_18 h
        refine lv_goto (tgt := 110) hx hb dX6_wave_48 (by decide) ?_
        refine lv_iinc (v := (x3 + 1)) (lv' := [(3, .int (x3 + 1)), (5, .int (fa 20 (ix (49 + x3)))), (4, .int (fa 20 (ix x3))), (0, .ref b), (1, .int x1), (2, .int x2)]) hx hb dX6_wave_110 hl (k := 5) rfl rfl (by decide) rfl (fun ls hl => ?_)
        refine lv_goto (tgt := 14) hx hb dX6_wave_113 (by decide) ?_
        exact ih fi fa x2 (x3 + 1) h _ _ hP hD hS _ (lv_sub hl [3, 4, 5, 0] rfl)
def F_X6_wave (N : Nat) (fi : Nat → Int32) (fa : Nat → Nat → Int32) (x1 : Int32) : Option (Int32 × ga_MS) :=
  ((F_X6_encloses N fi fa 0).bind fun r_1 =>
  ((F_X6_encloses N r_1.1 r_1.2 1).bind fun r_6 =>
  lp_X6_wave_14 N x1 N r_6.1 r_6.2 0 0))
set_option maxHeartbeats 4000000 in
theorem met_X6_wave (l : Launch) (D : va_G) (cA : Nat → ClassId) (A : Nat → Prop) (b : Nat) (fr : Nat → Nat) (fi : Nat → Int32) (fa : Nat → Nat → Int32) (N : Nat) (x1 : Int32) (out : Int32 × ga_MS) (h : F_X6_wave N fi fa x1 = some out) : Met l yX6_wave (ws_ yX6_wave cX6_wave 7 (some .int)) rm_X6_wave (ga_N D cA A (mW b cA fr fi fa) [.ref b, .int x1]) (va_Qi (fun (r : Int32) (u : ga_MS) => (out.1 = r) ∧ out.2 = u) (ga_MB D cA A b fr) A) 0 0 A := by
  refine Met.ofW (cc := cX6_wave) (maxL := 7) (ret := (some .int)) (by decide) rfl ?_
  intro p e s m args below meth c s₁ B hml hv
  obtain ⟨rfl, hP, hK, hD⟩ := hv
  have hS : va_S A s.heap s.heap [] := va_S.rf
  have C : ga_cx p m c meth s _ RX6 cX6_wave 7 (some .int) := ga_cx_of B hml
  have C0 := C
  obtain ⟨hx, hb, hr, hlocks, hml, hown, hts⟩ := C0
  have hl := lv_entry ([.ref b, .int x1]) (n := 7) (Nat.le_of_ble_eq_true rfl)
  rw [lg_entry_eq]
  generalize (lg_sl ([.ref b, .int x1]) ++ List.replicate (7 - (lg_sl ([.ref b, .int x1])).length) Slot.unset).toArray = ls at hl ⊢
  have hl : lv_has ls 7 [(0, .ref b), (1, .int x1)] := hl
  rw [F_X6_wave] at h
  refine lv_aload_n hx hb dX6_wave_0 rfl (lv_at hl 0 rfl) ?_
  refine lv_iconst (v := 0) hx hb dX6_wave_1 (by decide) ?_
  obtain ⟨r_1, e_2, h⟩ := ga_gb h
  refine va_callv (va_runV (As := [.int 0]) (rest := []) ⟨hx, hb, hml, hown, hts⟩ (met_X6_encloses l D cA A b fr fi fa N 0 r_1 e_2) (cwV 1 hts (lw_V q1687 q1689 qs44 q79 q1690) rfl rfl rfl (by decide +kernel) ⟨Nat.le_of_ble_eq_true rfl, Nat.le_of_ble_eq_true rfl⟩) (ga_NV hK hP hD (va_recv hK.1 hP (ci := 0) (q0 := 0) rfl rfl)) rfl rfl hl.1 rfl (lv_room (Nat.le_of_ble_eq_true rfl)) dX6_wave_2 ⟨Nat.le_of_ble_eq_true rfl, Nat.le_of_ble_eq_true rfl⟩) hS (fun _ _ hq => hq) (fun _ hq => hq) (fun u t H locs ht _ w_4 hB _ _ hS => ?_)
  obtain rfl := w_4
  obtain ⟨hP, -, hD⟩ := hB
  rw [ht] at hP
  refine lv_aload_n hx hb dX6_wave_5 rfl (lv_at hl 0 rfl) ?_
  refine lv_iconst (v := 1) hx hb dX6_wave_6 (by decide) ?_
  obtain ⟨r_6, e_7, h⟩ := ga_gb h
  refine va_callv (va_runV (As := [.int 1]) (rest := []) ⟨hx, hb, hml, hown, hts⟩ (met_X6_encloses l D cA A b fr r_1.1 r_1.2 N 1 r_6 e_7) (cwV 1 hts (lw_V q1687 q1689 qs44 q79 q1690) rfl rfl rfl (by decide +kernel) ⟨Nat.le_of_ble_eq_true rfl, Nat.le_of_ble_eq_true rfl⟩) (ga_NV hK hP hD (va_recv hK.1 hP (ci := 0) (q0 := 0) rfl rfl)) rfl rfl hl.1 rfl (lv_room (Nat.le_of_ble_eq_true rfl)) dX6_wave_7 ⟨Nat.le_of_ble_eq_true rfl, Nat.le_of_ble_eq_true rfl⟩) hS (fun _ _ hq => hq) (fun _ hq => hq) (fun u t H locs ht _ w_9 hB _ _ hS => ?_)
  obtain rfl := w_9
  obtain ⟨hP, -, hD⟩ := hB
  rw [ht] at hP
  refine lv_iconst (v := 0) hx hb dX6_wave_10 (by decide) ?_
  refine lv_istore_n (lv' := [(2, .int 0), (0, .ref b), (1, .int x1)]) hx hb dX6_wave_11 rfl hl (by decide) rfl (fun ls hl => ?_)
  refine lv_iconst (v := 0) hx hb dX6_wave_12 (by decide) ?_
  refine lv_istore_n (lv' := [(3, .int 0), (2, .int 0), (0, .ref b), (1, .int x1)]) hx hb dX6_wave_13 rfl hl (by decide) rfl (fun ls hl => ?_)
  exact w_X6_wave_14 C hK N r_6.1 r_6.2 0 0 h _ _ hP hD hS _ (lv_sub hl [2, 3, 1, 0] rfl)
abbrev rm_X6_plays : Room := { frames := 7, cells := 0, slots := 0, locals := 156 }
def lp_X6_plays_268 (N : Nat) (x1 : Int32) (x2 : Int32) (fi : Nat → Int32) (fa : Nat → Nat → Int32) : Option (ga_MS) :=
  (if x1 = (-1) then
  (if x2 = (-1) then
  some (fi, va_up (va_up (va_up fa 5 (upd (fa 5) (ix 152) ((fa 5 (ix 152)) + (fi 23)))) 5 (upd (upd (fa 5) (ix 152) ((fa 5 (ix 152)) + (fi 23))) (ix 154) 1)) 5 (upd (upd (upd (fa 5) (ix 152) ((fa 5 (ix 152)) + (fi 23))) (ix 154) 1) (ix 153) (((upd (upd (fa 5) (ix 152) ((fa 5 (ix 152)) + (fi 23))) (ix 154) 1) (ix 153)) + 1)))
  else
  some (fi, va_up (va_up (va_up fa 5 (upd (fa 5) (ix 152) ((fa 5 (ix 152)) + (fi 23)))) 5 (upd (upd (fa 5) (ix 152) ((fa 5 (ix 152)) + (fi 23))) (ix 154) 0)) 5 (upd (upd (upd (fa 5) (ix 152) ((fa 5 (ix 152)) + (fi 23))) (ix 154) 0) (ix 153) (((upd (upd (fa 5) (ix 152) ((fa 5 (ix 152)) + (fi 23))) (ix 154) 0) (ix 153)) + 1))))
  else
  some (fi, va_up (va_up (va_up fa 5 (upd (fa 5) (ix 152) ((fa 5 (ix 152)) + (fi 23)))) 5 (upd (upd (fa 5) (ix 152) ((fa 5 (ix 152)) + (fi 23))) (ix 154) 0)) 5 (upd (upd (upd (fa 5) (ix 152) ((fa 5 (ix 152)) + (fi 23))) (ix 154) 0) (ix 153) (((upd (upd (fa 5) (ix 152) ((fa 5 (ix 152)) + (fi 23))) (ix 154) 0) (ix 153)) + 1))))
set_option maxHeartbeats 4000000 in
theorem w_X6_plays_268 {p : Program} {l : Launch} {e : Env} {s : State} {m : MethodId} {args : Array Value} {below : List Frame} {meth : Method} {c : Code} {D : va_G} {cA : Nat → ClassId} {A : Nat → Prop} {b : Nat} {fr : Nat → Nat} {N : Nat} {x1 : Int32} {x2 : Int32} (C : ga_cx p m c meth s args RX6 cX6_plays 5 none) (hK : ga_K D cA s) {out : ga_MS} : ∀ (fi : Nat → Int32) (fa : Nat → Nat → Int32), lp_X6_plays_268 N x1 x2 fi fa = some out → ∀ (H : Heap) (locs : List Loc), va_P D ga_cl (mW b cA fr fi fa) H → va_D A (mW b cA fr fi fa) → va_S A s.heap H locs → ∀ ls : Array Slot, lv_has ls 5 [(0, .ref b), (1, .int x1), (2, .int x2)] → W p l e (headSpec (ws_ yX6_plays cX6_plays 5 none) rm_X6_plays).room s m args below meth c H locs 0 0 (MQ below (va_Qv (fun (u : ga_MS) => out = u) (ga_MB D cA A b fr) A) args s 0 0 A) (F0 m 268 ls []) := by
  have C0 := C
  obtain ⟨hx, hb, hr, hlocks, hml, hown, hts⟩ := C0
  intro fi fa h H locs hP hD hS ls hl
  rw [lp_X6_plays_268.eq_1] at h
  refine lv_aload_n hx hb dX6_plays_268 rfl (lv_at hl 0 rfl) ?_
  refine va_get hx hb hts in_X6 hown hK.1 hP 0 (fs := mF fi fr) rfl rfl 5 (by decide) (hts _ q1517) (fun _ hh => hh) (v := .ref (fr 5)) rfl dX6_plays_269 ?_
  refine lv_sipush (v := 152) hx hb dX6_plays_272 (by decide) ?_
  refine lv_dup2_11 hx hb dX6_plays_275 rfl rfl ?_
  refine va_iald hx hb hK.1 hP 2 0 (f := fa 5) rfl rfl (ga_in (by decide)) dX6_plays_276 ?_
  refine lv_aload_n hx hb dX6_plays_277 rfl (lv_at hl 0 rfl) ?_
  refine va_get hx hb hts in_X6 hown hK.1 hP 0 (fs := mF fi fr) rfl rfl 23 (by decide) (hts _ q1535) (fun _ hh => hh) (v := .int (fi 23)) rfl dX6_plays_278 ?_
  refine lv_iadd hx hb dX6_plays_281 ?_
  refine va_iast hx hb hK.1 hP hD hS 2 0 (f := fa 5) rfl rfl (ga_in (by decide)) dX6_plays_282 (fun H locs hP hD hS => ?_)
  replace hP := ga_cg (mA_5 b cA fr fi fa (upd (fa 5) (ix 152) ((fa 5 (ix 152)) + (fi 23)))) hP
  replace hD := ga_cd (mA_5 b cA fr fi fa (upd (fa 5) (ix 152) ((fa 5 (ix 152)) + (fi 23)))) hD
  refine lv_aload_n hx hb dX6_plays_283 rfl (lv_at hl 0 rfl) ?_
  refine va_get hx hb hts in_X6 hown hK.1 hP 0 (fs := mF fi fr) rfl rfl 5 (by decide) (hts _ q1517) (fun _ hh => hh) (v := .ref (fr 5)) rfl dX6_plays_284 ?_
  refine lv_sipush (v := 154) hx hb dX6_plays_287 (by decide) ?_
  refine lv_iload_n hx hb dX6_plays_290 rfl (lv_at hl 1 rfl) ?_
  refine lv_iconst (v := (-1)) hx hb dX6_plays_291 (by decide) ?_
  refine lv_icmp_ne (tgt := 304) hx hb dX6_plays_292 (by decide) (fun c_79 => ?_) (fun c_79 => ?_)
  · replace h := ga_iff c_79 h
    refine lv_iconst (v := 0) hx hb dX6_plays_304 (by decide) ?_
    refine va_iast hx hb hK.1 hP hD hS 2 0 (f := (upd (fa 5) (ix 152) ((fa 5 (ix 152)) + (fi 23)))) rfl rfl (ga_in (by decide)) dX6_plays_305 (fun H locs hP hD hS => ?_)
    replace hP := ga_cg (mA_5 b cA fr fi (va_up fa 5 (upd (fa 5) (ix 152) ((fa 5 (ix 152)) + (fi 23)))) (upd (upd (fa 5) (ix 152) ((fa 5 (ix 152)) + (fi 23))) (ix 154) 0)) hP
    replace hD := ga_cd (mA_5 b cA fr fi (va_up fa 5 (upd (fa 5) (ix 152) ((fa 5 (ix 152)) + (fi 23)))) (upd (upd (fa 5) (ix 152) ((fa 5 (ix 152)) + (fi 23))) (ix 154) 0)) hD
    refine lv_aload_n hx hb dX6_plays_306 rfl (lv_at hl 0 rfl) ?_
    refine va_get hx hb hts in_X6 hown hK.1 hP 0 (fs := mF fi fr) rfl rfl 5 (by decide) (hts _ q1517) (fun _ hh => hh) (v := .ref (fr 5)) rfl dX6_plays_307 ?_
    refine lv_sipush (v := 153) hx hb dX6_plays_310 (by decide) ?_
    refine lv_dup2_11 hx hb dX6_plays_313 rfl rfl ?_
    refine va_iald hx hb hK.1 hP 2 0 (f := (upd (upd (fa 5) (ix 152) ((fa 5 (ix 152)) + (fi 23))) (ix 154) 0)) rfl rfl (ga_in (by decide)) dX6_plays_314 ?_
    refine lv_iconst (v := 1) hx hb dX6_plays_315 (by decide) ?_
    refine lv_iadd hx hb dX6_plays_316 ?_
    refine va_iast hx hb hK.1 hP hD hS 2 0 (f := (upd (upd (fa 5) (ix 152) ((fa 5 (ix 152)) + (fi 23))) (ix 154) 0)) rfl rfl (ga_in (by decide)) dX6_plays_317 (fun H locs hP hD hS => ?_)
    replace hP := ga_cg (mA_5 b cA fr fi (va_up (va_up fa 5 (upd (fa 5) (ix 152) ((fa 5 (ix 152)) + (fi 23)))) 5 (upd (upd (fa 5) (ix 152) ((fa 5 (ix 152)) + (fi 23))) (ix 154) 0)) (upd (upd (upd (fa 5) (ix 152) ((fa 5 (ix 152)) + (fi 23))) (ix 154) 0) (ix 153) (((upd (upd (fa 5) (ix 152) ((fa 5 (ix 152)) + (fi 23))) (ix 154) 0) (ix 153)) + 1))) hP
    replace hD := ga_cd (mA_5 b cA fr fi (va_up (va_up fa 5 (upd (fa 5) (ix 152) ((fa 5 (ix 152)) + (fi 23)))) 5 (upd (upd (fa 5) (ix 152) ((fa 5 (ix 152)) + (fi 23))) (ix 154) 0)) (upd (upd (upd (fa 5) (ix 152) ((fa 5 (ix 152)) + (fi 23))) (ix 154) 0) (ix 153) (((upd (upd (fa 5) (ix 152) ((fa 5 (ix 152)) + (fi 23))) (ix 154) 0) (ix 153)) + 1))) hD
    cases h
    exact W.vret hx hb hr (fun t ht hW => ⟨⟨_, rfl, rfl, ⟨by rw [ht]; exact hP, hK.warm hW, hD⟩⟩, hS.F ht⟩) hS.2.2 dX6_plays_318
  · replace h := ga_ift c_79 h
    refine lv_iload_n hx hb dX6_plays_295 rfl (lv_at hl 2 rfl) ?_
    refine lv_iconst (v := (-1)) hx hb dX6_plays_296 (by decide) ?_
    refine lv_icmp_ne (tgt := 304) hx hb dX6_plays_297 (by decide) (fun c_80 => ?_) (fun c_80 => ?_)
    · replace h := ga_iff c_80 h
      refine lv_iconst (v := 0) hx hb dX6_plays_304 (by decide) ?_
      refine va_iast hx hb hK.1 hP hD hS 2 0 (f := (upd (fa 5) (ix 152) ((fa 5 (ix 152)) + (fi 23)))) rfl rfl (ga_in (by decide)) dX6_plays_305 (fun H locs hP hD hS => ?_)
      replace hP := ga_cg (mA_5 b cA fr fi (va_up fa 5 (upd (fa 5) (ix 152) ((fa 5 (ix 152)) + (fi 23)))) (upd (upd (fa 5) (ix 152) ((fa 5 (ix 152)) + (fi 23))) (ix 154) 0)) hP
      replace hD := ga_cd (mA_5 b cA fr fi (va_up fa 5 (upd (fa 5) (ix 152) ((fa 5 (ix 152)) + (fi 23)))) (upd (upd (fa 5) (ix 152) ((fa 5 (ix 152)) + (fi 23))) (ix 154) 0)) hD
      refine lv_aload_n hx hb dX6_plays_306 rfl (lv_at hl 0 rfl) ?_
      refine va_get hx hb hts in_X6 hown hK.1 hP 0 (fs := mF fi fr) rfl rfl 5 (by decide) (hts _ q1517) (fun _ hh => hh) (v := .ref (fr 5)) rfl dX6_plays_307 ?_
      refine lv_sipush (v := 153) hx hb dX6_plays_310 (by decide) ?_
      refine lv_dup2_11 hx hb dX6_plays_313 rfl rfl ?_
      refine va_iald hx hb hK.1 hP 2 0 (f := (upd (upd (fa 5) (ix 152) ((fa 5 (ix 152)) + (fi 23))) (ix 154) 0)) rfl rfl (ga_in (by decide)) dX6_plays_314 ?_
      refine lv_iconst (v := 1) hx hb dX6_plays_315 (by decide) ?_
      refine lv_iadd hx hb dX6_plays_316 ?_
      refine va_iast hx hb hK.1 hP hD hS 2 0 (f := (upd (upd (fa 5) (ix 152) ((fa 5 (ix 152)) + (fi 23))) (ix 154) 0)) rfl rfl (ga_in (by decide)) dX6_plays_317 (fun H locs hP hD hS => ?_)
      replace hP := ga_cg (mA_5 b cA fr fi (va_up (va_up fa 5 (upd (fa 5) (ix 152) ((fa 5 (ix 152)) + (fi 23)))) 5 (upd (upd (fa 5) (ix 152) ((fa 5 (ix 152)) + (fi 23))) (ix 154) 0)) (upd (upd (upd (fa 5) (ix 152) ((fa 5 (ix 152)) + (fi 23))) (ix 154) 0) (ix 153) (((upd (upd (fa 5) (ix 152) ((fa 5 (ix 152)) + (fi 23))) (ix 154) 0) (ix 153)) + 1))) hP
      replace hD := ga_cd (mA_5 b cA fr fi (va_up (va_up fa 5 (upd (fa 5) (ix 152) ((fa 5 (ix 152)) + (fi 23)))) 5 (upd (upd (fa 5) (ix 152) ((fa 5 (ix 152)) + (fi 23))) (ix 154) 0)) (upd (upd (upd (fa 5) (ix 152) ((fa 5 (ix 152)) + (fi 23))) (ix 154) 0) (ix 153) (((upd (upd (fa 5) (ix 152) ((fa 5 (ix 152)) + (fi 23))) (ix 154) 0) (ix 153)) + 1))) hD
      cases h
      exact W.vret hx hb hr (fun t ht hW => ⟨⟨_, rfl, rfl, ⟨by rw [ht]; exact hP, hK.warm hW, hD⟩⟩, hS.F ht⟩) hS.2.2 dX6_plays_318
    · replace h := ga_ift c_80 h
      refine lv_iconst (v := 1) hx hb dX6_plays_300 (by decide) ?_
      refine lv_goto (tgt := 305) hx hb dX6_plays_301 (by decide) ?_
      refine va_iast hx hb hK.1 hP hD hS 2 0 (f := (upd (fa 5) (ix 152) ((fa 5 (ix 152)) + (fi 23)))) rfl rfl (ga_in (by decide)) dX6_plays_305 (fun H locs hP hD hS => ?_)
      replace hP := ga_cg (mA_5 b cA fr fi (va_up fa 5 (upd (fa 5) (ix 152) ((fa 5 (ix 152)) + (fi 23)))) (upd (upd (fa 5) (ix 152) ((fa 5 (ix 152)) + (fi 23))) (ix 154) 1)) hP
      replace hD := ga_cd (mA_5 b cA fr fi (va_up fa 5 (upd (fa 5) (ix 152) ((fa 5 (ix 152)) + (fi 23)))) (upd (upd (fa 5) (ix 152) ((fa 5 (ix 152)) + (fi 23))) (ix 154) 1)) hD
      refine lv_aload_n hx hb dX6_plays_306 rfl (lv_at hl 0 rfl) ?_
      refine va_get hx hb hts in_X6 hown hK.1 hP 0 (fs := mF fi fr) rfl rfl 5 (by decide) (hts _ q1517) (fun _ hh => hh) (v := .ref (fr 5)) rfl dX6_plays_307 ?_
      refine lv_sipush (v := 153) hx hb dX6_plays_310 (by decide) ?_
      refine lv_dup2_11 hx hb dX6_plays_313 rfl rfl ?_
      refine va_iald hx hb hK.1 hP 2 0 (f := (upd (upd (fa 5) (ix 152) ((fa 5 (ix 152)) + (fi 23))) (ix 154) 1)) rfl rfl (ga_in (by decide)) dX6_plays_314 ?_
      refine lv_iconst (v := 1) hx hb dX6_plays_315 (by decide) ?_
      refine lv_iadd hx hb dX6_plays_316 ?_
      refine va_iast hx hb hK.1 hP hD hS 2 0 (f := (upd (upd (fa 5) (ix 152) ((fa 5 (ix 152)) + (fi 23))) (ix 154) 1)) rfl rfl (ga_in (by decide)) dX6_plays_317 (fun H locs hP hD hS => ?_)
      replace hP := ga_cg (mA_5 b cA fr fi (va_up (va_up fa 5 (upd (fa 5) (ix 152) ((fa 5 (ix 152)) + (fi 23)))) 5 (upd (upd (fa 5) (ix 152) ((fa 5 (ix 152)) + (fi 23))) (ix 154) 1)) (upd (upd (upd (fa 5) (ix 152) ((fa 5 (ix 152)) + (fi 23))) (ix 154) 1) (ix 153) (((upd (upd (fa 5) (ix 152) ((fa 5 (ix 152)) + (fi 23))) (ix 154) 1) (ix 153)) + 1))) hP
      replace hD := ga_cd (mA_5 b cA fr fi (va_up (va_up fa 5 (upd (fa 5) (ix 152) ((fa 5 (ix 152)) + (fi 23)))) 5 (upd (upd (fa 5) (ix 152) ((fa 5 (ix 152)) + (fi 23))) (ix 154) 1)) (upd (upd (upd (fa 5) (ix 152) ((fa 5 (ix 152)) + (fi 23))) (ix 154) 1) (ix 153) (((upd (upd (fa 5) (ix 152) ((fa 5 (ix 152)) + (fi 23))) (ix 154) 1) (ix 153)) + 1))) hD
      cases h
      exact W.vret hx hb hr (fun t ht hW => ⟨⟨_, rfl, rfl, ⟨by rw [ht]; exact hP, hK.warm hW, hD⟩⟩, hS.F ht⟩) hS.2.2 dX6_plays_318
def lp_X6_plays_192 (N : Nat) (x1 : Int32) (x2 : Int32) : Nat → (Nat → Int32) → (Nat → Nat → Int32) → Int32 → Option (ga_MS)
  | 0, _, _, _ => none
  | n+1, fi, fa, x3 =>
    (if x3 = 0 then
    lp_X6_plays_268 N x1 x2 fi fa
    else
    (if 8 ≤ (fi 23) then
    lp_X6_plays_268 N x1 x2 fi fa
    else
    ((F_X6_wave N fi fa (fi 23)).bind fun r_70 =>
    (if r_70.1 ≤ 0 then
    lp_X6_plays_192 N x1 x2 n r_70.2.1 r_70.2.2 0
    else
    (if inb (r_70.2.1 23) 8 = true then
    lp_X6_plays_192 N x1 x2 n (upd (upd r_70.2.1 24 ((r_70.2.1 24) + r_70.1)) 23 ((r_70.2.1 23) + 1)) (va_up r_70.2.2 21 (upd (r_70.2.2 21) (ix (r_70.2.1 23)) r_70.1)) 1
    else none)))))
set_option maxHeartbeats 4000000 in
theorem w_X6_plays_192 {p : Program} {l : Launch} {e : Env} {s : State} {m : MethodId} {args : Array Value} {below : List Frame} {meth : Method} {c : Code} {D : va_G} {cA : Nat → ClassId} {A : Nat → Prop} {b : Nat} {fr : Nat → Nat} {N : Nat} {x1 : Int32} {x2 : Int32} (C : ga_cx p m c meth s args RX6 cX6_plays 5 none) (hK : ga_K D cA s) {out : ga_MS} : ∀ n : Nat, ∀ (fi : Nat → Int32) (fa : Nat → Nat → Int32) (x3 : Int32), lp_X6_plays_192 N x1 x2 n fi fa x3 = some out → ∀ (H : Heap) (locs : List Loc), va_P D ga_cl (mW b cA fr fi fa) H → va_D A (mW b cA fr fi fa) → va_S A s.heap H locs → ∀ ls : Array Slot, lv_has ls 5 [(0, .ref b), (1, .int x1), (2, .int x2), (3, .int x3)] → W p l e (headSpec (ws_ yX6_plays cX6_plays 5 none) rm_X6_plays).room s m args below meth c H locs 0 0 (MQ below (va_Qv (fun (u : ga_MS) => out = u) (ga_MB D cA A b fr) A) args s 0 0 A) (F0 m 192 ls []) := by
  have C0 := C
  obtain ⟨hx, hb, hr, hlocks, hml, hown, hts⟩ := C0
  intro n
  induction n with
  | zero =>
    intro fi fa x3 h
    rw [lp_X6_plays_192.eq_1] at h
    cases h
  | succ n ih =>
    intro fi fa x3 h H locs hP hD hS ls hl
    rw [lp_X6_plays_192.eq_2] at h
    refine lv_iload_n hx hb dX6_plays_192 rfl (lv_at hl 3 rfl) ?_
    refine lv_if_eq (tgt := 268) hx hb dX6_plays_193 (by decide) (fun c_68 => ?_) (fun c_68 => ?_)
    · replace h := ga_ift c_68 h
      exact w_X6_plays_268 C hK fi fa h _ _ hP hD hS _ (lv_sub hl [0, 1, 2] rfl)
    · replace h := ga_iff c_68 h
      refine lv_aload_n hx hb dX6_plays_196 rfl (lv_at hl 0 rfl) ?_
      refine va_get hx hb hts in_X6 hown hK.1 hP 0 (fs := mF fi fr) rfl rfl 23 (by decide) (hts _ q1535) (fun _ hh => hh) (v := .int (fi 23)) rfl dX6_plays_197 ?_
      refine lv_bipush (v := 8) hx hb dX6_plays_200 (by decide) ?_
      refine lv_icmp_ge (tgt := 268) hx hb dX6_plays_202 (by decide) (fun c_69 => ?_) (fun c_69 => ?_)
      · replace h := ga_ift c_69 h
        exact w_X6_plays_268 C hK fi fa h _ _ hP hD hS _ (lv_sub hl [0, 1, 2] rfl)
      · replace h := ga_iff c_69 h
        refine lv_aload_n hx hb dX6_plays_205 rfl (lv_at hl 0 rfl) ?_
        refine lv_aload_n hx hb dX6_plays_206 rfl (lv_at hl 0 rfl) ?_
        refine va_get hx hb hts in_X6 hown hK.1 hP 0 (fs := mF fi fr) rfl rfl 23 (by decide) (hts _ q1535) (fun _ hh => hh) (v := .int (fi 23)) rfl dX6_plays_207 ?_
        obtain ⟨r_70, e_71, h⟩ := ga_gb h
        refine va_calli (va_runV (As := [.int (fi 23)]) (rest := []) ⟨hx, hb, hml, hown, hts⟩ (met_X6_wave l D cA A b fr fi fa N (fi 23) r_70 e_71) (cwV 1 hts (lw_V q1683 q1685 qs43 q79 q1686) rfl rfl rfl (by decide +kernel) ⟨Nat.le_of_ble_eq_true rfl, Nat.le_of_ble_eq_true rfl⟩) (ga_NV hK hP hD (va_recv hK.1 hP (ci := 0) (q0 := 0) rfl rfl)) rfl rfl hl.1 rfl (lv_room (Nat.le_of_ble_eq_true rfl)) dX6_plays_210 ⟨Nat.le_of_ble_eq_true rfl, Nat.le_of_ble_eq_true rfl⟩) hS (fun _ _ hq => hq) (fun _ hq => hq) (fun z_72 u t H locs ht _ w_73 hB _ _ hS => ?_)
        obtain ⟨rfl, rfl⟩ := w_73
        obtain ⟨hP, -, hD⟩ := hB
        rw [ht] at hP
        refine lv_istore (lv' := [(4, .int r_70.1), (0, .ref b), (1, .int x1), (2, .int x2), (3, .int x3)]) hx hb dX6_plays_213 hl (by decide) rfl (fun ls hl => ?_)
        refine lv_iload hx hb dX6_plays_215 (lv_at hl 0 rfl) ?_
        refine lv_if_le (tgt := 224) hx hb dX6_plays_217 (by decide) (fun c_75 => ?_) (fun c_75 => ?_)
        · replace h := ga_ift c_75 h
          refine lv_iconst (v := 0) hx hb dX6_plays_224 (by decide) ?_
          refine lv_istore_n (lv' := [(3, .int 0), (4, .int r_70.1), (0, .ref b), (1, .int x1), (2, .int x2)]) hx hb dX6_plays_225 rfl hl (by decide) rfl (fun ls hl => ?_)
          refine lv_iload_n hx hb dX6_plays_226 rfl (lv_at hl 0 rfl) ?_
          refine lv_if_ne (tgt := 233) hx hb dX6_plays_227 (by decide) (fun c_76 => absurd (by decide) c_76) (fun _ => ?_)
          refine lv_goto (tgt := 192) hx hb dX6_plays_230 (by decide) ?_
          exact ih r_70.2.1 r_70.2.2 0 h _ _ hP hD hS _ (lv_sub hl [2, 3, 4, 0] rfl)
        · replace h := ga_iff c_75 h
          refine lv_iconst (v := 1) hx hb dX6_plays_220 (by decide) ?_
          refine lv_goto (tgt := 225) hx hb dX6_plays_221 (by decide) ?_
          refine lv_istore_n (lv' := [(3, .int 1), (4, .int r_70.1), (0, .ref b), (1, .int x1), (2, .int x2)]) hx hb dX6_plays_225 rfl hl (by decide) rfl (fun ls hl => ?_)
          refine lv_iload_n hx hb dX6_plays_226 rfl (lv_at hl 0 rfl) ?_
          refine lv_if_ne (tgt := 233) hx hb dX6_plays_227 (by decide) (fun _ => ?_) (fun c_77 => absurd c_77 (by decide))
          refine lv_aload_n hx hb dX6_plays_233 rfl (lv_at hl 2 rfl) ?_
          refine va_get hx hb hts in_X6 hown hK.1 hP 0 (fs := mF r_70.2.1 fr) rfl rfl 21 (by decide) (hts _ q1533) (fun _ hh => hh) (v := .ref (fr 21)) rfl dX6_plays_234 ?_
          refine lv_aload_n hx hb dX6_plays_237 rfl (lv_at hl 2 rfl) ?_
          refine va_get hx hb hts in_X6 hown hK.1 hP 0 (fs := mF r_70.2.1 fr) rfl rfl 23 (by decide) (hts _ q1535) (fun _ hh => hh) (v := .int (r_70.2.1 23)) rfl dX6_plays_238 ?_
          refine lv_iload hx hb dX6_plays_241 (lv_at hl 1 rfl) ?_
          obtain ⟨i_78, h⟩ := ga_gif h
          refine va_iast hx hb hK.1 hP hD hS 14 0 (f := r_70.2.2 21) rfl rfl (ga_in i_78) dX6_plays_243 (fun H locs hP hD hS => ?_)
          replace hP := ga_cg (mA_21 b cA fr r_70.2.1 r_70.2.2 (upd (r_70.2.2 21) (ix (r_70.2.1 23)) r_70.1)) hP
          replace hD := ga_cd (mA_21 b cA fr r_70.2.1 r_70.2.2 (upd (r_70.2.2 21) (ix (r_70.2.1 23)) r_70.1)) hD
          refine lv_aload_n hx hb dX6_plays_244 rfl (lv_at hl 2 rfl) ?_
          refine lv_dup hx hb dX6_plays_245 rfl ?_
          refine va_get hx hb hts in_X6 hown hK.1 hP 0 (fs := mF r_70.2.1 fr) rfl rfl 24 (by decide) (hts _ q1536) (fun _ hh => hh) (v := .int (r_70.2.1 24)) rfl dX6_plays_246 ?_
          refine lv_iload hx hb dX6_plays_249 (lv_at hl 1 rfl) ?_
          refine lv_iadd hx hb dX6_plays_251 ?_
          refine va_put hx hb hts in_X6 tyX6 tyX6_ok nmX6 hown hK.1 hP hD hS 0 (fs := mF r_70.2.1 fr) rfl rfl 24 (by decide) (hts _ q1536) (fun _ hh => hh) rfl (v := .int ((r_70.2.1 24) + r_70.1)) rfl rfl rfl (mF_lt (by decide)) dX6_plays_252 (fun H locs hP hD hS => ?_)
          rw [mS_24] at hP hD
          refine lv_aload_n hx hb dX6_plays_255 rfl (lv_at hl 2 rfl) ?_
          refine lv_dup hx hb dX6_plays_256 rfl ?_
          refine va_get hx hb hts in_X6 hown hK.1 hP 0 (fs := mF (upd r_70.2.1 24 ((r_70.2.1 24) + r_70.1)) fr) rfl rfl 23 (by decide) (hts _ q1535) (fun _ hh => hh) (v := .int (r_70.2.1 23)) rfl dX6_plays_257 ?_
          refine lv_iconst (v := 1) hx hb dX6_plays_260 (by decide) ?_
          refine lv_iadd hx hb dX6_plays_261 ?_
          refine va_put hx hb hts in_X6 tyX6 tyX6_ok nmX6 hown hK.1 hP hD hS 0 (fs := mF (upd r_70.2.1 24 ((r_70.2.1 24) + r_70.1)) fr) rfl rfl 23 (by decide) (hts _ q1535) (fun _ hh => hh) rfl (v := .int ((r_70.2.1 23) + 1)) rfl rfl rfl (mF_lt (by decide)) dX6_plays_262 (fun H locs hP hD hS => ?_)
          rw [mS_23] at hP hD
          refine lv_goto (tgt := 192) hx hb dX6_plays_265 (by decide) ?_
          exact ih (upd (upd r_70.2.1 24 ((r_70.2.1 24) + r_70.1)) 23 ((r_70.2.1 23) + 1)) (va_up r_70.2.2 21 (upd (r_70.2.2 21) (ix (r_70.2.1 23)) r_70.1)) 1 h _ _ hP hD hS _ (lv_sub hl [2, 3, 4, 0] rfl)
def lp_X6_plays_123 (N : Nat) (x1 : Int32) (x2 : Int32) (fi : Nat → Int32) (fa : Nat → Nat → Int32) : Option (ga_MS) :=
  (if x1 = (-1) then
  (if x2 = (-1) then
  lp_X6_plays_192 N x1 x2 N (upd (upd fi 23 0) 24 0) (va_up (va_up (va_up fa 5 (upd (fa 5) (ix 149) ((fa 5 (ix 149)) + 1))) 5 (upd (upd (fa 5) (ix 149) ((fa 5 (ix 149)) + 1)) (ix 150) (((upd (fa 5) (ix 149) ((fa 5 (ix 149)) + 1)) (ix 150)) + 1))) 5 (upd (upd (upd (fa 5) (ix 149) ((fa 5 (ix 149)) + 1)) (ix 150) (((upd (fa 5) (ix 149) ((fa 5 (ix 149)) + 1)) (ix 150)) + 1)) (ix 151) (((upd (upd (fa 5) (ix 149) ((fa 5 (ix 149)) + 1)) (ix 150) (((upd (fa 5) (ix 149) ((fa 5 (ix 149)) + 1)) (ix 150)) + 1)) (ix 151)) + (fi 22)))) 1
  else
  lp_X6_plays_192 N x1 x2 N (upd (upd fi 23 0) 24 0) (va_up (va_up (va_up fa 5 (upd (fa 5) (ix 149) ((fa 5 (ix 149)) + 1))) 5 (upd (upd (fa 5) (ix 149) ((fa 5 (ix 149)) + 1)) (ix 150) (((upd (fa 5) (ix 149) ((fa 5 (ix 149)) + 1)) (ix 150)) + 0))) 5 (upd (upd (upd (fa 5) (ix 149) ((fa 5 (ix 149)) + 1)) (ix 150) (((upd (fa 5) (ix 149) ((fa 5 (ix 149)) + 1)) (ix 150)) + 0)) (ix 151) (((upd (upd (fa 5) (ix 149) ((fa 5 (ix 149)) + 1)) (ix 150) (((upd (fa 5) (ix 149) ((fa 5 (ix 149)) + 1)) (ix 150)) + 0)) (ix 151)) + (fi 22)))) 1)
  else
  (if x2 = (-1) then
  lp_X6_plays_192 N x1 x2 N (upd (upd fi 23 0) 24 0) (va_up (va_up (va_up fa 5 (upd (fa 5) (ix 149) ((fa 5 (ix 149)) + 0))) 5 (upd (upd (fa 5) (ix 149) ((fa 5 (ix 149)) + 0)) (ix 150) (((upd (fa 5) (ix 149) ((fa 5 (ix 149)) + 0)) (ix 150)) + 1))) 5 (upd (upd (upd (fa 5) (ix 149) ((fa 5 (ix 149)) + 0)) (ix 150) (((upd (fa 5) (ix 149) ((fa 5 (ix 149)) + 0)) (ix 150)) + 1)) (ix 151) (((upd (upd (fa 5) (ix 149) ((fa 5 (ix 149)) + 0)) (ix 150) (((upd (fa 5) (ix 149) ((fa 5 (ix 149)) + 0)) (ix 150)) + 1)) (ix 151)) + (fi 22)))) 1
  else
  lp_X6_plays_192 N x1 x2 N (upd (upd fi 23 0) 24 0) (va_up (va_up (va_up fa 5 (upd (fa 5) (ix 149) ((fa 5 (ix 149)) + 0))) 5 (upd (upd (fa 5) (ix 149) ((fa 5 (ix 149)) + 0)) (ix 150) (((upd (fa 5) (ix 149) ((fa 5 (ix 149)) + 0)) (ix 150)) + 0))) 5 (upd (upd (upd (fa 5) (ix 149) ((fa 5 (ix 149)) + 0)) (ix 150) (((upd (fa 5) (ix 149) ((fa 5 (ix 149)) + 0)) (ix 150)) + 0)) (ix 151) (((upd (upd (fa 5) (ix 149) ((fa 5 (ix 149)) + 0)) (ix 150) (((upd (fa 5) (ix 149) ((fa 5 (ix 149)) + 0)) (ix 150)) + 0)) (ix 151)) + (fi 22)))) 1))
set_option maxHeartbeats 4000000 in
theorem w_X6_plays_123 {p : Program} {l : Launch} {e : Env} {s : State} {m : MethodId} {args : Array Value} {below : List Frame} {meth : Method} {c : Code} {D : va_G} {cA : Nat → ClassId} {A : Nat → Prop} {b : Nat} {fr : Nat → Nat} {N : Nat} {x1 : Int32} {x2 : Int32} (C : ga_cx p m c meth s args RX6 cX6_plays 5 none) (hK : ga_K D cA s) {out : ga_MS} : ∀ (fi : Nat → Int32) (fa : Nat → Nat → Int32), lp_X6_plays_123 N x1 x2 fi fa = some out → ∀ (H : Heap) (locs : List Loc), va_P D ga_cl (mW b cA fr fi fa) H → va_D A (mW b cA fr fi fa) → va_S A s.heap H locs → ∀ ls : Array Slot, lv_has ls 5 [(0, .ref b), (1, .int x1), (2, .int x2)] → W p l e (headSpec (ws_ yX6_plays cX6_plays 5 none) rm_X6_plays).room s m args below meth c H locs 0 0 (MQ below (va_Qv (fun (u : ga_MS) => out = u) (ga_MB D cA A b fr) A) args s 0 0 A) (F0 m 123 ls []) := by
  have C0 := C
  obtain ⟨hx, hb, hr, hlocks, hml, hown, hts⟩ := C0
  intro fi fa h H locs hP hD hS ls hl
  rw [lp_X6_plays_123.eq_1] at h
  refine lv_aload_n hx hb dX6_plays_123 rfl (lv_at hl 0 rfl) ?_
  refine va_get hx hb hts in_X6 hown hK.1 hP 0 (fs := mF fi fr) rfl rfl 5 (by decide) (hts _ q1517) (fun _ hh => hh) (v := .ref (fr 5)) rfl dX6_plays_124 ?_
  refine lv_sipush (v := 149) hx hb dX6_plays_127 (by decide) ?_
  refine lv_dup2_11 hx hb dX6_plays_130 rfl rfl ?_
  refine va_iald hx hb hK.1 hP 2 0 (f := fa 5) rfl rfl (ga_in (by decide)) dX6_plays_131 ?_
  refine lv_iload_n hx hb dX6_plays_132 rfl (lv_at hl 1 rfl) ?_
  refine lv_iconst (v := (-1)) hx hb dX6_plays_133 (by decide) ?_
  refine lv_icmp_ne (tgt := 141) hx hb dX6_plays_134 (by decide) (fun c_65 => ?_) (fun c_65 => ?_)
  · replace h := ga_iff c_65 h
    refine lv_iconst (v := 0) hx hb dX6_plays_141 (by decide) ?_
    refine lv_iadd hx hb dX6_plays_142 ?_
    refine va_iast hx hb hK.1 hP hD hS 2 0 (f := fa 5) rfl rfl (ga_in (by decide)) dX6_plays_143 (fun H locs hP hD hS => ?_)
    replace hP := ga_cg (mA_5 b cA fr fi fa (upd (fa 5) (ix 149) ((fa 5 (ix 149)) + 0))) hP
    replace hD := ga_cd (mA_5 b cA fr fi fa (upd (fa 5) (ix 149) ((fa 5 (ix 149)) + 0))) hD
    refine lv_aload_n hx hb dX6_plays_144 rfl (lv_at hl 0 rfl) ?_
    refine va_get hx hb hts in_X6 hown hK.1 hP 0 (fs := mF fi fr) rfl rfl 5 (by decide) (hts _ q1517) (fun _ hh => hh) (v := .ref (fr 5)) rfl dX6_plays_145 ?_
    refine lv_sipush (v := 150) hx hb dX6_plays_148 (by decide) ?_
    refine lv_dup2_11 hx hb dX6_plays_151 rfl rfl ?_
    refine va_iald hx hb hK.1 hP 2 0 (f := (upd (fa 5) (ix 149) ((fa 5 (ix 149)) + 0))) rfl rfl (ga_in (by decide)) dX6_plays_152 ?_
    refine lv_iload_n hx hb dX6_plays_153 rfl (lv_at hl 2 rfl) ?_
    refine lv_iconst (v := (-1)) hx hb dX6_plays_154 (by decide) ?_
    refine lv_icmp_ne (tgt := 162) hx hb dX6_plays_155 (by decide) (fun c_66 => ?_) (fun c_66 => ?_)
    · replace h := ga_iff c_66 h
      refine lv_iconst (v := 0) hx hb dX6_plays_162 (by decide) ?_
      refine lv_iadd hx hb dX6_plays_163 ?_
      refine va_iast hx hb hK.1 hP hD hS 2 0 (f := (upd (fa 5) (ix 149) ((fa 5 (ix 149)) + 0))) rfl rfl (ga_in (by decide)) dX6_plays_164 (fun H locs hP hD hS => ?_)
      replace hP := ga_cg (mA_5 b cA fr fi (va_up fa 5 (upd (fa 5) (ix 149) ((fa 5 (ix 149)) + 0))) (upd (upd (fa 5) (ix 149) ((fa 5 (ix 149)) + 0)) (ix 150) (((upd (fa 5) (ix 149) ((fa 5 (ix 149)) + 0)) (ix 150)) + 0))) hP
      replace hD := ga_cd (mA_5 b cA fr fi (va_up fa 5 (upd (fa 5) (ix 149) ((fa 5 (ix 149)) + 0))) (upd (upd (fa 5) (ix 149) ((fa 5 (ix 149)) + 0)) (ix 150) (((upd (fa 5) (ix 149) ((fa 5 (ix 149)) + 0)) (ix 150)) + 0))) hD
      refine lv_aload_n hx hb dX6_plays_165 rfl (lv_at hl 0 rfl) ?_
      refine va_get hx hb hts in_X6 hown hK.1 hP 0 (fs := mF fi fr) rfl rfl 5 (by decide) (hts _ q1517) (fun _ hh => hh) (v := .ref (fr 5)) rfl dX6_plays_166 ?_
      refine lv_sipush (v := 151) hx hb dX6_plays_169 (by decide) ?_
      refine lv_dup2_11 hx hb dX6_plays_172 rfl rfl ?_
      refine va_iald hx hb hK.1 hP 2 0 (f := (upd (upd (fa 5) (ix 149) ((fa 5 (ix 149)) + 0)) (ix 150) (((upd (fa 5) (ix 149) ((fa 5 (ix 149)) + 0)) (ix 150)) + 0))) rfl rfl (ga_in (by decide)) dX6_plays_173 ?_
      refine lv_aload_n hx hb dX6_plays_174 rfl (lv_at hl 0 rfl) ?_
      refine va_get hx hb hts in_X6 hown hK.1 hP 0 (fs := mF fi fr) rfl rfl 22 (by decide) (hts _ q1534) (fun _ hh => hh) (v := .int (fi 22)) rfl dX6_plays_175 ?_
      refine lv_iadd hx hb dX6_plays_178 ?_
      refine va_iast hx hb hK.1 hP hD hS 2 0 (f := (upd (upd (fa 5) (ix 149) ((fa 5 (ix 149)) + 0)) (ix 150) (((upd (fa 5) (ix 149) ((fa 5 (ix 149)) + 0)) (ix 150)) + 0))) rfl rfl (ga_in (by decide)) dX6_plays_179 (fun H locs hP hD hS => ?_)
      replace hP := ga_cg (mA_5 b cA fr fi (va_up (va_up fa 5 (upd (fa 5) (ix 149) ((fa 5 (ix 149)) + 0))) 5 (upd (upd (fa 5) (ix 149) ((fa 5 (ix 149)) + 0)) (ix 150) (((upd (fa 5) (ix 149) ((fa 5 (ix 149)) + 0)) (ix 150)) + 0))) (upd (upd (upd (fa 5) (ix 149) ((fa 5 (ix 149)) + 0)) (ix 150) (((upd (fa 5) (ix 149) ((fa 5 (ix 149)) + 0)) (ix 150)) + 0)) (ix 151) (((upd (upd (fa 5) (ix 149) ((fa 5 (ix 149)) + 0)) (ix 150) (((upd (fa 5) (ix 149) ((fa 5 (ix 149)) + 0)) (ix 150)) + 0)) (ix 151)) + (fi 22)))) hP
      replace hD := ga_cd (mA_5 b cA fr fi (va_up (va_up fa 5 (upd (fa 5) (ix 149) ((fa 5 (ix 149)) + 0))) 5 (upd (upd (fa 5) (ix 149) ((fa 5 (ix 149)) + 0)) (ix 150) (((upd (fa 5) (ix 149) ((fa 5 (ix 149)) + 0)) (ix 150)) + 0))) (upd (upd (upd (fa 5) (ix 149) ((fa 5 (ix 149)) + 0)) (ix 150) (((upd (fa 5) (ix 149) ((fa 5 (ix 149)) + 0)) (ix 150)) + 0)) (ix 151) (((upd (upd (fa 5) (ix 149) ((fa 5 (ix 149)) + 0)) (ix 150) (((upd (fa 5) (ix 149) ((fa 5 (ix 149)) + 0)) (ix 150)) + 0)) (ix 151)) + (fi 22)))) hD
      refine lv_aload_n hx hb dX6_plays_180 rfl (lv_at hl 0 rfl) ?_
      refine lv_iconst (v := 0) hx hb dX6_plays_181 (by decide) ?_
      refine va_put hx hb hts in_X6 tyX6 tyX6_ok nmX6 hown hK.1 hP hD hS 0 (fs := mF fi fr) rfl rfl 23 (by decide) (hts _ q1535) (fun _ hh => hh) rfl (v := .int 0) rfl rfl rfl (mF_lt (by decide)) dX6_plays_182 (fun H locs hP hD hS => ?_)
      rw [mS_23] at hP hD
      refine lv_aload_n hx hb dX6_plays_185 rfl (lv_at hl 0 rfl) ?_
      refine lv_iconst (v := 0) hx hb dX6_plays_186 (by decide) ?_
      refine va_put hx hb hts in_X6 tyX6 tyX6_ok nmX6 hown hK.1 hP hD hS 0 (fs := mF (upd fi 23 0) fr) rfl rfl 24 (by decide) (hts _ q1536) (fun _ hh => hh) rfl (v := .int 0) rfl rfl rfl (mF_lt (by decide)) dX6_plays_187 (fun H locs hP hD hS => ?_)
      rw [mS_24] at hP hD
      refine lv_iconst (v := 1) hx hb dX6_plays_190 (by decide) ?_
      refine lv_istore_n (lv' := [(3, .int 1), (0, .ref b), (1, .int x1), (2, .int x2)]) hx hb dX6_plays_191 rfl hl (by decide) rfl (fun ls hl => ?_)
      exact w_X6_plays_192 C hK N (upd (upd fi 23 0) 24 0) (va_up (va_up (va_up fa 5 (upd (fa 5) (ix 149) ((fa 5 (ix 149)) + 0))) 5 (upd (upd (fa 5) (ix 149) ((fa 5 (ix 149)) + 0)) (ix 150) (((upd (fa 5) (ix 149) ((fa 5 (ix 149)) + 0)) (ix 150)) + 0))) 5 (upd (upd (upd (fa 5) (ix 149) ((fa 5 (ix 149)) + 0)) (ix 150) (((upd (fa 5) (ix 149) ((fa 5 (ix 149)) + 0)) (ix 150)) + 0)) (ix 151) (((upd (upd (fa 5) (ix 149) ((fa 5 (ix 149)) + 0)) (ix 150) (((upd (fa 5) (ix 149) ((fa 5 (ix 149)) + 0)) (ix 150)) + 0)) (ix 151)) + (fi 22)))) 1 h _ _ hP hD hS _ (lv_sub hl [1, 2, 3, 0] rfl)
    · replace h := ga_ift c_66 h
      refine lv_iconst (v := 1) hx hb dX6_plays_158 (by decide) ?_
      refine lv_goto (tgt := 163) hx hb dX6_plays_159 (by decide) ?_
      refine lv_iadd hx hb dX6_plays_163 ?_
      refine va_iast hx hb hK.1 hP hD hS 2 0 (f := (upd (fa 5) (ix 149) ((fa 5 (ix 149)) + 0))) rfl rfl (ga_in (by decide)) dX6_plays_164 (fun H locs hP hD hS => ?_)
      replace hP := ga_cg (mA_5 b cA fr fi (va_up fa 5 (upd (fa 5) (ix 149) ((fa 5 (ix 149)) + 0))) (upd (upd (fa 5) (ix 149) ((fa 5 (ix 149)) + 0)) (ix 150) (((upd (fa 5) (ix 149) ((fa 5 (ix 149)) + 0)) (ix 150)) + 1))) hP
      replace hD := ga_cd (mA_5 b cA fr fi (va_up fa 5 (upd (fa 5) (ix 149) ((fa 5 (ix 149)) + 0))) (upd (upd (fa 5) (ix 149) ((fa 5 (ix 149)) + 0)) (ix 150) (((upd (fa 5) (ix 149) ((fa 5 (ix 149)) + 0)) (ix 150)) + 1))) hD
      refine lv_aload_n hx hb dX6_plays_165 rfl (lv_at hl 0 rfl) ?_
      refine va_get hx hb hts in_X6 hown hK.1 hP 0 (fs := mF fi fr) rfl rfl 5 (by decide) (hts _ q1517) (fun _ hh => hh) (v := .ref (fr 5)) rfl dX6_plays_166 ?_
      refine lv_sipush (v := 151) hx hb dX6_plays_169 (by decide) ?_
      refine lv_dup2_11 hx hb dX6_plays_172 rfl rfl ?_
      refine va_iald hx hb hK.1 hP 2 0 (f := (upd (upd (fa 5) (ix 149) ((fa 5 (ix 149)) + 0)) (ix 150) (((upd (fa 5) (ix 149) ((fa 5 (ix 149)) + 0)) (ix 150)) + 1))) rfl rfl (ga_in (by decide)) dX6_plays_173 ?_
      refine lv_aload_n hx hb dX6_plays_174 rfl (lv_at hl 0 rfl) ?_
      refine va_get hx hb hts in_X6 hown hK.1 hP 0 (fs := mF fi fr) rfl rfl 22 (by decide) (hts _ q1534) (fun _ hh => hh) (v := .int (fi 22)) rfl dX6_plays_175 ?_
      refine lv_iadd hx hb dX6_plays_178 ?_
      refine va_iast hx hb hK.1 hP hD hS 2 0 (f := (upd (upd (fa 5) (ix 149) ((fa 5 (ix 149)) + 0)) (ix 150) (((upd (fa 5) (ix 149) ((fa 5 (ix 149)) + 0)) (ix 150)) + 1))) rfl rfl (ga_in (by decide)) dX6_plays_179 (fun H locs hP hD hS => ?_)
      replace hP := ga_cg (mA_5 b cA fr fi (va_up (va_up fa 5 (upd (fa 5) (ix 149) ((fa 5 (ix 149)) + 0))) 5 (upd (upd (fa 5) (ix 149) ((fa 5 (ix 149)) + 0)) (ix 150) (((upd (fa 5) (ix 149) ((fa 5 (ix 149)) + 0)) (ix 150)) + 1))) (upd (upd (upd (fa 5) (ix 149) ((fa 5 (ix 149)) + 0)) (ix 150) (((upd (fa 5) (ix 149) ((fa 5 (ix 149)) + 0)) (ix 150)) + 1)) (ix 151) (((upd (upd (fa 5) (ix 149) ((fa 5 (ix 149)) + 0)) (ix 150) (((upd (fa 5) (ix 149) ((fa 5 (ix 149)) + 0)) (ix 150)) + 1)) (ix 151)) + (fi 22)))) hP
      replace hD := ga_cd (mA_5 b cA fr fi (va_up (va_up fa 5 (upd (fa 5) (ix 149) ((fa 5 (ix 149)) + 0))) 5 (upd (upd (fa 5) (ix 149) ((fa 5 (ix 149)) + 0)) (ix 150) (((upd (fa 5) (ix 149) ((fa 5 (ix 149)) + 0)) (ix 150)) + 1))) (upd (upd (upd (fa 5) (ix 149) ((fa 5 (ix 149)) + 0)) (ix 150) (((upd (fa 5) (ix 149) ((fa 5 (ix 149)) + 0)) (ix 150)) + 1)) (ix 151) (((upd (upd (fa 5) (ix 149) ((fa 5 (ix 149)) + 0)) (ix 150) (((upd (fa 5) (ix 149) ((fa 5 (ix 149)) + 0)) (ix 150)) + 1)) (ix 151)) + (fi 22)))) hD
      refine lv_aload_n hx hb dX6_plays_180 rfl (lv_at hl 0 rfl) ?_
      refine lv_iconst (v := 0) hx hb dX6_plays_181 (by decide) ?_
      refine va_put hx hb hts in_X6 tyX6 tyX6_ok nmX6 hown hK.1 hP hD hS 0 (fs := mF fi fr) rfl rfl 23 (by decide) (hts _ q1535) (fun _ hh => hh) rfl (v := .int 0) rfl rfl rfl (mF_lt (by decide)) dX6_plays_182 (fun H locs hP hD hS => ?_)
      rw [mS_23] at hP hD
      refine lv_aload_n hx hb dX6_plays_185 rfl (lv_at hl 0 rfl) ?_
      refine lv_iconst (v := 0) hx hb dX6_plays_186 (by decide) ?_
      refine va_put hx hb hts in_X6 tyX6 tyX6_ok nmX6 hown hK.1 hP hD hS 0 (fs := mF (upd fi 23 0) fr) rfl rfl 24 (by decide) (hts _ q1536) (fun _ hh => hh) rfl (v := .int 0) rfl rfl rfl (mF_lt (by decide)) dX6_plays_187 (fun H locs hP hD hS => ?_)
      rw [mS_24] at hP hD
      refine lv_iconst (v := 1) hx hb dX6_plays_190 (by decide) ?_
      refine lv_istore_n (lv' := [(3, .int 1), (0, .ref b), (1, .int x1), (2, .int x2)]) hx hb dX6_plays_191 rfl hl (by decide) rfl (fun ls hl => ?_)
      exact w_X6_plays_192 C hK N (upd (upd fi 23 0) 24 0) (va_up (va_up (va_up fa 5 (upd (fa 5) (ix 149) ((fa 5 (ix 149)) + 0))) 5 (upd (upd (fa 5) (ix 149) ((fa 5 (ix 149)) + 0)) (ix 150) (((upd (fa 5) (ix 149) ((fa 5 (ix 149)) + 0)) (ix 150)) + 1))) 5 (upd (upd (upd (fa 5) (ix 149) ((fa 5 (ix 149)) + 0)) (ix 150) (((upd (fa 5) (ix 149) ((fa 5 (ix 149)) + 0)) (ix 150)) + 1)) (ix 151) (((upd (upd (fa 5) (ix 149) ((fa 5 (ix 149)) + 0)) (ix 150) (((upd (fa 5) (ix 149) ((fa 5 (ix 149)) + 0)) (ix 150)) + 1)) (ix 151)) + (fi 22)))) 1 h _ _ hP hD hS _ (lv_sub hl [1, 2, 3, 0] rfl)
  · replace h := ga_ift c_65 h
    refine lv_iconst (v := 1) hx hb dX6_plays_137 (by decide) ?_
    refine lv_goto (tgt := 142) hx hb dX6_plays_138 (by decide) ?_
    refine lv_iadd hx hb dX6_plays_142 ?_
    refine va_iast hx hb hK.1 hP hD hS 2 0 (f := fa 5) rfl rfl (ga_in (by decide)) dX6_plays_143 (fun H locs hP hD hS => ?_)
    replace hP := ga_cg (mA_5 b cA fr fi fa (upd (fa 5) (ix 149) ((fa 5 (ix 149)) + 1))) hP
    replace hD := ga_cd (mA_5 b cA fr fi fa (upd (fa 5) (ix 149) ((fa 5 (ix 149)) + 1))) hD
    refine lv_aload_n hx hb dX6_plays_144 rfl (lv_at hl 0 rfl) ?_
    refine va_get hx hb hts in_X6 hown hK.1 hP 0 (fs := mF fi fr) rfl rfl 5 (by decide) (hts _ q1517) (fun _ hh => hh) (v := .ref (fr 5)) rfl dX6_plays_145 ?_
    refine lv_sipush (v := 150) hx hb dX6_plays_148 (by decide) ?_
    refine lv_dup2_11 hx hb dX6_plays_151 rfl rfl ?_
    refine va_iald hx hb hK.1 hP 2 0 (f := (upd (fa 5) (ix 149) ((fa 5 (ix 149)) + 1))) rfl rfl (ga_in (by decide)) dX6_plays_152 ?_
    refine lv_iload_n hx hb dX6_plays_153 rfl (lv_at hl 2 rfl) ?_
    refine lv_iconst (v := (-1)) hx hb dX6_plays_154 (by decide) ?_
    refine lv_icmp_ne (tgt := 162) hx hb dX6_plays_155 (by decide) (fun c_67 => ?_) (fun c_67 => ?_)
    · replace h := ga_iff c_67 h
      refine lv_iconst (v := 0) hx hb dX6_plays_162 (by decide) ?_
      refine lv_iadd hx hb dX6_plays_163 ?_
      refine va_iast hx hb hK.1 hP hD hS 2 0 (f := (upd (fa 5) (ix 149) ((fa 5 (ix 149)) + 1))) rfl rfl (ga_in (by decide)) dX6_plays_164 (fun H locs hP hD hS => ?_)
      replace hP := ga_cg (mA_5 b cA fr fi (va_up fa 5 (upd (fa 5) (ix 149) ((fa 5 (ix 149)) + 1))) (upd (upd (fa 5) (ix 149) ((fa 5 (ix 149)) + 1)) (ix 150) (((upd (fa 5) (ix 149) ((fa 5 (ix 149)) + 1)) (ix 150)) + 0))) hP
      replace hD := ga_cd (mA_5 b cA fr fi (va_up fa 5 (upd (fa 5) (ix 149) ((fa 5 (ix 149)) + 1))) (upd (upd (fa 5) (ix 149) ((fa 5 (ix 149)) + 1)) (ix 150) (((upd (fa 5) (ix 149) ((fa 5 (ix 149)) + 1)) (ix 150)) + 0))) hD
      refine lv_aload_n hx hb dX6_plays_165 rfl (lv_at hl 0 rfl) ?_
      refine va_get hx hb hts in_X6 hown hK.1 hP 0 (fs := mF fi fr) rfl rfl 5 (by decide) (hts _ q1517) (fun _ hh => hh) (v := .ref (fr 5)) rfl dX6_plays_166 ?_
      refine lv_sipush (v := 151) hx hb dX6_plays_169 (by decide) ?_
      refine lv_dup2_11 hx hb dX6_plays_172 rfl rfl ?_
      refine va_iald hx hb hK.1 hP 2 0 (f := (upd (upd (fa 5) (ix 149) ((fa 5 (ix 149)) + 1)) (ix 150) (((upd (fa 5) (ix 149) ((fa 5 (ix 149)) + 1)) (ix 150)) + 0))) rfl rfl (ga_in (by decide)) dX6_plays_173 ?_
      refine lv_aload_n hx hb dX6_plays_174 rfl (lv_at hl 0 rfl) ?_
      refine va_get hx hb hts in_X6 hown hK.1 hP 0 (fs := mF fi fr) rfl rfl 22 (by decide) (hts _ q1534) (fun _ hh => hh) (v := .int (fi 22)) rfl dX6_plays_175 ?_
      refine lv_iadd hx hb dX6_plays_178 ?_
      refine va_iast hx hb hK.1 hP hD hS 2 0 (f := (upd (upd (fa 5) (ix 149) ((fa 5 (ix 149)) + 1)) (ix 150) (((upd (fa 5) (ix 149) ((fa 5 (ix 149)) + 1)) (ix 150)) + 0))) rfl rfl (ga_in (by decide)) dX6_plays_179 (fun H locs hP hD hS => ?_)
      replace hP := ga_cg (mA_5 b cA fr fi (va_up (va_up fa 5 (upd (fa 5) (ix 149) ((fa 5 (ix 149)) + 1))) 5 (upd (upd (fa 5) (ix 149) ((fa 5 (ix 149)) + 1)) (ix 150) (((upd (fa 5) (ix 149) ((fa 5 (ix 149)) + 1)) (ix 150)) + 0))) (upd (upd (upd (fa 5) (ix 149) ((fa 5 (ix 149)) + 1)) (ix 150) (((upd (fa 5) (ix 149) ((fa 5 (ix 149)) + 1)) (ix 150)) + 0)) (ix 151) (((upd (upd (fa 5) (ix 149) ((fa 5 (ix 149)) + 1)) (ix 150) (((upd (fa 5) (ix 149) ((fa 5 (ix 149)) + 1)) (ix 150)) + 0)) (ix 151)) + (fi 22)))) hP
      replace hD := ga_cd (mA_5 b cA fr fi (va_up (va_up fa 5 (upd (fa 5) (ix 149) ((fa 5 (ix 149)) + 1))) 5 (upd (upd (fa 5) (ix 149) ((fa 5 (ix 149)) + 1)) (ix 150) (((upd (fa 5) (ix 149) ((fa 5 (ix 149)) + 1)) (ix 150)) + 0))) (upd (upd (upd (fa 5) (ix 149) ((fa 5 (ix 149)) + 1)) (ix 150) (((upd (fa 5) (ix 149) ((fa 5 (ix 149)) + 1)) (ix 150)) + 0)) (ix 151) (((upd (upd (fa 5) (ix 149) ((fa 5 (ix 149)) + 1)) (ix 150) (((upd (fa 5) (ix 149) ((fa 5 (ix 149)) + 1)) (ix 150)) + 0)) (ix 151)) + (fi 22)))) hD
      refine lv_aload_n hx hb dX6_plays_180 rfl (lv_at hl 0 rfl) ?_
      refine lv_iconst (v := 0) hx hb dX6_plays_181 (by decide) ?_
      refine va_put hx hb hts in_X6 tyX6 tyX6_ok nmX6 hown hK.1 hP hD hS 0 (fs := mF fi fr) rfl rfl 23 (by decide) (hts _ q1535) (fun _ hh => hh) rfl (v := .int 0) rfl rfl rfl (mF_lt (by decide)) dX6_plays_182 (fun H locs hP hD hS => ?_)
      rw [mS_23] at hP hD
      refine lv_aload_n hx hb dX6_plays_185 rfl (lv_at hl 0 rfl) ?_
      refine lv_iconst (v := 0) hx hb dX6_plays_186 (by decide) ?_
      refine va_put hx hb hts in_X6 tyX6 tyX6_ok nmX6 hown hK.1 hP hD hS 0 (fs := mF (upd fi 23 0) fr) rfl rfl 24 (by decide) (hts _ q1536) (fun _ hh => hh) rfl (v := .int 0) rfl rfl rfl (mF_lt (by decide)) dX6_plays_187 (fun H locs hP hD hS => ?_)
      rw [mS_24] at hP hD
      refine lv_iconst (v := 1) hx hb dX6_plays_190 (by decide) ?_
      refine lv_istore_n (lv' := [(3, .int 1), (0, .ref b), (1, .int x1), (2, .int x2)]) hx hb dX6_plays_191 rfl hl (by decide) rfl (fun ls hl => ?_)
      exact w_X6_plays_192 C hK N (upd (upd fi 23 0) 24 0) (va_up (va_up (va_up fa 5 (upd (fa 5) (ix 149) ((fa 5 (ix 149)) + 1))) 5 (upd (upd (fa 5) (ix 149) ((fa 5 (ix 149)) + 1)) (ix 150) (((upd (fa 5) (ix 149) ((fa 5 (ix 149)) + 1)) (ix 150)) + 0))) 5 (upd (upd (upd (fa 5) (ix 149) ((fa 5 (ix 149)) + 1)) (ix 150) (((upd (fa 5) (ix 149) ((fa 5 (ix 149)) + 1)) (ix 150)) + 0)) (ix 151) (((upd (upd (fa 5) (ix 149) ((fa 5 (ix 149)) + 1)) (ix 150) (((upd (fa 5) (ix 149) ((fa 5 (ix 149)) + 1)) (ix 150)) + 0)) (ix 151)) + (fi 22)))) 1 h _ _ hP hD hS _ (lv_sub hl [1, 2, 3, 0] rfl)
    · replace h := ga_ift c_67 h
      refine lv_iconst (v := 1) hx hb dX6_plays_158 (by decide) ?_
      refine lv_goto (tgt := 163) hx hb dX6_plays_159 (by decide) ?_
      refine lv_iadd hx hb dX6_plays_163 ?_
      refine va_iast hx hb hK.1 hP hD hS 2 0 (f := (upd (fa 5) (ix 149) ((fa 5 (ix 149)) + 1))) rfl rfl (ga_in (by decide)) dX6_plays_164 (fun H locs hP hD hS => ?_)
      replace hP := ga_cg (mA_5 b cA fr fi (va_up fa 5 (upd (fa 5) (ix 149) ((fa 5 (ix 149)) + 1))) (upd (upd (fa 5) (ix 149) ((fa 5 (ix 149)) + 1)) (ix 150) (((upd (fa 5) (ix 149) ((fa 5 (ix 149)) + 1)) (ix 150)) + 1))) hP
      replace hD := ga_cd (mA_5 b cA fr fi (va_up fa 5 (upd (fa 5) (ix 149) ((fa 5 (ix 149)) + 1))) (upd (upd (fa 5) (ix 149) ((fa 5 (ix 149)) + 1)) (ix 150) (((upd (fa 5) (ix 149) ((fa 5 (ix 149)) + 1)) (ix 150)) + 1))) hD
      refine lv_aload_n hx hb dX6_plays_165 rfl (lv_at hl 0 rfl) ?_
      refine va_get hx hb hts in_X6 hown hK.1 hP 0 (fs := mF fi fr) rfl rfl 5 (by decide) (hts _ q1517) (fun _ hh => hh) (v := .ref (fr 5)) rfl dX6_plays_166 ?_
      refine lv_sipush (v := 151) hx hb dX6_plays_169 (by decide) ?_
      refine lv_dup2_11 hx hb dX6_plays_172 rfl rfl ?_
      refine va_iald hx hb hK.1 hP 2 0 (f := (upd (upd (fa 5) (ix 149) ((fa 5 (ix 149)) + 1)) (ix 150) (((upd (fa 5) (ix 149) ((fa 5 (ix 149)) + 1)) (ix 150)) + 1))) rfl rfl (ga_in (by decide)) dX6_plays_173 ?_
      refine lv_aload_n hx hb dX6_plays_174 rfl (lv_at hl 0 rfl) ?_
      refine va_get hx hb hts in_X6 hown hK.1 hP 0 (fs := mF fi fr) rfl rfl 22 (by decide) (hts _ q1534) (fun _ hh => hh) (v := .int (fi 22)) rfl dX6_plays_175 ?_
      refine lv_iadd hx hb dX6_plays_178 ?_
      refine va_iast hx hb hK.1 hP hD hS 2 0 (f := (upd (upd (fa 5) (ix 149) ((fa 5 (ix 149)) + 1)) (ix 150) (((upd (fa 5) (ix 149) ((fa 5 (ix 149)) + 1)) (ix 150)) + 1))) rfl rfl (ga_in (by decide)) dX6_plays_179 (fun H locs hP hD hS => ?_)
      replace hP := ga_cg (mA_5 b cA fr fi (va_up (va_up fa 5 (upd (fa 5) (ix 149) ((fa 5 (ix 149)) + 1))) 5 (upd (upd (fa 5) (ix 149) ((fa 5 (ix 149)) + 1)) (ix 150) (((upd (fa 5) (ix 149) ((fa 5 (ix 149)) + 1)) (ix 150)) + 1))) (upd (upd (upd (fa 5) (ix 149) ((fa 5 (ix 149)) + 1)) (ix 150) (((upd (fa 5) (ix 149) ((fa 5 (ix 149)) + 1)) (ix 150)) + 1)) (ix 151) (((upd (upd (fa 5) (ix 149) ((fa 5 (ix 149)) + 1)) (ix 150) (((upd (fa 5) (ix 149) ((fa 5 (ix 149)) + 1)) (ix 150)) + 1)) (ix 151)) + (fi 22)))) hP
      replace hD := ga_cd (mA_5 b cA fr fi (va_up (va_up fa 5 (upd (fa 5) (ix 149) ((fa 5 (ix 149)) + 1))) 5 (upd (upd (fa 5) (ix 149) ((fa 5 (ix 149)) + 1)) (ix 150) (((upd (fa 5) (ix 149) ((fa 5 (ix 149)) + 1)) (ix 150)) + 1))) (upd (upd (upd (fa 5) (ix 149) ((fa 5 (ix 149)) + 1)) (ix 150) (((upd (fa 5) (ix 149) ((fa 5 (ix 149)) + 1)) (ix 150)) + 1)) (ix 151) (((upd (upd (fa 5) (ix 149) ((fa 5 (ix 149)) + 1)) (ix 150) (((upd (fa 5) (ix 149) ((fa 5 (ix 149)) + 1)) (ix 150)) + 1)) (ix 151)) + (fi 22)))) hD
      refine lv_aload_n hx hb dX6_plays_180 rfl (lv_at hl 0 rfl) ?_
      refine lv_iconst (v := 0) hx hb dX6_plays_181 (by decide) ?_
      refine va_put hx hb hts in_X6 tyX6 tyX6_ok nmX6 hown hK.1 hP hD hS 0 (fs := mF fi fr) rfl rfl 23 (by decide) (hts _ q1535) (fun _ hh => hh) rfl (v := .int 0) rfl rfl rfl (mF_lt (by decide)) dX6_plays_182 (fun H locs hP hD hS => ?_)
      rw [mS_23] at hP hD
      refine lv_aload_n hx hb dX6_plays_185 rfl (lv_at hl 0 rfl) ?_
      refine lv_iconst (v := 0) hx hb dX6_plays_186 (by decide) ?_
      refine va_put hx hb hts in_X6 tyX6 tyX6_ok nmX6 hown hK.1 hP hD hS 0 (fs := mF (upd fi 23 0) fr) rfl rfl 24 (by decide) (hts _ q1536) (fun _ hh => hh) rfl (v := .int 0) rfl rfl rfl (mF_lt (by decide)) dX6_plays_187 (fun H locs hP hD hS => ?_)
      rw [mS_24] at hP hD
      refine lv_iconst (v := 1) hx hb dX6_plays_190 (by decide) ?_
      refine lv_istore_n (lv' := [(3, .int 1), (0, .ref b), (1, .int x1), (2, .int x2)]) hx hb dX6_plays_191 rfl hl (by decide) rfl (fun ls hl => ?_)
      exact w_X6_plays_192 C hK N (upd (upd fi 23 0) 24 0) (va_up (va_up (va_up fa 5 (upd (fa 5) (ix 149) ((fa 5 (ix 149)) + 1))) 5 (upd (upd (fa 5) (ix 149) ((fa 5 (ix 149)) + 1)) (ix 150) (((upd (fa 5) (ix 149) ((fa 5 (ix 149)) + 1)) (ix 150)) + 1))) 5 (upd (upd (upd (fa 5) (ix 149) ((fa 5 (ix 149)) + 1)) (ix 150) (((upd (fa 5) (ix 149) ((fa 5 (ix 149)) + 1)) (ix 150)) + 1)) (ix 151) (((upd (upd (fa 5) (ix 149) ((fa 5 (ix 149)) + 1)) (ix 150) (((upd (fa 5) (ix 149) ((fa 5 (ix 149)) + 1)) (ix 150)) + 1)) (ix 151)) + (fi 22)))) 1 h _ _ hP hD hS _ (lv_sub hl [1, 2, 3, 0] rfl)
def F_X6_plays (N : Nat) (fi : Nat → Int32) (fa : Nat → Nat → Int32) (x1 : Int32) (x2 : Int32) : Option (ga_MS) :=
  (if x1 = x2 then
  (if x1 = (-1) then
  (if x2 = (-1) then
  lp_X6_plays_123 N x1 x2 (upd fi 22 0) fa
  else
  ((F_X6_becomes N (upd fi 22 0) fa x2 2 (-1)).bind fun r_25 =>
  lp_X6_plays_123 N x1 x2 r_25.1 r_25.2))
  else
  ((F_X6_score N (upd fi 22 1) fa 0).bind fun r_31 =>
  ((F_X6_score N (upd fi 22 1) fa 1).bind fun r_35 =>
  (if (fi 3) = 0 then
  ((F_X6_becomes N (upd fi 22 1) fa x1 5 (-1)).bind fun r_40 =>
  lp_X6_plays_123 N x1 x2 r_40.1 r_40.2)
  else
  (if (fi 3) = 2 then
  (if r_31 = r_35 then
  ((F_X6_becomes N (upd fi 22 1) fa x1 5 (-1)).bind fun r_60 =>
  lp_X6_plays_123 N x1 x2 r_60.1 r_60.2)
  else
  (if r_35 ≤ r_31 then
  ((F_X6_becomes N (upd fi 22 1) fa x1 2 (-1)).bind fun r_50 =>
  lp_X6_plays_123 N x1 x2 r_50.1 r_50.2)
  else
  ((F_X6_becomes N (upd fi 22 1) fa x1 1 (-1)).bind fun r_55 =>
  lp_X6_plays_123 N x1 x2 r_55.1 r_55.2)))
  else
  lp_X6_plays_123 N x1 x2 (upd fi 22 1) fa)))))
  else
  (if x1 = (-1) then
  (if x2 = (-1) then
  lp_X6_plays_123 N x1 x2 (upd fi 22 0) fa
  else
  ((F_X6_becomes N (upd fi 22 0) fa x2 2 (-1)).bind fun r_5 =>
  lp_X6_plays_123 N x1 x2 r_5.1 r_5.2))
  else
  ((F_X6_becomes N (upd fi 22 0) fa x1 1 (-1)).bind fun r_10 =>
  (if x2 = (-1) then
  lp_X6_plays_123 N x1 x2 r_10.1 r_10.2
  else
  ((F_X6_becomes N r_10.1 r_10.2 x2 2 (-1)).bind fun r_16 =>
  lp_X6_plays_123 N x1 x2 r_16.1 r_16.2)))))
set_option maxHeartbeats 4000000 in
theorem met_X6_plays (l : Launch) (D : va_G) (cA : Nat → ClassId) (A : Nat → Prop) (b : Nat) (fr : Nat → Nat) (fi : Nat → Int32) (fa : Nat → Nat → Int32) (N : Nat) (x1 : Int32) (x2 : Int32) (out : ga_MS) (h : F_X6_plays N fi fa x1 x2 = some out) : Met l yX6_plays (ws_ yX6_plays cX6_plays 5 none) rm_X6_plays (ga_N D cA A (mW b cA fr fi fa) [.ref b, .int x1, .int x2]) (va_Qv (fun (u : ga_MS) => out = u) (ga_MB D cA A b fr) A) 0 0 A := by
  refine Met.ofW (cc := cX6_plays) (maxL := 5) (ret := none) (by decide) rfl ?_
  intro p e s m args below meth c s₁ B hml hv
  obtain ⟨rfl, hP, hK, hD⟩ := hv
  have hS : va_S A s.heap s.heap [] := va_S.rf
  have C : ga_cx p m c meth s _ RX6 cX6_plays 5 none := ga_cx_of B hml
  have C0 := C
  obtain ⟨hx, hb, hr, hlocks, hml, hown, hts⟩ := C0
  have hl := lv_entry ([.ref b, .int x1, .int x2]) (n := 5) (Nat.le_of_ble_eq_true rfl)
  rw [lg_entry_eq]
  generalize (lg_sl ([.ref b, .int x1, .int x2]) ++ List.replicate (5 - (lg_sl ([.ref b, .int x1, .int x2])).length) Slot.unset).toArray = ls at hl ⊢
  have hl : lv_has ls 5 [(0, .ref b), (1, .int x1), (2, .int x2)] := hl
  rw [F_X6_plays] at h
  refine lv_aload_n hx hb dX6_plays_0 rfl (lv_at hl 0 rfl) ?_
  refine lv_iload_n hx hb dX6_plays_1 rfl (lv_at hl 1 rfl) ?_
  refine lv_iload_n hx hb dX6_plays_2 rfl (lv_at hl 2 rfl) ?_
  refine lv_icmp_ne (tgt := 15) hx hb dX6_plays_3 (by decide) (fun c_1 => ?_) (fun c_1 => ?_)
  · replace h := ga_iff c_1 h
    refine lv_iconst (v := 0) hx hb dX6_plays_15 (by decide) ?_
    refine va_put hx hb hts in_X6 tyX6 tyX6_ok nmX6 hown hK.1 hP hD hS 0 (fs := mF fi fr) rfl rfl 22 (by decide) (hts _ q1534) (fun _ hh => hh) rfl (v := .int 0) rfl rfl rfl (mF_lt (by decide)) dX6_plays_16 (fun H locs hP hD hS => ?_)
    rw [mS_22] at hP hD
    refine lv_aload_n hx hb dX6_plays_19 rfl (lv_at hl 0 rfl) ?_
    refine va_get hx hb hts in_X6 hown hK.1 hP 0 (fs := mF (upd fi 22 0) fr) rfl rfl 22 (by decide) (hts _ q1534) (fun _ hh => hh) (v := .int 0) rfl dX6_plays_20 ?_
    refine lv_iconst (v := 1) hx hb dX6_plays_23 (by decide) ?_
    refine lv_icmp_ne (tgt := 99) hx hb dX6_plays_24 (by decide) (fun _ => ?_) (fun c_2 => absurd c_2 (by decide))
    refine lv_iload_n hx hb dX6_plays_99 rfl (lv_at hl 1 rfl) ?_
    refine lv_iconst (v := (-1)) hx hb dX6_plays_100 (by decide) ?_
    refine lv_icmp_eq (tgt := 111) hx hb dX6_plays_101 (by decide) (fun c_3 => ?_) (fun c_3 => ?_)
    · replace h := ga_ift c_3 h
      refine lv_iload_n hx hb dX6_plays_111 rfl (lv_at hl 2 rfl) ?_
      refine lv_iconst (v := (-1)) hx hb dX6_plays_112 (by decide) ?_
      refine lv_icmp_eq (tgt := 123) hx hb dX6_plays_113 (by decide) (fun c_4 => ?_) (fun c_4 => ?_)
      · replace h := ga_ift c_4 h
        exact w_X6_plays_123 C hK (upd fi 22 0) fa h _ _ hP hD hS _ (lv_sub hl [0, 1, 2] rfl)
      · replace h := ga_iff c_4 h
        refine lv_aload_n hx hb dX6_plays_116 rfl (lv_at hl 0 rfl) ?_
        refine lv_iload_n hx hb dX6_plays_117 rfl (lv_at hl 2 rfl) ?_
        refine lv_iconst (v := 2) hx hb dX6_plays_118 (by decide) ?_
        refine lv_iconst (v := (-1)) hx hb dX6_plays_119 (by decide) ?_
        obtain ⟨r_5, e_6, h⟩ := ga_gb h
        refine va_callv (va_runV (As := [.int x2, .int 2, .int (-1)]) (rest := []) ⟨hx, hb, hml, hown, hts⟩ (met_X6_becomes l D cA A b fr (upd fi 22 0) fa N x2 2 (-1) r_5 e_6) (cwV 3 hts (lw_V q1679 q1681 qs42 q79 q1682) rfl rfl rfl (by decide +kernel) ⟨Nat.le_of_ble_eq_true rfl, Nat.le_of_ble_eq_true rfl⟩) (ga_NV hK hP hD (va_recv hK.1 hP (ci := 0) (q0 := 0) rfl rfl)) rfl rfl hl.1 rfl (lv_room (Nat.le_of_ble_eq_true rfl)) dX6_plays_120 ⟨Nat.le_of_ble_eq_true rfl, Nat.le_of_ble_eq_true rfl⟩) hS (fun _ _ hq => hq) (fun _ hq => hq) (fun u t H locs ht _ w_8 hB _ _ hS => ?_)
        obtain rfl := w_8
        obtain ⟨hP, -, hD⟩ := hB
        rw [ht] at hP
        exact w_X6_plays_123 C hK r_5.1 r_5.2 h _ _ hP hD hS _ (lv_sub hl [0, 1, 2] rfl)
    · replace h := ga_iff c_3 h
      refine lv_aload_n hx hb dX6_plays_104 rfl (lv_at hl 0 rfl) ?_
      refine lv_iload_n hx hb dX6_plays_105 rfl (lv_at hl 1 rfl) ?_
      refine lv_iconst (v := 1) hx hb dX6_plays_106 (by decide) ?_
      refine lv_iconst (v := (-1)) hx hb dX6_plays_107 (by decide) ?_
      obtain ⟨r_10, e_11, h⟩ := ga_gb h
      refine va_callv (va_runV (As := [.int x1, .int 1, .int (-1)]) (rest := []) ⟨hx, hb, hml, hown, hts⟩ (met_X6_becomes l D cA A b fr (upd fi 22 0) fa N x1 1 (-1) r_10 e_11) (cwV 3 hts (lw_V q1679 q1681 qs42 q79 q1682) rfl rfl rfl (by decide +kernel) ⟨Nat.le_of_ble_eq_true rfl, Nat.le_of_ble_eq_true rfl⟩) (ga_NV hK hP hD (va_recv hK.1 hP (ci := 0) (q0 := 0) rfl rfl)) rfl rfl hl.1 rfl (lv_room (Nat.le_of_ble_eq_true rfl)) dX6_plays_108 ⟨Nat.le_of_ble_eq_true rfl, Nat.le_of_ble_eq_true rfl⟩) hS (fun _ _ hq => hq) (fun _ hq => hq) (fun u t H locs ht _ w_13 hB _ _ hS => ?_)
      obtain rfl := w_13
      obtain ⟨hP, -, hD⟩ := hB
      rw [ht] at hP
      refine lv_iload_n hx hb dX6_plays_111 rfl (lv_at hl 2 rfl) ?_
      refine lv_iconst (v := (-1)) hx hb dX6_plays_112 (by decide) ?_
      refine lv_icmp_eq (tgt := 123) hx hb dX6_plays_113 (by decide) (fun c_15 => ?_) (fun c_15 => ?_)
      · replace h := ga_ift c_15 h
        exact w_X6_plays_123 C hK r_10.1 r_10.2 h _ _ hP hD hS _ (lv_sub hl [0, 1, 2] rfl)
      · replace h := ga_iff c_15 h
        refine lv_aload_n hx hb dX6_plays_116 rfl (lv_at hl 0 rfl) ?_
        refine lv_iload_n hx hb dX6_plays_117 rfl (lv_at hl 2 rfl) ?_
        refine lv_iconst (v := 2) hx hb dX6_plays_118 (by decide) ?_
        refine lv_iconst (v := (-1)) hx hb dX6_plays_119 (by decide) ?_
        obtain ⟨r_16, e_17, h⟩ := ga_gb h
        refine va_callv (va_runV (As := [.int x2, .int 2, .int (-1)]) (rest := []) ⟨hx, hb, hml, hown, hts⟩ (met_X6_becomes l D cA A b fr r_10.1 r_10.2 N x2 2 (-1) r_16 e_17) (cwV 3 hts (lw_V q1679 q1681 qs42 q79 q1682) rfl rfl rfl (by decide +kernel) ⟨Nat.le_of_ble_eq_true rfl, Nat.le_of_ble_eq_true rfl⟩) (ga_NV hK hP hD (va_recv hK.1 hP (ci := 0) (q0 := 0) rfl rfl)) rfl rfl hl.1 rfl (lv_room (Nat.le_of_ble_eq_true rfl)) dX6_plays_120 ⟨Nat.le_of_ble_eq_true rfl, Nat.le_of_ble_eq_true rfl⟩) hS (fun _ _ hq => hq) (fun _ hq => hq) (fun u t H locs ht _ w_19 hB _ _ hS => ?_)
        obtain rfl := w_19
        obtain ⟨hP, -, hD⟩ := hB
        rw [ht] at hP
        exact w_X6_plays_123 C hK r_16.1 r_16.2 h _ _ hP hD hS _ (lv_sub hl [0, 1, 2] rfl)
  · replace h := ga_ift c_1 h
    refine lv_iload_n hx hb dX6_plays_6 rfl (lv_at hl 1 rfl) ?_
    refine lv_iconst (v := (-1)) hx hb dX6_plays_7 (by decide) ?_
    refine lv_icmp_eq (tgt := 15) hx hb dX6_plays_8 (by decide) (fun c_21 => ?_) (fun c_21 => ?_)
    · replace h := ga_ift c_21 h
      refine lv_iconst (v := 0) hx hb dX6_plays_15 (by decide) ?_
      refine va_put hx hb hts in_X6 tyX6 tyX6_ok nmX6 hown hK.1 hP hD hS 0 (fs := mF fi fr) rfl rfl 22 (by decide) (hts _ q1534) (fun _ hh => hh) rfl (v := .int 0) rfl rfl rfl (mF_lt (by decide)) dX6_plays_16 (fun H locs hP hD hS => ?_)
      rw [mS_22] at hP hD
      refine lv_aload_n hx hb dX6_plays_19 rfl (lv_at hl 0 rfl) ?_
      refine va_get hx hb hts in_X6 hown hK.1 hP 0 (fs := mF (upd fi 22 0) fr) rfl rfl 22 (by decide) (hts _ q1534) (fun _ hh => hh) (v := .int 0) rfl dX6_plays_20 ?_
      refine lv_iconst (v := 1) hx hb dX6_plays_23 (by decide) ?_
      refine lv_icmp_ne (tgt := 99) hx hb dX6_plays_24 (by decide) (fun _ => ?_) (fun c_22 => absurd c_22 (by decide))
      refine lv_iload_n hx hb dX6_plays_99 rfl (lv_at hl 1 rfl) ?_
      refine lv_iconst (v := (-1)) hx hb dX6_plays_100 (by decide) ?_
      refine lv_icmp_eq (tgt := 111) hx hb dX6_plays_101 (by decide) (fun _ => ?_) (fun c_23 => absurd c_21 c_23)
      refine lv_iload_n hx hb dX6_plays_111 rfl (lv_at hl 2 rfl) ?_
      refine lv_iconst (v := (-1)) hx hb dX6_plays_112 (by decide) ?_
      refine lv_icmp_eq (tgt := 123) hx hb dX6_plays_113 (by decide) (fun c_24 => ?_) (fun c_24 => ?_)
      · replace h := ga_ift c_24 h
        exact w_X6_plays_123 C hK (upd fi 22 0) fa h _ _ hP hD hS _ (lv_sub hl [0, 1, 2] rfl)
      · replace h := ga_iff c_24 h
        refine lv_aload_n hx hb dX6_plays_116 rfl (lv_at hl 0 rfl) ?_
        refine lv_iload_n hx hb dX6_plays_117 rfl (lv_at hl 2 rfl) ?_
        refine lv_iconst (v := 2) hx hb dX6_plays_118 (by decide) ?_
        refine lv_iconst (v := (-1)) hx hb dX6_plays_119 (by decide) ?_
        obtain ⟨r_25, e_26, h⟩ := ga_gb h
        refine va_callv (va_runV (As := [.int x2, .int 2, .int (-1)]) (rest := []) ⟨hx, hb, hml, hown, hts⟩ (met_X6_becomes l D cA A b fr (upd fi 22 0) fa N x2 2 (-1) r_25 e_26) (cwV 3 hts (lw_V q1679 q1681 qs42 q79 q1682) rfl rfl rfl (by decide +kernel) ⟨Nat.le_of_ble_eq_true rfl, Nat.le_of_ble_eq_true rfl⟩) (ga_NV hK hP hD (va_recv hK.1 hP (ci := 0) (q0 := 0) rfl rfl)) rfl rfl hl.1 rfl (lv_room (Nat.le_of_ble_eq_true rfl)) dX6_plays_120 ⟨Nat.le_of_ble_eq_true rfl, Nat.le_of_ble_eq_true rfl⟩) hS (fun _ _ hq => hq) (fun _ hq => hq) (fun u t H locs ht _ w_28 hB _ _ hS => ?_)
        obtain rfl := w_28
        obtain ⟨hP, -, hD⟩ := hB
        rw [ht] at hP
        exact w_X6_plays_123 C hK r_25.1 r_25.2 h _ _ hP hD hS _ (lv_sub hl [0, 1, 2] rfl)
    · replace h := ga_iff c_21 h
      refine lv_iconst (v := 1) hx hb dX6_plays_11 (by decide) ?_
      refine lv_goto (tgt := 16) hx hb dX6_plays_12 (by decide) ?_
      refine va_put hx hb hts in_X6 tyX6 tyX6_ok nmX6 hown hK.1 hP hD hS 0 (fs := mF fi fr) rfl rfl 22 (by decide) (hts _ q1534) (fun _ hh => hh) rfl (v := .int 1) rfl rfl rfl (mF_lt (by decide)) dX6_plays_16 (fun H locs hP hD hS => ?_)
      rw [mS_22] at hP hD
      refine lv_aload_n hx hb dX6_plays_19 rfl (lv_at hl 0 rfl) ?_
      refine va_get hx hb hts in_X6 hown hK.1 hP 0 (fs := mF (upd fi 22 1) fr) rfl rfl 22 (by decide) (hts _ q1534) (fun _ hh => hh) (v := .int 1) rfl dX6_plays_20 ?_
      refine lv_iconst (v := 1) hx hb dX6_plays_23 (by decide) ?_
      refine lv_icmp_ne (tgt := 99) hx hb dX6_plays_24 (by decide) (fun c_30 => absurd (by decide) c_30) (fun _ => ?_)
      refine lv_aload_n hx hb dX6_plays_27 rfl (lv_at hl 0 rfl) ?_
      refine lv_iconst (v := 0) hx hb dX6_plays_28 (by decide) ?_
      obtain ⟨r_31, e_32, h⟩ := ga_gb h
      refine vp_callSi (W.runV (As := [.int 0]) (rest := []) ⟨hx, hb, hml, hown, hts⟩ (met_X6_score l D cA b fr (upd fi 22 1) fa N 0 r_31 e_32) (cwV 1 hts (lw_V q1675 q1677 qs41 q79 q1678) rfl rfl rfl (by decide +kernel) ⟨Nat.le_of_ble_eq_true rfl, Nat.le_of_ble_eq_true rfl⟩) (ga_PV hK hP (va_recv hK.1 hP (ci := 0) (q0 := 0) rfl rfl)) rfl rfl hl.1 rfl (lv_room (Nat.le_of_ble_eq_true rfl)) dX6_plays_29 ⟨Nat.le_of_ble_eq_true rfl, Nat.le_of_ble_eq_true rfl⟩) (fun z_33 w_34 => ?_)
      obtain rfl := w_34
      refine lv_istore_n (lv' := [(3, .int r_31), (0, .ref b), (1, .int x1), (2, .int x2)]) hx hb dX6_plays_32 rfl hl (by decide) rfl (fun ls hl => ?_)
      refine lv_aload_n hx hb dX6_plays_33 rfl (lv_at hl 1 rfl) ?_
      refine lv_iconst (v := 1) hx hb dX6_plays_34 (by decide) ?_
      obtain ⟨r_35, e_36, h⟩ := ga_gb h
      refine vp_callSi (W.runV (As := [.int 1]) (rest := []) ⟨hx, hb, hml, hown, hts⟩ (met_X6_score l D cA b fr (upd fi 22 1) fa N 1 r_35 e_36) (cwV 1 hts (lw_V q1675 q1677 qs41 q79 q1678) rfl rfl rfl (by decide +kernel) ⟨Nat.le_of_ble_eq_true rfl, Nat.le_of_ble_eq_true rfl⟩) (ga_PV hK hP (va_recv hK.1 hP (ci := 0) (q0 := 0) rfl rfl)) rfl rfl hl.1 rfl (lv_room (Nat.le_of_ble_eq_true rfl)) dX6_plays_35 ⟨Nat.le_of_ble_eq_true rfl, Nat.le_of_ble_eq_true rfl⟩) (fun z_37 w_38 => ?_)
      obtain rfl := w_38
      refine lv_istore (lv' := [(4, .int r_35), (3, .int r_31), (0, .ref b), (1, .int x1), (2, .int x2)]) hx hb dX6_plays_38 hl (by decide) rfl (fun ls hl => ?_)
      refine lv_aload_n hx hb dX6_plays_40 rfl (lv_at hl 2 rfl) ?_
      refine va_get hx hb hts in_X6 hown hK.1 hP 0 (fs := mF (upd fi 22 1) fr) rfl rfl 3 (by decide) (hts _ q1515) (fun _ hh => hh) (v := .int (fi 3)) rfl dX6_plays_41 ?_
      refine lv_if_eq (tgt := 61) hx hb dX6_plays_44 (by decide) (fun c_39 => ?_) (fun c_39 => ?_)
      · replace h := ga_ift c_39 h
        refine lv_aload_n hx hb dX6_plays_61 rfl (lv_at hl 2 rfl) ?_
        refine lv_iload_n hx hb dX6_plays_62 rfl (lv_at hl 3 rfl) ?_
        refine lv_iconst (v := 5) hx hb dX6_plays_63 (by decide) ?_
        refine lv_iconst (v := (-1)) hx hb dX6_plays_64 (by decide) ?_
        obtain ⟨r_40, e_41, h⟩ := ga_gb h
        refine va_callv (va_runV (As := [.int x1, .int 5, .int (-1)]) (rest := []) ⟨hx, hb, hml, hown, hts⟩ (met_X6_becomes l D cA A b fr (upd fi 22 1) fa N x1 5 (-1) r_40 e_41) (cwV 3 hts (lw_V q1679 q1681 qs42 q79 q1682) rfl rfl rfl (by decide +kernel) ⟨Nat.le_of_ble_eq_true rfl, Nat.le_of_ble_eq_true rfl⟩) (ga_NV hK hP hD (va_recv hK.1 hP (ci := 0) (q0 := 0) rfl rfl)) rfl rfl hl.1 rfl (lv_room (Nat.le_of_ble_eq_true rfl)) dX6_plays_65 ⟨Nat.le_of_ble_eq_true rfl, Nat.le_of_ble_eq_true rfl⟩) hS (fun _ _ hq => hq) (fun _ hq => hq) (fun u t H locs ht _ w_43 hB _ _ hS => ?_)
        obtain rfl := w_43
        obtain ⟨hP, -, hD⟩ := hB
        rw [ht] at hP
        refine lv_goto (tgt := 96) hx hb dX6_plays_68 (by decide) ?_
        refine lv_goto (tgt := 123) hx hb dX6_plays_96 (by decide) ?_
        exact w_X6_plays_123 C hK r_40.1 r_40.2 h _ _ hP hD hS _ (lv_sub hl [2, 3, 4] rfl)
      · replace h := ga_iff c_39 h
        refine lv_aload_n hx hb dX6_plays_47 rfl (lv_at hl 2 rfl) ?_
        refine va_get hx hb hts in_X6 hown hK.1 hP 0 (fs := mF (upd fi 22 1) fr) rfl rfl 3 (by decide) (hts _ q1515) (fun _ hh => hh) (v := .int (fi 3)) rfl dX6_plays_48 ?_
        refine lv_iconst (v := 2) hx hb dX6_plays_51 (by decide) ?_
        refine lv_icmp_ne (tgt := 71) hx hb dX6_plays_52 (by decide) (fun c_45 => ?_) (fun c_45 => ?_)
        · replace h := ga_iff c_45 h
          refine lv_aload_n hx hb dX6_plays_71 rfl (lv_at hl 2 rfl) ?_
          refine va_get hx hb hts in_X6 hown hK.1 hP 0 (fs := mF (upd fi 22 1) fr) rfl rfl 3 (by decide) (hts _ q1515) (fun _ hh => hh) (v := .int (fi 3)) rfl dX6_plays_72 ?_
          refine lv_iconst (v := 2) hx hb dX6_plays_75 (by decide) ?_
          refine lv_icmp_ne (tgt := 96) hx hb dX6_plays_76 (by decide) (fun _ => ?_) (fun c_46 => absurd c_46 c_45)
          refine lv_goto (tgt := 123) hx hb dX6_plays_96 (by decide) ?_
          exact w_X6_plays_123 C hK (upd fi 22 1) fa h _ _ hP hD hS _ (lv_sub hl [2, 3, 4] rfl)
        · replace h := ga_ift c_45 h
          refine lv_iload_n hx hb dX6_plays_55 rfl (lv_at hl 1 rfl) ?_
          refine lv_iload hx hb dX6_plays_56 (lv_at hl 0 rfl) ?_
          refine lv_icmp_ne (tgt := 71) hx hb dX6_plays_58 (by decide) (fun c_47 => ?_) (fun c_47 => ?_)
          · replace h := ga_iff c_47 h
            refine lv_aload_n hx hb dX6_plays_71 rfl (lv_at hl 2 rfl) ?_
            refine va_get hx hb hts in_X6 hown hK.1 hP 0 (fs := mF (upd fi 22 1) fr) rfl rfl 3 (by decide) (hts _ q1515) (fun _ hh => hh) (v := .int (fi 3)) rfl dX6_plays_72 ?_
            refine lv_iconst (v := 2) hx hb dX6_plays_75 (by decide) ?_
            refine lv_icmp_ne (tgt := 96) hx hb dX6_plays_76 (by decide) (fun c_48 => absurd c_45 c_48) (fun _ => ?_)
            refine lv_aload_n hx hb dX6_plays_79 rfl (lv_at hl 2 rfl) ?_
            refine lv_iload_n hx hb dX6_plays_80 rfl (lv_at hl 3 rfl) ?_
            refine lv_iload_n hx hb dX6_plays_81 rfl (lv_at hl 1 rfl) ?_
            refine lv_iload hx hb dX6_plays_82 (lv_at hl 0 rfl) ?_
            refine lv_icmp_ge (tgt := 91) hx hb dX6_plays_84 (by decide) (fun c_49 => ?_) (fun c_49 => ?_)
            · replace h := ga_ift c_49 h
              refine lv_iconst (v := 2) hx hb dX6_plays_91 (by decide) ?_
              refine lv_iconst (v := (-1)) hx hb dX6_plays_92 (by decide) ?_
              obtain ⟨r_50, e_51, h⟩ := ga_gb h
              refine va_callv (va_runV (As := [.int x1, .int 2, .int (-1)]) (rest := []) ⟨hx, hb, hml, hown, hts⟩ (met_X6_becomes l D cA A b fr (upd fi 22 1) fa N x1 2 (-1) r_50 e_51) (cwV 3 hts (lw_V q1679 q1681 qs42 q79 q1682) rfl rfl rfl (by decide +kernel) ⟨Nat.le_of_ble_eq_true rfl, Nat.le_of_ble_eq_true rfl⟩) (ga_NV hK hP hD (va_recv hK.1 hP (ci := 0) (q0 := 0) rfl rfl)) rfl rfl hl.1 rfl (lv_room (Nat.le_of_ble_eq_true rfl)) dX6_plays_93 ⟨Nat.le_of_ble_eq_true rfl, Nat.le_of_ble_eq_true rfl⟩) hS (fun _ _ hq => hq) (fun _ hq => hq) (fun u t H locs ht _ w_53 hB _ _ hS => ?_)
              obtain rfl := w_53
              obtain ⟨hP, -, hD⟩ := hB
              rw [ht] at hP
              refine lv_goto (tgt := 123) hx hb dX6_plays_96 (by decide) ?_
              exact w_X6_plays_123 C hK r_50.1 r_50.2 h _ _ hP hD hS _ (lv_sub hl [2, 3, 4] rfl)
            · replace h := ga_iff c_49 h
              refine lv_iconst (v := 1) hx hb dX6_plays_87 (by decide) ?_
              refine lv_goto (tgt := 92) hx hb dX6_plays_88 (by decide) ?_
              refine lv_iconst (v := (-1)) hx hb dX6_plays_92 (by decide) ?_
              obtain ⟨r_55, e_56, h⟩ := ga_gb h
              refine va_callv (va_runV (As := [.int x1, .int 1, .int (-1)]) (rest := []) ⟨hx, hb, hml, hown, hts⟩ (met_X6_becomes l D cA A b fr (upd fi 22 1) fa N x1 1 (-1) r_55 e_56) (cwV 3 hts (lw_V q1679 q1681 qs42 q79 q1682) rfl rfl rfl (by decide +kernel) ⟨Nat.le_of_ble_eq_true rfl, Nat.le_of_ble_eq_true rfl⟩) (ga_NV hK hP hD (va_recv hK.1 hP (ci := 0) (q0 := 0) rfl rfl)) rfl rfl hl.1 rfl (lv_room (Nat.le_of_ble_eq_true rfl)) dX6_plays_93 ⟨Nat.le_of_ble_eq_true rfl, Nat.le_of_ble_eq_true rfl⟩) hS (fun _ _ hq => hq) (fun _ hq => hq) (fun u t H locs ht _ w_58 hB _ _ hS => ?_)
              obtain rfl := w_58
              obtain ⟨hP, -, hD⟩ := hB
              rw [ht] at hP
              refine lv_goto (tgt := 123) hx hb dX6_plays_96 (by decide) ?_
              exact w_X6_plays_123 C hK r_55.1 r_55.2 h _ _ hP hD hS _ (lv_sub hl [2, 3, 4] rfl)
          · replace h := ga_ift c_47 h
            refine lv_aload_n hx hb dX6_plays_61 rfl (lv_at hl 2 rfl) ?_
            refine lv_iload_n hx hb dX6_plays_62 rfl (lv_at hl 3 rfl) ?_
            refine lv_iconst (v := 5) hx hb dX6_plays_63 (by decide) ?_
            refine lv_iconst (v := (-1)) hx hb dX6_plays_64 (by decide) ?_
            obtain ⟨r_60, e_61, h⟩ := ga_gb h
            refine va_callv (va_runV (As := [.int x1, .int 5, .int (-1)]) (rest := []) ⟨hx, hb, hml, hown, hts⟩ (met_X6_becomes l D cA A b fr (upd fi 22 1) fa N x1 5 (-1) r_60 e_61) (cwV 3 hts (lw_V q1679 q1681 qs42 q79 q1682) rfl rfl rfl (by decide +kernel) ⟨Nat.le_of_ble_eq_true rfl, Nat.le_of_ble_eq_true rfl⟩) (ga_NV hK hP hD (va_recv hK.1 hP (ci := 0) (q0 := 0) rfl rfl)) rfl rfl hl.1 rfl (lv_room (Nat.le_of_ble_eq_true rfl)) dX6_plays_65 ⟨Nat.le_of_ble_eq_true rfl, Nat.le_of_ble_eq_true rfl⟩) hS (fun _ _ hq => hq) (fun _ hq => hq) (fun u t H locs ht _ w_63 hB _ _ hS => ?_)
            obtain rfl := w_63
            obtain ⟨hP, -, hD⟩ := hB
            rw [ht] at hP
            refine lv_goto (tgt := 96) hx hb dX6_plays_68 (by decide) ?_
            refine lv_goto (tgt := 123) hx hb dX6_plays_96 (by decide) ?_
            exact w_X6_plays_123 C hK r_60.1 r_60.2 h _ _ hP hD hS _ (lv_sub hl [2, 3, 4] rfl)
abbrev rm_X6_reports : Room := { frames := 1, cells := 0, slots := 0, locals := 12 }
def F_X6_reports (N : Nat) (fi : Nat → Int32) (fa : Nat → Nat → Int32) (x1 : Int32) (x2 : Int32) : Option (ga_MS) :=
  (if inb x2 155 = true then
  (if inb (49 + x2) 155 = true then
  (if inb (98 + x2) 155 = true then
  (if 0 ≤ (fa 5 (ix (98 + x2))) then
  (if inb (98 + x2) 155 = true then
  (if inb (49 + x2) 155 = true then
  (if inb (98 + x2) 155 = true then
  (if inb ((8 * (fa 5 (ix (49 + x2)))) + (fa 5 (ix (98 + x2)))) 480 = true then
  some (upd (upd fi 27 3) 27 4, va_up (va_up (va_up (va_up (va_up (va_up (va_up (va_up fa 25 (upd (fa 25) (ix 0) 1)) 26 (upd (fa 26) (ix 0) (fa 5 (ix 153)))) 25 (upd (upd (fa 25) (ix 0) 1) (ix 1) (2 + x1))) 26 (upd (upd (fa 26) (ix 0) (fa 5 (ix 153))) (ix 1) x2)) 25 (upd (upd (upd (fa 25) (ix 0) 1) (ix 1) (2 + x1)) (ix 2) (10 + (fa 5 (ix x2))))) 26 (upd (upd (upd (fa 26) (ix 0) (fa 5 (ix 153))) (ix 1) x2) (ix 2) (fa 5 (ix (49 + x2))))) 25 (upd (upd (upd (upd (fa 25) (ix 0) 1) (ix 1) (2 + x1)) (ix 2) (10 + (fa 5 (ix x2)))) (ix 3) (20 + (fa 5 (ix (98 + x2)))))) 26 (upd (upd (upd (upd (fa 26) (ix 0) (fa 5 (ix 153))) (ix 1) x2) (ix 2) (fa 5 (ix (49 + x2)))) (ix 3) (fa 10 (ix ((8 * (fa 5 (ix (49 + x2)))) + (fa 5 (ix (98 + x2))))))))
  else none)
  else none)
  else none)
  else none)
  else
  some (upd fi 27 3, va_up (va_up (va_up (va_up (va_up (va_up fa 25 (upd (fa 25) (ix 0) 1)) 26 (upd (fa 26) (ix 0) (fa 5 (ix 153)))) 25 (upd (upd (fa 25) (ix 0) 1) (ix 1) (2 + x1))) 26 (upd (upd (fa 26) (ix 0) (fa 5 (ix 153))) (ix 1) x2)) 25 (upd (upd (upd (fa 25) (ix 0) 1) (ix 1) (2 + x1)) (ix 2) (10 + (fa 5 (ix x2))))) 26 (upd (upd (upd (fa 26) (ix 0) (fa 5 (ix 153))) (ix 1) x2) (ix 2) (fa 5 (ix (49 + x2))))))
  else none)
  else none)
  else none)
set_option maxHeartbeats 4000000 in
theorem met_X6_reports (l : Launch) (D : va_G) (cA : Nat → ClassId) (A : Nat → Prop) (b : Nat) (fr : Nat → Nat) (fi : Nat → Int32) (fa : Nat → Nat → Int32) (N : Nat) (x1 : Int32) (x2 : Int32) (out : ga_MS) (h : F_X6_reports N fi fa x1 x2 = some out) : Met l yX6_reports (ws_ yX6_reports cX6_reports 3 none) rm_X6_reports (ga_N D cA A (mW b cA fr fi fa) [.ref b, .int x1, .int x2]) (va_Qv (fun (u : ga_MS) => out = u) (ga_MB D cA A b fr) A) 0 0 A := by
  refine Met.ofW (cc := cX6_reports) (maxL := 3) (ret := none) (by decide) rfl ?_
  intro p e s m args below meth c s₁ B hml hv
  obtain ⟨rfl, hP, hK, hD⟩ := hv
  have hS : va_S A s.heap s.heap [] := va_S.rf
  have C : ga_cx p m c meth s _ RX6 cX6_reports 3 none := ga_cx_of B hml
  have C0 := C
  obtain ⟨hx, hb, hr, hlocks, hml, hown, hts⟩ := C0
  have hl := lv_entry ([.ref b, .int x1, .int x2]) (n := 3) (Nat.le_of_ble_eq_true rfl)
  rw [lg_entry_eq]
  generalize (lg_sl ([.ref b, .int x1, .int x2]) ++ List.replicate (3 - (lg_sl ([.ref b, .int x1, .int x2])).length) Slot.unset).toArray = ls at hl ⊢
  have hl : lv_has ls 3 [(0, .ref b), (1, .int x1), (2, .int x2)] := hl
  rw [F_X6_reports] at h
  refine lv_aload_n hx hb dX6_reports_0 rfl (lv_at hl 0 rfl) ?_
  refine va_get hx hb hts in_X6 hown hK.1 hP 0 (fs := mF fi fr) rfl rfl 25 (by decide) (hts _ q1537) (fun _ hh => hh) (v := .ref (fr 25)) rfl dX6_reports_1 ?_
  refine lv_iconst (v := 0) hx hb dX6_reports_4 (by decide) ?_
  refine lv_iconst (v := 1) hx hb dX6_reports_5 (by decide) ?_
  refine va_iast hx hb hK.1 hP hD hS 15 0 (f := fa 25) rfl rfl (ga_in (by decide)) dX6_reports_6 (fun H locs hP hD hS => ?_)
  replace hP := ga_cg (mA_25 b cA fr fi fa (upd (fa 25) (ix 0) 1)) hP
  replace hD := ga_cd (mA_25 b cA fr fi fa (upd (fa 25) (ix 0) 1)) hD
  refine lv_aload_n hx hb dX6_reports_7 rfl (lv_at hl 0 rfl) ?_
  refine va_get hx hb hts in_X6 hown hK.1 hP 0 (fs := mF fi fr) rfl rfl 26 (by decide) (hts _ q1538) (fun _ hh => hh) (v := .ref (fr 26)) rfl dX6_reports_8 ?_
  refine lv_iconst (v := 0) hx hb dX6_reports_11 (by decide) ?_
  refine lv_aload_n hx hb dX6_reports_12 rfl (lv_at hl 0 rfl) ?_
  refine va_get hx hb hts in_X6 hown hK.1 hP 0 (fs := mF fi fr) rfl rfl 5 (by decide) (hts _ q1517) (fun _ hh => hh) (v := .ref (fr 5)) rfl dX6_reports_13 ?_
  refine lv_sipush (v := 153) hx hb dX6_reports_16 (by decide) ?_
  refine va_iald hx hb hK.1 hP 2 0 (f := fa 5) rfl rfl (ga_in (by decide)) dX6_reports_19 ?_
  refine va_iast hx hb hK.1 hP hD hS 16 0 (f := fa 26) rfl rfl (ga_in (by decide)) dX6_reports_20 (fun H locs hP hD hS => ?_)
  replace hP := ga_cg (mA_26 b cA fr fi (va_up fa 25 (upd (fa 25) (ix 0) 1)) (upd (fa 26) (ix 0) (fa 5 (ix 153)))) hP
  replace hD := ga_cd (mA_26 b cA fr fi (va_up fa 25 (upd (fa 25) (ix 0) 1)) (upd (fa 26) (ix 0) (fa 5 (ix 153)))) hD
  refine lv_aload_n hx hb dX6_reports_21 rfl (lv_at hl 0 rfl) ?_
  refine va_get hx hb hts in_X6 hown hK.1 hP 0 (fs := mF fi fr) rfl rfl 25 (by decide) (hts _ q1537) (fun _ hh => hh) (v := .ref (fr 25)) rfl dX6_reports_22 ?_
  refine lv_iconst (v := 1) hx hb dX6_reports_25 (by decide) ?_
  refine lv_iconst (v := 2) hx hb dX6_reports_26 (by decide) ?_
  refine lv_iload_n hx hb dX6_reports_27 rfl (lv_at hl 1 rfl) ?_
  refine lv_iadd hx hb dX6_reports_28 ?_
  refine va_iast hx hb hK.1 hP hD hS 15 0 (f := (upd (fa 25) (ix 0) 1)) rfl rfl (ga_in (by decide)) dX6_reports_29 (fun H locs hP hD hS => ?_)
  replace hP := ga_cg (mA_25 b cA fr fi (va_up (va_up fa 25 (upd (fa 25) (ix 0) 1)) 26 (upd (fa 26) (ix 0) (fa 5 (ix 153)))) (upd (upd (fa 25) (ix 0) 1) (ix 1) (2 + x1))) hP
  replace hD := ga_cd (mA_25 b cA fr fi (va_up (va_up fa 25 (upd (fa 25) (ix 0) 1)) 26 (upd (fa 26) (ix 0) (fa 5 (ix 153)))) (upd (upd (fa 25) (ix 0) 1) (ix 1) (2 + x1))) hD
  refine lv_aload_n hx hb dX6_reports_30 rfl (lv_at hl 0 rfl) ?_
  refine va_get hx hb hts in_X6 hown hK.1 hP 0 (fs := mF fi fr) rfl rfl 26 (by decide) (hts _ q1538) (fun _ hh => hh) (v := .ref (fr 26)) rfl dX6_reports_31 ?_
  refine lv_iconst (v := 1) hx hb dX6_reports_34 (by decide) ?_
  refine lv_iload_n hx hb dX6_reports_35 rfl (lv_at hl 2 rfl) ?_
  refine va_iast hx hb hK.1 hP hD hS 16 0 (f := (upd (fa 26) (ix 0) (fa 5 (ix 153)))) rfl rfl (ga_in (by decide)) dX6_reports_36 (fun H locs hP hD hS => ?_)
  replace hP := ga_cg (mA_26 b cA fr fi (va_up (va_up (va_up fa 25 (upd (fa 25) (ix 0) 1)) 26 (upd (fa 26) (ix 0) (fa 5 (ix 153)))) 25 (upd (upd (fa 25) (ix 0) 1) (ix 1) (2 + x1))) (upd (upd (fa 26) (ix 0) (fa 5 (ix 153))) (ix 1) x2)) hP
  replace hD := ga_cd (mA_26 b cA fr fi (va_up (va_up (va_up fa 25 (upd (fa 25) (ix 0) 1)) 26 (upd (fa 26) (ix 0) (fa 5 (ix 153)))) 25 (upd (upd (fa 25) (ix 0) 1) (ix 1) (2 + x1))) (upd (upd (fa 26) (ix 0) (fa 5 (ix 153))) (ix 1) x2)) hD
  refine lv_aload_n hx hb dX6_reports_37 rfl (lv_at hl 0 rfl) ?_
  refine va_get hx hb hts in_X6 hown hK.1 hP 0 (fs := mF fi fr) rfl rfl 25 (by decide) (hts _ q1537) (fun _ hh => hh) (v := .ref (fr 25)) rfl dX6_reports_38 ?_
  refine lv_iconst (v := 2) hx hb dX6_reports_41 (by decide) ?_
  refine lv_bipush (v := 10) hx hb dX6_reports_42 (by decide) ?_
  refine lv_aload_n hx hb dX6_reports_44 rfl (lv_at hl 0 rfl) ?_
  refine va_get hx hb hts in_X6 hown hK.1 hP 0 (fs := mF fi fr) rfl rfl 5 (by decide) (hts _ q1517) (fun _ hh => hh) (v := .ref (fr 5)) rfl dX6_reports_45 ?_
  refine lv_iload_n hx hb dX6_reports_48 rfl (lv_at hl 2 rfl) ?_
  obtain ⟨i_1, h⟩ := ga_gif h
  refine va_iald hx hb hK.1 hP 2 0 (f := fa 5) rfl rfl (ga_in i_1) dX6_reports_49 ?_
  refine lv_iadd hx hb dX6_reports_50 ?_
  refine va_iast hx hb hK.1 hP hD hS 15 0 (f := (upd (upd (fa 25) (ix 0) 1) (ix 1) (2 + x1))) rfl rfl (ga_in (by decide)) dX6_reports_51 (fun H locs hP hD hS => ?_)
  replace hP := ga_cg (mA_25 b cA fr fi (va_up (va_up (va_up (va_up fa 25 (upd (fa 25) (ix 0) 1)) 26 (upd (fa 26) (ix 0) (fa 5 (ix 153)))) 25 (upd (upd (fa 25) (ix 0) 1) (ix 1) (2 + x1))) 26 (upd (upd (fa 26) (ix 0) (fa 5 (ix 153))) (ix 1) x2)) (upd (upd (upd (fa 25) (ix 0) 1) (ix 1) (2 + x1)) (ix 2) (10 + (fa 5 (ix x2))))) hP
  replace hD := ga_cd (mA_25 b cA fr fi (va_up (va_up (va_up (va_up fa 25 (upd (fa 25) (ix 0) 1)) 26 (upd (fa 26) (ix 0) (fa 5 (ix 153)))) 25 (upd (upd (fa 25) (ix 0) 1) (ix 1) (2 + x1))) 26 (upd (upd (fa 26) (ix 0) (fa 5 (ix 153))) (ix 1) x2)) (upd (upd (upd (fa 25) (ix 0) 1) (ix 1) (2 + x1)) (ix 2) (10 + (fa 5 (ix x2))))) hD
  refine lv_aload_n hx hb dX6_reports_52 rfl (lv_at hl 0 rfl) ?_
  refine va_get hx hb hts in_X6 hown hK.1 hP 0 (fs := mF fi fr) rfl rfl 26 (by decide) (hts _ q1538) (fun _ hh => hh) (v := .ref (fr 26)) rfl dX6_reports_53 ?_
  refine lv_iconst (v := 2) hx hb dX6_reports_56 (by decide) ?_
  refine lv_aload_n hx hb dX6_reports_57 rfl (lv_at hl 0 rfl) ?_
  refine va_get hx hb hts in_X6 hown hK.1 hP 0 (fs := mF fi fr) rfl rfl 5 (by decide) (hts _ q1517) (fun _ hh => hh) (v := .ref (fr 5)) rfl dX6_reports_58 ?_
  refine lv_bipush (v := 49) hx hb dX6_reports_61 (by decide) ?_
  refine lv_iload_n hx hb dX6_reports_63 rfl (lv_at hl 2 rfl) ?_
  refine lv_iadd hx hb dX6_reports_64 ?_
  obtain ⟨i_2, h⟩ := ga_gif h
  refine va_iald hx hb hK.1 hP 2 0 (f := fa 5) rfl rfl (ga_in i_2) dX6_reports_65 ?_
  refine va_iast hx hb hK.1 hP hD hS 16 0 (f := (upd (upd (fa 26) (ix 0) (fa 5 (ix 153))) (ix 1) x2)) rfl rfl (ga_in (by decide)) dX6_reports_66 (fun H locs hP hD hS => ?_)
  replace hP := ga_cg (mA_26 b cA fr fi (va_up (va_up (va_up (va_up (va_up fa 25 (upd (fa 25) (ix 0) 1)) 26 (upd (fa 26) (ix 0) (fa 5 (ix 153)))) 25 (upd (upd (fa 25) (ix 0) 1) (ix 1) (2 + x1))) 26 (upd (upd (fa 26) (ix 0) (fa 5 (ix 153))) (ix 1) x2)) 25 (upd (upd (upd (fa 25) (ix 0) 1) (ix 1) (2 + x1)) (ix 2) (10 + (fa 5 (ix x2))))) (upd (upd (upd (fa 26) (ix 0) (fa 5 (ix 153))) (ix 1) x2) (ix 2) (fa 5 (ix (49 + x2))))) hP
  replace hD := ga_cd (mA_26 b cA fr fi (va_up (va_up (va_up (va_up (va_up fa 25 (upd (fa 25) (ix 0) 1)) 26 (upd (fa 26) (ix 0) (fa 5 (ix 153)))) 25 (upd (upd (fa 25) (ix 0) 1) (ix 1) (2 + x1))) 26 (upd (upd (fa 26) (ix 0) (fa 5 (ix 153))) (ix 1) x2)) 25 (upd (upd (upd (fa 25) (ix 0) 1) (ix 1) (2 + x1)) (ix 2) (10 + (fa 5 (ix x2))))) (upd (upd (upd (fa 26) (ix 0) (fa 5 (ix 153))) (ix 1) x2) (ix 2) (fa 5 (ix (49 + x2))))) hD
  refine lv_aload_n hx hb dX6_reports_67 rfl (lv_at hl 0 rfl) ?_
  refine lv_iconst (v := 3) hx hb dX6_reports_68 (by decide) ?_
  refine va_put hx hb hts in_X6 tyX6 tyX6_ok nmX6 hown hK.1 hP hD hS 0 (fs := mF fi fr) rfl rfl 27 (by decide) (hts _ q1539) (fun _ hh => hh) rfl (v := .int 3) rfl rfl rfl (mF_lt (by decide)) dX6_reports_69 (fun H locs hP hD hS => ?_)
  rw [mS_27] at hP hD
  refine lv_aload_n hx hb dX6_reports_72 rfl (lv_at hl 0 rfl) ?_
  refine va_get hx hb hts in_X6 hown hK.1 hP 0 (fs := mF (upd fi 27 3) fr) rfl rfl 5 (by decide) (hts _ q1517) (fun _ hh => hh) (v := .ref (fr 5)) rfl dX6_reports_73 ?_
  refine lv_bipush (v := 98) hx hb dX6_reports_76 (by decide) ?_
  refine lv_iload_n hx hb dX6_reports_78 rfl (lv_at hl 2 rfl) ?_
  refine lv_iadd hx hb dX6_reports_79 ?_
  obtain ⟨i_3, h⟩ := ga_gif h
  refine va_iald hx hb hK.1 hP 2 0 (f := fa 5) rfl rfl (ga_in i_3) dX6_reports_80 ?_
  refine lv_if_ge (tgt := 85) hx hb dX6_reports_81 (by decide) (fun c_4 => ?_) (fun c_4 => ?_)
  · replace h := ga_ift c_4 h
    refine lv_aload_n hx hb dX6_reports_85 rfl (lv_at hl 0 rfl) ?_
    refine va_get hx hb hts in_X6 hown hK.1 hP 0 (fs := mF (upd fi 27 3) fr) rfl rfl 25 (by decide) (hts _ q1537) (fun _ hh => hh) (v := .ref (fr 25)) rfl dX6_reports_86 ?_
    refine lv_iconst (v := 3) hx hb dX6_reports_89 (by decide) ?_
    refine lv_bipush (v := 20) hx hb dX6_reports_90 (by decide) ?_
    refine lv_aload_n hx hb dX6_reports_92 rfl (lv_at hl 0 rfl) ?_
    refine va_get hx hb hts in_X6 hown hK.1 hP 0 (fs := mF (upd fi 27 3) fr) rfl rfl 5 (by decide) (hts _ q1517) (fun _ hh => hh) (v := .ref (fr 5)) rfl dX6_reports_93 ?_
    refine lv_bipush (v := 98) hx hb dX6_reports_96 (by decide) ?_
    refine lv_iload_n hx hb dX6_reports_98 rfl (lv_at hl 2 rfl) ?_
    refine lv_iadd hx hb dX6_reports_99 ?_
    obtain ⟨i_5, h⟩ := ga_gif h
    refine va_iald hx hb hK.1 hP 2 0 (f := fa 5) rfl rfl (ga_in i_5) dX6_reports_100 ?_
    refine lv_iadd hx hb dX6_reports_101 ?_
    refine va_iast hx hb hK.1 hP hD hS 15 0 (f := (upd (upd (upd (fa 25) (ix 0) 1) (ix 1) (2 + x1)) (ix 2) (10 + (fa 5 (ix x2))))) rfl rfl (ga_in (by decide)) dX6_reports_102 (fun H locs hP hD hS => ?_)
    replace hP := ga_cg (mA_25 b cA fr (upd fi 27 3) (va_up (va_up (va_up (va_up (va_up (va_up fa 25 (upd (fa 25) (ix 0) 1)) 26 (upd (fa 26) (ix 0) (fa 5 (ix 153)))) 25 (upd (upd (fa 25) (ix 0) 1) (ix 1) (2 + x1))) 26 (upd (upd (fa 26) (ix 0) (fa 5 (ix 153))) (ix 1) x2)) 25 (upd (upd (upd (fa 25) (ix 0) 1) (ix 1) (2 + x1)) (ix 2) (10 + (fa 5 (ix x2))))) 26 (upd (upd (upd (fa 26) (ix 0) (fa 5 (ix 153))) (ix 1) x2) (ix 2) (fa 5 (ix (49 + x2))))) (upd (upd (upd (upd (fa 25) (ix 0) 1) (ix 1) (2 + x1)) (ix 2) (10 + (fa 5 (ix x2)))) (ix 3) (20 + (fa 5 (ix (98 + x2)))))) hP
    replace hD := ga_cd (mA_25 b cA fr (upd fi 27 3) (va_up (va_up (va_up (va_up (va_up (va_up fa 25 (upd (fa 25) (ix 0) 1)) 26 (upd (fa 26) (ix 0) (fa 5 (ix 153)))) 25 (upd (upd (fa 25) (ix 0) 1) (ix 1) (2 + x1))) 26 (upd (upd (fa 26) (ix 0) (fa 5 (ix 153))) (ix 1) x2)) 25 (upd (upd (upd (fa 25) (ix 0) 1) (ix 1) (2 + x1)) (ix 2) (10 + (fa 5 (ix x2))))) 26 (upd (upd (upd (fa 26) (ix 0) (fa 5 (ix 153))) (ix 1) x2) (ix 2) (fa 5 (ix (49 + x2))))) (upd (upd (upd (upd (fa 25) (ix 0) 1) (ix 1) (2 + x1)) (ix 2) (10 + (fa 5 (ix x2)))) (ix 3) (20 + (fa 5 (ix (98 + x2)))))) hD
    refine lv_aload_n hx hb dX6_reports_103 rfl (lv_at hl 0 rfl) ?_
    refine va_get hx hb hts in_X6 hown hK.1 hP 0 (fs := mF (upd fi 27 3) fr) rfl rfl 26 (by decide) (hts _ q1538) (fun _ hh => hh) (v := .ref (fr 26)) rfl dX6_reports_104 ?_
    refine lv_iconst (v := 3) hx hb dX6_reports_107 (by decide) ?_
    refine lv_aload_n hx hb dX6_reports_108 rfl (lv_at hl 0 rfl) ?_
    refine va_get hx hb hts in_X6 hown hK.1 hP 0 (fs := mF (upd fi 27 3) fr) rfl rfl 10 (by decide) (hts _ q1522) (fun _ hh => hh) (v := .ref (fr 10)) rfl dX6_reports_109 ?_
    refine lv_bipush (v := 8) hx hb dX6_reports_112 (by decide) ?_
    refine lv_aload_n hx hb dX6_reports_114 rfl (lv_at hl 0 rfl) ?_
    refine va_get hx hb hts in_X6 hown hK.1 hP 0 (fs := mF (upd fi 27 3) fr) rfl rfl 5 (by decide) (hts _ q1517) (fun _ hh => hh) (v := .ref (fr 5)) rfl dX6_reports_115 ?_
    refine lv_bipush (v := 49) hx hb dX6_reports_118 (by decide) ?_
    refine lv_iload_n hx hb dX6_reports_120 rfl (lv_at hl 2 rfl) ?_
    refine lv_iadd hx hb dX6_reports_121 ?_
    obtain ⟨i_6, h⟩ := ga_gif h
    refine va_iald hx hb hK.1 hP 2 0 (f := fa 5) rfl rfl (ga_in i_6) dX6_reports_122 ?_
    refine lv_imul hx hb dX6_reports_123 ?_
    refine lv_aload_n hx hb dX6_reports_124 rfl (lv_at hl 0 rfl) ?_
    refine va_get hx hb hts in_X6 hown hK.1 hP 0 (fs := mF (upd fi 27 3) fr) rfl rfl 5 (by decide) (hts _ q1517) (fun _ hh => hh) (v := .ref (fr 5)) rfl dX6_reports_125 ?_
    refine lv_bipush (v := 98) hx hb dX6_reports_128 (by decide) ?_
    refine lv_iload_n hx hb dX6_reports_130 rfl (lv_at hl 2 rfl) ?_
    refine lv_iadd hx hb dX6_reports_131 ?_
    obtain ⟨i_7, h⟩ := ga_gif h
    refine va_iald hx hb hK.1 hP 2 0 (f := fa 5) rfl rfl (ga_in i_7) dX6_reports_132 ?_
    refine lv_iadd hx hb dX6_reports_133 ?_
    obtain ⟨i_8, h⟩ := ga_gif h
    refine va_iald hx hb hK.1 hP 7 0 (f := fa 10) rfl rfl (ga_in i_8) dX6_reports_134 ?_
    refine va_iast hx hb hK.1 hP hD hS 16 0 (f := (upd (upd (upd (fa 26) (ix 0) (fa 5 (ix 153))) (ix 1) x2) (ix 2) (fa 5 (ix (49 + x2))))) rfl rfl (ga_in (by decide)) dX6_reports_135 (fun H locs hP hD hS => ?_)
    replace hP := ga_cg (mA_26 b cA fr (upd fi 27 3) (va_up (va_up (va_up (va_up (va_up (va_up (va_up fa 25 (upd (fa 25) (ix 0) 1)) 26 (upd (fa 26) (ix 0) (fa 5 (ix 153)))) 25 (upd (upd (fa 25) (ix 0) 1) (ix 1) (2 + x1))) 26 (upd (upd (fa 26) (ix 0) (fa 5 (ix 153))) (ix 1) x2)) 25 (upd (upd (upd (fa 25) (ix 0) 1) (ix 1) (2 + x1)) (ix 2) (10 + (fa 5 (ix x2))))) 26 (upd (upd (upd (fa 26) (ix 0) (fa 5 (ix 153))) (ix 1) x2) (ix 2) (fa 5 (ix (49 + x2))))) 25 (upd (upd (upd (upd (fa 25) (ix 0) 1) (ix 1) (2 + x1)) (ix 2) (10 + (fa 5 (ix x2)))) (ix 3) (20 + (fa 5 (ix (98 + x2)))))) (upd (upd (upd (upd (fa 26) (ix 0) (fa 5 (ix 153))) (ix 1) x2) (ix 2) (fa 5 (ix (49 + x2)))) (ix 3) (fa 10 (ix ((8 * (fa 5 (ix (49 + x2)))) + (fa 5 (ix (98 + x2)))))))) hP
    replace hD := ga_cd (mA_26 b cA fr (upd fi 27 3) (va_up (va_up (va_up (va_up (va_up (va_up (va_up fa 25 (upd (fa 25) (ix 0) 1)) 26 (upd (fa 26) (ix 0) (fa 5 (ix 153)))) 25 (upd (upd (fa 25) (ix 0) 1) (ix 1) (2 + x1))) 26 (upd (upd (fa 26) (ix 0) (fa 5 (ix 153))) (ix 1) x2)) 25 (upd (upd (upd (fa 25) (ix 0) 1) (ix 1) (2 + x1)) (ix 2) (10 + (fa 5 (ix x2))))) 26 (upd (upd (upd (fa 26) (ix 0) (fa 5 (ix 153))) (ix 1) x2) (ix 2) (fa 5 (ix (49 + x2))))) 25 (upd (upd (upd (upd (fa 25) (ix 0) 1) (ix 1) (2 + x1)) (ix 2) (10 + (fa 5 (ix x2)))) (ix 3) (20 + (fa 5 (ix (98 + x2)))))) (upd (upd (upd (upd (fa 26) (ix 0) (fa 5 (ix 153))) (ix 1) x2) (ix 2) (fa 5 (ix (49 + x2)))) (ix 3) (fa 10 (ix ((8 * (fa 5 (ix (49 + x2)))) + (fa 5 (ix (98 + x2)))))))) hD
    refine lv_aload_n hx hb dX6_reports_136 rfl (lv_at hl 0 rfl) ?_
    refine lv_iconst (v := 4) hx hb dX6_reports_137 (by decide) ?_
    refine va_put hx hb hts in_X6 tyX6 tyX6_ok nmX6 hown hK.1 hP hD hS 0 (fs := mF (upd fi 27 3) fr) rfl rfl 27 (by decide) (hts _ q1539) (fun _ hh => hh) rfl (v := .int 4) rfl rfl rfl (mF_lt (by decide)) dX6_reports_138 (fun H locs hP hD hS => ?_)
    rw [mS_27] at hP hD
    cases h
    exact W.vret hx hb hr (fun t ht hW => ⟨⟨_, rfl, rfl, ⟨by rw [ht]; exact hP, hK.warm hW, hD⟩⟩, hS.F ht⟩) hS.2.2 dX6_reports_141
  · replace h := ga_iff c_4 h
    cases h
    exact W.vret hx hb hr (fun t ht hW => ⟨⟨_, rfl, rfl, ⟨by rw [ht]; exact hP, hK.warm hW, hD⟩⟩, hS.F ht⟩) hS.2.2 dX6_reports_84
abbrev rm_X6_goes : Room := { frames := 8, cells := 0, slots := 0, locals := 180 }
def lp_X6_goes_188 (N : Nat) (x1 : Int32) (x2 : Int32) : Nat → (Nat → Int32) → (Nat → Nat → Int32) → Int32 → Int32 → Option (Int32 × ga_MS)
  | 0, _, _, _, _ => none
  | n+1, fi, fa, x3, x5 =>
    (if (fi 23) ≤ x5 then
    some (1, (fi, fa))
    else
    (if inb x5 8 = true then
    (if inb ((8 * x3) + x5) 480 = true then
    lp_X6_goes_188 N x1 x2 n fi (va_up fa 10 (upd (fa 10) (ix ((8 * x3) + x5)) (fa 21 (ix x5)))) x3 (x5 + 1)
    else none)
    else none))
set_option maxHeartbeats 4000000 in
theorem w_X6_goes_188 {p : Program} {l : Launch} {e : Env} {s : State} {m : MethodId} {args : Array Value} {below : List Frame} {meth : Method} {c : Code} {D : va_G} {cA : Nat → ClassId} {A : Nat → Prop} {b : Nat} {fr : Nat → Nat} {N : Nat} {x1 : Int32} {x2 : Int32} (C : ga_cx p m c meth s args RX6 cX6_goes 6 (some .boolean)) (hK : ga_K D cA s) {out : Int32 × ga_MS} : ∀ n : Nat, ∀ (fi : Nat → Int32) (fa : Nat → Nat → Int32) (x3 : Int32) (x5 : Int32), lp_X6_goes_188 N x1 x2 n fi fa x3 x5 = some out → ∀ (H : Heap) (locs : List Loc), va_P D ga_cl (mW b cA fr fi fa) H → va_D A (mW b cA fr fi fa) → va_S A s.heap H locs → ∀ ls : Array Slot, lv_has ls 6 [(0, .ref b), (3, .int x3), (5, .int x5)] → W p l e (headSpec (ws_ yX6_goes cX6_goes 6 (some .boolean)) rm_X6_goes).room s m args below meth c H locs 0 0 (MQ below (va_Qi (fun (r : Int32) (u : ga_MS) => (out.1 = r ∧ ga_B r) ∧ out.2 = u) (ga_MB D cA A b fr) A) args s 0 0 A) (F0 m 188 ls []) := by
  have C0 := C
  obtain ⟨hx, hb, hr, hlocks, hml, hown, hts⟩ := C0
  intro n
  induction n with
  | zero =>
    intro fi fa x3 x5 h
    rw [lp_X6_goes_188.eq_1] at h
    cases h
  | succ n ih =>
    intro fi fa x3 x5 h H locs hP hD hS ls hl
    rw [lp_X6_goes_188.eq_2] at h
    refine lv_iload hx hb dX6_goes_188 (lv_at hl 2 rfl) ?_
    refine lv_aload_n hx hb dX6_goes_190 rfl (lv_at hl 0 rfl) ?_
    refine va_get hx hb hts in_X6 hown hK.1 hP 0 (fs := mF fi fr) rfl rfl 23 (by decide) (hts _ q1535) (fun _ hh => hh) (v := .int (fi 23)) rfl dX6_goes_191 ?_
    refine lv_icmp_ge (tgt := 222) hx hb dX6_goes_194 (by decide) (fun c_68 => ?_) (fun c_68 => ?_)
    · replace h := ga_ift c_68 h
      refine lv_iconst (v := 1) hx hb dX6_goes_222 (by decide) ?_
      cases h
      exact W.zret hx hb hr (ga_nb (Or.inr rfl)) (fun t ht hW => ⟨⟨_, _, rfl, ⟨⟨rfl, Or.inr rfl⟩, rfl⟩, ⟨by rw [ht]; exact hP, hK.warm hW, hD⟩⟩, hS.F ht⟩) hS.2.2 dX6_goes_223
    · replace h := ga_iff c_68 h
      refine lv_aload_n hx hb dX6_goes_197 rfl (lv_at hl 0 rfl) ?_
      refine va_get hx hb hts in_X6 hown hK.1 hP 0 (fs := mF fi fr) rfl rfl 10 (by decide) (hts _ q1522) (fun _ hh => hh) (v := .ref (fr 10)) rfl dX6_goes_198 ?_
      refine lv_bipush (v := 8) hx hb dX6_goes_201 (by decide) ?_
      refine lv_iload_n hx hb dX6_goes_203 rfl (lv_at hl 1 rfl) ?_
      refine lv_imul hx hb dX6_goes_204 ?_
      refine lv_iload hx hb dX6_goes_205 (lv_at hl 2 rfl) ?_
      refine lv_iadd hx hb dX6_goes_207 ?_
      refine lv_aload_n hx hb dX6_goes_208 rfl (lv_at hl 0 rfl) ?_
      refine va_get hx hb hts in_X6 hown hK.1 hP 0 (fs := mF fi fr) rfl rfl 21 (by decide) (hts _ q1533) (fun _ hh => hh) (v := .ref (fr 21)) rfl dX6_goes_209 ?_
      refine lv_iload hx hb dX6_goes_212 (lv_at hl 2 rfl) ?_
      obtain ⟨i_69, h⟩ := ga_gif h
      refine va_iald hx hb hK.1 hP 14 0 (f := fa 21) rfl rfl (ga_in i_69) dX6_goes_214 ?_
      obtain ⟨i_70, h⟩ := ga_gif h
      refine va_iast hx hb hK.1 hP hD hS 7 0 (f := fa 10) rfl rfl (ga_in i_70) dX6_goes_215 (fun H locs hP hD hS => ?_)
      replace hP := ga_cg (mA_10 b cA fr fi fa (upd (fa 10) (ix ((8 * x3) + x5)) (fa 21 (ix x5)))) hP
      replace hD := ga_cd (mA_10 b cA fr fi fa (upd (fa 10) (ix ((8 * x3) + x5)) (fa 21 (ix x5)))) hD
      refine lv_iinc (v := (x5 + 1)) (lv' := [(5, .int (x5 + 1)), (0, .ref b), (3, .int x3)]) hx hb dX6_goes_216 hl (k := 2) rfl rfl (by decide) rfl (fun ls hl => ?_)
      refine lv_goto (tgt := 188) hx hb dX6_goes_219 (by decide) ?_
      exact ih fi (va_up fa 10 (upd (fa 10) (ix ((8 * x3) + x5)) (fa 21 (ix x5)))) x3 (x5 + 1) h _ _ hP hD hS _ (lv_sub hl [1, 2, 0] rfl)
def lp_X6_goes_53 (N : Nat) (x1 : Int32) (x2 : Int32) : Nat → (Nat → Int32) → (Nat → Nat → Int32) → Int32 → Int32 → Option (Int32 × ga_MS)
  | 0, _, _, _, _ => none
  | n+1, fi, fa, x3, x4 =>
    (if 155 ≤ x4 then
    ((F_X6_plays N fi fa x1 x2).bind fun r_46 =>
    (if inb (7 * x3) 420 = true then
    (if inb ((7 * x3) + 1) 420 = true then
    (if inb ((7 * x3) + 2) 420 = true then
    (if inb ((7 * x3) + 3) 420 = true then
    (if inb ((7 * x3) + 4) 420 = true then
    ((F_X6_score N r_46.1 (va_up (va_up (va_up (va_up (va_up r_46.2 9 (upd (r_46.2 9) (ix (7 * x3)) x1)) 9 (upd (upd (r_46.2 9) (ix (7 * x3)) x1) (ix ((7 * x3) + 1)) x2)) 9 (upd (upd (upd (r_46.2 9) (ix (7 * x3)) x1) (ix ((7 * x3) + 1)) x2) (ix ((7 * x3) + 2)) (r_46.1 22))) 9 (upd (upd (upd (upd (r_46.2 9) (ix (7 * x3)) x1) (ix ((7 * x3) + 1)) x2) (ix ((7 * x3) + 2)) (r_46.1 22)) (ix ((7 * x3) + 3)) (r_46.1 23))) 9 (upd (upd (upd (upd (upd (r_46.2 9) (ix (7 * x3)) x1) (ix ((7 * x3) + 1)) x2) (ix ((7 * x3) + 2)) (r_46.1 22)) (ix ((7 * x3) + 3)) (r_46.1 23)) (ix ((7 * x3) + 4)) (r_46.1 24))) 0).bind fun r_56 =>
    (if inb ((7 * x3) + 5) 420 = true then
    ((F_X6_score N r_46.1 (va_up (va_up (va_up (va_up (va_up (va_up r_46.2 9 (upd (r_46.2 9) (ix (7 * x3)) x1)) 9 (upd (upd (r_46.2 9) (ix (7 * x3)) x1) (ix ((7 * x3) + 1)) x2)) 9 (upd (upd (upd (r_46.2 9) (ix (7 * x3)) x1) (ix ((7 * x3) + 1)) x2) (ix ((7 * x3) + 2)) (r_46.1 22))) 9 (upd (upd (upd (upd (r_46.2 9) (ix (7 * x3)) x1) (ix ((7 * x3) + 1)) x2) (ix ((7 * x3) + 2)) (r_46.1 22)) (ix ((7 * x3) + 3)) (r_46.1 23))) 9 (upd (upd (upd (upd (upd (r_46.2 9) (ix (7 * x3)) x1) (ix ((7 * x3) + 1)) x2) (ix ((7 * x3) + 2)) (r_46.1 22)) (ix ((7 * x3) + 3)) (r_46.1 23)) (ix ((7 * x3) + 4)) (r_46.1 24))) 9 (upd (upd (upd (upd (upd (upd (r_46.2 9) (ix (7 * x3)) x1) (ix ((7 * x3) + 1)) x2) (ix ((7 * x3) + 2)) (r_46.1 22)) (ix ((7 * x3) + 3)) (r_46.1 23)) (ix ((7 * x3) + 4)) (r_46.1 24)) (ix ((7 * x3) + 5)) r_56)) 1).bind fun r_61 =>
    (if inb ((7 * x3) + 6) 420 = true then
    lp_X6_goes_188 N x1 x2 N r_46.1 (va_up (va_up (va_up (va_up (va_up (va_up (va_up r_46.2 9 (upd (r_46.2 9) (ix (7 * x3)) x1)) 9 (upd (upd (r_46.2 9) (ix (7 * x3)) x1) (ix ((7 * x3) + 1)) x2)) 9 (upd (upd (upd (r_46.2 9) (ix (7 * x3)) x1) (ix ((7 * x3) + 1)) x2) (ix ((7 * x3) + 2)) (r_46.1 22))) 9 (upd (upd (upd (upd (r_46.2 9) (ix (7 * x3)) x1) (ix ((7 * x3) + 1)) x2) (ix ((7 * x3) + 2)) (r_46.1 22)) (ix ((7 * x3) + 3)) (r_46.1 23))) 9 (upd (upd (upd (upd (upd (r_46.2 9) (ix (7 * x3)) x1) (ix ((7 * x3) + 1)) x2) (ix ((7 * x3) + 2)) (r_46.1 22)) (ix ((7 * x3) + 3)) (r_46.1 23)) (ix ((7 * x3) + 4)) (r_46.1 24))) 9 (upd (upd (upd (upd (upd (upd (r_46.2 9) (ix (7 * x3)) x1) (ix ((7 * x3) + 1)) x2) (ix ((7 * x3) + 2)) (r_46.1 22)) (ix ((7 * x3) + 3)) (r_46.1 23)) (ix ((7 * x3) + 4)) (r_46.1 24)) (ix ((7 * x3) + 5)) r_56)) 9 (upd (upd (upd (upd (upd (upd (upd (r_46.2 9) (ix (7 * x3)) x1) (ix ((7 * x3) + 1)) x2) (ix ((7 * x3) + 2)) (r_46.1 22)) (ix ((7 * x3) + 3)) (r_46.1 23)) (ix ((7 * x3) + 4)) (r_46.1 24)) (ix ((7 * x3) + 5)) r_56) (ix ((7 * x3) + 6)) r_61)) x3 0
    else none))
    else none))
    else none)
    else none)
    else none)
    else none)
    else none))
    else
    (if inb x4 155 = true then
    (if inb ((155 * x3) + x4) 9300 = true then
    lp_X6_goes_53 N x1 x2 n fi (va_up fa 8 (upd (fa 8) (ix ((155 * x3) + x4)) (fa 5 (ix x4)))) x3 (x4 + 1)
    else none)
    else none))
set_option maxHeartbeats 4000000 in
theorem w_X6_goes_53 {p : Program} {l : Launch} {e : Env} {s : State} {m : MethodId} {args : Array Value} {below : List Frame} {meth : Method} {c : Code} {D : va_G} {cA : Nat → ClassId} {A : Nat → Prop} {b : Nat} {fr : Nat → Nat} {N : Nat} {x1 : Int32} {x2 : Int32} (C : ga_cx p m c meth s args RX6 cX6_goes 6 (some .boolean)) (hK : ga_K D cA s) {out : Int32 × ga_MS} : ∀ n : Nat, ∀ (fi : Nat → Int32) (fa : Nat → Nat → Int32) (x3 : Int32) (x4 : Int32), lp_X6_goes_53 N x1 x2 n fi fa x3 x4 = some out → ∀ (H : Heap) (locs : List Loc), va_P D ga_cl (mW b cA fr fi fa) H → va_D A (mW b cA fr fi fa) → va_S A s.heap H locs → ∀ ls : Array Slot, lv_has ls 6 [(0, .ref b), (1, .int x1), (2, .int x2), (3, .int x3), (4, .int x4)] → W p l e (headSpec (ws_ yX6_goes cX6_goes 6 (some .boolean)) rm_X6_goes).room s m args below meth c H locs 0 0 (MQ below (va_Qi (fun (r : Int32) (u : ga_MS) => (out.1 = r ∧ ga_B r) ∧ out.2 = u) (ga_MB D cA A b fr) A) args s 0 0 A) (F0 m 53 ls []) := by
  have C0 := C
  obtain ⟨hx, hb, hr, hlocks, hml, hown, hts⟩ := C0
  intro n
  induction n with
  | zero =>
    intro fi fa x3 x4 h
    rw [lp_X6_goes_53.eq_1] at h
    cases h
  | succ n ih =>
    intro fi fa x3 x4 h H locs hP hD hS ls hl
    rw [lp_X6_goes_53.eq_2] at h
    refine lv_iload hx hb dX6_goes_53 (lv_at hl 4 rfl) ?_
    refine lv_sipush (v := 155) hx hb dX6_goes_55 (by decide) ?_
    refine lv_icmp_ge (tgt := 87) hx hb dX6_goes_58 (by decide) (fun c_45 => ?_) (fun c_45 => ?_)
    · replace h := ga_ift c_45 h
      refine lv_aload_n hx hb dX6_goes_87 rfl (lv_at hl 0 rfl) ?_
      refine lv_iload_n hx hb dX6_goes_88 rfl (lv_at hl 1 rfl) ?_
      refine lv_iload_n hx hb dX6_goes_89 rfl (lv_at hl 2 rfl) ?_
      obtain ⟨r_46, e_47, h⟩ := ga_gb h
      refine va_callv (va_runV (As := [.int x1, .int x2]) (rest := []) ⟨hx, hb, hml, hown, hts⟩ (met_X6_plays l D cA A b fr fi fa N x1 x2 r_46 e_47) (cwV 2 hts (lw_V q1671 q1673 qs40 q79 q1674) rfl rfl rfl (by decide +kernel) ⟨Nat.le_of_ble_eq_true rfl, Nat.le_of_ble_eq_true rfl⟩) (ga_NV hK hP hD (va_recv hK.1 hP (ci := 0) (q0 := 0) rfl rfl)) rfl rfl hl.1 rfl (lv_room (Nat.le_of_ble_eq_true rfl)) dX6_goes_90 ⟨Nat.le_of_ble_eq_true rfl, Nat.le_of_ble_eq_true rfl⟩) hS (fun _ _ hq => hq) (fun _ hq => hq) (fun u t H locs ht _ w_49 hB _ _ hS => ?_)
      obtain rfl := w_49
      obtain ⟨hP, -, hD⟩ := hB
      rw [ht] at hP
      refine lv_bipush (v := 7) hx hb dX6_goes_93 (by decide) ?_
      refine lv_iload_n hx hb dX6_goes_95 rfl (lv_at hl 3 rfl) ?_
      refine lv_imul hx hb dX6_goes_96 ?_
      refine lv_istore (lv' := [(4, .int (7 * x3)), (0, .ref b), (1, .int x1), (2, .int x2), (3, .int x3)]) hx hb dX6_goes_97 hl (by decide) rfl (fun ls hl => ?_)
      refine lv_aload_n hx hb dX6_goes_99 rfl (lv_at hl 1 rfl) ?_
      refine va_get hx hb hts in_X6 hown hK.1 hP 0 (fs := mF r_46.1 fr) rfl rfl 9 (by decide) (hts _ q1521) (fun _ hh => hh) (v := .ref (fr 9)) rfl dX6_goes_100 ?_
      refine lv_iload hx hb dX6_goes_103 (lv_at hl 0 rfl) ?_
      refine lv_iload_n hx hb dX6_goes_105 rfl (lv_at hl 2 rfl) ?_
      obtain ⟨i_51, h⟩ := ga_gif h
      refine va_iast hx hb hK.1 hP hD hS 6 0 (f := r_46.2 9) rfl rfl (ga_in i_51) dX6_goes_106 (fun H locs hP hD hS => ?_)
      replace hP := ga_cg (mA_9 b cA fr r_46.1 r_46.2 (upd (r_46.2 9) (ix (7 * x3)) x1)) hP
      replace hD := ga_cd (mA_9 b cA fr r_46.1 r_46.2 (upd (r_46.2 9) (ix (7 * x3)) x1)) hD
      refine lv_aload_n hx hb dX6_goes_107 rfl (lv_at hl 1 rfl) ?_
      refine va_get hx hb hts in_X6 hown hK.1 hP 0 (fs := mF r_46.1 fr) rfl rfl 9 (by decide) (hts _ q1521) (fun _ hh => hh) (v := .ref (fr 9)) rfl dX6_goes_108 ?_
      refine lv_iload hx hb dX6_goes_111 (lv_at hl 0 rfl) ?_
      refine lv_iconst (v := 1) hx hb dX6_goes_113 (by decide) ?_
      refine lv_iadd hx hb dX6_goes_114 ?_
      refine lv_iload_n hx hb dX6_goes_115 rfl (lv_at hl 3 rfl) ?_
      obtain ⟨i_52, h⟩ := ga_gif h
      refine va_iast hx hb hK.1 hP hD hS 6 0 (f := (upd (r_46.2 9) (ix (7 * x3)) x1)) rfl rfl (ga_in i_52) dX6_goes_116 (fun H locs hP hD hS => ?_)
      replace hP := ga_cg (mA_9 b cA fr r_46.1 (va_up r_46.2 9 (upd (r_46.2 9) (ix (7 * x3)) x1)) (upd (upd (r_46.2 9) (ix (7 * x3)) x1) (ix ((7 * x3) + 1)) x2)) hP
      replace hD := ga_cd (mA_9 b cA fr r_46.1 (va_up r_46.2 9 (upd (r_46.2 9) (ix (7 * x3)) x1)) (upd (upd (r_46.2 9) (ix (7 * x3)) x1) (ix ((7 * x3) + 1)) x2)) hD
      refine lv_aload_n hx hb dX6_goes_117 rfl (lv_at hl 1 rfl) ?_
      refine va_get hx hb hts in_X6 hown hK.1 hP 0 (fs := mF r_46.1 fr) rfl rfl 9 (by decide) (hts _ q1521) (fun _ hh => hh) (v := .ref (fr 9)) rfl dX6_goes_118 ?_
      refine lv_iload hx hb dX6_goes_121 (lv_at hl 0 rfl) ?_
      refine lv_iconst (v := 2) hx hb dX6_goes_123 (by decide) ?_
      refine lv_iadd hx hb dX6_goes_124 ?_
      refine lv_aload_n hx hb dX6_goes_125 rfl (lv_at hl 1 rfl) ?_
      refine va_get hx hb hts in_X6 hown hK.1 hP 0 (fs := mF r_46.1 fr) rfl rfl 22 (by decide) (hts _ q1534) (fun _ hh => hh) (v := .int (r_46.1 22)) rfl dX6_goes_126 ?_
      obtain ⟨i_53, h⟩ := ga_gif h
      refine va_iast hx hb hK.1 hP hD hS 6 0 (f := (upd (upd (r_46.2 9) (ix (7 * x3)) x1) (ix ((7 * x3) + 1)) x2)) rfl rfl (ga_in i_53) dX6_goes_129 (fun H locs hP hD hS => ?_)
      replace hP := ga_cg (mA_9 b cA fr r_46.1 (va_up (va_up r_46.2 9 (upd (r_46.2 9) (ix (7 * x3)) x1)) 9 (upd (upd (r_46.2 9) (ix (7 * x3)) x1) (ix ((7 * x3) + 1)) x2)) (upd (upd (upd (r_46.2 9) (ix (7 * x3)) x1) (ix ((7 * x3) + 1)) x2) (ix ((7 * x3) + 2)) (r_46.1 22))) hP
      replace hD := ga_cd (mA_9 b cA fr r_46.1 (va_up (va_up r_46.2 9 (upd (r_46.2 9) (ix (7 * x3)) x1)) 9 (upd (upd (r_46.2 9) (ix (7 * x3)) x1) (ix ((7 * x3) + 1)) x2)) (upd (upd (upd (r_46.2 9) (ix (7 * x3)) x1) (ix ((7 * x3) + 1)) x2) (ix ((7 * x3) + 2)) (r_46.1 22))) hD
      refine lv_aload_n hx hb dX6_goes_130 rfl (lv_at hl 1 rfl) ?_
      refine va_get hx hb hts in_X6 hown hK.1 hP 0 (fs := mF r_46.1 fr) rfl rfl 9 (by decide) (hts _ q1521) (fun _ hh => hh) (v := .ref (fr 9)) rfl dX6_goes_131 ?_
      refine lv_iload hx hb dX6_goes_134 (lv_at hl 0 rfl) ?_
      refine lv_iconst (v := 3) hx hb dX6_goes_136 (by decide) ?_
      refine lv_iadd hx hb dX6_goes_137 ?_
      refine lv_aload_n hx hb dX6_goes_138 rfl (lv_at hl 1 rfl) ?_
      refine va_get hx hb hts in_X6 hown hK.1 hP 0 (fs := mF r_46.1 fr) rfl rfl 23 (by decide) (hts _ q1535) (fun _ hh => hh) (v := .int (r_46.1 23)) rfl dX6_goes_139 ?_
      obtain ⟨i_54, h⟩ := ga_gif h
      refine va_iast hx hb hK.1 hP hD hS 6 0 (f := (upd (upd (upd (r_46.2 9) (ix (7 * x3)) x1) (ix ((7 * x3) + 1)) x2) (ix ((7 * x3) + 2)) (r_46.1 22))) rfl rfl (ga_in i_54) dX6_goes_142 (fun H locs hP hD hS => ?_)
      replace hP := ga_cg (mA_9 b cA fr r_46.1 (va_up (va_up (va_up r_46.2 9 (upd (r_46.2 9) (ix (7 * x3)) x1)) 9 (upd (upd (r_46.2 9) (ix (7 * x3)) x1) (ix ((7 * x3) + 1)) x2)) 9 (upd (upd (upd (r_46.2 9) (ix (7 * x3)) x1) (ix ((7 * x3) + 1)) x2) (ix ((7 * x3) + 2)) (r_46.1 22))) (upd (upd (upd (upd (r_46.2 9) (ix (7 * x3)) x1) (ix ((7 * x3) + 1)) x2) (ix ((7 * x3) + 2)) (r_46.1 22)) (ix ((7 * x3) + 3)) (r_46.1 23))) hP
      replace hD := ga_cd (mA_9 b cA fr r_46.1 (va_up (va_up (va_up r_46.2 9 (upd (r_46.2 9) (ix (7 * x3)) x1)) 9 (upd (upd (r_46.2 9) (ix (7 * x3)) x1) (ix ((7 * x3) + 1)) x2)) 9 (upd (upd (upd (r_46.2 9) (ix (7 * x3)) x1) (ix ((7 * x3) + 1)) x2) (ix ((7 * x3) + 2)) (r_46.1 22))) (upd (upd (upd (upd (r_46.2 9) (ix (7 * x3)) x1) (ix ((7 * x3) + 1)) x2) (ix ((7 * x3) + 2)) (r_46.1 22)) (ix ((7 * x3) + 3)) (r_46.1 23))) hD
      refine lv_aload_n hx hb dX6_goes_143 rfl (lv_at hl 1 rfl) ?_
      refine va_get hx hb hts in_X6 hown hK.1 hP 0 (fs := mF r_46.1 fr) rfl rfl 9 (by decide) (hts _ q1521) (fun _ hh => hh) (v := .ref (fr 9)) rfl dX6_goes_144 ?_
      refine lv_iload hx hb dX6_goes_147 (lv_at hl 0 rfl) ?_
      refine lv_iconst (v := 4) hx hb dX6_goes_149 (by decide) ?_
      refine lv_iadd hx hb dX6_goes_150 ?_
      refine lv_aload_n hx hb dX6_goes_151 rfl (lv_at hl 1 rfl) ?_
      refine va_get hx hb hts in_X6 hown hK.1 hP 0 (fs := mF r_46.1 fr) rfl rfl 24 (by decide) (hts _ q1536) (fun _ hh => hh) (v := .int (r_46.1 24)) rfl dX6_goes_152 ?_
      obtain ⟨i_55, h⟩ := ga_gif h
      refine va_iast hx hb hK.1 hP hD hS 6 0 (f := (upd (upd (upd (upd (r_46.2 9) (ix (7 * x3)) x1) (ix ((7 * x3) + 1)) x2) (ix ((7 * x3) + 2)) (r_46.1 22)) (ix ((7 * x3) + 3)) (r_46.1 23))) rfl rfl (ga_in i_55) dX6_goes_155 (fun H locs hP hD hS => ?_)
      replace hP := ga_cg (mA_9 b cA fr r_46.1 (va_up (va_up (va_up (va_up r_46.2 9 (upd (r_46.2 9) (ix (7 * x3)) x1)) 9 (upd (upd (r_46.2 9) (ix (7 * x3)) x1) (ix ((7 * x3) + 1)) x2)) 9 (upd (upd (upd (r_46.2 9) (ix (7 * x3)) x1) (ix ((7 * x3) + 1)) x2) (ix ((7 * x3) + 2)) (r_46.1 22))) 9 (upd (upd (upd (upd (r_46.2 9) (ix (7 * x3)) x1) (ix ((7 * x3) + 1)) x2) (ix ((7 * x3) + 2)) (r_46.1 22)) (ix ((7 * x3) + 3)) (r_46.1 23))) (upd (upd (upd (upd (upd (r_46.2 9) (ix (7 * x3)) x1) (ix ((7 * x3) + 1)) x2) (ix ((7 * x3) + 2)) (r_46.1 22)) (ix ((7 * x3) + 3)) (r_46.1 23)) (ix ((7 * x3) + 4)) (r_46.1 24))) hP
      replace hD := ga_cd (mA_9 b cA fr r_46.1 (va_up (va_up (va_up (va_up r_46.2 9 (upd (r_46.2 9) (ix (7 * x3)) x1)) 9 (upd (upd (r_46.2 9) (ix (7 * x3)) x1) (ix ((7 * x3) + 1)) x2)) 9 (upd (upd (upd (r_46.2 9) (ix (7 * x3)) x1) (ix ((7 * x3) + 1)) x2) (ix ((7 * x3) + 2)) (r_46.1 22))) 9 (upd (upd (upd (upd (r_46.2 9) (ix (7 * x3)) x1) (ix ((7 * x3) + 1)) x2) (ix ((7 * x3) + 2)) (r_46.1 22)) (ix ((7 * x3) + 3)) (r_46.1 23))) (upd (upd (upd (upd (upd (r_46.2 9) (ix (7 * x3)) x1) (ix ((7 * x3) + 1)) x2) (ix ((7 * x3) + 2)) (r_46.1 22)) (ix ((7 * x3) + 3)) (r_46.1 23)) (ix ((7 * x3) + 4)) (r_46.1 24))) hD
      refine lv_aload_n hx hb dX6_goes_156 rfl (lv_at hl 1 rfl) ?_
      refine va_get hx hb hts in_X6 hown hK.1 hP 0 (fs := mF r_46.1 fr) rfl rfl 9 (by decide) (hts _ q1521) (fun _ hh => hh) (v := .ref (fr 9)) rfl dX6_goes_157 ?_
      refine lv_iload hx hb dX6_goes_160 (lv_at hl 0 rfl) ?_
      refine lv_iconst (v := 5) hx hb dX6_goes_162 (by decide) ?_
      refine lv_iadd hx hb dX6_goes_163 ?_
      refine lv_aload_n hx hb dX6_goes_164 rfl (lv_at hl 1 rfl) ?_
      refine lv_iconst (v := 0) hx hb dX6_goes_165 (by decide) ?_
      obtain ⟨r_56, e_57, h⟩ := ga_gb h
      refine vp_callSi (W.runV (As := [.int 0]) (rest := [.int ((7 * x3) + 5), .ref (fr 9)]) ⟨hx, hb, hml, hown, hts⟩ (met_X6_score l D cA b fr r_46.1 (va_up (va_up (va_up (va_up (va_up r_46.2 9 (upd (r_46.2 9) (ix (7 * x3)) x1)) 9 (upd (upd (r_46.2 9) (ix (7 * x3)) x1) (ix ((7 * x3) + 1)) x2)) 9 (upd (upd (upd (r_46.2 9) (ix (7 * x3)) x1) (ix ((7 * x3) + 1)) x2) (ix ((7 * x3) + 2)) (r_46.1 22))) 9 (upd (upd (upd (upd (r_46.2 9) (ix (7 * x3)) x1) (ix ((7 * x3) + 1)) x2) (ix ((7 * x3) + 2)) (r_46.1 22)) (ix ((7 * x3) + 3)) (r_46.1 23))) 9 (upd (upd (upd (upd (upd (r_46.2 9) (ix (7 * x3)) x1) (ix ((7 * x3) + 1)) x2) (ix ((7 * x3) + 2)) (r_46.1 22)) (ix ((7 * x3) + 3)) (r_46.1 23)) (ix ((7 * x3) + 4)) (r_46.1 24))) N 0 r_56 e_57) (cwV 1 hts (lw_V q1675 q1677 qs41 q79 q1678) rfl rfl rfl (by decide +kernel) ⟨Nat.le_of_ble_eq_true rfl, Nat.le_of_ble_eq_true rfl⟩) (ga_PV hK hP (va_recv hK.1 hP (ci := 0) (q0 := 0) rfl rfl)) rfl rfl hl.1 rfl (lv_room (Nat.le_of_ble_eq_true rfl)) dX6_goes_166 ⟨Nat.le_of_ble_eq_true rfl, Nat.le_of_ble_eq_true rfl⟩) (fun z_58 w_59 => ?_)
      obtain rfl := w_59
      obtain ⟨i_60, h⟩ := ga_gif h
      refine va_iast hx hb hK.1 hP hD hS 6 0 (f := (upd (upd (upd (upd (upd (r_46.2 9) (ix (7 * x3)) x1) (ix ((7 * x3) + 1)) x2) (ix ((7 * x3) + 2)) (r_46.1 22)) (ix ((7 * x3) + 3)) (r_46.1 23)) (ix ((7 * x3) + 4)) (r_46.1 24))) rfl rfl (ga_in i_60) dX6_goes_169 (fun H locs hP hD hS => ?_)
      replace hP := ga_cg (mA_9 b cA fr r_46.1 (va_up (va_up (va_up (va_up (va_up r_46.2 9 (upd (r_46.2 9) (ix (7 * x3)) x1)) 9 (upd (upd (r_46.2 9) (ix (7 * x3)) x1) (ix ((7 * x3) + 1)) x2)) 9 (upd (upd (upd (r_46.2 9) (ix (7 * x3)) x1) (ix ((7 * x3) + 1)) x2) (ix ((7 * x3) + 2)) (r_46.1 22))) 9 (upd (upd (upd (upd (r_46.2 9) (ix (7 * x3)) x1) (ix ((7 * x3) + 1)) x2) (ix ((7 * x3) + 2)) (r_46.1 22)) (ix ((7 * x3) + 3)) (r_46.1 23))) 9 (upd (upd (upd (upd (upd (r_46.2 9) (ix (7 * x3)) x1) (ix ((7 * x3) + 1)) x2) (ix ((7 * x3) + 2)) (r_46.1 22)) (ix ((7 * x3) + 3)) (r_46.1 23)) (ix ((7 * x3) + 4)) (r_46.1 24))) (upd (upd (upd (upd (upd (upd (r_46.2 9) (ix (7 * x3)) x1) (ix ((7 * x3) + 1)) x2) (ix ((7 * x3) + 2)) (r_46.1 22)) (ix ((7 * x3) + 3)) (r_46.1 23)) (ix ((7 * x3) + 4)) (r_46.1 24)) (ix ((7 * x3) + 5)) r_56)) hP
      replace hD := ga_cd (mA_9 b cA fr r_46.1 (va_up (va_up (va_up (va_up (va_up r_46.2 9 (upd (r_46.2 9) (ix (7 * x3)) x1)) 9 (upd (upd (r_46.2 9) (ix (7 * x3)) x1) (ix ((7 * x3) + 1)) x2)) 9 (upd (upd (upd (r_46.2 9) (ix (7 * x3)) x1) (ix ((7 * x3) + 1)) x2) (ix ((7 * x3) + 2)) (r_46.1 22))) 9 (upd (upd (upd (upd (r_46.2 9) (ix (7 * x3)) x1) (ix ((7 * x3) + 1)) x2) (ix ((7 * x3) + 2)) (r_46.1 22)) (ix ((7 * x3) + 3)) (r_46.1 23))) 9 (upd (upd (upd (upd (upd (r_46.2 9) (ix (7 * x3)) x1) (ix ((7 * x3) + 1)) x2) (ix ((7 * x3) + 2)) (r_46.1 22)) (ix ((7 * x3) + 3)) (r_46.1 23)) (ix ((7 * x3) + 4)) (r_46.1 24))) (upd (upd (upd (upd (upd (upd (r_46.2 9) (ix (7 * x3)) x1) (ix ((7 * x3) + 1)) x2) (ix ((7 * x3) + 2)) (r_46.1 22)) (ix ((7 * x3) + 3)) (r_46.1 23)) (ix ((7 * x3) + 4)) (r_46.1 24)) (ix ((7 * x3) + 5)) r_56)) hD
      refine lv_aload_n hx hb dX6_goes_170 rfl (lv_at hl 1 rfl) ?_
      refine va_get hx hb hts in_X6 hown hK.1 hP 0 (fs := mF r_46.1 fr) rfl rfl 9 (by decide) (hts _ q1521) (fun _ hh => hh) (v := .ref (fr 9)) rfl dX6_goes_171 ?_
      refine lv_iload hx hb dX6_goes_174 (lv_at hl 0 rfl) ?_
      refine lv_bipush (v := 6) hx hb dX6_goes_176 (by decide) ?_
      refine lv_iadd hx hb dX6_goes_178 ?_
      refine lv_aload_n hx hb dX6_goes_179 rfl (lv_at hl 1 rfl) ?_
      refine lv_iconst (v := 1) hx hb dX6_goes_180 (by decide) ?_
      obtain ⟨r_61, e_62, h⟩ := ga_gb h
      refine vp_callSi (W.runV (As := [.int 1]) (rest := [.int ((7 * x3) + 6), .ref (fr 9)]) ⟨hx, hb, hml, hown, hts⟩ (met_X6_score l D cA b fr r_46.1 (va_up (va_up (va_up (va_up (va_up (va_up r_46.2 9 (upd (r_46.2 9) (ix (7 * x3)) x1)) 9 (upd (upd (r_46.2 9) (ix (7 * x3)) x1) (ix ((7 * x3) + 1)) x2)) 9 (upd (upd (upd (r_46.2 9) (ix (7 * x3)) x1) (ix ((7 * x3) + 1)) x2) (ix ((7 * x3) + 2)) (r_46.1 22))) 9 (upd (upd (upd (upd (r_46.2 9) (ix (7 * x3)) x1) (ix ((7 * x3) + 1)) x2) (ix ((7 * x3) + 2)) (r_46.1 22)) (ix ((7 * x3) + 3)) (r_46.1 23))) 9 (upd (upd (upd (upd (upd (r_46.2 9) (ix (7 * x3)) x1) (ix ((7 * x3) + 1)) x2) (ix ((7 * x3) + 2)) (r_46.1 22)) (ix ((7 * x3) + 3)) (r_46.1 23)) (ix ((7 * x3) + 4)) (r_46.1 24))) 9 (upd (upd (upd (upd (upd (upd (r_46.2 9) (ix (7 * x3)) x1) (ix ((7 * x3) + 1)) x2) (ix ((7 * x3) + 2)) (r_46.1 22)) (ix ((7 * x3) + 3)) (r_46.1 23)) (ix ((7 * x3) + 4)) (r_46.1 24)) (ix ((7 * x3) + 5)) r_56)) N 1 r_61 e_62) (cwV 1 hts (lw_V q1675 q1677 qs41 q79 q1678) rfl rfl rfl (by decide +kernel) ⟨Nat.le_of_ble_eq_true rfl, Nat.le_of_ble_eq_true rfl⟩) (ga_PV hK hP (va_recv hK.1 hP (ci := 0) (q0 := 0) rfl rfl)) rfl rfl hl.1 rfl (lv_room (Nat.le_of_ble_eq_true rfl)) dX6_goes_181 ⟨Nat.le_of_ble_eq_true rfl, Nat.le_of_ble_eq_true rfl⟩) (fun z_63 w_64 => ?_)
      obtain rfl := w_64
      obtain ⟨i_65, h⟩ := ga_gif h
      refine va_iast hx hb hK.1 hP hD hS 6 0 (f := (upd (upd (upd (upd (upd (upd (r_46.2 9) (ix (7 * x3)) x1) (ix ((7 * x3) + 1)) x2) (ix ((7 * x3) + 2)) (r_46.1 22)) (ix ((7 * x3) + 3)) (r_46.1 23)) (ix ((7 * x3) + 4)) (r_46.1 24)) (ix ((7 * x3) + 5)) r_56)) rfl rfl (ga_in i_65) dX6_goes_184 (fun H locs hP hD hS => ?_)
      replace hP := ga_cg (mA_9 b cA fr r_46.1 (va_up (va_up (va_up (va_up (va_up (va_up r_46.2 9 (upd (r_46.2 9) (ix (7 * x3)) x1)) 9 (upd (upd (r_46.2 9) (ix (7 * x3)) x1) (ix ((7 * x3) + 1)) x2)) 9 (upd (upd (upd (r_46.2 9) (ix (7 * x3)) x1) (ix ((7 * x3) + 1)) x2) (ix ((7 * x3) + 2)) (r_46.1 22))) 9 (upd (upd (upd (upd (r_46.2 9) (ix (7 * x3)) x1) (ix ((7 * x3) + 1)) x2) (ix ((7 * x3) + 2)) (r_46.1 22)) (ix ((7 * x3) + 3)) (r_46.1 23))) 9 (upd (upd (upd (upd (upd (r_46.2 9) (ix (7 * x3)) x1) (ix ((7 * x3) + 1)) x2) (ix ((7 * x3) + 2)) (r_46.1 22)) (ix ((7 * x3) + 3)) (r_46.1 23)) (ix ((7 * x3) + 4)) (r_46.1 24))) 9 (upd (upd (upd (upd (upd (upd (r_46.2 9) (ix (7 * x3)) x1) (ix ((7 * x3) + 1)) x2) (ix ((7 * x3) + 2)) (r_46.1 22)) (ix ((7 * x3) + 3)) (r_46.1 23)) (ix ((7 * x3) + 4)) (r_46.1 24)) (ix ((7 * x3) + 5)) r_56)) (upd (upd (upd (upd (upd (upd (upd (r_46.2 9) (ix (7 * x3)) x1) (ix ((7 * x3) + 1)) x2) (ix ((7 * x3) + 2)) (r_46.1 22)) (ix ((7 * x3) + 3)) (r_46.1 23)) (ix ((7 * x3) + 4)) (r_46.1 24)) (ix ((7 * x3) + 5)) r_56) (ix ((7 * x3) + 6)) r_61)) hP
      replace hD := ga_cd (mA_9 b cA fr r_46.1 (va_up (va_up (va_up (va_up (va_up (va_up r_46.2 9 (upd (r_46.2 9) (ix (7 * x3)) x1)) 9 (upd (upd (r_46.2 9) (ix (7 * x3)) x1) (ix ((7 * x3) + 1)) x2)) 9 (upd (upd (upd (r_46.2 9) (ix (7 * x3)) x1) (ix ((7 * x3) + 1)) x2) (ix ((7 * x3) + 2)) (r_46.1 22))) 9 (upd (upd (upd (upd (r_46.2 9) (ix (7 * x3)) x1) (ix ((7 * x3) + 1)) x2) (ix ((7 * x3) + 2)) (r_46.1 22)) (ix ((7 * x3) + 3)) (r_46.1 23))) 9 (upd (upd (upd (upd (upd (r_46.2 9) (ix (7 * x3)) x1) (ix ((7 * x3) + 1)) x2) (ix ((7 * x3) + 2)) (r_46.1 22)) (ix ((7 * x3) + 3)) (r_46.1 23)) (ix ((7 * x3) + 4)) (r_46.1 24))) 9 (upd (upd (upd (upd (upd (upd (r_46.2 9) (ix (7 * x3)) x1) (ix ((7 * x3) + 1)) x2) (ix ((7 * x3) + 2)) (r_46.1 22)) (ix ((7 * x3) + 3)) (r_46.1 23)) (ix ((7 * x3) + 4)) (r_46.1 24)) (ix ((7 * x3) + 5)) r_56)) (upd (upd (upd (upd (upd (upd (upd (r_46.2 9) (ix (7 * x3)) x1) (ix ((7 * x3) + 1)) x2) (ix ((7 * x3) + 2)) (r_46.1 22)) (ix ((7 * x3) + 3)) (r_46.1 23)) (ix ((7 * x3) + 4)) (r_46.1 24)) (ix ((7 * x3) + 5)) r_56) (ix ((7 * x3) + 6)) r_61)) hD
      refine lv_iconst (v := 0) hx hb dX6_goes_185 (by decide) ?_
      refine lv_istore (lv' := [(5, .int 0), (4, .int (7 * x3)), (0, .ref b), (1, .int x1), (2, .int x2), (3, .int x3)]) hx hb dX6_goes_186 hl (by decide) rfl (fun ls hl => ?_)
      exact w_X6_goes_188 C hK N r_46.1 (va_up (va_up (va_up (va_up (va_up (va_up (va_up r_46.2 9 (upd (r_46.2 9) (ix (7 * x3)) x1)) 9 (upd (upd (r_46.2 9) (ix (7 * x3)) x1) (ix ((7 * x3) + 1)) x2)) 9 (upd (upd (upd (r_46.2 9) (ix (7 * x3)) x1) (ix ((7 * x3) + 1)) x2) (ix ((7 * x3) + 2)) (r_46.1 22))) 9 (upd (upd (upd (upd (r_46.2 9) (ix (7 * x3)) x1) (ix ((7 * x3) + 1)) x2) (ix ((7 * x3) + 2)) (r_46.1 22)) (ix ((7 * x3) + 3)) (r_46.1 23))) 9 (upd (upd (upd (upd (upd (r_46.2 9) (ix (7 * x3)) x1) (ix ((7 * x3) + 1)) x2) (ix ((7 * x3) + 2)) (r_46.1 22)) (ix ((7 * x3) + 3)) (r_46.1 23)) (ix ((7 * x3) + 4)) (r_46.1 24))) 9 (upd (upd (upd (upd (upd (upd (r_46.2 9) (ix (7 * x3)) x1) (ix ((7 * x3) + 1)) x2) (ix ((7 * x3) + 2)) (r_46.1 22)) (ix ((7 * x3) + 3)) (r_46.1 23)) (ix ((7 * x3) + 4)) (r_46.1 24)) (ix ((7 * x3) + 5)) r_56)) 9 (upd (upd (upd (upd (upd (upd (upd (r_46.2 9) (ix (7 * x3)) x1) (ix ((7 * x3) + 1)) x2) (ix ((7 * x3) + 2)) (r_46.1 22)) (ix ((7 * x3) + 3)) (r_46.1 23)) (ix ((7 * x3) + 4)) (r_46.1 24)) (ix ((7 * x3) + 5)) r_56) (ix ((7 * x3) + 6)) r_61)) x3 0 h _ _ hP hD hS _ (lv_sub hl [2, 5, 0] rfl)
    · replace h := ga_iff c_45 h
      refine lv_aload_n hx hb dX6_goes_61 rfl (lv_at hl 0 rfl) ?_
      refine va_get hx hb hts in_X6 hown hK.1 hP 0 (fs := mF fi fr) rfl rfl 8 (by decide) (hts _ q1520) (fun _ hh => hh) (v := .ref (fr 8)) rfl dX6_goes_62 ?_
      refine lv_sipush (v := 155) hx hb dX6_goes_65 (by decide) ?_
      refine lv_iload_n hx hb dX6_goes_68 rfl (lv_at hl 3 rfl) ?_
      refine lv_imul hx hb dX6_goes_69 ?_
      refine lv_iload hx hb dX6_goes_70 (lv_at hl 4 rfl) ?_
      refine lv_iadd hx hb dX6_goes_72 ?_
      refine lv_aload_n hx hb dX6_goes_73 rfl (lv_at hl 0 rfl) ?_
      refine va_get hx hb hts in_X6 hown hK.1 hP 0 (fs := mF fi fr) rfl rfl 5 (by decide) (hts _ q1517) (fun _ hh => hh) (v := .ref (fr 5)) rfl dX6_goes_74 ?_
      refine lv_iload hx hb dX6_goes_77 (lv_at hl 4 rfl) ?_
      obtain ⟨i_66, h⟩ := ga_gif h
      refine va_iald hx hb hK.1 hP 2 0 (f := fa 5) rfl rfl (ga_in i_66) dX6_goes_79 ?_
      obtain ⟨i_67, h⟩ := ga_gif h
      refine va_iast hx hb hK.1 hP hD hS 5 0 (f := fa 8) rfl rfl (ga_in i_67) dX6_goes_80 (fun H locs hP hD hS => ?_)
      replace hP := ga_cg (mA_8 b cA fr fi fa (upd (fa 8) (ix ((155 * x3) + x4)) (fa 5 (ix x4)))) hP
      replace hD := ga_cd (mA_8 b cA fr fi fa (upd (fa 8) (ix ((155 * x3) + x4)) (fa 5 (ix x4)))) hD
      refine lv_iinc (v := (x4 + 1)) (lv' := [(4, .int (x4 + 1)), (0, .ref b), (1, .int x1), (2, .int x2), (3, .int x3)]) hx hb dX6_goes_81 hl (k := 4) rfl rfl (by decide) rfl (fun ls hl => ?_)
      refine lv_goto (tgt := 53) hx hb dX6_goes_84 (by decide) ?_
      exact ih fi (va_up fa 8 (upd (fa 8) (ix ((155 * x3) + x4)) (fa 5 (ix x4)))) x3 (x4 + 1) h _ _ hP hD hS _ (lv_sub hl [1, 2, 3, 4, 0] rfl)
def F_X6_goes (N : Nat) (fi : Nat → Int32) (fa : Nat → Nat → Int32) (x1 : Int32) (x2 : Int32) : Option (Int32 × ga_MS) :=
  ((F_X6_mayChoose N fi fa x1).bind fun r_1 =>
  (if r_1 = 0 then
  ((F_X6_mayChoose N fi fa x1).bind fun r_7 =>
  (if r_7 = 0 then
  ((F_X6_reports N fi fa 0 x1).bind fun r_18 =>
  some (0, (r_18.1, r_18.2)))
  else
  ((F_X6_reports N fi fa 1 x2).bind fun r_13 =>
  some (0, (r_13.1, r_13.2)))))
  else
  ((F_X6_mayChoose N fi fa x2).bind fun r_23 =>
  (if r_23 = 0 then
  ((F_X6_mayChoose N fi fa x1).bind fun r_29 =>
  (if r_29 = 0 then
  ((F_X6_reports N fi fa 0 x1).bind fun r_40 =>
  some (0, (r_40.1, r_40.2)))
  else
  ((F_X6_reports N fi fa 1 x2).bind fun r_35 =>
  some (0, (r_35.1, r_35.2)))))
  else
  lp_X6_goes_53 N x1 x2 N fi fa (fa 5 (ix 153)) 0))))
set_option maxHeartbeats 4000000 in
theorem met_X6_goes (l : Launch) (D : va_G) (cA : Nat → ClassId) (A : Nat → Prop) (b : Nat) (fr : Nat → Nat) (fi : Nat → Int32) (fa : Nat → Nat → Int32) (N : Nat) (x1 : Int32) (x2 : Int32) (out : Int32 × ga_MS) (h : F_X6_goes N fi fa x1 x2 = some out) : Met l yX6_goes (ws_ yX6_goes cX6_goes 6 (some .boolean)) rm_X6_goes (ga_N D cA A (mW b cA fr fi fa) [.ref b, .int x1, .int x2]) (va_Qi (fun (r : Int32) (u : ga_MS) => (out.1 = r ∧ ga_B r) ∧ out.2 = u) (ga_MB D cA A b fr) A) 0 0 A := by
  refine Met.ofW (cc := cX6_goes) (maxL := 6) (ret := (some .boolean)) (by decide) rfl ?_
  intro p e s m args below meth c s₁ B hml hv
  obtain ⟨rfl, hP, hK, hD⟩ := hv
  have hS : va_S A s.heap s.heap [] := va_S.rf
  have C : ga_cx p m c meth s _ RX6 cX6_goes 6 (some .boolean) := ga_cx_of B hml
  have C0 := C
  obtain ⟨hx, hb, hr, hlocks, hml, hown, hts⟩ := C0
  have hl := lv_entry ([.ref b, .int x1, .int x2]) (n := 6) (Nat.le_of_ble_eq_true rfl)
  rw [lg_entry_eq]
  generalize (lg_sl ([.ref b, .int x1, .int x2]) ++ List.replicate (6 - (lg_sl ([.ref b, .int x1, .int x2])).length) Slot.unset).toArray = ls at hl ⊢
  have hl : lv_has ls 6 [(0, .ref b), (1, .int x1), (2, .int x2)] := hl
  rw [F_X6_goes] at h
  refine lv_aload_n hx hb dX6_goes_0 rfl (lv_at hl 0 rfl) ?_
  refine lv_iload_n hx hb dX6_goes_1 rfl (lv_at hl 1 rfl) ?_
  obtain ⟨r_1, e_2, h⟩ := ga_gb h
  refine vp_callSi (W.runV (As := [.int x1]) (rest := []) ⟨hx, hb, hml, hown, hts⟩ (met_X6_mayChoose l D cA b fr fi fa N x1 r_1 e_2) (cwV 1 hts (lw_V q1663 q1665 qs38 q79 q1666) rfl rfl rfl (by decide +kernel) ⟨Nat.le_of_ble_eq_true rfl, Nat.le_of_ble_eq_true rfl⟩) (ga_PV hK hP (va_recv hK.1 hP (ci := 0) (q0 := 0) rfl rfl)) rfl rfl hl.1 rfl (lv_room (Nat.le_of_ble_eq_true rfl)) dX6_goes_2 ⟨Nat.le_of_ble_eq_true rfl, Nat.le_of_ble_eq_true rfl⟩) (fun z_3 w_4 => ?_)
  obtain ⟨rfl, b_5⟩ := w_4
  refine lv_if_eq (tgt := 16) hx hb dX6_goes_5 (by decide) (fun c_6 => ?_) (fun c_6 => ?_)
  · replace h := ga_ift c_6 h
    refine lv_aload_n hx hb dX6_goes_16 rfl (lv_at hl 0 rfl) ?_
    refine lv_iload_n hx hb dX6_goes_17 rfl (lv_at hl 1 rfl) ?_
    obtain ⟨r_7, e_8, h⟩ := ga_gb h
    refine vp_callSi (W.runV (As := [.int x1]) (rest := []) ⟨hx, hb, hml, hown, hts⟩ (met_X6_mayChoose l D cA b fr fi fa N x1 r_7 e_8) (cwV 1 hts (lw_V q1663 q1665 qs38 q79 q1666) rfl rfl rfl (by decide +kernel) ⟨Nat.le_of_ble_eq_true rfl, Nat.le_of_ble_eq_true rfl⟩) (ga_PV hK hP (va_recv hK.1 hP (ci := 0) (q0 := 0) rfl rfl)) rfl rfl hl.1 rfl (lv_room (Nat.le_of_ble_eq_true rfl)) dX6_goes_18 ⟨Nat.le_of_ble_eq_true rfl, Nat.le_of_ble_eq_true rfl⟩) (fun z_9 w_10 => ?_)
    obtain ⟨rfl, b_11⟩ := w_10
    refine lv_if_ne (tgt := 33) hx hb dX6_goes_21 (by decide) (fun c_12 => ?_) (fun c_12 => ?_)
    · replace h := ga_iff c_12 h
      refine lv_aload_n hx hb dX6_goes_33 rfl (lv_at hl 0 rfl) ?_
      refine lv_iconst (v := 1) hx hb dX6_goes_34 (by decide) ?_
      refine lv_iload_n hx hb dX6_goes_35 rfl (lv_at hl 2 rfl) ?_
      obtain ⟨r_13, e_14, h⟩ := ga_gb h
      refine va_callv (va_runV (As := [.int 1, .int x2]) (rest := []) ⟨hx, hb, hml, hown, hts⟩ (met_X6_reports l D cA A b fr fi fa N 1 x2 r_13 e_14) (cwV 2 hts (lw_V q1667 q1669 qs39 q79 q1670) rfl rfl rfl (by decide +kernel) ⟨Nat.le_of_ble_eq_true rfl, Nat.le_of_ble_eq_true rfl⟩) (ga_NV hK hP hD (va_recv hK.1 hP (ci := 0) (q0 := 0) rfl rfl)) rfl rfl hl.1 rfl (lv_room (Nat.le_of_ble_eq_true rfl)) dX6_goes_36 ⟨Nat.le_of_ble_eq_true rfl, Nat.le_of_ble_eq_true rfl⟩) hS (fun _ _ hq => hq) (fun _ hq => hq) (fun u t H locs ht _ w_16 hB _ _ hS => ?_)
      obtain rfl := w_16
      obtain ⟨hP, -, hD⟩ := hB
      rw [ht] at hP
      refine lv_iconst (v := 0) hx hb dX6_goes_39 (by decide) ?_
      cases h
      exact W.zret hx hb hr (ga_nb (Or.inl rfl)) (fun t ht hW => ⟨⟨_, _, rfl, ⟨⟨rfl, Or.inl rfl⟩, rfl⟩, ⟨by rw [ht]; exact hP, hK.warm hW, hD⟩⟩, hS.F ht⟩) hS.2.2 dX6_goes_40
    · replace h := ga_ift c_12 h
      refine lv_aload_n hx hb dX6_goes_24 rfl (lv_at hl 0 rfl) ?_
      refine lv_iconst (v := 0) hx hb dX6_goes_25 (by decide) ?_
      refine lv_iload_n hx hb dX6_goes_26 rfl (lv_at hl 1 rfl) ?_
      obtain ⟨r_18, e_19, h⟩ := ga_gb h
      refine va_callv (va_runV (As := [.int 0, .int x1]) (rest := []) ⟨hx, hb, hml, hown, hts⟩ (met_X6_reports l D cA A b fr fi fa N 0 x1 r_18 e_19) (cwV 2 hts (lw_V q1667 q1669 qs39 q79 q1670) rfl rfl rfl (by decide +kernel) ⟨Nat.le_of_ble_eq_true rfl, Nat.le_of_ble_eq_true rfl⟩) (ga_NV hK hP hD (va_recv hK.1 hP (ci := 0) (q0 := 0) rfl rfl)) rfl rfl hl.1 rfl (lv_room (Nat.le_of_ble_eq_true rfl)) dX6_goes_27 ⟨Nat.le_of_ble_eq_true rfl, Nat.le_of_ble_eq_true rfl⟩) hS (fun _ _ hq => hq) (fun _ hq => hq) (fun u t H locs ht _ w_21 hB _ _ hS => ?_)
      obtain rfl := w_21
      obtain ⟨hP, -, hD⟩ := hB
      rw [ht] at hP
      refine lv_goto (tgt := 39) hx hb dX6_goes_30 (by decide) ?_
      refine lv_iconst (v := 0) hx hb dX6_goes_39 (by decide) ?_
      cases h
      exact W.zret hx hb hr (ga_nb (Or.inl rfl)) (fun t ht hW => ⟨⟨_, _, rfl, ⟨⟨rfl, Or.inl rfl⟩, rfl⟩, ⟨by rw [ht]; exact hP, hK.warm hW, hD⟩⟩, hS.F ht⟩) hS.2.2 dX6_goes_40
  · replace h := ga_iff c_6 h
    refine lv_aload_n hx hb dX6_goes_8 rfl (lv_at hl 0 rfl) ?_
    refine lv_iload_n hx hb dX6_goes_9 rfl (lv_at hl 2 rfl) ?_
    obtain ⟨r_23, e_24, h⟩ := ga_gb h
    refine vp_callSi (W.runV (As := [.int x2]) (rest := []) ⟨hx, hb, hml, hown, hts⟩ (met_X6_mayChoose l D cA b fr fi fa N x2 r_23 e_24) (cwV 1 hts (lw_V q1663 q1665 qs38 q79 q1666) rfl rfl rfl (by decide +kernel) ⟨Nat.le_of_ble_eq_true rfl, Nat.le_of_ble_eq_true rfl⟩) (ga_PV hK hP (va_recv hK.1 hP (ci := 0) (q0 := 0) rfl rfl)) rfl rfl hl.1 rfl (lv_room (Nat.le_of_ble_eq_true rfl)) dX6_goes_10 ⟨Nat.le_of_ble_eq_true rfl, Nat.le_of_ble_eq_true rfl⟩) (fun z_25 w_26 => ?_)
    obtain ⟨rfl, b_27⟩ := w_26
    refine lv_if_ne (tgt := 41) hx hb dX6_goes_13 (by decide) (fun c_28 => ?_) (fun c_28 => ?_)
    · replace h := ga_iff c_28 h
      refine lv_aload_n hx hb dX6_goes_41 rfl (lv_at hl 0 rfl) ?_
      refine va_get hx hb hts in_X6 hown hK.1 hP 0 (fs := mF fi fr) rfl rfl 5 (by decide) (hts _ q1517) (fun _ hh => hh) (v := .ref (fr 5)) rfl dX6_goes_42 ?_
      refine lv_sipush (v := 153) hx hb dX6_goes_45 (by decide) ?_
      refine va_iald hx hb hK.1 hP 2 0 (f := fa 5) rfl rfl (ga_in (by decide)) dX6_goes_48 ?_
      refine lv_istore_n (lv' := [(3, .int (fa 5 (ix 153))), (0, .ref b), (1, .int x1), (2, .int x2)]) hx hb dX6_goes_49 rfl hl (by decide) rfl (fun ls hl => ?_)
      refine lv_iconst (v := 0) hx hb dX6_goes_50 (by decide) ?_
      refine lv_istore (lv' := [(4, .int 0), (3, .int (fa 5 (ix 153))), (0, .ref b), (1, .int x1), (2, .int x2)]) hx hb dX6_goes_51 hl (by decide) rfl (fun ls hl => ?_)
      exact w_X6_goes_53 C hK N fi fa (fa 5 (ix 153)) 0 h _ _ hP hD hS _ (lv_sub hl [2, 3, 4, 1, 0] rfl)
    · replace h := ga_ift c_28 h
      refine lv_aload_n hx hb dX6_goes_16 rfl (lv_at hl 0 rfl) ?_
      refine lv_iload_n hx hb dX6_goes_17 rfl (lv_at hl 1 rfl) ?_
      obtain ⟨r_29, e_30, h⟩ := ga_gb h
      refine vp_callSi (W.runV (As := [.int x1]) (rest := []) ⟨hx, hb, hml, hown, hts⟩ (met_X6_mayChoose l D cA b fr fi fa N x1 r_29 e_30) (cwV 1 hts (lw_V q1663 q1665 qs38 q79 q1666) rfl rfl rfl (by decide +kernel) ⟨Nat.le_of_ble_eq_true rfl, Nat.le_of_ble_eq_true rfl⟩) (ga_PV hK hP (va_recv hK.1 hP (ci := 0) (q0 := 0) rfl rfl)) rfl rfl hl.1 rfl (lv_room (Nat.le_of_ble_eq_true rfl)) dX6_goes_18 ⟨Nat.le_of_ble_eq_true rfl, Nat.le_of_ble_eq_true rfl⟩) (fun z_31 w_32 => ?_)
      obtain ⟨rfl, b_33⟩ := w_32
      refine lv_if_ne (tgt := 33) hx hb dX6_goes_21 (by decide) (fun c_34 => ?_) (fun c_34 => ?_)
      · replace h := ga_iff c_34 h
        refine lv_aload_n hx hb dX6_goes_33 rfl (lv_at hl 0 rfl) ?_
        refine lv_iconst (v := 1) hx hb dX6_goes_34 (by decide) ?_
        refine lv_iload_n hx hb dX6_goes_35 rfl (lv_at hl 2 rfl) ?_
        obtain ⟨r_35, e_36, h⟩ := ga_gb h
        refine va_callv (va_runV (As := [.int 1, .int x2]) (rest := []) ⟨hx, hb, hml, hown, hts⟩ (met_X6_reports l D cA A b fr fi fa N 1 x2 r_35 e_36) (cwV 2 hts (lw_V q1667 q1669 qs39 q79 q1670) rfl rfl rfl (by decide +kernel) ⟨Nat.le_of_ble_eq_true rfl, Nat.le_of_ble_eq_true rfl⟩) (ga_NV hK hP hD (va_recv hK.1 hP (ci := 0) (q0 := 0) rfl rfl)) rfl rfl hl.1 rfl (lv_room (Nat.le_of_ble_eq_true rfl)) dX6_goes_36 ⟨Nat.le_of_ble_eq_true rfl, Nat.le_of_ble_eq_true rfl⟩) hS (fun _ _ hq => hq) (fun _ hq => hq) (fun u t H locs ht _ w_38 hB _ _ hS => ?_)
        obtain rfl := w_38
        obtain ⟨hP, -, hD⟩ := hB
        rw [ht] at hP
        refine lv_iconst (v := 0) hx hb dX6_goes_39 (by decide) ?_
        cases h
        exact W.zret hx hb hr (ga_nb (Or.inl rfl)) (fun t ht hW => ⟨⟨_, _, rfl, ⟨⟨rfl, Or.inl rfl⟩, rfl⟩, ⟨by rw [ht]; exact hP, hK.warm hW, hD⟩⟩, hS.F ht⟩) hS.2.2 dX6_goes_40
      · replace h := ga_ift c_34 h
        refine lv_aload_n hx hb dX6_goes_24 rfl (lv_at hl 0 rfl) ?_
        refine lv_iconst (v := 0) hx hb dX6_goes_25 (by decide) ?_
        refine lv_iload_n hx hb dX6_goes_26 rfl (lv_at hl 1 rfl) ?_
        obtain ⟨r_40, e_41, h⟩ := ga_gb h
        refine va_callv (va_runV (As := [.int 0, .int x1]) (rest := []) ⟨hx, hb, hml, hown, hts⟩ (met_X6_reports l D cA A b fr fi fa N 0 x1 r_40 e_41) (cwV 2 hts (lw_V q1667 q1669 qs39 q79 q1670) rfl rfl rfl (by decide +kernel) ⟨Nat.le_of_ble_eq_true rfl, Nat.le_of_ble_eq_true rfl⟩) (ga_NV hK hP hD (va_recv hK.1 hP (ci := 0) (q0 := 0) rfl rfl)) rfl rfl hl.1 rfl (lv_room (Nat.le_of_ble_eq_true rfl)) dX6_goes_27 ⟨Nat.le_of_ble_eq_true rfl, Nat.le_of_ble_eq_true rfl⟩) hS (fun _ _ hq => hq) (fun _ hq => hq) (fun u t H locs ht _ w_43 hB _ _ hS => ?_)
        obtain rfl := w_43
        obtain ⟨hP, -, hD⟩ := hB
        rw [ht] at hP
        refine lv_goto (tgt := 39) hx hb dX6_goes_30 (by decide) ?_
        refine lv_iconst (v := 0) hx hb dX6_goes_39 (by decide) ?_
        cases h
        exact W.zret hx hb hr (ga_nb (Or.inl rfl)) (fun t ht hW => ⟨⟨_, _, rfl, ⟨⟨rfl, Or.inl rfl⟩, rfl⟩, ⟨by rw [ht]; exact hP, hK.warm hW, hD⟩⟩, hS.F ht⟩) hS.2.2 dX6_goes_40
abbrev rm_X6_play : Room := { frames := 9, cells := 0, slots := 0, locals := 205 }
def F_X6_play (N : Nat) (fi : Nat → Int32) (fa : Nat → Nat → Int32) (x1 : Int32) (x2 : Int32) : Option (Int32 × ga_MS) :=
  ((F_X6_isChoice N fi fa x1).bind fun r_1 =>
  (if r_1 = 0 then
  some (0, (upd fi 0 1, fa))
  else
  ((F_X6_isChoice N fi fa x2).bind fun r_8 =>
  (if r_8 = 0 then
  some (0, (upd fi 0 1, fa))
  else
  ((F_X6_over N fi fa).bind fun r_14 =>
  (if r_14 = 0 then
  ((F_X6_goes N (upd fi 0 0) fa x1 x2).bind fun r_21 =>
  (if r_21.1 = 0 then
  ((F_X6_no N r_21.2.1 r_21.2.2 3).bind fun r_27 =>
  some (r_27.1, (r_27.2.1, r_27.2.2)))
  else
  some ((r_21.2.1 24), (r_21.2.1, r_21.2.2))))
  else
  some (0, (upd fi 0 2, fa))))))))
set_option maxHeartbeats 4000000 in
theorem met_X6_play (l : Launch) (D : va_G) (cA : Nat → ClassId) (A : Nat → Prop) (b : Nat) (fr : Nat → Nat) (fi : Nat → Int32) (fa : Nat → Nat → Int32) (N : Nat) (x1 : Int32) (x2 : Int32) (out : Int32 × ga_MS) (h : F_X6_play N fi fa x1 x2 = some out) : Met l yX6_play (ws_ yX6_play cX6_play 3 (some .int)) rm_X6_play (ga_N D cA A (mW b cA fr fi fa) [.ref b, .int x1, .int x2]) (va_Qi (fun (r : Int32) (u : ga_MS) => (out.1 = r) ∧ out.2 = u) (ga_MB D cA A b fr) A) 0 0 A := by
  refine Met.ofW (cc := cX6_play) (maxL := 3) (ret := (some .int)) (by decide) rfl ?_
  intro p e s m args below meth c s₁ B hml hv
  obtain ⟨rfl, hP, hK, hD⟩ := hv
  have hS : va_S A s.heap s.heap [] := va_S.rf
  have C : ga_cx p m c meth s _ RX6 cX6_play 3 (some .int) := ga_cx_of B hml
  have C0 := C
  obtain ⟨hx, hb, hr, hlocks, hml, hown, hts⟩ := C0
  have hl := lv_entry ([.ref b, .int x1, .int x2]) (n := 3) (Nat.le_of_ble_eq_true rfl)
  rw [lg_entry_eq]
  generalize (lg_sl ([.ref b, .int x1, .int x2]) ++ List.replicate (3 - (lg_sl ([.ref b, .int x1, .int x2])).length) Slot.unset).toArray = ls at hl ⊢
  have hl : lv_has ls 3 [(0, .ref b), (1, .int x1), (2, .int x2)] := hl
  rw [F_X6_play] at h
  refine lv_aload_n hx hb dX6_play_0 rfl (lv_at hl 0 rfl) ?_
  refine lv_aload_n hx hb dX6_play_1 rfl (lv_at hl 0 rfl) ?_
  refine lv_iload_n hx hb dX6_play_2 rfl (lv_at hl 1 rfl) ?_
  obtain ⟨r_1, e_2, h⟩ := ga_gb h
  refine vp_callSi (W.runV (As := [.int x1]) (rest := [.ref b]) ⟨hx, hb, hml, hown, hts⟩ (met_X6_isChoice l D cA b fr fi fa N x1 r_1 e_2) (cwV 1 hts (lw_V q1643 q1645 qs33 q79 q1646) rfl rfl rfl (by decide +kernel) ⟨Nat.le_of_ble_eq_true rfl, Nat.le_of_ble_eq_true rfl⟩) (ga_PV hK hP (va_recv hK.1 hP (ci := 0) (q0 := 0) rfl rfl)) rfl rfl hl.1 rfl (lv_room (Nat.le_of_ble_eq_true rfl)) dX6_play_3 ⟨Nat.le_of_ble_eq_true rfl, Nat.le_of_ble_eq_true rfl⟩) (fun z_3 w_4 => ?_)
  obtain ⟨rfl, b_5⟩ := w_4
  refine lv_if_eq (tgt := 17) hx hb dX6_play_6 (by decide) (fun c_6 => ?_) (fun c_6 => ?_)
  · replace h := ga_ift c_6 h
    refine lv_iconst (v := 1) hx hb dX6_play_17 (by decide) ?_
    refine lv_goto (tgt := 33) hx hb dX6_play_18 (by decide) ?_
    refine va_put hx hb hts in_X6 tyX6 tyX6_ok nmX6 hown hK.1 hP hD hS 0 (fs := mF fi fr) rfl rfl 0 (by decide) (hts _ q1512) (fun _ hh => hh) rfl (v := .int 1) rfl rfl rfl (mF_lt (by decide)) dX6_play_33 (fun H locs hP hD hS => ?_)
    rw [mS_0] at hP hD
    refine lv_aload_n hx hb dX6_play_36 rfl (lv_at hl 0 rfl) ?_
    refine va_get hx hb hts in_X6 hown hK.1 hP 0 (fs := mF (upd fi 0 1) fr) rfl rfl 0 (by decide) (hts _ q1512) (fun _ hh => hh) (v := .int 1) rfl dX6_play_37 ?_
    refine lv_if_le (tgt := 45) hx hb dX6_play_40 (by decide) (fun c_7 => absurd c_7 (by decide)) (fun _ => ?_)
    refine lv_iconst (v := 0) hx hb dX6_play_43 (by decide) ?_
    cases h
    exact W.iret hx hb hr (fun t ht hW => ⟨⟨_, _, rfl, ⟨rfl, rfl⟩, ⟨by rw [ht]; exact hP, hK.warm hW, hD⟩⟩, hS.F ht⟩) hS.2.2 dX6_play_44
  · replace h := ga_iff c_6 h
    refine lv_aload_n hx hb dX6_play_9 rfl (lv_at hl 0 rfl) ?_
    refine lv_iload_n hx hb dX6_play_10 rfl (lv_at hl 2 rfl) ?_
    obtain ⟨r_8, e_9, h⟩ := ga_gb h
    refine vp_callSi (W.runV (As := [.int x2]) (rest := [.ref b]) ⟨hx, hb, hml, hown, hts⟩ (met_X6_isChoice l D cA b fr fi fa N x2 r_8 e_9) (cwV 1 hts (lw_V q1643 q1645 qs33 q79 q1646) rfl rfl rfl (by decide +kernel) ⟨Nat.le_of_ble_eq_true rfl, Nat.le_of_ble_eq_true rfl⟩) (ga_PV hK hP (va_recv hK.1 hP (ci := 0) (q0 := 0) rfl rfl)) rfl rfl hl.1 rfl (lv_room (Nat.le_of_ble_eq_true rfl)) dX6_play_11 ⟨Nat.le_of_ble_eq_true rfl, Nat.le_of_ble_eq_true rfl⟩) (fun z_10 w_11 => ?_)
    obtain ⟨rfl, b_12⟩ := w_11
    refine lv_if_ne (tgt := 21) hx hb dX6_play_14 (by decide) (fun c_13 => ?_) (fun c_13 => ?_)
    · replace h := ga_iff c_13 h
      refine lv_aload_n hx hb dX6_play_21 rfl (lv_at hl 0 rfl) ?_
      obtain ⟨r_14, e_15, h⟩ := ga_gb h
      refine vp_callSi (W.runV (As := []) (rest := [.ref b]) ⟨hx, hb, hml, hown, hts⟩ (met_X6_over l D cA b fr fi fa N r_14 e_15) (cwV 0 hts (lw_V q1651 q1653 qs35 q79 q1654) rfl rfl rfl (by decide +kernel) ⟨Nat.le_of_ble_eq_true rfl, Nat.le_of_ble_eq_true rfl⟩) (ga_PV hK hP (va_recv hK.1 hP (ci := 0) (q0 := 0) rfl rfl)) rfl rfl hl.1 rfl (lv_room (Nat.le_of_ble_eq_true rfl)) dX6_play_22 ⟨Nat.le_of_ble_eq_true rfl, Nat.le_of_ble_eq_true rfl⟩) (fun z_16 w_17 => ?_)
      obtain ⟨rfl, b_18⟩ := w_17
      refine lv_if_eq (tgt := 32) hx hb dX6_play_25 (by decide) (fun c_19 => ?_) (fun c_19 => ?_)
      · replace h := ga_ift c_19 h
        refine lv_iconst (v := 0) hx hb dX6_play_32 (by decide) ?_
        refine va_put hx hb hts in_X6 tyX6 tyX6_ok nmX6 hown hK.1 hP hD hS 0 (fs := mF fi fr) rfl rfl 0 (by decide) (hts _ q1512) (fun _ hh => hh) rfl (v := .int 0) rfl rfl rfl (mF_lt (by decide)) dX6_play_33 (fun H locs hP hD hS => ?_)
        rw [mS_0] at hP hD
        refine lv_aload_n hx hb dX6_play_36 rfl (lv_at hl 0 rfl) ?_
        refine va_get hx hb hts in_X6 hown hK.1 hP 0 (fs := mF (upd fi 0 0) fr) rfl rfl 0 (by decide) (hts _ q1512) (fun _ hh => hh) (v := .int 0) rfl dX6_play_37 ?_
        refine lv_if_le (tgt := 45) hx hb dX6_play_40 (by decide) (fun _ => ?_) (fun c_20 => absurd (by decide) c_20)
        refine lv_aload_n hx hb dX6_play_45 rfl (lv_at hl 0 rfl) ?_
        refine lv_iload_n hx hb dX6_play_46 rfl (lv_at hl 1 rfl) ?_
        refine lv_iload_n hx hb dX6_play_47 rfl (lv_at hl 2 rfl) ?_
        obtain ⟨r_21, e_22, h⟩ := ga_gb h
        refine va_calli (va_runV (As := [.int x1, .int x2]) (rest := []) ⟨hx, hb, hml, hown, hts⟩ (met_X6_goes l D cA A b fr (upd fi 0 0) fa N x1 x2 r_21 e_22) (cwV 2 hts (lw_V q1659 q1661 qs37 q79 q1662) rfl rfl rfl (by decide +kernel) ⟨Nat.le_of_ble_eq_true rfl, Nat.le_of_ble_eq_true rfl⟩) (ga_NV hK hP hD (va_recv hK.1 hP (ci := 0) (q0 := 0) rfl rfl)) rfl rfl hl.1 rfl (lv_room (Nat.le_of_ble_eq_true rfl)) dX6_play_48 ⟨Nat.le_of_ble_eq_true rfl, Nat.le_of_ble_eq_true rfl⟩) hS (fun _ _ hq => hq) (fun _ hq => hq) (fun z_23 u t H locs ht _ w_24 hB _ _ hS => ?_)
        obtain ⟨⟨rfl, b_25⟩, rfl⟩ := w_24
        obtain ⟨hP, -, hD⟩ := hB
        rw [ht] at hP
        refine lv_if_eq (tgt := 61) hx hb dX6_play_51 (by decide) (fun c_26 => ?_) (fun c_26 => ?_)
        · replace h := ga_ift c_26 h
          refine lv_aload_n hx hb dX6_play_61 rfl (lv_at hl 0 rfl) ?_
          refine lv_iconst (v := 3) hx hb dX6_play_62 (by decide) ?_
          obtain ⟨r_27, e_28, h⟩ := ga_gb h
          refine va_calli (va_runV (As := [.int 3]) (rest := []) ⟨hx, hb, hml, hown, hts⟩ (met_X6_no l D cA A b fr r_21.2.1 r_21.2.2 N 3 r_27 e_28) (cwV 1 hts (lw_V q1726 q1728 qs52 q79 q1729) rfl rfl rfl (by decide +kernel) ⟨Nat.le_of_ble_eq_true rfl, Nat.le_of_ble_eq_true rfl⟩) (ga_NV hK hP hD (va_recv hK.1 hP (ci := 0) (q0 := 0) rfl rfl)) rfl rfl hl.1 rfl (lv_room (Nat.le_of_ble_eq_true rfl)) dX6_play_63 ⟨Nat.le_of_ble_eq_true rfl, Nat.le_of_ble_eq_true rfl⟩) hS (fun _ _ hq => hq) (fun _ hq => hq) (fun z_29 u t H locs ht _ w_30 hB _ _ hS => ?_)
          obtain ⟨rfl, rfl⟩ := w_30
          obtain ⟨hP, -, hD⟩ := hB
          rw [ht] at hP
          cases h
          exact W.iret hx hb hr (fun t ht hW => ⟨⟨_, _, rfl, ⟨rfl, rfl⟩, ⟨by rw [ht]; exact hP, hK.warm hW, hD⟩⟩, hS.F ht⟩) hS.2.2 dX6_play_66
        · replace h := ga_iff c_26 h
          refine lv_aload_n hx hb dX6_play_54 rfl (lv_at hl 0 rfl) ?_
          refine va_get hx hb hts in_X6 hown hK.1 hP 0 (fs := mF r_21.2.1 fr) rfl rfl 24 (by decide) (hts _ q1536) (fun _ hh => hh) (v := .int (r_21.2.1 24)) rfl dX6_play_55 ?_
          refine lv_goto (tgt := 66) hx hb dX6_play_58 (by decide) ?_
          cases h
          exact W.iret hx hb hr (fun t ht hW => ⟨⟨_, _, rfl, ⟨rfl, rfl⟩, ⟨by rw [ht]; exact hP, hK.warm hW, hD⟩⟩, hS.F ht⟩) hS.2.2 dX6_play_66
      · replace h := ga_iff c_19 h
        refine lv_iconst (v := 2) hx hb dX6_play_28 (by decide) ?_
        refine lv_goto (tgt := 33) hx hb dX6_play_29 (by decide) ?_
        refine va_put hx hb hts in_X6 tyX6 tyX6_ok nmX6 hown hK.1 hP hD hS 0 (fs := mF fi fr) rfl rfl 0 (by decide) (hts _ q1512) (fun _ hh => hh) rfl (v := .int 2) rfl rfl rfl (mF_lt (by decide)) dX6_play_33 (fun H locs hP hD hS => ?_)
        rw [mS_0] at hP hD
        refine lv_aload_n hx hb dX6_play_36 rfl (lv_at hl 0 rfl) ?_
        refine va_get hx hb hts in_X6 hown hK.1 hP 0 (fs := mF (upd fi 0 2) fr) rfl rfl 0 (by decide) (hts _ q1512) (fun _ hh => hh) (v := .int 2) rfl dX6_play_37 ?_
        refine lv_if_le (tgt := 45) hx hb dX6_play_40 (by decide) (fun c_32 => absurd c_32 (by decide)) (fun _ => ?_)
        refine lv_iconst (v := 0) hx hb dX6_play_43 (by decide) ?_
        cases h
        exact W.iret hx hb hr (fun t ht hW => ⟨⟨_, _, rfl, ⟨rfl, rfl⟩, ⟨by rw [ht]; exact hP, hK.warm hW, hD⟩⟩, hS.F ht⟩) hS.2.2 dX6_play_44
    · replace h := ga_ift c_13 h
      refine lv_iconst (v := 1) hx hb dX6_play_17 (by decide) ?_
      refine lv_goto (tgt := 33) hx hb dX6_play_18 (by decide) ?_
      refine va_put hx hb hts in_X6 tyX6 tyX6_ok nmX6 hown hK.1 hP hD hS 0 (fs := mF fi fr) rfl rfl 0 (by decide) (hts _ q1512) (fun _ hh => hh) rfl (v := .int 1) rfl rfl rfl (mF_lt (by decide)) dX6_play_33 (fun H locs hP hD hS => ?_)
      rw [mS_0] at hP hD
      refine lv_aload_n hx hb dX6_play_36 rfl (lv_at hl 0 rfl) ?_
      refine va_get hx hb hts in_X6 hown hK.1 hP 0 (fs := mF (upd fi 0 1) fr) rfl rfl 0 (by decide) (hts _ q1512) (fun _ hh => hh) (v := .int 1) rfl dX6_play_37 ?_
      refine lv_if_le (tgt := 45) hx hb dX6_play_40 (by decide) (fun c_33 => absurd c_33 (by decide)) (fun _ => ?_)
      refine lv_iconst (v := 0) hx hb dX6_play_43 (by decide) ?_
      cases h
      exact W.iret hx hb hr (fun t ht hW => ⟨⟨_, _, rfl, ⟨rfl, rfl⟩, ⟨by rw [ht]; exact hP, hK.warm hW, hD⟩⟩, hS.F ht⟩) hS.2.2 dX6_play_44
abbrev rm_X6_undo : Room := { frames := 1, cells := 0, slots := 0, locals := 12 }
def lp_X6_undo_43 (N : Nat) : Nat → (Nat → Int32) → (Nat → Nat → Int32) → Int32 → Int32 → Option (Int32 × ga_MS)
  | 0, _, _, _, _ => none
  | n+1, fi, fa, x1, x2 =>
    (if 155 ≤ x2 then
    some (x1, (fi, fa))
    else
    (if inb ((155 * x1) + x2) 9300 = true then
    (if inb x2 155 = true then
    lp_X6_undo_43 N n fi (va_up fa 5 (upd (fa 5) (ix x2) (fa 8 (ix ((155 * x1) + x2))))) x1 (x2 + 1)
    else none)
    else none))
set_option maxHeartbeats 4000000 in
theorem w_X6_undo_43 {p : Program} {l : Launch} {e : Env} {s : State} {m : MethodId} {args : Array Value} {below : List Frame} {meth : Method} {c : Code} {D : va_G} {cA : Nat → ClassId} {A : Nat → Prop} {b : Nat} {fr : Nat → Nat} {N : Nat} (C : ga_cx p m c meth s args RX6 cX6_undo 3 (some .int)) (hK : ga_K D cA s) {out : Int32 × ga_MS} : ∀ n : Nat, ∀ (fi : Nat → Int32) (fa : Nat → Nat → Int32) (x1 : Int32) (x2 : Int32), lp_X6_undo_43 N n fi fa x1 x2 = some out → ∀ (H : Heap) (locs : List Loc), va_P D ga_cl (mW b cA fr fi fa) H → va_D A (mW b cA fr fi fa) → va_S A s.heap H locs → ∀ ls : Array Slot, lv_has ls 3 [(0, .ref b), (1, .int x1), (2, .int x2)] → W p l e (headSpec (ws_ yX6_undo cX6_undo 3 (some .int)) rm_X6_undo).room s m args below meth c H locs 0 0 (MQ below (va_Qi (fun (r : Int32) (u : ga_MS) => (out.1 = r) ∧ out.2 = u) (ga_MB D cA A b fr) A) args s 0 0 A) (F0 m 43 ls []) := by
  have C0 := C
  obtain ⟨hx, hb, hr, hlocks, hml, hown, hts⟩ := C0
  intro n
  induction n with
  | zero =>
    intro fi fa x1 x2 h
    rw [lp_X6_undo_43.eq_1] at h
    cases h
  | succ n ih =>
    intro fi fa x1 x2 h H locs hP hD hS ls hl
    rw [lp_X6_undo_43.eq_2] at h
    refine lv_iload_n hx hb dX6_undo_43 rfl (lv_at hl 2 rfl) ?_
    refine lv_sipush (v := 155) hx hb dX6_undo_44 (by decide) ?_
    refine lv_icmp_ge (tgt := 74) hx hb dX6_undo_47 (by decide) (fun c_4 => ?_) (fun c_4 => ?_)
    · replace h := ga_ift c_4 h
      refine lv_iload_n hx hb dX6_undo_74 rfl (lv_at hl 1 rfl) ?_
      cases h
      exact W.iret hx hb hr (fun t ht hW => ⟨⟨_, _, rfl, ⟨rfl, rfl⟩, ⟨by rw [ht]; exact hP, hK.warm hW, hD⟩⟩, hS.F ht⟩) hS.2.2 dX6_undo_75
    · replace h := ga_iff c_4 h
      refine lv_aload_n hx hb dX6_undo_50 rfl (lv_at hl 0 rfl) ?_
      refine va_get hx hb hts in_X6 hown hK.1 hP 0 (fs := mF fi fr) rfl rfl 5 (by decide) (hts _ q1517) (fun _ hh => hh) (v := .ref (fr 5)) rfl dX6_undo_51 ?_
      refine lv_iload_n hx hb dX6_undo_54 rfl (lv_at hl 2 rfl) ?_
      refine lv_aload_n hx hb dX6_undo_55 rfl (lv_at hl 0 rfl) ?_
      refine va_get hx hb hts in_X6 hown hK.1 hP 0 (fs := mF fi fr) rfl rfl 8 (by decide) (hts _ q1520) (fun _ hh => hh) (v := .ref (fr 8)) rfl dX6_undo_56 ?_
      refine lv_sipush (v := 155) hx hb dX6_undo_59 (by decide) ?_
      refine lv_iload_n hx hb dX6_undo_62 rfl (lv_at hl 1 rfl) ?_
      refine lv_imul hx hb dX6_undo_63 ?_
      refine lv_iload_n hx hb dX6_undo_64 rfl (lv_at hl 2 rfl) ?_
      refine lv_iadd hx hb dX6_undo_65 ?_
      obtain ⟨i_5, h⟩ := ga_gif h
      refine va_iald hx hb hK.1 hP 5 0 (f := fa 8) rfl rfl (ga_in i_5) dX6_undo_66 ?_
      obtain ⟨i_6, h⟩ := ga_gif h
      refine va_iast hx hb hK.1 hP hD hS 2 0 (f := fa 5) rfl rfl (ga_in i_6) dX6_undo_67 (fun H locs hP hD hS => ?_)
      replace hP := ga_cg (mA_5 b cA fr fi fa (upd (fa 5) (ix x2) (fa 8 (ix ((155 * x1) + x2))))) hP
      replace hD := ga_cd (mA_5 b cA fr fi fa (upd (fa 5) (ix x2) (fa 8 (ix ((155 * x1) + x2))))) hD
      refine lv_iinc (v := (x2 + 1)) (lv' := [(2, .int (x2 + 1)), (0, .ref b), (1, .int x1)]) hx hb dX6_undo_68 hl (k := 2) rfl rfl (by decide) rfl (fun ls hl => ?_)
      refine lv_goto (tgt := 43) hx hb dX6_undo_71 (by decide) ?_
      exact ih fi (va_up fa 5 (upd (fa 5) (ix x2) (fa 8 (ix ((155 * x1) + x2))))) x1 (x2 + 1) h _ _ hP hD hS _ (lv_sub hl [1, 2, 0] rfl)
def F_X6_undo (N : Nat) (fi : Nat → Int32) (fa : Nat → Nat → Int32)  : Option (Int32 × ga_MS) :=
  (if (fa 5 (ix 153)) = 0 then
  some (0, (upd fi 0 1, fa))
  else
  lp_X6_undo_43 N N (upd fi 0 0) fa ((fa 5 (ix 153)) - 1) 0)
set_option maxHeartbeats 4000000 in
theorem met_X6_undo (l : Launch) (D : va_G) (cA : Nat → ClassId) (A : Nat → Prop) (b : Nat) (fr : Nat → Nat) (fi : Nat → Int32) (fa : Nat → Nat → Int32) (N : Nat)  (out : Int32 × ga_MS) (h : F_X6_undo N fi fa = some out) : Met l yX6_undo (ws_ yX6_undo cX6_undo 3 (some .int)) rm_X6_undo (ga_N D cA A (mW b cA fr fi fa) [.ref b]) (va_Qi (fun (r : Int32) (u : ga_MS) => (out.1 = r) ∧ out.2 = u) (ga_MB D cA A b fr) A) 0 0 A := by
  refine Met.ofW (cc := cX6_undo) (maxL := 3) (ret := (some .int)) (by decide) rfl ?_
  intro p e s m args below meth c s₁ B hml hv
  obtain ⟨rfl, hP, hK, hD⟩ := hv
  have hS : va_S A s.heap s.heap [] := va_S.rf
  have C : ga_cx p m c meth s _ RX6 cX6_undo 3 (some .int) := ga_cx_of B hml
  have C0 := C
  obtain ⟨hx, hb, hr, hlocks, hml, hown, hts⟩ := C0
  have hl := lv_entry ([.ref b]) (n := 3) (Nat.le_of_ble_eq_true rfl)
  rw [lg_entry_eq]
  generalize (lg_sl ([.ref b]) ++ List.replicate (3 - (lg_sl ([.ref b])).length) Slot.unset).toArray = ls at hl ⊢
  have hl : lv_has ls 3 [(0, .ref b)] := hl
  rw [F_X6_undo] at h
  refine lv_aload_n hx hb dX6_undo_0 rfl (lv_at hl 0 rfl) ?_
  refine lv_aload_n hx hb dX6_undo_1 rfl (lv_at hl 0 rfl) ?_
  refine va_get hx hb hts in_X6 hown hK.1 hP 0 (fs := mF fi fr) rfl rfl 5 (by decide) (hts _ q1517) (fun _ hh => hh) (v := .ref (fr 5)) rfl dX6_undo_2 ?_
  refine lv_sipush (v := 153) hx hb dX6_undo_5 (by decide) ?_
  refine va_iald hx hb hK.1 hP 2 0 (f := fa 5) rfl rfl (ga_in (by decide)) dX6_undo_8 ?_
  refine lv_if_ne (tgt := 16) hx hb dX6_undo_9 (by decide) (fun c_1 => ?_) (fun c_1 => ?_)
  · replace h := ga_iff c_1 h
    refine lv_iconst (v := 0) hx hb dX6_undo_16 (by decide) ?_
    refine va_put hx hb hts in_X6 tyX6 tyX6_ok nmX6 hown hK.1 hP hD hS 0 (fs := mF fi fr) rfl rfl 0 (by decide) (hts _ q1512) (fun _ hh => hh) rfl (v := .int 0) rfl rfl rfl (mF_lt (by decide)) dX6_undo_17 (fun H locs hP hD hS => ?_)
    rw [mS_0] at hP hD
    refine lv_aload_n hx hb dX6_undo_20 rfl (lv_at hl 0 rfl) ?_
    refine va_get hx hb hts in_X6 hown hK.1 hP 0 (fs := mF (upd fi 0 0) fr) rfl rfl 0 (by decide) (hts _ q1512) (fun _ hh => hh) (v := .int 0) rfl dX6_undo_21 ?_
    refine lv_iconst (v := 1) hx hb dX6_undo_24 (by decide) ?_
    refine lv_icmp_ne (tgt := 30) hx hb dX6_undo_25 (by decide) (fun _ => ?_) (fun c_2 => absurd c_2 (by decide))
    refine lv_aload_n hx hb dX6_undo_30 rfl (lv_at hl 0 rfl) ?_
    refine va_get hx hb hts in_X6 hown hK.1 hP 0 (fs := mF (upd fi 0 0) fr) rfl rfl 5 (by decide) (hts _ q1517) (fun _ hh => hh) (v := .ref (fr 5)) rfl dX6_undo_31 ?_
    refine lv_sipush (v := 153) hx hb dX6_undo_34 (by decide) ?_
    refine va_iald hx hb hK.1 hP 2 0 (f := fa 5) rfl rfl (ga_in (by decide)) dX6_undo_37 ?_
    refine lv_iconst (v := 1) hx hb dX6_undo_38 (by decide) ?_
    refine lv_isub hx hb dX6_undo_39 ?_
    refine lv_istore_n (lv' := [(1, .int ((fa 5 (ix 153)) - 1)), (0, .ref b)]) hx hb dX6_undo_40 rfl hl (by decide) rfl (fun ls hl => ?_)
    refine lv_iconst (v := 0) hx hb dX6_undo_41 (by decide) ?_
    refine lv_istore_n (lv' := [(2, .int 0), (1, .int ((fa 5 (ix 153)) - 1)), (0, .ref b)]) hx hb dX6_undo_42 rfl hl (by decide) rfl (fun ls hl => ?_)
    exact w_X6_undo_43 C hK N (upd fi 0 0) fa ((fa 5 (ix 153)) - 1) 0 h _ _ hP hD hS _ (lv_sub hl [2, 1, 0] rfl)
  · replace h := ga_ift c_1 h
    refine lv_iconst (v := 1) hx hb dX6_undo_12 (by decide) ?_
    refine lv_goto (tgt := 17) hx hb dX6_undo_13 (by decide) ?_
    refine va_put hx hb hts in_X6 tyX6 tyX6_ok nmX6 hown hK.1 hP hD hS 0 (fs := mF fi fr) rfl rfl 0 (by decide) (hts _ q1512) (fun _ hh => hh) rfl (v := .int 1) rfl rfl rfl (mF_lt (by decide)) dX6_undo_17 (fun H locs hP hD hS => ?_)
    rw [mS_0] at hP hD
    refine lv_aload_n hx hb dX6_undo_20 rfl (lv_at hl 0 rfl) ?_
    refine va_get hx hb hts in_X6 hown hK.1 hP 0 (fs := mF (upd fi 0 1) fr) rfl rfl 0 (by decide) (hts _ q1512) (fun _ hh => hh) (v := .int 1) rfl dX6_undo_21 ?_
    refine lv_iconst (v := 1) hx hb dX6_undo_24 (by decide) ?_
    refine lv_icmp_ne (tgt := 30) hx hb dX6_undo_25 (by decide) (fun c_3 => absurd (by decide) c_3) (fun _ => ?_)
    refine lv_iconst (v := 0) hx hb dX6_undo_28 (by decide) ?_
    cases h
    exact W.iret hx hb hr (fun t ht hW => ⟨⟨_, _, rfl, ⟨rfl, rfl⟩, ⟨by rw [ht]; exact hP, hK.warm hW, hD⟩⟩, hS.F ht⟩) hS.2.2 dX6_undo_29
abbrev rm_X6_isOver : Room := { frames := 5, cells := 0, slots := 0, locals := 95 }
def F_X6_isOver (N : Nat) (fi : Nat → Int32) (fa : Nat → Nat → Int32)  : Option (Int32 × ga_MS) :=
  ((F_X6_over N (upd fi 0 0) fa).bind fun r_1 =>
  some (r_1, (upd fi 0 0, fa)))
set_option maxHeartbeats 4000000 in
theorem met_X6_isOver (l : Launch) (D : va_G) (cA : Nat → ClassId) (A : Nat → Prop) (b : Nat) (fr : Nat → Nat) (fi : Nat → Int32) (fa : Nat → Nat → Int32) (N : Nat)  (out : Int32 × ga_MS) (h : F_X6_isOver N fi fa = some out) : Met l yX6_isOver (ws_ yX6_isOver cX6_isOver 1 (some .boolean)) rm_X6_isOver (ga_N D cA A (mW b cA fr fi fa) [.ref b]) (va_Qi (fun (r : Int32) (u : ga_MS) => (out.1 = r ∧ ga_B r) ∧ out.2 = u) (ga_MB D cA A b fr) A) 0 0 A := by
  refine Met.ofW (cc := cX6_isOver) (maxL := 1) (ret := (some .boolean)) (by decide) rfl ?_
  intro p e s m args below meth c s₁ B hml hv
  obtain ⟨rfl, hP, hK, hD⟩ := hv
  have hS : va_S A s.heap s.heap [] := va_S.rf
  have C : ga_cx p m c meth s _ RX6 cX6_isOver 1 (some .boolean) := ga_cx_of B hml
  have C0 := C
  obtain ⟨hx, hb, hr, hlocks, hml, hown, hts⟩ := C0
  have hl := lv_entry ([.ref b]) (n := 1) (Nat.le_of_ble_eq_true rfl)
  rw [lg_entry_eq]
  generalize (lg_sl ([.ref b]) ++ List.replicate (1 - (lg_sl ([.ref b])).length) Slot.unset).toArray = ls at hl ⊢
  have hl : lv_has ls 1 [(0, .ref b)] := hl
  rw [F_X6_isOver] at h
  refine lv_aload_n hx hb dX6_isOver_0 rfl (lv_at hl 0 rfl) ?_
  refine lv_iconst (v := 0) hx hb dX6_isOver_1 (by decide) ?_
  refine va_put hx hb hts in_X6 tyX6 tyX6_ok nmX6 hown hK.1 hP hD hS 0 (fs := mF fi fr) rfl rfl 0 (by decide) (hts _ q1512) (fun _ hh => hh) rfl (v := .int 0) rfl rfl rfl (mF_lt (by decide)) dX6_isOver_2 (fun H locs hP hD hS => ?_)
  rw [mS_0] at hP hD
  refine lv_aload_n hx hb dX6_isOver_5 rfl (lv_at hl 0 rfl) ?_
  obtain ⟨r_1, e_2, h⟩ := ga_gb h
  refine vp_callSi (W.runV (As := []) (rest := []) ⟨hx, hb, hml, hown, hts⟩ (met_X6_over l D cA b fr (upd fi 0 0) fa N r_1 e_2) (cwV 0 hts (lw_V q1651 q1653 qs35 q79 q1654) rfl rfl rfl (by decide +kernel) ⟨Nat.le_of_ble_eq_true rfl, Nat.le_of_ble_eq_true rfl⟩) (ga_PV hK hP (va_recv hK.1 hP (ci := 0) (q0 := 0) rfl rfl)) rfl rfl hl.1 rfl (lv_room (Nat.le_of_ble_eq_true rfl)) dX6_isOver_6 ⟨Nat.le_of_ble_eq_true rfl, Nat.le_of_ble_eq_true rfl⟩) (fun z_3 w_4 => ?_)
  obtain ⟨rfl, b_5⟩ := w_4
  cases h
  exact W.zret hx hb hr (ga_nb (b_5)) (fun t ht hW => ⟨⟨_, _, rfl, ⟨⟨rfl, b_5⟩, rfl⟩, ⟨by rw [ht]; exact hP, hK.warm hW, hD⟩⟩, hS.F ht⟩) hS.2.2 dX6_isOver_9
abbrev rm_X6_cell : Room := { frames := 2, cells := 0, slots := 0, locals := 34 }
def F_X6_cell (N : Nat) (fi : Nat → Int32) (fa : Nat → Nat → Int32) (x1 : Int32) (x2 : Int32) : Option (Int32 × ga_MS) :=
  ((F_X6_isIn N x1 0 ((fi 1) - 1)).bind fun r_1 =>
  (if r_1 = 0 then
  some (0, (upd fi 0 1, fa))
  else
  ((F_X6_isIn N x2 0 ((fi 2) - 1)).bind fun r_8 =>
  (if r_8 = 0 then
  some (0, (upd fi 0 1, fa))
  else
  (if inb ((x2 * (fi 1)) + x1) 155 = true then
  some ((fa 5 (ix ((x2 * (fi 1)) + x1))), (upd fi 0 0, fa))
  else none)))))
set_option maxHeartbeats 4000000 in
theorem met_X6_cell (l : Launch) (D : va_G) (cA : Nat → ClassId) (A : Nat → Prop) (b : Nat) (fr : Nat → Nat) (fi : Nat → Int32) (fa : Nat → Nat → Int32) (N : Nat) (x1 : Int32) (x2 : Int32) (out : Int32 × ga_MS) (h : F_X6_cell N fi fa x1 x2 = some out) : Met l yX6_cell (ws_ yX6_cell cX6_cell 3 (some .int)) rm_X6_cell (ga_N D cA A (mW b cA fr fi fa) [.ref b, .int x1, .int x2]) (va_Qi (fun (r : Int32) (u : ga_MS) => (out.1 = r) ∧ out.2 = u) (ga_MB D cA A b fr) A) 0 0 A := by
  refine Met.ofW (cc := cX6_cell) (maxL := 3) (ret := (some .int)) (by decide) rfl ?_
  intro p e s m args below meth c s₁ B hml hv
  obtain ⟨rfl, hP, hK, hD⟩ := hv
  have hS : va_S A s.heap s.heap [] := va_S.rf
  have C : ga_cx p m c meth s _ RX6 cX6_cell 3 (some .int) := ga_cx_of B hml
  have C0 := C
  obtain ⟨hx, hb, hr, hlocks, hml, hown, hts⟩ := C0
  have hl := lv_entry ([.ref b, .int x1, .int x2]) (n := 3) (Nat.le_of_ble_eq_true rfl)
  rw [lg_entry_eq]
  generalize (lg_sl ([.ref b, .int x1, .int x2]) ++ List.replicate (3 - (lg_sl ([.ref b, .int x1, .int x2])).length) Slot.unset).toArray = ls at hl ⊢
  have hl : lv_has ls 3 [(0, .ref b), (1, .int x1), (2, .int x2)] := hl
  rw [F_X6_cell] at h
  refine lv_aload_n hx hb dX6_cell_0 rfl (lv_at hl 0 rfl) ?_
  refine lv_iload_n hx hb dX6_cell_1 rfl (lv_at hl 1 rfl) ?_
  refine lv_iconst (v := 0) hx hb dX6_cell_2 (by decide) ?_
  refine lv_aload_n hx hb dX6_cell_3 rfl (lv_at hl 0 rfl) ?_
  refine va_get hx hb hts in_X6 hown hK.1 hP 0 (fs := mF fi fr) rfl rfl 1 (by decide) (hts _ q1513) (fun _ hh => hh) (v := .int (fi 1)) rfl dX6_cell_4 ?_
  refine lv_iconst (v := 1) hx hb dX6_cell_7 (by decide) ?_
  refine lv_isub hx hb dX6_cell_8 ?_
  obtain ⟨r_1, e_2, h⟩ := ga_gb h
  refine vp_callSi (W.runS (As := [.int x1, .int 0, .int ((fi 1) - 1)]) (rest := [.ref b]) ⟨hx, hb, hml, hown, hts⟩ (met_X6_isIn l D cA N x1 0 ((fi 1) - 1) r_1 e_2) (va_cwS 3 hts (lw_S q1620 q1621 q79 q1622) rfl rfl rfl (by decide +kernel) ⟨Nat.le_of_ble_eq_true rfl, Nat.le_of_ble_eq_true rfl⟩) (ga_PS hK ga_P0) rfl rfl hl.1 rfl (lv_room (Nat.le_of_ble_eq_true rfl)) dX6_cell_9 ⟨Nat.le_of_ble_eq_true rfl, Nat.le_of_ble_eq_true rfl⟩) (fun z_3 w_4 => ?_)
  obtain ⟨rfl, b_5⟩ := w_4
  refine lv_if_eq (tgt := 33) hx hb dX6_cell_12 (by decide) (fun c_6 => ?_) (fun c_6 => ?_)
  · replace h := ga_ift c_6 h
    refine lv_iconst (v := 1) hx hb dX6_cell_33 (by decide) ?_
    refine va_put hx hb hts in_X6 tyX6 tyX6_ok nmX6 hown hK.1 hP hD hS 0 (fs := mF fi fr) rfl rfl 0 (by decide) (hts _ q1512) (fun _ hh => hh) rfl (v := .int 1) rfl rfl rfl (mF_lt (by decide)) dX6_cell_34 (fun H locs hP hD hS => ?_)
    rw [mS_0] at hP hD
    refine lv_aload_n hx hb dX6_cell_37 rfl (lv_at hl 0 rfl) ?_
    refine va_get hx hb hts in_X6 hown hK.1 hP 0 (fs := mF (upd fi 0 1) fr) rfl rfl 0 (by decide) (hts _ q1512) (fun _ hh => hh) (v := .int 1) rfl dX6_cell_38 ?_
    refine lv_if_ne (tgt := 60) hx hb dX6_cell_41 (by decide) (fun _ => ?_) (fun c_7 => absurd c_7 (by decide))
    refine lv_iconst (v := 0) hx hb dX6_cell_60 (by decide) ?_
    cases h
    exact W.iret hx hb hr (fun t ht hW => ⟨⟨_, _, rfl, ⟨rfl, rfl⟩, ⟨by rw [ht]; exact hP, hK.warm hW, hD⟩⟩, hS.F ht⟩) hS.2.2 dX6_cell_61
  · replace h := ga_iff c_6 h
    refine lv_iload_n hx hb dX6_cell_15 rfl (lv_at hl 2 rfl) ?_
    refine lv_iconst (v := 0) hx hb dX6_cell_16 (by decide) ?_
    refine lv_aload_n hx hb dX6_cell_17 rfl (lv_at hl 0 rfl) ?_
    refine va_get hx hb hts in_X6 hown hK.1 hP 0 (fs := mF fi fr) rfl rfl 2 (by decide) (hts _ q1514) (fun _ hh => hh) (v := .int (fi 2)) rfl dX6_cell_18 ?_
    refine lv_iconst (v := 1) hx hb dX6_cell_21 (by decide) ?_
    refine lv_isub hx hb dX6_cell_22 ?_
    obtain ⟨r_8, e_9, h⟩ := ga_gb h
    refine vp_callSi (W.runS (As := [.int x2, .int 0, .int ((fi 2) - 1)]) (rest := [.ref b]) ⟨hx, hb, hml, hown, hts⟩ (met_X6_isIn l D cA N x2 0 ((fi 2) - 1) r_8 e_9) (va_cwS 3 hts (lw_S q1620 q1621 q79 q1622) rfl rfl rfl (by decide +kernel) ⟨Nat.le_of_ble_eq_true rfl, Nat.le_of_ble_eq_true rfl⟩) (ga_PS hK ga_P0) rfl rfl hl.1 rfl (lv_room (Nat.le_of_ble_eq_true rfl)) dX6_cell_23 ⟨Nat.le_of_ble_eq_true rfl, Nat.le_of_ble_eq_true rfl⟩) (fun z_10 w_11 => ?_)
    obtain ⟨rfl, b_12⟩ := w_11
    refine lv_if_eq (tgt := 33) hx hb dX6_cell_26 (by decide) (fun c_13 => ?_) (fun c_13 => ?_)
    · replace h := ga_ift c_13 h
      refine lv_iconst (v := 1) hx hb dX6_cell_33 (by decide) ?_
      refine va_put hx hb hts in_X6 tyX6 tyX6_ok nmX6 hown hK.1 hP hD hS 0 (fs := mF fi fr) rfl rfl 0 (by decide) (hts _ q1512) (fun _ hh => hh) rfl (v := .int 1) rfl rfl rfl (mF_lt (by decide)) dX6_cell_34 (fun H locs hP hD hS => ?_)
      rw [mS_0] at hP hD
      refine lv_aload_n hx hb dX6_cell_37 rfl (lv_at hl 0 rfl) ?_
      refine va_get hx hb hts in_X6 hown hK.1 hP 0 (fs := mF (upd fi 0 1) fr) rfl rfl 0 (by decide) (hts _ q1512) (fun _ hh => hh) (v := .int 1) rfl dX6_cell_38 ?_
      refine lv_if_ne (tgt := 60) hx hb dX6_cell_41 (by decide) (fun _ => ?_) (fun c_14 => absurd c_14 (by decide))
      refine lv_iconst (v := 0) hx hb dX6_cell_60 (by decide) ?_
      cases h
      exact W.iret hx hb hr (fun t ht hW => ⟨⟨_, _, rfl, ⟨rfl, rfl⟩, ⟨by rw [ht]; exact hP, hK.warm hW, hD⟩⟩, hS.F ht⟩) hS.2.2 dX6_cell_61
    · replace h := ga_iff c_13 h
      refine lv_iconst (v := 0) hx hb dX6_cell_29 (by decide) ?_
      refine lv_goto (tgt := 34) hx hb dX6_cell_30 (by decide) ?_
      refine va_put hx hb hts in_X6 tyX6 tyX6_ok nmX6 hown hK.1 hP hD hS 0 (fs := mF fi fr) rfl rfl 0 (by decide) (hts _ q1512) (fun _ hh => hh) rfl (v := .int 0) rfl rfl rfl (mF_lt (by decide)) dX6_cell_34 (fun H locs hP hD hS => ?_)
      rw [mS_0] at hP hD
      refine lv_aload_n hx hb dX6_cell_37 rfl (lv_at hl 0 rfl) ?_
      refine va_get hx hb hts in_X6 hown hK.1 hP 0 (fs := mF (upd fi 0 0) fr) rfl rfl 0 (by decide) (hts _ q1512) (fun _ hh => hh) (v := .int 0) rfl dX6_cell_38 ?_
      refine lv_if_ne (tgt := 60) hx hb dX6_cell_41 (by decide) (fun c_15 => absurd (by decide) c_15) (fun _ => ?_)
      refine lv_aload_n hx hb dX6_cell_44 rfl (lv_at hl 0 rfl) ?_
      refine va_get hx hb hts in_X6 hown hK.1 hP 0 (fs := mF (upd fi 0 0) fr) rfl rfl 5 (by decide) (hts _ q1517) (fun _ hh => hh) (v := .ref (fr 5)) rfl dX6_cell_45 ?_
      refine lv_iload_n hx hb dX6_cell_48 rfl (lv_at hl 2 rfl) ?_
      refine lv_aload_n hx hb dX6_cell_49 rfl (lv_at hl 0 rfl) ?_
      refine va_get hx hb hts in_X6 hown hK.1 hP 0 (fs := mF (upd fi 0 0) fr) rfl rfl 1 (by decide) (hts _ q1513) (fun _ hh => hh) (v := .int (fi 1)) rfl dX6_cell_50 ?_
      refine lv_imul hx hb dX6_cell_53 ?_
      refine lv_iload_n hx hb dX6_cell_54 rfl (lv_at hl 1 rfl) ?_
      refine lv_iadd hx hb dX6_cell_55 ?_
      obtain ⟨i_16, h⟩ := ga_gif h
      refine va_iald hx hb hK.1 hP 2 0 (f := fa 5) rfl rfl (ga_in i_16) dX6_cell_56 ?_
      refine lv_goto (tgt := 61) hx hb dX6_cell_57 (by decide) ?_
      cases h
      exact W.iret hx hb hr (fun t ht hW => ⟨⟨_, _, rfl, ⟨rfl, rfl⟩, ⟨by rw [ht]; exact hP, hK.warm hW, hD⟩⟩, hS.F ht⟩) hS.2.2 dX6_cell_61
abbrev rm_X6_since : Room := { frames := 3, cells := 0, slots := 0, locals := 55 }
def F_X6_since (N : Nat) (fi : Nat → Int32) (fa : Nat → Nat → Int32) (x1 : Int32) (x2 : Int32) : Option (Int32 × ga_MS) :=
  ((F_X6_isCell N fi fa x1).bind fun r_1 =>
  (if r_1 = 0 then
  some (0, (upd fi 0 1, fa))
  else
  ((F_X6_isIn N x2 0 1).bind fun r_7 =>
  (if r_7 = 0 then
  some (0, (upd fi 0 2, fa))
  else
  (if x2 = 0 then
  (if inb (49 + x1) 155 = true then
  some ((fa 5 (ix (49 + x1))), (upd fi 0 0, fa))
  else none)
  else
  (if inb (98 + x1) 155 = true then
  some ((fa 5 (ix (98 + x1))), (upd fi 0 0, fa))
  else none))))))
set_option maxHeartbeats 4000000 in
theorem met_X6_since (l : Launch) (D : va_G) (cA : Nat → ClassId) (A : Nat → Prop) (b : Nat) (fr : Nat → Nat) (fi : Nat → Int32) (fa : Nat → Nat → Int32) (N : Nat) (x1 : Int32) (x2 : Int32) (out : Int32 × ga_MS) (h : F_X6_since N fi fa x1 x2 = some out) : Met l yX6_since (ws_ yX6_since cX6_since 3 (some .int)) rm_X6_since (ga_N D cA A (mW b cA fr fi fa) [.ref b, .int x1, .int x2]) (va_Qi (fun (r : Int32) (u : ga_MS) => (out.1 = r) ∧ out.2 = u) (ga_MB D cA A b fr) A) 0 0 A := by
  refine Met.ofW (cc := cX6_since) (maxL := 3) (ret := (some .int)) (by decide) rfl ?_
  intro p e s m args below meth c s₁ B hml hv
  obtain ⟨rfl, hP, hK, hD⟩ := hv
  have hS : va_S A s.heap s.heap [] := va_S.rf
  have C : ga_cx p m c meth s _ RX6 cX6_since 3 (some .int) := ga_cx_of B hml
  have C0 := C
  obtain ⟨hx, hb, hr, hlocks, hml, hown, hts⟩ := C0
  have hl := lv_entry ([.ref b, .int x1, .int x2]) (n := 3) (Nat.le_of_ble_eq_true rfl)
  rw [lg_entry_eq]
  generalize (lg_sl ([.ref b, .int x1, .int x2]) ++ List.replicate (3 - (lg_sl ([.ref b, .int x1, .int x2])).length) Slot.unset).toArray = ls at hl ⊢
  have hl : lv_has ls 3 [(0, .ref b), (1, .int x1), (2, .int x2)] := hl
  rw [F_X6_since] at h
  refine lv_aload_n hx hb dX6_since_0 rfl (lv_at hl 0 rfl) ?_
  refine lv_aload_n hx hb dX6_since_1 rfl (lv_at hl 0 rfl) ?_
  refine lv_iload_n hx hb dX6_since_2 rfl (lv_at hl 1 rfl) ?_
  obtain ⟨r_1, e_2, h⟩ := ga_gb h
  refine vp_callSi (W.runV (As := [.int x1]) (rest := [.ref b]) ⟨hx, hb, hml, hown, hts⟩ (met_X6_isCell l D cA b fr fi fa N x1 r_1 e_2) (cwV 1 hts (lw_V q1647 q1649 qs34 q79 q1650) rfl rfl rfl (by decide +kernel) ⟨Nat.le_of_ble_eq_true rfl, Nat.le_of_ble_eq_true rfl⟩) (ga_PV hK hP (va_recv hK.1 hP (ci := 0) (q0 := 0) rfl rfl)) rfl rfl hl.1 rfl (lv_room (Nat.le_of_ble_eq_true rfl)) dX6_since_3 ⟨Nat.le_of_ble_eq_true rfl, Nat.le_of_ble_eq_true rfl⟩) (fun z_3 w_4 => ?_)
  obtain ⟨rfl, b_5⟩ := w_4
  refine lv_if_ne (tgt := 13) hx hb dX6_since_6 (by decide) (fun c_6 => ?_) (fun c_6 => ?_)
  · replace h := ga_iff c_6 h
    refine lv_iload_n hx hb dX6_since_13 rfl (lv_at hl 2 rfl) ?_
    refine lv_iconst (v := 0) hx hb dX6_since_14 (by decide) ?_
    refine lv_iconst (v := 1) hx hb dX6_since_15 (by decide) ?_
    obtain ⟨r_7, e_8, h⟩ := ga_gb h
    refine vp_callSi (W.runS (As := [.int x2, .int 0, .int 1]) (rest := [.ref b]) ⟨hx, hb, hml, hown, hts⟩ (met_X6_isIn l D cA N x2 0 1 r_7 e_8) (va_cwS 3 hts (lw_S q1620 q1621 q79 q1622) rfl rfl rfl (by decide +kernel) ⟨Nat.le_of_ble_eq_true rfl, Nat.le_of_ble_eq_true rfl⟩) (ga_PS hK ga_P0) rfl rfl hl.1 rfl (lv_room (Nat.le_of_ble_eq_true rfl)) dX6_since_16 ⟨Nat.le_of_ble_eq_true rfl, Nat.le_of_ble_eq_true rfl⟩) (fun z_9 w_10 => ?_)
    obtain ⟨rfl, b_11⟩ := w_10
    refine lv_if_ne (tgt := 26) hx hb dX6_since_19 (by decide) (fun c_12 => ?_) (fun c_12 => ?_)
    · replace h := ga_iff c_12 h
      refine lv_iconst (v := 0) hx hb dX6_since_26 (by decide) ?_
      refine va_put hx hb hts in_X6 tyX6 tyX6_ok nmX6 hown hK.1 hP hD hS 0 (fs := mF fi fr) rfl rfl 0 (by decide) (hts _ q1512) (fun _ hh => hh) rfl (v := .int 0) rfl rfl rfl (mF_lt (by decide)) dX6_since_27 (fun H locs hP hD hS => ?_)
      rw [mS_0] at hP hD
      refine lv_aload_n hx hb dX6_since_30 rfl (lv_at hl 0 rfl) ?_
      refine va_get hx hb hts in_X6 hown hK.1 hP 0 (fs := mF (upd fi 0 0) fr) rfl rfl 0 (by decide) (hts _ q1512) (fun _ hh => hh) (v := .int 0) rfl dX6_since_31 ?_
      refine lv_if_ne (tgt := 58) hx hb dX6_since_34 (by decide) (fun c_13 => absurd (by decide) c_13) (fun _ => ?_)
      refine lv_aload_n hx hb dX6_since_37 rfl (lv_at hl 0 rfl) ?_
      refine va_get hx hb hts in_X6 hown hK.1 hP 0 (fs := mF (upd fi 0 0) fr) rfl rfl 5 (by decide) (hts _ q1517) (fun _ hh => hh) (v := .ref (fr 5)) rfl dX6_since_38 ?_
      refine lv_iload_n hx hb dX6_since_41 rfl (lv_at hl 2 rfl) ?_
      refine lv_if_ne (tgt := 50) hx hb dX6_since_42 (by decide) (fun c_14 => ?_) (fun c_14 => ?_)
      · replace h := ga_iff c_14 h
        refine lv_bipush (v := 98) hx hb dX6_since_50 (by decide) ?_
        refine lv_iload_n hx hb dX6_since_52 rfl (lv_at hl 1 rfl) ?_
        refine lv_iadd hx hb dX6_since_53 ?_
        obtain ⟨i_15, h⟩ := ga_gif h
        refine va_iald hx hb hK.1 hP 2 0 (f := fa 5) rfl rfl (ga_in i_15) dX6_since_54 ?_
        refine lv_goto (tgt := 59) hx hb dX6_since_55 (by decide) ?_
        cases h
        exact W.iret hx hb hr (fun t ht hW => ⟨⟨_, _, rfl, ⟨rfl, rfl⟩, ⟨by rw [ht]; exact hP, hK.warm hW, hD⟩⟩, hS.F ht⟩) hS.2.2 dX6_since_59
      · replace h := ga_ift c_14 h
        refine lv_bipush (v := 49) hx hb dX6_since_45 (by decide) ?_
        refine lv_goto (tgt := 52) hx hb dX6_since_47 (by decide) ?_
        refine lv_iload_n hx hb dX6_since_52 rfl (lv_at hl 1 rfl) ?_
        refine lv_iadd hx hb dX6_since_53 ?_
        obtain ⟨i_16, h⟩ := ga_gif h
        refine va_iald hx hb hK.1 hP 2 0 (f := fa 5) rfl rfl (ga_in i_16) dX6_since_54 ?_
        refine lv_goto (tgt := 59) hx hb dX6_since_55 (by decide) ?_
        cases h
        exact W.iret hx hb hr (fun t ht hW => ⟨⟨_, _, rfl, ⟨rfl, rfl⟩, ⟨by rw [ht]; exact hP, hK.warm hW, hD⟩⟩, hS.F ht⟩) hS.2.2 dX6_since_59
    · replace h := ga_ift c_12 h
      refine lv_iconst (v := 2) hx hb dX6_since_22 (by decide) ?_
      refine lv_goto (tgt := 27) hx hb dX6_since_23 (by decide) ?_
      refine va_put hx hb hts in_X6 tyX6 tyX6_ok nmX6 hown hK.1 hP hD hS 0 (fs := mF fi fr) rfl rfl 0 (by decide) (hts _ q1512) (fun _ hh => hh) rfl (v := .int 2) rfl rfl rfl (mF_lt (by decide)) dX6_since_27 (fun H locs hP hD hS => ?_)
      rw [mS_0] at hP hD
      refine lv_aload_n hx hb dX6_since_30 rfl (lv_at hl 0 rfl) ?_
      refine va_get hx hb hts in_X6 hown hK.1 hP 0 (fs := mF (upd fi 0 2) fr) rfl rfl 0 (by decide) (hts _ q1512) (fun _ hh => hh) (v := .int 2) rfl dX6_since_31 ?_
      refine lv_if_ne (tgt := 58) hx hb dX6_since_34 (by decide) (fun _ => ?_) (fun c_17 => absurd c_17 (by decide))
      refine lv_iconst (v := 0) hx hb dX6_since_58 (by decide) ?_
      cases h
      exact W.iret hx hb hr (fun t ht hW => ⟨⟨_, _, rfl, ⟨rfl, rfl⟩, ⟨by rw [ht]; exact hP, hK.warm hW, hD⟩⟩, hS.F ht⟩) hS.2.2 dX6_since_59
  · replace h := ga_ift c_6 h
    refine lv_iconst (v := 1) hx hb dX6_since_9 (by decide) ?_
    refine lv_goto (tgt := 27) hx hb dX6_since_10 (by decide) ?_
    refine va_put hx hb hts in_X6 tyX6 tyX6_ok nmX6 hown hK.1 hP hD hS 0 (fs := mF fi fr) rfl rfl 0 (by decide) (hts _ q1512) (fun _ hh => hh) rfl (v := .int 1) rfl rfl rfl (mF_lt (by decide)) dX6_since_27 (fun H locs hP hD hS => ?_)
    rw [mS_0] at hP hD
    refine lv_aload_n hx hb dX6_since_30 rfl (lv_at hl 0 rfl) ?_
    refine va_get hx hb hts in_X6 hown hK.1 hP 0 (fs := mF (upd fi 0 1) fr) rfl rfl 0 (by decide) (hts _ q1512) (fun _ hh => hh) (v := .int 1) rfl dX6_since_31 ?_
    refine lv_if_ne (tgt := 58) hx hb dX6_since_34 (by decide) (fun _ => ?_) (fun c_18 => absurd c_18 (by decide))
    refine lv_iconst (v := 0) hx hb dX6_since_58 (by decide) ?_
    cases h
    exact W.iret hx hb hr (fun t ht hW => ⟨⟨_, _, rfl, ⟨rfl, rfl⟩, ⟨by rw [ht]; exact hP, hK.warm hW, hD⟩⟩, hS.F ht⟩) hS.2.2 dX6_since_59
abbrev rm_X6_count : Room := { frames := 4, cells := 0, slots := 0, locals := 75 }
def F_X6_count (N : Nat) (fi : Nat → Int32) (fa : Nat → Nat → Int32) (x1 : Int32) : Option (Int32 × ga_MS) :=
  ((F_X6_isIn N x1 0 6).bind fun r_1 =>
  (if r_1 = 0 then
  some (0, (upd fi 0 1, fa))
  else
  (if x1 = 0 then
  some ((fa 5 (ix 153)), (upd fi 0 0, fa))
  else
  (if x1 = 1 then
  some ((fi 1), (upd fi 0 0, fa))
  else
  (if x1 = 2 then
  some ((fi 2), (upd fi 0 0, fa))
  else
  (if x1 = 3 then
  ((F_X6_emptyCells N (upd fi 0 0) fa).bind fun r_13 =>
  some (r_13, (upd fi 0 0, fa)))
  else
  (if x1 = 4 then
  ((F_X6_many N (upd fi 0 0) fa 5).bind fun r_18 =>
  some (r_18, (upd fi 0 0, fa)))
  else
  (if x1 = 5 then
  some ((fa 5 (ix 151)), (upd fi 0 0, fa))
  else
  some ((fa 5 (ix 152)), (upd fi 0 0, fa))))))))))
set_option maxHeartbeats 4000000 in
theorem met_X6_count (l : Launch) (D : va_G) (cA : Nat → ClassId) (A : Nat → Prop) (b : Nat) (fr : Nat → Nat) (fi : Nat → Int32) (fa : Nat → Nat → Int32) (N : Nat) (x1 : Int32) (out : Int32 × ga_MS) (h : F_X6_count N fi fa x1 = some out) : Met l yX6_count (ws_ yX6_count cX6_count 2 (some .int)) rm_X6_count (ga_N D cA A (mW b cA fr fi fa) [.ref b, .int x1]) (va_Qi (fun (r : Int32) (u : ga_MS) => (out.1 = r) ∧ out.2 = u) (ga_MB D cA A b fr) A) 0 0 A := by
  refine Met.ofW (cc := cX6_count) (maxL := 2) (ret := (some .int)) (by decide) rfl ?_
  intro p e s m args below meth c s₁ B hml hv
  obtain ⟨rfl, hP, hK, hD⟩ := hv
  have hS : va_S A s.heap s.heap [] := va_S.rf
  have C : ga_cx p m c meth s _ RX6 cX6_count 2 (some .int) := ga_cx_of B hml
  have C0 := C
  obtain ⟨hx, hb, hr, hlocks, hml, hown, hts⟩ := C0
  have hl := lv_entry ([.ref b, .int x1]) (n := 2) (Nat.le_of_ble_eq_true rfl)
  rw [lg_entry_eq]
  generalize (lg_sl ([.ref b, .int x1]) ++ List.replicate (2 - (lg_sl ([.ref b, .int x1])).length) Slot.unset).toArray = ls at hl ⊢
  have hl : lv_has ls 2 [(0, .ref b), (1, .int x1)] := hl
  rw [F_X6_count] at h
  refine lv_aload_n hx hb dX6_count_0 rfl (lv_at hl 0 rfl) ?_
  refine lv_iload_n hx hb dX6_count_1 rfl (lv_at hl 1 rfl) ?_
  refine lv_iconst (v := 0) hx hb dX6_count_2 (by decide) ?_
  refine lv_bipush (v := 6) hx hb dX6_count_3 (by decide) ?_
  obtain ⟨r_1, e_2, h⟩ := ga_gb h
  refine vp_callSi (W.runS (As := [.int x1, .int 0, .int 6]) (rest := [.ref b]) ⟨hx, hb, hml, hown, hts⟩ (met_X6_isIn l D cA N x1 0 6 r_1 e_2) (va_cwS 3 hts (lw_S q1620 q1621 q79 q1622) rfl rfl rfl (by decide +kernel) ⟨Nat.le_of_ble_eq_true rfl, Nat.le_of_ble_eq_true rfl⟩) (ga_PS hK ga_P0) rfl rfl hl.1 rfl (lv_room (Nat.le_of_ble_eq_true rfl)) dX6_count_5 ⟨Nat.le_of_ble_eq_true rfl, Nat.le_of_ble_eq_true rfl⟩) (fun z_3 w_4 => ?_)
  obtain ⟨rfl, b_5⟩ := w_4
  refine lv_if_eq (tgt := 15) hx hb dX6_count_8 (by decide) (fun c_6 => ?_) (fun c_6 => ?_)
  · replace h := ga_ift c_6 h
    refine lv_iconst (v := 1) hx hb dX6_count_15 (by decide) ?_
    refine va_put hx hb hts in_X6 tyX6 tyX6_ok nmX6 hown hK.1 hP hD hS 0 (fs := mF fi fr) rfl rfl 0 (by decide) (hts _ q1512) (fun _ hh => hh) rfl (v := .int 1) rfl rfl rfl (mF_lt (by decide)) dX6_count_16 (fun H locs hP hD hS => ?_)
    rw [mS_0] at hP hD
    refine lv_aload_n hx hb dX6_count_19 rfl (lv_at hl 0 rfl) ?_
    refine va_get hx hb hts in_X6 hown hK.1 hP 0 (fs := mF (upd fi 0 1) fr) rfl rfl 0 (by decide) (hts _ q1512) (fun _ hh => hh) (v := .int 1) rfl dX6_count_20 ?_
    refine lv_iconst (v := 1) hx hb dX6_count_23 (by decide) ?_
    refine lv_icmp_ne (tgt := 29) hx hb dX6_count_24 (by decide) (fun c_7 => absurd (by decide) c_7) (fun _ => ?_)
    refine lv_iconst (v := 0) hx hb dX6_count_27 (by decide) ?_
    cases h
    exact W.iret hx hb hr (fun t ht hW => ⟨⟨_, _, rfl, ⟨rfl, rfl⟩, ⟨by rw [ht]; exact hP, hK.warm hW, hD⟩⟩, hS.F ht⟩) hS.2.2 dX6_count_28
  · replace h := ga_iff c_6 h
    refine lv_iconst (v := 0) hx hb dX6_count_11 (by decide) ?_
    refine lv_goto (tgt := 16) hx hb dX6_count_12 (by decide) ?_
    refine va_put hx hb hts in_X6 tyX6 tyX6_ok nmX6 hown hK.1 hP hD hS 0 (fs := mF fi fr) rfl rfl 0 (by decide) (hts _ q1512) (fun _ hh => hh) rfl (v := .int 0) rfl rfl rfl (mF_lt (by decide)) dX6_count_16 (fun H locs hP hD hS => ?_)
    rw [mS_0] at hP hD
    refine lv_aload_n hx hb dX6_count_19 rfl (lv_at hl 0 rfl) ?_
    refine va_get hx hb hts in_X6 hown hK.1 hP 0 (fs := mF (upd fi 0 0) fr) rfl rfl 0 (by decide) (hts _ q1512) (fun _ hh => hh) (v := .int 0) rfl dX6_count_20 ?_
    refine lv_iconst (v := 1) hx hb dX6_count_23 (by decide) ?_
    refine lv_icmp_ne (tgt := 29) hx hb dX6_count_24 (by decide) (fun _ => ?_) (fun c_8 => absurd c_8 (by decide))
    refine lv_iload_n hx hb dX6_count_29 rfl (lv_at hl 1 rfl) ?_
    by_cases c_9 : x1 = 0
    · replace h := ga_ift c_9 h
      refine lv_tableIn (off := 38) (tgt := 68) hx hb dX6_count_30 (by rw [c_9]; decide) (by rw [c_9]; decide) (by rw [c_9]; rfl) (by decide) ?_
      refine lv_aload_n hx hb dX6_count_68 rfl (lv_at hl 0 rfl) ?_
      refine va_get hx hb hts in_X6 hown hK.1 hP 0 (fs := mF (upd fi 0 0) fr) rfl rfl 5 (by decide) (hts _ q1517) (fun _ hh => hh) (v := .ref (fr 5)) rfl dX6_count_69 ?_
      refine lv_sipush (v := 153) hx hb dX6_count_72 (by decide) ?_
      refine va_iald hx hb hK.1 hP 2 0 (f := fa 5) rfl rfl (ga_in (by decide)) dX6_count_75 ?_
      cases h
      exact W.iret hx hb hr (fun t ht hW => ⟨⟨_, _, rfl, ⟨rfl, rfl⟩, ⟨by rw [ht]; exact hP, hK.warm hW, hD⟩⟩, hS.F ht⟩) hS.2.2 dX6_count_76
    · replace h := ga_iff c_9 h
      by_cases c_10 : x1 = 1
      · replace h := ga_ift c_10 h
        refine lv_tableIn (off := 47) (tgt := 77) hx hb dX6_count_30 (by rw [c_10]; decide) (by rw [c_10]; decide) (by rw [c_10]; rfl) (by decide) ?_
        refine lv_aload_n hx hb dX6_count_77 rfl (lv_at hl 0 rfl) ?_
        refine va_get hx hb hts in_X6 hown hK.1 hP 0 (fs := mF (upd fi 0 0) fr) rfl rfl 1 (by decide) (hts _ q1513) (fun _ hh => hh) (v := .int (fi 1)) rfl dX6_count_78 ?_
        cases h
        exact W.iret hx hb hr (fun t ht hW => ⟨⟨_, _, rfl, ⟨rfl, rfl⟩, ⟨by rw [ht]; exact hP, hK.warm hW, hD⟩⟩, hS.F ht⟩) hS.2.2 dX6_count_81
      · replace h := ga_iff c_10 h
        by_cases c_11 : x1 = 2
        · replace h := ga_ift c_11 h
          refine lv_tableIn (off := 52) (tgt := 82) hx hb dX6_count_30 (by rw [c_11]; decide) (by rw [c_11]; decide) (by rw [c_11]; rfl) (by decide) ?_
          refine lv_aload_n hx hb dX6_count_82 rfl (lv_at hl 0 rfl) ?_
          refine va_get hx hb hts in_X6 hown hK.1 hP 0 (fs := mF (upd fi 0 0) fr) rfl rfl 2 (by decide) (hts _ q1514) (fun _ hh => hh) (v := .int (fi 2)) rfl dX6_count_83 ?_
          cases h
          exact W.iret hx hb hr (fun t ht hW => ⟨⟨_, _, rfl, ⟨rfl, rfl⟩, ⟨by rw [ht]; exact hP, hK.warm hW, hD⟩⟩, hS.F ht⟩) hS.2.2 dX6_count_86
        · replace h := ga_iff c_11 h
          by_cases c_12 : x1 = 3
          · replace h := ga_ift c_12 h
            refine lv_tableIn (off := 57) (tgt := 87) hx hb dX6_count_30 (by rw [c_12]; decide) (by rw [c_12]; decide) (by rw [c_12]; rfl) (by decide) ?_
            refine lv_aload_n hx hb dX6_count_87 rfl (lv_at hl 0 rfl) ?_
            obtain ⟨r_13, e_14, h⟩ := ga_gb h
            refine vp_callSi (W.runV (As := []) (rest := []) ⟨hx, hb, hml, hown, hts⟩ (met_X6_emptyCells l D cA b fr (upd fi 0 0) fa N r_13 e_14) (cwV 0 hts (lw_V q1655 q1657 qs36 q79 q1658) rfl rfl rfl (by decide +kernel) ⟨Nat.le_of_ble_eq_true rfl, Nat.le_of_ble_eq_true rfl⟩) (ga_PV hK hP (va_recv hK.1 hP (ci := 0) (q0 := 0) rfl rfl)) rfl rfl hl.1 rfl (lv_room (Nat.le_of_ble_eq_true rfl)) dX6_count_88 ⟨Nat.le_of_ble_eq_true rfl, Nat.le_of_ble_eq_true rfl⟩) (fun z_15 w_16 => ?_)
            obtain rfl := w_16
            cases h
            exact W.iret hx hb hr (fun t ht hW => ⟨⟨_, _, rfl, ⟨rfl, rfl⟩, ⟨by rw [ht]; exact hP, hK.warm hW, hD⟩⟩, hS.F ht⟩) hS.2.2 dX6_count_91
          · replace h := ga_iff c_12 h
            by_cases c_17 : x1 = 4
            · replace h := ga_ift c_17 h
              refine lv_tableIn (off := 62) (tgt := 92) hx hb dX6_count_30 (by rw [c_17]; decide) (by rw [c_17]; decide) (by rw [c_17]; rfl) (by decide) ?_
              refine lv_aload_n hx hb dX6_count_92 rfl (lv_at hl 0 rfl) ?_
              refine lv_iconst (v := 5) hx hb dX6_count_93 (by decide) ?_
              obtain ⟨r_18, e_19, h⟩ := ga_gb h
              refine vp_callSi (W.runV (As := [.int 5]) (rest := []) ⟨hx, hb, hml, hown, hts⟩ (met_X6_many l D cA b fr (upd fi 0 0) fa N 5 r_18 e_19) (cwV 1 hts (lw_V q1623 q1625 qs31 q79 q1626) rfl rfl rfl (by decide +kernel) ⟨Nat.le_of_ble_eq_true rfl, Nat.le_of_ble_eq_true rfl⟩) (ga_PV hK hP (va_recv hK.1 hP (ci := 0) (q0 := 0) rfl rfl)) rfl rfl hl.1 rfl (lv_room (Nat.le_of_ble_eq_true rfl)) dX6_count_94 ⟨Nat.le_of_ble_eq_true rfl, Nat.le_of_ble_eq_true rfl⟩) (fun z_20 w_21 => ?_)
              obtain rfl := w_21
              cases h
              exact W.iret hx hb hr (fun t ht hW => ⟨⟨_, _, rfl, ⟨rfl, rfl⟩, ⟨by rw [ht]; exact hP, hK.warm hW, hD⟩⟩, hS.F ht⟩) hS.2.2 dX6_count_97
            · replace h := ga_iff c_17 h
              by_cases c_22 : x1 = 5
              · replace h := ga_ift c_22 h
                refine lv_tableIn (off := 68) (tgt := 98) hx hb dX6_count_30 (by rw [c_22]; decide) (by rw [c_22]; decide) (by rw [c_22]; rfl) (by decide) ?_
                refine lv_aload_n hx hb dX6_count_98 rfl (lv_at hl 0 rfl) ?_
                refine va_get hx hb hts in_X6 hown hK.1 hP 0 (fs := mF (upd fi 0 0) fr) rfl rfl 5 (by decide) (hts _ q1517) (fun _ hh => hh) (v := .ref (fr 5)) rfl dX6_count_99 ?_
                refine lv_sipush (v := 151) hx hb dX6_count_102 (by decide) ?_
                refine va_iald hx hb hK.1 hP 2 0 (f := fa 5) rfl rfl (ga_in (by decide)) dX6_count_105 ?_
                cases h
                exact W.iret hx hb hr (fun t ht hW => ⟨⟨_, _, rfl, ⟨rfl, rfl⟩, ⟨by rw [ht]; exact hP, hK.warm hW, hD⟩⟩, hS.F ht⟩) hS.2.2 dX6_count_106
              · replace h := ga_iff c_22 h
                have tc_9 := lv_neT c_9 (a := 0) (by decide)
                have tc_10 := lv_neT c_10 (a := 1) (by decide)
                have tc_11 := lv_neT c_11 (a := 2) (by decide)
                have tc_12 := lv_neT c_12 (a := 3) (by decide)
                have tc_17 := lv_neT c_17 (a := 4) (by decide)
                have tc_22 := lv_neT c_22 (a := 5) (by decide)
                refine lv_tableOut (tgt := 107) hx hb dX6_count_30 (by omega) (by decide) ?_
                refine lv_aload_n hx hb dX6_count_107 rfl (lv_at hl 0 rfl) ?_
                refine va_get hx hb hts in_X6 hown hK.1 hP 0 (fs := mF (upd fi 0 0) fr) rfl rfl 5 (by decide) (hts _ q1517) (fun _ hh => hh) (v := .ref (fr 5)) rfl dX6_count_108 ?_
                refine lv_sipush (v := 152) hx hb dX6_count_111 (by decide) ?_
                refine va_iald hx hb hK.1 hP 2 0 (f := fa 5) rfl rfl (ga_in (by decide)) dX6_count_114 ?_
                cases h
                exact W.iret hx hb hr (fun t ht hW => ⟨⟨_, _, rfl, ⟨rfl, rfl⟩, ⟨by rw [ht]; exact hP, hK.warm hW, hD⟩⟩, hS.F ht⟩) hS.2.2 dX6_count_115
abbrev rm_X6_player : Room := { frames := 6, cells := 0, slots := 0, locals := 129 }
def F_X6_player (N : Nat) (fi : Nat → Int32) (fa : Nat → Nat → Int32) (x1 : Int32) (x2 : Int32) : Option (Int32 × ga_MS) :=
  ((F_X6_isIn N x1 0 1).bind fun r_1 =>
  (if r_1 = 0 then
  some (0, (upd fi 0 1, fa))
  else
  ((F_X6_isIn N x2 0 7).bind fun r_7 =>
  (if r_7 = 0 then
  some (0, (upd fi 0 2, fa))
  else
  (if x2 = 0 then
  ((F_X6_score N (upd fi 0 0) fa x1).bind fun r_15 =>
  some (r_15, (upd fi 0 0, fa)))
  else
  (if x2 = 1 then
  ((F_X6_many N (upd fi 0 0) fa (1 + x1)).bind fun r_20 =>
  some (r_20, (upd fi 0 0, fa)))
  else
  (if x2 = 2 then
  ((F_X6_many N (upd fi 0 0) fa (3 + x1)).bind fun r_25 =>
  some (r_25, (upd fi 0 0, fa)))
  else
  (if x2 = 3 then
  (if inb (147 + x1) 155 = true then
  some ((fa 5 (ix (147 + x1))), (upd fi 0 0, fa))
  else none)
  else
  (if x2 = 4 then
  (if inb x1 2 = true then
  some ((fa 4 (ix x1)), (upd fi 0 0, fa))
  else none)
  else
  (if x2 = 5 then
  (if inb (149 + x1) 155 = true then
  some ((fa 5 (ix (149 + x1))), (upd fi 0 0, fa))
  else none)
  else
  (if x2 = 7 then
  ((F_X6_regions N (upd fi 0 0) fa x1 1).bind fun r_40 =>
  some (r_40, (upd fi 0 0, fa)))
  else
  ((F_X6_regions N (upd fi 0 0) fa x1 0).bind fun r_36 =>
  some (r_36, (upd fi 0 0, fa))))))))))))))
set_option maxHeartbeats 4000000 in
theorem met_X6_player (l : Launch) (D : va_G) (cA : Nat → ClassId) (A : Nat → Prop) (b : Nat) (fr : Nat → Nat) (fi : Nat → Int32) (fa : Nat → Nat → Int32) (N : Nat) (x1 : Int32) (x2 : Int32) (out : Int32 × ga_MS) (h : F_X6_player N fi fa x1 x2 = some out) : Met l yX6_player (ws_ yX6_player cX6_player 3 (some .int)) rm_X6_player (ga_N D cA A (mW b cA fr fi fa) [.ref b, .int x1, .int x2]) (va_Qi (fun (r : Int32) (u : ga_MS) => (out.1 = r) ∧ out.2 = u) (ga_MB D cA A b fr) A) 0 0 A := by
  refine Met.ofW (cc := cX6_player) (maxL := 3) (ret := (some .int)) (by decide) rfl ?_
  intro p e s m args below meth c s₁ B hml hv
  obtain ⟨rfl, hP, hK, hD⟩ := hv
  have hS : va_S A s.heap s.heap [] := va_S.rf
  have C : ga_cx p m c meth s _ RX6 cX6_player 3 (some .int) := ga_cx_of B hml
  have C0 := C
  obtain ⟨hx, hb, hr, hlocks, hml, hown, hts⟩ := C0
  have hl := lv_entry ([.ref b, .int x1, .int x2]) (n := 3) (Nat.le_of_ble_eq_true rfl)
  rw [lg_entry_eq]
  generalize (lg_sl ([.ref b, .int x1, .int x2]) ++ List.replicate (3 - (lg_sl ([.ref b, .int x1, .int x2])).length) Slot.unset).toArray = ls at hl ⊢
  have hl : lv_has ls 3 [(0, .ref b), (1, .int x1), (2, .int x2)] := hl
  rw [F_X6_player] at h
  refine lv_aload_n hx hb dX6_player_0 rfl (lv_at hl 0 rfl) ?_
  refine lv_iload_n hx hb dX6_player_1 rfl (lv_at hl 1 rfl) ?_
  refine lv_iconst (v := 0) hx hb dX6_player_2 (by decide) ?_
  refine lv_iconst (v := 1) hx hb dX6_player_3 (by decide) ?_
  obtain ⟨r_1, e_2, h⟩ := ga_gb h
  refine vp_callSi (W.runS (As := [.int x1, .int 0, .int 1]) (rest := [.ref b]) ⟨hx, hb, hml, hown, hts⟩ (met_X6_isIn l D cA N x1 0 1 r_1 e_2) (va_cwS 3 hts (lw_S q1620 q1621 q79 q1622) rfl rfl rfl (by decide +kernel) ⟨Nat.le_of_ble_eq_true rfl, Nat.le_of_ble_eq_true rfl⟩) (ga_PS hK ga_P0) rfl rfl hl.1 rfl (lv_room (Nat.le_of_ble_eq_true rfl)) dX6_player_4 ⟨Nat.le_of_ble_eq_true rfl, Nat.le_of_ble_eq_true rfl⟩) (fun z_3 w_4 => ?_)
  obtain ⟨rfl, b_5⟩ := w_4
  refine lv_if_ne (tgt := 14) hx hb dX6_player_7 (by decide) (fun c_6 => ?_) (fun c_6 => ?_)
  · replace h := ga_iff c_6 h
    refine lv_iload_n hx hb dX6_player_14 rfl (lv_at hl 2 rfl) ?_
    refine lv_iconst (v := 0) hx hb dX6_player_15 (by decide) ?_
    refine lv_bipush (v := 7) hx hb dX6_player_16 (by decide) ?_
    obtain ⟨r_7, e_8, h⟩ := ga_gb h
    refine vp_callSi (W.runS (As := [.int x2, .int 0, .int 7]) (rest := [.ref b]) ⟨hx, hb, hml, hown, hts⟩ (met_X6_isIn l D cA N x2 0 7 r_7 e_8) (va_cwS 3 hts (lw_S q1620 q1621 q79 q1622) rfl rfl rfl (by decide +kernel) ⟨Nat.le_of_ble_eq_true rfl, Nat.le_of_ble_eq_true rfl⟩) (ga_PS hK ga_P0) rfl rfl hl.1 rfl (lv_room (Nat.le_of_ble_eq_true rfl)) dX6_player_18 ⟨Nat.le_of_ble_eq_true rfl, Nat.le_of_ble_eq_true rfl⟩) (fun z_9 w_10 => ?_)
    obtain ⟨rfl, b_11⟩ := w_10
    refine lv_if_ne (tgt := 28) hx hb dX6_player_21 (by decide) (fun c_12 => ?_) (fun c_12 => ?_)
    · replace h := ga_iff c_12 h
      refine lv_iconst (v := 0) hx hb dX6_player_28 (by decide) ?_
      refine va_put hx hb hts in_X6 tyX6 tyX6_ok nmX6 hown hK.1 hP hD hS 0 (fs := mF fi fr) rfl rfl 0 (by decide) (hts _ q1512) (fun _ hh => hh) rfl (v := .int 0) rfl rfl rfl (mF_lt (by decide)) dX6_player_29 (fun H locs hP hD hS => ?_)
      rw [mS_0] at hP hD
      refine lv_aload_n hx hb dX6_player_32 rfl (lv_at hl 0 rfl) ?_
      refine va_get hx hb hts in_X6 hown hK.1 hP 0 (fs := mF (upd fi 0 0) fr) rfl rfl 0 (by decide) (hts _ q1512) (fun _ hh => hh) (v := .int 0) rfl dX6_player_33 ?_
      refine lv_if_le (tgt := 41) hx hb dX6_player_36 (by decide) (fun _ => ?_) (fun c_13 => absurd (by decide) c_13)
      refine lv_iload_n hx hb dX6_player_41 rfl (lv_at hl 2 rfl) ?_
      by_cases c_14 : x2 = 0
      · replace h := ga_ift c_14 h
        refine lv_tableIn (off := 38) (tgt := 80) hx hb dX6_player_42 (by rw [c_14]; decide) (by rw [c_14]; decide) (by rw [c_14]; rfl) (by decide) ?_
        refine lv_aload_n hx hb dX6_player_80 rfl (lv_at hl 0 rfl) ?_
        refine lv_iload_n hx hb dX6_player_81 rfl (lv_at hl 1 rfl) ?_
        obtain ⟨r_15, e_16, h⟩ := ga_gb h
        refine vp_callSi (W.runV (As := [.int x1]) (rest := []) ⟨hx, hb, hml, hown, hts⟩ (met_X6_score l D cA b fr (upd fi 0 0) fa N x1 r_15 e_16) (cwV 1 hts (lw_V q1675 q1677 qs41 q79 q1678) rfl rfl rfl (by decide +kernel) ⟨Nat.le_of_ble_eq_true rfl, Nat.le_of_ble_eq_true rfl⟩) (ga_PV hK hP (va_recv hK.1 hP (ci := 0) (q0 := 0) rfl rfl)) rfl rfl hl.1 rfl (lv_room (Nat.le_of_ble_eq_true rfl)) dX6_player_82 ⟨Nat.le_of_ble_eq_true rfl, Nat.le_of_ble_eq_true rfl⟩) (fun z_17 w_18 => ?_)
        obtain rfl := w_18
        cases h
        exact W.iret hx hb hr (fun t ht hW => ⟨⟨_, _, rfl, ⟨rfl, rfl⟩, ⟨by rw [ht]; exact hP, hK.warm hW, hD⟩⟩, hS.F ht⟩) hS.2.2 dX6_player_85
      · replace h := ga_iff c_14 h
        by_cases c_19 : x2 = 1
        · replace h := ga_ift c_19 h
          refine lv_tableIn (off := 44) (tgt := 86) hx hb dX6_player_42 (by rw [c_19]; decide) (by rw [c_19]; decide) (by rw [c_19]; rfl) (by decide) ?_
          refine lv_aload_n hx hb dX6_player_86 rfl (lv_at hl 0 rfl) ?_
          refine lv_iconst (v := 1) hx hb dX6_player_87 (by decide) ?_
          refine lv_iload_n hx hb dX6_player_88 rfl (lv_at hl 1 rfl) ?_
          refine lv_iadd hx hb dX6_player_89 ?_
          obtain ⟨r_20, e_21, h⟩ := ga_gb h
          refine vp_callSi (W.runV (As := [.int (1 + x1)]) (rest := []) ⟨hx, hb, hml, hown, hts⟩ (met_X6_many l D cA b fr (upd fi 0 0) fa N (1 + x1) r_20 e_21) (cwV 1 hts (lw_V q1623 q1625 qs31 q79 q1626) rfl rfl rfl (by decide +kernel) ⟨Nat.le_of_ble_eq_true rfl, Nat.le_of_ble_eq_true rfl⟩) (ga_PV hK hP (va_recv hK.1 hP (ci := 0) (q0 := 0) rfl rfl)) rfl rfl hl.1 rfl (lv_room (Nat.le_of_ble_eq_true rfl)) dX6_player_90 ⟨Nat.le_of_ble_eq_true rfl, Nat.le_of_ble_eq_true rfl⟩) (fun z_22 w_23 => ?_)
          obtain rfl := w_23
          cases h
          exact W.iret hx hb hr (fun t ht hW => ⟨⟨_, _, rfl, ⟨rfl, rfl⟩, ⟨by rw [ht]; exact hP, hK.warm hW, hD⟩⟩, hS.F ht⟩) hS.2.2 dX6_player_93
        · replace h := ga_iff c_19 h
          by_cases c_24 : x2 = 2
          · replace h := ga_ift c_24 h
            refine lv_tableIn (off := 52) (tgt := 94) hx hb dX6_player_42 (by rw [c_24]; decide) (by rw [c_24]; decide) (by rw [c_24]; rfl) (by decide) ?_
            refine lv_aload_n hx hb dX6_player_94 rfl (lv_at hl 0 rfl) ?_
            refine lv_iconst (v := 3) hx hb dX6_player_95 (by decide) ?_
            refine lv_iload_n hx hb dX6_player_96 rfl (lv_at hl 1 rfl) ?_
            refine lv_iadd hx hb dX6_player_97 ?_
            obtain ⟨r_25, e_26, h⟩ := ga_gb h
            refine vp_callSi (W.runV (As := [.int (3 + x1)]) (rest := []) ⟨hx, hb, hml, hown, hts⟩ (met_X6_many l D cA b fr (upd fi 0 0) fa N (3 + x1) r_25 e_26) (cwV 1 hts (lw_V q1623 q1625 qs31 q79 q1626) rfl rfl rfl (by decide +kernel) ⟨Nat.le_of_ble_eq_true rfl, Nat.le_of_ble_eq_true rfl⟩) (ga_PV hK hP (va_recv hK.1 hP (ci := 0) (q0 := 0) rfl rfl)) rfl rfl hl.1 rfl (lv_room (Nat.le_of_ble_eq_true rfl)) dX6_player_98 ⟨Nat.le_of_ble_eq_true rfl, Nat.le_of_ble_eq_true rfl⟩) (fun z_27 w_28 => ?_)
            obtain rfl := w_28
            cases h
            exact W.iret hx hb hr (fun t ht hW => ⟨⟨_, _, rfl, ⟨rfl, rfl⟩, ⟨by rw [ht]; exact hP, hK.warm hW, hD⟩⟩, hS.F ht⟩) hS.2.2 dX6_player_101
          · replace h := ga_iff c_24 h
            by_cases c_29 : x2 = 3
            · replace h := ga_ift c_29 h
              refine lv_tableIn (off := 60) (tgt := 102) hx hb dX6_player_42 (by rw [c_29]; decide) (by rw [c_29]; decide) (by rw [c_29]; rfl) (by decide) ?_
              refine lv_aload_n hx hb dX6_player_102 rfl (lv_at hl 0 rfl) ?_
              refine va_get hx hb hts in_X6 hown hK.1 hP 0 (fs := mF (upd fi 0 0) fr) rfl rfl 5 (by decide) (hts _ q1517) (fun _ hh => hh) (v := .ref (fr 5)) rfl dX6_player_103 ?_
              refine lv_sipush (v := 147) hx hb dX6_player_106 (by decide) ?_
              refine lv_iload_n hx hb dX6_player_109 rfl (lv_at hl 1 rfl) ?_
              refine lv_iadd hx hb dX6_player_110 ?_
              obtain ⟨i_30, h⟩ := ga_gif h
              refine va_iald hx hb hK.1 hP 2 0 (f := fa 5) rfl rfl (ga_in i_30) dX6_player_111 ?_
              cases h
              exact W.iret hx hb hr (fun t ht hW => ⟨⟨_, _, rfl, ⟨rfl, rfl⟩, ⟨by rw [ht]; exact hP, hK.warm hW, hD⟩⟩, hS.F ht⟩) hS.2.2 dX6_player_112
            · replace h := ga_iff c_29 h
              by_cases c_31 : x2 = 4
              · replace h := ga_ift c_31 h
                refine lv_tableIn (off := 71) (tgt := 113) hx hb dX6_player_42 (by rw [c_31]; decide) (by rw [c_31]; decide) (by rw [c_31]; rfl) (by decide) ?_
                refine lv_aload_n hx hb dX6_player_113 rfl (lv_at hl 0 rfl) ?_
                refine va_get hx hb hts in_X6 hown hK.1 hP 0 (fs := mF (upd fi 0 0) fr) rfl rfl 4 (by decide) (hts _ q1516) (fun _ hh => hh) (v := .ref (fr 4)) rfl dX6_player_114 ?_
                refine lv_iload_n hx hb dX6_player_117 rfl (lv_at hl 1 rfl) ?_
                obtain ⟨i_32, h⟩ := ga_gif h
                refine va_iald hx hb hK.1 hP 1 0 (f := fa 4) rfl rfl (ga_in i_32) dX6_player_118 ?_
                cases h
                exact W.iret hx hb hr (fun t ht hW => ⟨⟨_, _, rfl, ⟨rfl, rfl⟩, ⟨by rw [ht]; exact hP, hK.warm hW, hD⟩⟩, hS.F ht⟩) hS.2.2 dX6_player_119
              · replace h := ga_iff c_31 h
                by_cases c_33 : x2 = 5
                · replace h := ga_ift c_33 h
                  refine lv_tableIn (off := 78) (tgt := 120) hx hb dX6_player_42 (by rw [c_33]; decide) (by rw [c_33]; decide) (by rw [c_33]; rfl) (by decide) ?_
                  refine lv_aload_n hx hb dX6_player_120 rfl (lv_at hl 0 rfl) ?_
                  refine va_get hx hb hts in_X6 hown hK.1 hP 0 (fs := mF (upd fi 0 0) fr) rfl rfl 5 (by decide) (hts _ q1517) (fun _ hh => hh) (v := .ref (fr 5)) rfl dX6_player_121 ?_
                  refine lv_sipush (v := 149) hx hb dX6_player_124 (by decide) ?_
                  refine lv_iload_n hx hb dX6_player_127 rfl (lv_at hl 1 rfl) ?_
                  refine lv_iadd hx hb dX6_player_128 ?_
                  obtain ⟨i_34, h⟩ := ga_gif h
                  refine va_iald hx hb hK.1 hP 2 0 (f := fa 5) rfl rfl (ga_in i_34) dX6_player_129 ?_
                  cases h
                  exact W.iret hx hb hr (fun t ht hW => ⟨⟨_, _, rfl, ⟨rfl, rfl⟩, ⟨by rw [ht]; exact hP, hK.warm hW, hD⟩⟩, hS.F ht⟩) hS.2.2 dX6_player_130
                · replace h := ga_iff c_33 h
                  have tc_14 := lv_neT c_14 (a := 0) (by decide)
                  have tc_19 := lv_neT c_19 (a := 1) (by decide)
                  have tc_24 := lv_neT c_24 (a := 2) (by decide)
                  have tc_29 := lv_neT c_29 (a := 3) (by decide)
                  have tc_31 := lv_neT c_31 (a := 4) (by decide)
                  have tc_33 := lv_neT c_33 (a := 5) (by decide)
                  refine lv_tableOut (tgt := 131) hx hb dX6_player_42 (by omega) (by decide) ?_
                  refine lv_aload_n hx hb dX6_player_131 rfl (lv_at hl 0 rfl) ?_
                  refine lv_iload_n hx hb dX6_player_132 rfl (lv_at hl 1 rfl) ?_
                  refine lv_iload_n hx hb dX6_player_133 rfl (lv_at hl 2 rfl) ?_
                  refine lv_bipush (v := 7) hx hb dX6_player_134 (by decide) ?_
                  refine lv_icmp_ne (tgt := 143) hx hb dX6_player_136 (by decide) (fun c_35 => ?_) (fun c_35 => ?_)
                  · replace h := ga_iff c_35 h
                    refine lv_iconst (v := 0) hx hb dX6_player_143 (by decide) ?_
                    obtain ⟨r_36, e_37, h⟩ := ga_gb h
                    refine vp_callSi (W.runV (As := [.int x1, .int 0]) (rest := []) ⟨hx, hb, hml, hown, hts⟩ (met_X6_regions l D cA b fr (upd fi 0 0) fa N x1 0 r_36 e_37) (cwV 2 hts (lw_V q1754 q1756 qs53 q79 q1757) rfl rfl rfl (by decide +kernel) ⟨Nat.le_of_ble_eq_true rfl, Nat.le_of_ble_eq_true rfl⟩) (ga_PV hK hP (va_recv hK.1 hP (ci := 0) (q0 := 0) rfl rfl)) rfl rfl hl.1 rfl (lv_room (Nat.le_of_ble_eq_true rfl)) dX6_player_144 ⟨Nat.le_of_ble_eq_true rfl, Nat.le_of_ble_eq_true rfl⟩) (fun z_38 w_39 => ?_)
                    obtain rfl := w_39
                    cases h
                    exact W.iret hx hb hr (fun t ht hW => ⟨⟨_, _, rfl, ⟨rfl, rfl⟩, ⟨by rw [ht]; exact hP, hK.warm hW, hD⟩⟩, hS.F ht⟩) hS.2.2 dX6_player_147
                  · replace h := ga_ift c_35 h
                    refine lv_iconst (v := 1) hx hb dX6_player_139 (by decide) ?_
                    refine lv_goto (tgt := 144) hx hb dX6_player_140 (by decide) ?_
                    obtain ⟨r_40, e_41, h⟩ := ga_gb h
                    refine vp_callSi (W.runV (As := [.int x1, .int 1]) (rest := []) ⟨hx, hb, hml, hown, hts⟩ (met_X6_regions l D cA b fr (upd fi 0 0) fa N x1 1 r_40 e_41) (cwV 2 hts (lw_V q1754 q1756 qs53 q79 q1757) rfl rfl rfl (by decide +kernel) ⟨Nat.le_of_ble_eq_true rfl, Nat.le_of_ble_eq_true rfl⟩) (ga_PV hK hP (va_recv hK.1 hP (ci := 0) (q0 := 0) rfl rfl)) rfl rfl hl.1 rfl (lv_room (Nat.le_of_ble_eq_true rfl)) dX6_player_144 ⟨Nat.le_of_ble_eq_true rfl, Nat.le_of_ble_eq_true rfl⟩) (fun z_42 w_43 => ?_)
                    obtain rfl := w_43
                    cases h
                    exact W.iret hx hb hr (fun t ht hW => ⟨⟨_, _, rfl, ⟨rfl, rfl⟩, ⟨by rw [ht]; exact hP, hK.warm hW, hD⟩⟩, hS.F ht⟩) hS.2.2 dX6_player_147
    · replace h := ga_ift c_12 h
      refine lv_iconst (v := 2) hx hb dX6_player_24 (by decide) ?_
      refine lv_goto (tgt := 29) hx hb dX6_player_25 (by decide) ?_
      refine va_put hx hb hts in_X6 tyX6 tyX6_ok nmX6 hown hK.1 hP hD hS 0 (fs := mF fi fr) rfl rfl 0 (by decide) (hts _ q1512) (fun _ hh => hh) rfl (v := .int 2) rfl rfl rfl (mF_lt (by decide)) dX6_player_29 (fun H locs hP hD hS => ?_)
      rw [mS_0] at hP hD
      refine lv_aload_n hx hb dX6_player_32 rfl (lv_at hl 0 rfl) ?_
      refine va_get hx hb hts in_X6 hown hK.1 hP 0 (fs := mF (upd fi 0 2) fr) rfl rfl 0 (by decide) (hts _ q1512) (fun _ hh => hh) (v := .int 2) rfl dX6_player_33 ?_
      refine lv_if_le (tgt := 41) hx hb dX6_player_36 (by decide) (fun c_44 => absurd c_44 (by decide)) (fun _ => ?_)
      refine lv_iconst (v := 0) hx hb dX6_player_39 (by decide) ?_
      cases h
      exact W.iret hx hb hr (fun t ht hW => ⟨⟨_, _, rfl, ⟨rfl, rfl⟩, ⟨by rw [ht]; exact hP, hK.warm hW, hD⟩⟩, hS.F ht⟩) hS.2.2 dX6_player_40
  · replace h := ga_ift c_6 h
    refine lv_iconst (v := 1) hx hb dX6_player_10 (by decide) ?_
    refine lv_goto (tgt := 29) hx hb dX6_player_11 (by decide) ?_
    refine va_put hx hb hts in_X6 tyX6 tyX6_ok nmX6 hown hK.1 hP hD hS 0 (fs := mF fi fr) rfl rfl 0 (by decide) (hts _ q1512) (fun _ hh => hh) rfl (v := .int 1) rfl rfl rfl (mF_lt (by decide)) dX6_player_29 (fun H locs hP hD hS => ?_)
    rw [mS_0] at hP hD
    refine lv_aload_n hx hb dX6_player_32 rfl (lv_at hl 0 rfl) ?_
    refine va_get hx hb hts in_X6 hown hK.1 hP 0 (fs := mF (upd fi 0 1) fr) rfl rfl 0 (by decide) (hts _ q1512) (fun _ hh => hh) (v := .int 1) rfl dX6_player_33 ?_
    refine lv_if_le (tgt := 41) hx hb dX6_player_36 (by decide) (fun c_45 => absurd c_45 (by decide)) (fun _ => ?_)
    refine lv_iconst (v := 0) hx hb dX6_player_39 (by decide) ?_
    cases h
    exact W.iret hx hb hr (fun t ht hW => ⟨⟨_, _, rfl, ⟨rfl, rfl⟩, ⟨by rw [ht]; exact hP, hK.warm hW, hD⟩⟩, hS.F ht⟩) hS.2.2 dX6_player_40
abbrev rm_X6_region : Room := { frames := 5, cells := 0, slots := 0, locals := 101 }
def F_X6_region (N : Nat) (fi : Nat → Int32) (fa : Nat → Nat → Int32) (x1 : Int32) (x2 : Int32) : Option (Int64 × ga_MS) :=
  ((F_X6_isIn N x1 0 1).bind fun r_1 =>
  (if r_1 = 0 then
  some (0, (upd fi 0 1, fa))
  else
  ((F_X6_isCell N fi fa x2).bind fun r_8 =>
  (if r_8 = 0 then
  some (0, (upd fi 0 1, fa))
  else
  ((F_X6_isOutside N fi fa x1 x2).bind fun r_14 =>
  (if r_14 = 0 then
  some (0, (upd fi 0 2, fa))
  else
  ((F_X6_outside N (upd fi 0 0) fa x1).bind fun r_21 =>
  ((F_X6_connected N (upd fi 0 0) fa r_21 x2).bind fun r_25 =>
  some (r_25, (upd fi 0 0, fa))))))))))
set_option maxHeartbeats 4000000 in
theorem met_X6_region (l : Launch) (D : va_G) (cA : Nat → ClassId) (A : Nat → Prop) (b : Nat) (fr : Nat → Nat) (fi : Nat → Int32) (fa : Nat → Nat → Int32) (N : Nat) (x1 : Int32) (x2 : Int32) (out : Int64 × ga_MS) (h : F_X6_region N fi fa x1 x2 = some out) : Met l yX6_region (ws_ yX6_region cX6_region 3 (some .long)) rm_X6_region (ga_N D cA A (mW b cA fr fi fa) [.ref b, .int x1, .int x2]) (va_Ql (fun (r : Int64) (u : ga_MS) => (out.1 = r) ∧ out.2 = u) (ga_MB D cA A b fr) A) 0 0 A := by
  refine Met.ofW (cc := cX6_region) (maxL := 3) (ret := (some .long)) (by decide) rfl ?_
  intro p e s m args below meth c s₁ B hml hv
  obtain ⟨rfl, hP, hK, hD⟩ := hv
  have hS : va_S A s.heap s.heap [] := va_S.rf
  have C : ga_cx p m c meth s _ RX6 cX6_region 3 (some .long) := ga_cx_of B hml
  have C0 := C
  obtain ⟨hx, hb, hr, hlocks, hml, hown, hts⟩ := C0
  have hl := lv_entry ([.ref b, .int x1, .int x2]) (n := 3) (Nat.le_of_ble_eq_true rfl)
  rw [lg_entry_eq]
  generalize (lg_sl ([.ref b, .int x1, .int x2]) ++ List.replicate (3 - (lg_sl ([.ref b, .int x1, .int x2])).length) Slot.unset).toArray = ls at hl ⊢
  have hl : lv_has ls 3 [(0, .ref b), (1, .int x1), (2, .int x2)] := hl
  rw [F_X6_region] at h
  refine lv_aload_n hx hb dX6_region_0 rfl (lv_at hl 0 rfl) ?_
  refine lv_iload_n hx hb dX6_region_1 rfl (lv_at hl 1 rfl) ?_
  refine lv_iconst (v := 0) hx hb dX6_region_2 (by decide) ?_
  refine lv_iconst (v := 1) hx hb dX6_region_3 (by decide) ?_
  obtain ⟨r_1, e_2, h⟩ := ga_gb h
  refine vp_callSi (W.runS (As := [.int x1, .int 0, .int 1]) (rest := [.ref b]) ⟨hx, hb, hml, hown, hts⟩ (met_X6_isIn l D cA N x1 0 1 r_1 e_2) (va_cwS 3 hts (lw_S q1620 q1621 q79 q1622) rfl rfl rfl (by decide +kernel) ⟨Nat.le_of_ble_eq_true rfl, Nat.le_of_ble_eq_true rfl⟩) (ga_PS hK ga_P0) rfl rfl hl.1 rfl (lv_room (Nat.le_of_ble_eq_true rfl)) dX6_region_4 ⟨Nat.le_of_ble_eq_true rfl, Nat.le_of_ble_eq_true rfl⟩) (fun z_3 w_4 => ?_)
  obtain ⟨rfl, b_5⟩ := w_4
  refine lv_if_eq (tgt := 18) hx hb dX6_region_7 (by decide) (fun c_6 => ?_) (fun c_6 => ?_)
  · replace h := ga_ift c_6 h
    refine lv_iconst (v := 1) hx hb dX6_region_18 (by decide) ?_
    refine lv_goto (tgt := 36) hx hb dX6_region_19 (by decide) ?_
    refine va_put hx hb hts in_X6 tyX6 tyX6_ok nmX6 hown hK.1 hP hD hS 0 (fs := mF fi fr) rfl rfl 0 (by decide) (hts _ q1512) (fun _ hh => hh) rfl (v := .int 1) rfl rfl rfl (mF_lt (by decide)) dX6_region_36 (fun H locs hP hD hS => ?_)
    rw [mS_0] at hP hD
    refine lv_aload_n hx hb dX6_region_39 rfl (lv_at hl 0 rfl) ?_
    refine va_get hx hb hts in_X6 hown hK.1 hP 0 (fs := mF (upd fi 0 1) fr) rfl rfl 0 (by decide) (hts _ q1512) (fun _ hh => hh) (v := .int 1) rfl dX6_region_40 ?_
    refine lv_if_ne (tgt := 59) hx hb dX6_region_43 (by decide) (fun _ => ?_) (fun c_7 => absurd c_7 (by decide))
    refine lv_lconst (v := 0) hx hb dX6_region_59 (by decide) ?_
    cases h
    exact W.lret hx hb hr (fun t ht hW => ⟨⟨_, _, rfl, ⟨rfl, rfl⟩, ⟨by rw [ht]; exact hP, hK.warm hW, hD⟩⟩, hS.F ht⟩) hS.2.2 dX6_region_60
  · replace h := ga_iff c_6 h
    refine lv_aload_n hx hb dX6_region_10 rfl (lv_at hl 0 rfl) ?_
    refine lv_iload_n hx hb dX6_region_11 rfl (lv_at hl 2 rfl) ?_
    obtain ⟨r_8, e_9, h⟩ := ga_gb h
    refine vp_callSi (W.runV (As := [.int x2]) (rest := [.ref b]) ⟨hx, hb, hml, hown, hts⟩ (met_X6_isCell l D cA b fr fi fa N x2 r_8 e_9) (cwV 1 hts (lw_V q1647 q1649 qs34 q79 q1650) rfl rfl rfl (by decide +kernel) ⟨Nat.le_of_ble_eq_true rfl, Nat.le_of_ble_eq_true rfl⟩) (ga_PV hK hP (va_recv hK.1 hP (ci := 0) (q0 := 0) rfl rfl)) rfl rfl hl.1 rfl (lv_room (Nat.le_of_ble_eq_true rfl)) dX6_region_12 ⟨Nat.le_of_ble_eq_true rfl, Nat.le_of_ble_eq_true rfl⟩) (fun z_10 w_11 => ?_)
    obtain ⟨rfl, b_12⟩ := w_11
    refine lv_if_ne (tgt := 22) hx hb dX6_region_15 (by decide) (fun c_13 => ?_) (fun c_13 => ?_)
    · replace h := ga_iff c_13 h
      refine lv_aload_n hx hb dX6_region_22 rfl (lv_at hl 0 rfl) ?_
      refine lv_iload_n hx hb dX6_region_23 rfl (lv_at hl 1 rfl) ?_
      refine lv_iload_n hx hb dX6_region_24 rfl (lv_at hl 2 rfl) ?_
      obtain ⟨r_14, e_15, h⟩ := ga_gb h
      refine vp_callSi (W.runV (As := [.int x1, .int x2]) (rest := [.ref b]) ⟨hx, hb, hml, hown, hts⟩ (met_X6_isOutside l D cA b fr fi fa N x1 x2 r_14 e_15) (cwV 2 hts (lw_V q1762 q1764 qs54 q79 q1765) rfl rfl rfl (by decide +kernel) ⟨Nat.le_of_ble_eq_true rfl, Nat.le_of_ble_eq_true rfl⟩) (ga_PV hK hP (va_recv hK.1 hP (ci := 0) (q0 := 0) rfl rfl)) rfl rfl hl.1 rfl (lv_room (Nat.le_of_ble_eq_true rfl)) dX6_region_25 ⟨Nat.le_of_ble_eq_true rfl, Nat.le_of_ble_eq_true rfl⟩) (fun z_16 w_17 => ?_)
      obtain ⟨rfl, b_18⟩ := w_17
      refine lv_if_ne (tgt := 35) hx hb dX6_region_28 (by decide) (fun c_19 => ?_) (fun c_19 => ?_)
      · replace h := ga_iff c_19 h
        refine lv_iconst (v := 0) hx hb dX6_region_35 (by decide) ?_
        refine va_put hx hb hts in_X6 tyX6 tyX6_ok nmX6 hown hK.1 hP hD hS 0 (fs := mF fi fr) rfl rfl 0 (by decide) (hts _ q1512) (fun _ hh => hh) rfl (v := .int 0) rfl rfl rfl (mF_lt (by decide)) dX6_region_36 (fun H locs hP hD hS => ?_)
        rw [mS_0] at hP hD
        refine lv_aload_n hx hb dX6_region_39 rfl (lv_at hl 0 rfl) ?_
        refine va_get hx hb hts in_X6 hown hK.1 hP 0 (fs := mF (upd fi 0 0) fr) rfl rfl 0 (by decide) (hts _ q1512) (fun _ hh => hh) (v := .int 0) rfl dX6_region_40 ?_
        refine lv_if_ne (tgt := 59) hx hb dX6_region_43 (by decide) (fun c_20 => absurd (by decide) c_20) (fun _ => ?_)
        refine lv_aload_n hx hb dX6_region_46 rfl (lv_at hl 0 rfl) ?_
        refine lv_aload_n hx hb dX6_region_47 rfl (lv_at hl 0 rfl) ?_
        refine lv_iload_n hx hb dX6_region_48 rfl (lv_at hl 1 rfl) ?_
        obtain ⟨r_21, e_22, h⟩ := ga_gb h
        refine vp_callSl (W.runV (As := [.int x1]) (rest := [.ref b]) ⟨hx, hb, hml, hown, hts⟩ (met_X6_outside l D cA b fr (upd fi 0 0) fa N x1 r_21 e_22) (cwV 1 hts (lw_V q1691 q1693 qs45 q79 q1694) rfl rfl rfl (by decide +kernel) ⟨Nat.le_of_ble_eq_true rfl, Nat.le_of_ble_eq_true rfl⟩) (ga_PV hK hP (va_recv hK.1 hP (ci := 0) (q0 := 0) rfl rfl)) rfl rfl hl.1 rfl (lv_room (Nat.le_of_ble_eq_true rfl)) dX6_region_49 ⟨Nat.le_of_ble_eq_true rfl, Nat.le_of_ble_eq_true rfl⟩) (fun z_23 w_24 => ?_)
        obtain rfl := w_24
        refine lv_iload_n hx hb dX6_region_52 rfl (lv_at hl 2 rfl) ?_
        obtain ⟨r_25, e_26, h⟩ := ga_gb h
        refine vp_callSl (W.runV (As := [.long r_21, .int x2]) (rest := []) ⟨hx, hb, hml, hown, hts⟩ (met_X6_connected l D cA b fr (upd fi 0 0) fa N r_21 x2 r_25 e_26) (cwV 2 hts (lw_V q1715 q1717 qs50 q79 q1718) rfl rfl rfl (by decide +kernel) ⟨Nat.le_of_ble_eq_true rfl, Nat.le_of_ble_eq_true rfl⟩) (ga_PV hK hP (va_recv hK.1 hP (ci := 0) (q0 := 0) rfl rfl)) rfl rfl hl.1 rfl (lv_room (Nat.le_of_ble_eq_true rfl)) dX6_region_53 ⟨Nat.le_of_ble_eq_true rfl, Nat.le_of_ble_eq_true rfl⟩) (fun z_27 w_28 => ?_)
        obtain rfl := w_28
        refine lv_goto (tgt := 60) hx hb dX6_region_56 (by decide) ?_
        cases h
        exact W.lret hx hb hr (fun t ht hW => ⟨⟨_, _, rfl, ⟨rfl, rfl⟩, ⟨by rw [ht]; exact hP, hK.warm hW, hD⟩⟩, hS.F ht⟩) hS.2.2 dX6_region_60
      · replace h := ga_ift c_19 h
        refine lv_iconst (v := 2) hx hb dX6_region_31 (by decide) ?_
        refine lv_goto (tgt := 36) hx hb dX6_region_32 (by decide) ?_
        refine va_put hx hb hts in_X6 tyX6 tyX6_ok nmX6 hown hK.1 hP hD hS 0 (fs := mF fi fr) rfl rfl 0 (by decide) (hts _ q1512) (fun _ hh => hh) rfl (v := .int 2) rfl rfl rfl (mF_lt (by decide)) dX6_region_36 (fun H locs hP hD hS => ?_)
        rw [mS_0] at hP hD
        refine lv_aload_n hx hb dX6_region_39 rfl (lv_at hl 0 rfl) ?_
        refine va_get hx hb hts in_X6 hown hK.1 hP 0 (fs := mF (upd fi 0 2) fr) rfl rfl 0 (by decide) (hts _ q1512) (fun _ hh => hh) (v := .int 2) rfl dX6_region_40 ?_
        refine lv_if_ne (tgt := 59) hx hb dX6_region_43 (by decide) (fun _ => ?_) (fun c_29 => absurd c_29 (by decide))
        refine lv_lconst (v := 0) hx hb dX6_region_59 (by decide) ?_
        cases h
        exact W.lret hx hb hr (fun t ht hW => ⟨⟨_, _, rfl, ⟨rfl, rfl⟩, ⟨by rw [ht]; exact hP, hK.warm hW, hD⟩⟩, hS.F ht⟩) hS.2.2 dX6_region_60
    · replace h := ga_ift c_13 h
      refine lv_iconst (v := 1) hx hb dX6_region_18 (by decide) ?_
      refine lv_goto (tgt := 36) hx hb dX6_region_19 (by decide) ?_
      refine va_put hx hb hts in_X6 tyX6 tyX6_ok nmX6 hown hK.1 hP hD hS 0 (fs := mF fi fr) rfl rfl 0 (by decide) (hts _ q1512) (fun _ hh => hh) rfl (v := .int 1) rfl rfl rfl (mF_lt (by decide)) dX6_region_36 (fun H locs hP hD hS => ?_)
      rw [mS_0] at hP hD
      refine lv_aload_n hx hb dX6_region_39 rfl (lv_at hl 0 rfl) ?_
      refine va_get hx hb hts in_X6 hown hK.1 hP 0 (fs := mF (upd fi 0 1) fr) rfl rfl 0 (by decide) (hts _ q1512) (fun _ hh => hh) (v := .int 1) rfl dX6_region_40 ?_
      refine lv_if_ne (tgt := 59) hx hb dX6_region_43 (by decide) (fun _ => ?_) (fun c_30 => absurd c_30 (by decide))
      refine lv_lconst (v := 0) hx hb dX6_region_59 (by decide) ?_
      cases h
      exact W.lret hx hb hr (fun t ht hW => ⟨⟨_, _, rfl, ⟨rfl, rfl⟩, ⟨by rw [ht]; exact hP, hK.warm hW, hD⟩⟩, hS.F ht⟩) hS.2.2 dX6_region_60
abbrev rm_X6_cells_2 : Room := { frames := 3, cells := 0, slots := 0, locals := 56 }
def F_X6_cells_2 (N : Nat) (fi : Nat → Int32) (fa : Nat → Nat → Int32) (x1 : Int32) : Option (Int64 × ga_MS) :=
  ((F_X6_isIn N x1 0 5).bind fun r_1 =>
  (if r_1 = 0 then
  some (0, (upd fi 0 1, fa))
  else
  ((F_X6_bits N (upd fi 0 0) fa x1).bind fun r_9 =>
  some (r_9, (upd fi 0 0, fa)))))
set_option maxHeartbeats 4000000 in
theorem met_X6_cells_2 (l : Launch) (D : va_G) (cA : Nat → ClassId) (A : Nat → Prop) (b : Nat) (fr : Nat → Nat) (fi : Nat → Int32) (fa : Nat → Nat → Int32) (N : Nat) (x1 : Int32) (out : Int64 × ga_MS) (h : F_X6_cells_2 N fi fa x1 = some out) : Met l yX6_cells_2 (ws_ yX6_cells_2 cX6_cells_2 2 (some .long)) rm_X6_cells_2 (ga_N D cA A (mW b cA fr fi fa) [.ref b, .int x1]) (va_Ql (fun (r : Int64) (u : ga_MS) => (out.1 = r) ∧ out.2 = u) (ga_MB D cA A b fr) A) 0 0 A := by
  refine Met.ofW (cc := cX6_cells_2) (maxL := 2) (ret := (some .long)) (by decide) rfl ?_
  intro p e s m args below meth c s₁ B hml hv
  obtain ⟨rfl, hP, hK, hD⟩ := hv
  have hS : va_S A s.heap s.heap [] := va_S.rf
  have C : ga_cx p m c meth s _ RX6 cX6_cells_2 2 (some .long) := ga_cx_of B hml
  have C0 := C
  obtain ⟨hx, hb, hr, hlocks, hml, hown, hts⟩ := C0
  have hl := lv_entry ([.ref b, .int x1]) (n := 2) (Nat.le_of_ble_eq_true rfl)
  rw [lg_entry_eq]
  generalize (lg_sl ([.ref b, .int x1]) ++ List.replicate (2 - (lg_sl ([.ref b, .int x1])).length) Slot.unset).toArray = ls at hl ⊢
  have hl : lv_has ls 2 [(0, .ref b), (1, .int x1)] := hl
  rw [F_X6_cells_2] at h
  refine lv_aload_n hx hb dX6_cells_2_0 rfl (lv_at hl 0 rfl) ?_
  refine lv_iload_n hx hb dX6_cells_2_1 rfl (lv_at hl 1 rfl) ?_
  refine lv_iconst (v := 0) hx hb dX6_cells_2_2 (by decide) ?_
  refine lv_iconst (v := 5) hx hb dX6_cells_2_3 (by decide) ?_
  obtain ⟨r_1, e_2, h⟩ := ga_gb h
  refine vp_callSi (W.runS (As := [.int x1, .int 0, .int 5]) (rest := [.ref b]) ⟨hx, hb, hml, hown, hts⟩ (met_X6_isIn l D cA N x1 0 5 r_1 e_2) (va_cwS 3 hts (lw_S q1620 q1621 q79 q1622) rfl rfl rfl (by decide +kernel) ⟨Nat.le_of_ble_eq_true rfl, Nat.le_of_ble_eq_true rfl⟩) (ga_PS hK ga_P0) rfl rfl hl.1 rfl (lv_room (Nat.le_of_ble_eq_true rfl)) dX6_cells_2_4 ⟨Nat.le_of_ble_eq_true rfl, Nat.le_of_ble_eq_true rfl⟩) (fun z_3 w_4 => ?_)
  obtain ⟨rfl, b_5⟩ := w_4
  refine lv_if_eq (tgt := 14) hx hb dX6_cells_2_7 (by decide) (fun c_6 => ?_) (fun c_6 => ?_)
  · replace h := ga_ift c_6 h
    refine lv_iconst (v := 1) hx hb dX6_cells_2_14 (by decide) ?_
    refine va_put hx hb hts in_X6 tyX6 tyX6_ok nmX6 hown hK.1 hP hD hS 0 (fs := mF fi fr) rfl rfl 0 (by decide) (hts _ q1512) (fun _ hh => hh) rfl (v := .int 1) rfl rfl rfl (mF_lt (by decide)) dX6_cells_2_15 (fun H locs hP hD hS => ?_)
    rw [mS_0] at hP hD
    refine lv_aload_n hx hb dX6_cells_2_18 rfl (lv_at hl 0 rfl) ?_
    refine va_get hx hb hts in_X6 hown hK.1 hP 0 (fs := mF (upd fi 0 1) fr) rfl rfl 0 (by decide) (hts _ q1512) (fun _ hh => hh) (v := .int 1) rfl dX6_cells_2_19 ?_
    refine lv_if_ne (tgt := 33) hx hb dX6_cells_2_22 (by decide) (fun _ => ?_) (fun c_7 => absurd c_7 (by decide))
    refine lv_lconst (v := 0) hx hb dX6_cells_2_33 (by decide) ?_
    cases h
    exact W.lret hx hb hr (fun t ht hW => ⟨⟨_, _, rfl, ⟨rfl, rfl⟩, ⟨by rw [ht]; exact hP, hK.warm hW, hD⟩⟩, hS.F ht⟩) hS.2.2 dX6_cells_2_34
  · replace h := ga_iff c_6 h
    refine lv_iconst (v := 0) hx hb dX6_cells_2_10 (by decide) ?_
    refine lv_goto (tgt := 15) hx hb dX6_cells_2_11 (by decide) ?_
    refine va_put hx hb hts in_X6 tyX6 tyX6_ok nmX6 hown hK.1 hP hD hS 0 (fs := mF fi fr) rfl rfl 0 (by decide) (hts _ q1512) (fun _ hh => hh) rfl (v := .int 0) rfl rfl rfl (mF_lt (by decide)) dX6_cells_2_15 (fun H locs hP hD hS => ?_)
    rw [mS_0] at hP hD
    refine lv_aload_n hx hb dX6_cells_2_18 rfl (lv_at hl 0 rfl) ?_
    refine va_get hx hb hts in_X6 hown hK.1 hP 0 (fs := mF (upd fi 0 0) fr) rfl rfl 0 (by decide) (hts _ q1512) (fun _ hh => hh) (v := .int 0) rfl dX6_cells_2_19 ?_
    refine lv_if_ne (tgt := 33) hx hb dX6_cells_2_22 (by decide) (fun c_8 => absurd (by decide) c_8) (fun _ => ?_)
    refine lv_aload_n hx hb dX6_cells_2_25 rfl (lv_at hl 0 rfl) ?_
    refine lv_iload_n hx hb dX6_cells_2_26 rfl (lv_at hl 1 rfl) ?_
    obtain ⟨r_9, e_10, h⟩ := ga_gb h
    refine vp_callSl (W.runV (As := [.int x1]) (rest := []) ⟨hx, hb, hml, hown, hts⟩ (met_X6_bits l D cA b fr (upd fi 0 0) fa N x1 r_9 e_10) (cwV 1 hts (lw_V q1699 q1701 qs47 q79 q1702) rfl rfl rfl (by decide +kernel) ⟨Nat.le_of_ble_eq_true rfl, Nat.le_of_ble_eq_true rfl⟩) (ga_PV hK hP (va_recv hK.1 hP (ci := 0) (q0 := 0) rfl rfl)) rfl rfl hl.1 rfl (lv_room (Nat.le_of_ble_eq_true rfl)) dX6_cells_2_27 ⟨Nat.le_of_ble_eq_true rfl, Nat.le_of_ble_eq_true rfl⟩) (fun z_11 w_12 => ?_)
    obtain rfl := w_12
    refine lv_goto (tgt := 34) hx hb dX6_cells_2_30 (by decide) ?_
    cases h
    exact W.lret hx hb hr (fun t ht hW => ⟨⟨_, _, rfl, ⟨rfl, rfl⟩, ⟨by rw [ht]; exact hP, hK.warm hW, hD⟩⟩, hS.F ht⟩) hS.2.2 dX6_cells_2_34
abbrev rm_X6_chain : Room := { frames := 5, cells := 0, slots := 0, locals := 101 }
def F_X6_chain (N : Nat) (fi : Nat → Int32) (fa : Nat → Nat → Int32) (x1 : Int32) : Option (Int64 × ga_MS) :=
  ((F_X6_isCell N fi fa x1).bind fun r_1 =>
  (if r_1 = 0 then
  some (0, (upd fi 0 1, fa))
  else
  (if inb x1 155 = true then
  (if (fa 5 (ix x1)) = 1 then
  (if inb x1 155 = true then
  ((F_X6_bits N (upd fi 0 0) fa (fa 5 (ix x1))).bind fun r_11 =>
  ((F_X6_connected N (upd fi 0 0) fa r_11 x1).bind fun r_15 =>
  some (r_15, (upd fi 0 0, fa))))
  else none)
  else
  (if inb x1 155 = true then
  (if (fa 5 (ix x1)) = 2 then
  (if inb x1 155 = true then
  ((F_X6_bits N (upd fi 0 0) fa (fa 5 (ix x1))).bind fun r_23 =>
  ((F_X6_connected N (upd fi 0 0) fa r_23 x1).bind fun r_27 =>
  some (r_27, (upd fi 0 0, fa))))
  else none)
  else
  some (0, (upd fi 0 2, fa)))
  else none))
  else none)))
set_option maxHeartbeats 4000000 in
theorem met_X6_chain (l : Launch) (D : va_G) (cA : Nat → ClassId) (A : Nat → Prop) (b : Nat) (fr : Nat → Nat) (fi : Nat → Int32) (fa : Nat → Nat → Int32) (N : Nat) (x1 : Int32) (out : Int64 × ga_MS) (h : F_X6_chain N fi fa x1 = some out) : Met l yX6_chain (ws_ yX6_chain cX6_chain 2 (some .long)) rm_X6_chain (ga_N D cA A (mW b cA fr fi fa) [.ref b, .int x1]) (va_Ql (fun (r : Int64) (u : ga_MS) => (out.1 = r) ∧ out.2 = u) (ga_MB D cA A b fr) A) 0 0 A := by
  refine Met.ofW (cc := cX6_chain) (maxL := 2) (ret := (some .long)) (by decide) rfl ?_
  intro p e s m args below meth c s₁ B hml hv
  obtain ⟨rfl, hP, hK, hD⟩ := hv
  have hS : va_S A s.heap s.heap [] := va_S.rf
  have C : ga_cx p m c meth s _ RX6 cX6_chain 2 (some .long) := ga_cx_of B hml
  have C0 := C
  obtain ⟨hx, hb, hr, hlocks, hml, hown, hts⟩ := C0
  have hl := lv_entry ([.ref b, .int x1]) (n := 2) (Nat.le_of_ble_eq_true rfl)
  rw [lg_entry_eq]
  generalize (lg_sl ([.ref b, .int x1]) ++ List.replicate (2 - (lg_sl ([.ref b, .int x1])).length) Slot.unset).toArray = ls at hl ⊢
  have hl : lv_has ls 2 [(0, .ref b), (1, .int x1)] := hl
  rw [F_X6_chain] at h
  refine lv_aload_n hx hb dX6_chain_0 rfl (lv_at hl 0 rfl) ?_
  refine lv_aload_n hx hb dX6_chain_1 rfl (lv_at hl 0 rfl) ?_
  refine lv_iload_n hx hb dX6_chain_2 rfl (lv_at hl 1 rfl) ?_
  obtain ⟨r_1, e_2, h⟩ := ga_gb h
  refine vp_callSi (W.runV (As := [.int x1]) (rest := [.ref b]) ⟨hx, hb, hml, hown, hts⟩ (met_X6_isCell l D cA b fr fi fa N x1 r_1 e_2) (cwV 1 hts (lw_V q1647 q1649 qs34 q79 q1650) rfl rfl rfl (by decide +kernel) ⟨Nat.le_of_ble_eq_true rfl, Nat.le_of_ble_eq_true rfl⟩) (ga_PV hK hP (va_recv hK.1 hP (ci := 0) (q0 := 0) rfl rfl)) rfl rfl hl.1 rfl (lv_room (Nat.le_of_ble_eq_true rfl)) dX6_chain_3 ⟨Nat.le_of_ble_eq_true rfl, Nat.le_of_ble_eq_true rfl⟩) (fun z_3 w_4 => ?_)
  obtain ⟨rfl, b_5⟩ := w_4
  refine lv_if_ne (tgt := 13) hx hb dX6_chain_6 (by decide) (fun c_6 => ?_) (fun c_6 => ?_)
  · replace h := ga_iff c_6 h
    refine lv_aload_n hx hb dX6_chain_13 rfl (lv_at hl 0 rfl) ?_
    refine va_get hx hb hts in_X6 hown hK.1 hP 0 (fs := mF fi fr) rfl rfl 5 (by decide) (hts _ q1517) (fun _ hh => hh) (v := .ref (fr 5)) rfl dX6_chain_14 ?_
    refine lv_iload_n hx hb dX6_chain_17 rfl (lv_at hl 1 rfl) ?_
    obtain ⟨i_7, h⟩ := ga_gif h
    refine va_iald hx hb hK.1 hP 2 0 (f := fa 5) rfl rfl (ga_in i_7) dX6_chain_18 ?_
    refine lv_iconst (v := 1) hx hb dX6_chain_19 (by decide) ?_
    refine lv_icmp_eq (tgt := 37) hx hb dX6_chain_20 (by decide) (fun c_8 => ?_) (fun c_8 => ?_)
    · replace h := ga_ift c_8 h
      refine lv_iconst (v := 0) hx hb dX6_chain_37 (by decide) ?_
      refine va_put hx hb hts in_X6 tyX6 tyX6_ok nmX6 hown hK.1 hP hD hS 0 (fs := mF fi fr) rfl rfl 0 (by decide) (hts _ q1512) (fun _ hh => hh) rfl (v := .int 0) rfl rfl rfl (mF_lt (by decide)) dX6_chain_38 (fun H locs hP hD hS => ?_)
      rw [mS_0] at hP hD
      refine lv_aload_n hx hb dX6_chain_41 rfl (lv_at hl 0 rfl) ?_
      refine va_get hx hb hts in_X6 hown hK.1 hP 0 (fs := mF (upd fi 0 0) fr) rfl rfl 0 (by decide) (hts _ q1512) (fun _ hh => hh) (v := .int 0) rfl dX6_chain_42 ?_
      refine lv_if_ne (tgt := 66) hx hb dX6_chain_45 (by decide) (fun c_9 => absurd (by decide) c_9) (fun _ => ?_)
      refine lv_aload_n hx hb dX6_chain_48 rfl (lv_at hl 0 rfl) ?_
      refine lv_aload_n hx hb dX6_chain_49 rfl (lv_at hl 0 rfl) ?_
      refine lv_aload_n hx hb dX6_chain_50 rfl (lv_at hl 0 rfl) ?_
      refine va_get hx hb hts in_X6 hown hK.1 hP 0 (fs := mF (upd fi 0 0) fr) rfl rfl 5 (by decide) (hts _ q1517) (fun _ hh => hh) (v := .ref (fr 5)) rfl dX6_chain_51 ?_
      refine lv_iload_n hx hb dX6_chain_54 rfl (lv_at hl 1 rfl) ?_
      obtain ⟨i_10, h⟩ := ga_gif h
      refine va_iald hx hb hK.1 hP 2 0 (f := fa 5) rfl rfl (ga_in i_10) dX6_chain_55 ?_
      obtain ⟨r_11, e_12, h⟩ := ga_gb h
      refine vp_callSl (W.runV (As := [.int (fa 5 (ix x1))]) (rest := [.ref b]) ⟨hx, hb, hml, hown, hts⟩ (met_X6_bits l D cA b fr (upd fi 0 0) fa N (fa 5 (ix x1)) r_11 e_12) (cwV 1 hts (lw_V q1699 q1701 qs47 q79 q1702) rfl rfl rfl (by decide +kernel) ⟨Nat.le_of_ble_eq_true rfl, Nat.le_of_ble_eq_true rfl⟩) (ga_PV hK hP (va_recv hK.1 hP (ci := 0) (q0 := 0) rfl rfl)) rfl rfl hl.1 rfl (lv_room (Nat.le_of_ble_eq_true rfl)) dX6_chain_56 ⟨Nat.le_of_ble_eq_true rfl, Nat.le_of_ble_eq_true rfl⟩) (fun z_13 w_14 => ?_)
      obtain rfl := w_14
      refine lv_iload_n hx hb dX6_chain_59 rfl (lv_at hl 1 rfl) ?_
      obtain ⟨r_15, e_16, h⟩ := ga_gb h
      refine vp_callSl (W.runV (As := [.long r_11, .int x1]) (rest := []) ⟨hx, hb, hml, hown, hts⟩ (met_X6_connected l D cA b fr (upd fi 0 0) fa N r_11 x1 r_15 e_16) (cwV 2 hts (lw_V q1715 q1717 qs50 q79 q1718) rfl rfl rfl (by decide +kernel) ⟨Nat.le_of_ble_eq_true rfl, Nat.le_of_ble_eq_true rfl⟩) (ga_PV hK hP (va_recv hK.1 hP (ci := 0) (q0 := 0) rfl rfl)) rfl rfl hl.1 rfl (lv_room (Nat.le_of_ble_eq_true rfl)) dX6_chain_60 ⟨Nat.le_of_ble_eq_true rfl, Nat.le_of_ble_eq_true rfl⟩) (fun z_17 w_18 => ?_)
      obtain rfl := w_18
      refine lv_goto (tgt := 67) hx hb dX6_chain_63 (by decide) ?_
      cases h
      exact W.lret hx hb hr (fun t ht hW => ⟨⟨_, _, rfl, ⟨rfl, rfl⟩, ⟨by rw [ht]; exact hP, hK.warm hW, hD⟩⟩, hS.F ht⟩) hS.2.2 dX6_chain_67
    · replace h := ga_iff c_8 h
      refine lv_aload_n hx hb dX6_chain_23 rfl (lv_at hl 0 rfl) ?_
      refine va_get hx hb hts in_X6 hown hK.1 hP 0 (fs := mF fi fr) rfl rfl 5 (by decide) (hts _ q1517) (fun _ hh => hh) (v := .ref (fr 5)) rfl dX6_chain_24 ?_
      refine lv_iload_n hx hb dX6_chain_27 rfl (lv_at hl 1 rfl) ?_
      obtain ⟨i_19, h⟩ := ga_gif h
      refine va_iald hx hb hK.1 hP 2 0 (f := fa 5) rfl rfl (ga_in i_19) dX6_chain_28 ?_
      refine lv_iconst (v := 2) hx hb dX6_chain_29 (by decide) ?_
      refine lv_icmp_eq (tgt := 37) hx hb dX6_chain_30 (by decide) (fun c_20 => ?_) (fun c_20 => ?_)
      · replace h := ga_ift c_20 h
        refine lv_iconst (v := 0) hx hb dX6_chain_37 (by decide) ?_
        refine va_put hx hb hts in_X6 tyX6 tyX6_ok nmX6 hown hK.1 hP hD hS 0 (fs := mF fi fr) rfl rfl 0 (by decide) (hts _ q1512) (fun _ hh => hh) rfl (v := .int 0) rfl rfl rfl (mF_lt (by decide)) dX6_chain_38 (fun H locs hP hD hS => ?_)
        rw [mS_0] at hP hD
        refine lv_aload_n hx hb dX6_chain_41 rfl (lv_at hl 0 rfl) ?_
        refine va_get hx hb hts in_X6 hown hK.1 hP 0 (fs := mF (upd fi 0 0) fr) rfl rfl 0 (by decide) (hts _ q1512) (fun _ hh => hh) (v := .int 0) rfl dX6_chain_42 ?_
        refine lv_if_ne (tgt := 66) hx hb dX6_chain_45 (by decide) (fun c_21 => absurd (by decide) c_21) (fun _ => ?_)
        refine lv_aload_n hx hb dX6_chain_48 rfl (lv_at hl 0 rfl) ?_
        refine lv_aload_n hx hb dX6_chain_49 rfl (lv_at hl 0 rfl) ?_
        refine lv_aload_n hx hb dX6_chain_50 rfl (lv_at hl 0 rfl) ?_
        refine va_get hx hb hts in_X6 hown hK.1 hP 0 (fs := mF (upd fi 0 0) fr) rfl rfl 5 (by decide) (hts _ q1517) (fun _ hh => hh) (v := .ref (fr 5)) rfl dX6_chain_51 ?_
        refine lv_iload_n hx hb dX6_chain_54 rfl (lv_at hl 1 rfl) ?_
        obtain ⟨i_22, h⟩ := ga_gif h
        refine va_iald hx hb hK.1 hP 2 0 (f := fa 5) rfl rfl (ga_in i_22) dX6_chain_55 ?_
        obtain ⟨r_23, e_24, h⟩ := ga_gb h
        refine vp_callSl (W.runV (As := [.int (fa 5 (ix x1))]) (rest := [.ref b]) ⟨hx, hb, hml, hown, hts⟩ (met_X6_bits l D cA b fr (upd fi 0 0) fa N (fa 5 (ix x1)) r_23 e_24) (cwV 1 hts (lw_V q1699 q1701 qs47 q79 q1702) rfl rfl rfl (by decide +kernel) ⟨Nat.le_of_ble_eq_true rfl, Nat.le_of_ble_eq_true rfl⟩) (ga_PV hK hP (va_recv hK.1 hP (ci := 0) (q0 := 0) rfl rfl)) rfl rfl hl.1 rfl (lv_room (Nat.le_of_ble_eq_true rfl)) dX6_chain_56 ⟨Nat.le_of_ble_eq_true rfl, Nat.le_of_ble_eq_true rfl⟩) (fun z_25 w_26 => ?_)
        obtain rfl := w_26
        refine lv_iload_n hx hb dX6_chain_59 rfl (lv_at hl 1 rfl) ?_
        obtain ⟨r_27, e_28, h⟩ := ga_gb h
        refine vp_callSl (W.runV (As := [.long r_23, .int x1]) (rest := []) ⟨hx, hb, hml, hown, hts⟩ (met_X6_connected l D cA b fr (upd fi 0 0) fa N r_23 x1 r_27 e_28) (cwV 2 hts (lw_V q1715 q1717 qs50 q79 q1718) rfl rfl rfl (by decide +kernel) ⟨Nat.le_of_ble_eq_true rfl, Nat.le_of_ble_eq_true rfl⟩) (ga_PV hK hP (va_recv hK.1 hP (ci := 0) (q0 := 0) rfl rfl)) rfl rfl hl.1 rfl (lv_room (Nat.le_of_ble_eq_true rfl)) dX6_chain_60 ⟨Nat.le_of_ble_eq_true rfl, Nat.le_of_ble_eq_true rfl⟩) (fun z_29 w_30 => ?_)
        obtain rfl := w_30
        refine lv_goto (tgt := 67) hx hb dX6_chain_63 (by decide) ?_
        cases h
        exact W.lret hx hb hr (fun t ht hW => ⟨⟨_, _, rfl, ⟨rfl, rfl⟩, ⟨by rw [ht]; exact hP, hK.warm hW, hD⟩⟩, hS.F ht⟩) hS.2.2 dX6_chain_67
      · replace h := ga_iff c_20 h
        refine lv_iconst (v := 2) hx hb dX6_chain_33 (by decide) ?_
        refine lv_goto (tgt := 38) hx hb dX6_chain_34 (by decide) ?_
        refine va_put hx hb hts in_X6 tyX6 tyX6_ok nmX6 hown hK.1 hP hD hS 0 (fs := mF fi fr) rfl rfl 0 (by decide) (hts _ q1512) (fun _ hh => hh) rfl (v := .int 2) rfl rfl rfl (mF_lt (by decide)) dX6_chain_38 (fun H locs hP hD hS => ?_)
        rw [mS_0] at hP hD
        refine lv_aload_n hx hb dX6_chain_41 rfl (lv_at hl 0 rfl) ?_
        refine va_get hx hb hts in_X6 hown hK.1 hP 0 (fs := mF (upd fi 0 2) fr) rfl rfl 0 (by decide) (hts _ q1512) (fun _ hh => hh) (v := .int 2) rfl dX6_chain_42 ?_
        refine lv_if_ne (tgt := 66) hx hb dX6_chain_45 (by decide) (fun _ => ?_) (fun c_31 => absurd c_31 (by decide))
        refine lv_lconst (v := 0) hx hb dX6_chain_66 (by decide) ?_
        cases h
        exact W.lret hx hb hr (fun t ht hW => ⟨⟨_, _, rfl, ⟨rfl, rfl⟩, ⟨by rw [ht]; exact hP, hK.warm hW, hD⟩⟩, hS.F ht⟩) hS.2.2 dX6_chain_67
  · replace h := ga_ift c_6 h
    refine lv_iconst (v := 1) hx hb dX6_chain_9 (by decide) ?_
    refine lv_goto (tgt := 38) hx hb dX6_chain_10 (by decide) ?_
    refine va_put hx hb hts in_X6 tyX6 tyX6_ok nmX6 hown hK.1 hP hD hS 0 (fs := mF fi fr) rfl rfl 0 (by decide) (hts _ q1512) (fun _ hh => hh) rfl (v := .int 1) rfl rfl rfl (mF_lt (by decide)) dX6_chain_38 (fun H locs hP hD hS => ?_)
    rw [mS_0] at hP hD
    refine lv_aload_n hx hb dX6_chain_41 rfl (lv_at hl 0 rfl) ?_
    refine va_get hx hb hts in_X6 hown hK.1 hP 0 (fs := mF (upd fi 0 1) fr) rfl rfl 0 (by decide) (hts _ q1512) (fun _ hh => hh) (v := .int 1) rfl dX6_chain_42 ?_
    refine lv_if_ne (tgt := 66) hx hb dX6_chain_45 (by decide) (fun _ => ?_) (fun c_32 => absurd c_32 (by decide))
    refine lv_lconst (v := 0) hx hb dX6_chain_66 (by decide) ?_
    cases h
    exact W.lret hx hb hr (fun t ht hW => ⟨⟨_, _, rfl, ⟨rfl, rfl⟩, ⟨by rw [ht]; exact hP, hK.warm hW, hD⟩⟩, hS.F ht⟩) hS.2.2 dX6_chain_67
abbrev rm_X6_stonesToEnclose : Room := { frames := 6, cells := 0, slots := 0, locals := 124 }
def lp_X6_stonesToEnclose_86 (N : Nat) (x1 : Int32) (x2 : Int32) : Nat → Nat → (Nat → Int32) → (Nat → Nat → Int32) → Int64 → Int64 → Int32 → Int32 → Int32 → Option (Int32 × ga_MS)
  | 0, _, _, _, _, _, _, _, _ => none
  | n+1, 0, fi, fa, x3, x5, x7, x8, x9 =>
    ((F_X6_cells N fi fa).bind fun r_37 =>
    (if r_37 ≤ x8 then
    (if x7 = 2 then
    some (2, (fi, fa))
    else
    ((F_X6_no N fi fa 2).bind fun r_43 =>
    some (r_43.1, (r_43.2.1, r_43.2.2))))
    else
    (if (lg_cmp ((jlshr x5 x8) &&& 1) 0) = 0 then
    lp_X6_stonesToEnclose_86 N x1 x2 n 0 fi fa x3 x5 x7 (x8 + 1) 0
    else
    ((F_X6_isEnclosed N fi fa (x3 &&& ((jlshl 1 x8) ^^^ (-1))) x2).bind fun r_49 =>
    (if r_49 = 0 then
    lp_X6_stonesToEnclose_86 N x1 x2 n 1 fi fa x3 x5 x7 x8 (x8 + 1)
    else
    some (1, (fi, fa)))))))
  | n+1, _+1, fi, fa, x3, x5, x7, x8, x9 =>
    ((F_X6_cells N fi fa).bind fun r_55 =>
    (if r_55 ≤ x9 then
    lp_X6_stonesToEnclose_86 N x1 x2 n 0 fi fa x3 x5 x7 (x8 + 1) 0
    else
    (if x7 ≤ 2 then
    lp_X6_stonesToEnclose_86 N x1 x2 n 0 fi fa x3 x5 x7 (x8 + 1) 0
    else
    (if (lg_cmp ((jlshr x5 x9) &&& 1) 1) = 0 then
    ((F_X6_isEnclosed N fi fa ((x3 &&& ((jlshl 1 x8) ^^^ (-1))) &&& ((jlshl 1 x9) ^^^ (-1))) x2).bind fun r_62 =>
    (if r_62 = 0 then
    lp_X6_stonesToEnclose_86 N x1 x2 n 1 fi fa x3 x5 x7 x8 (x9 + 1)
    else
    lp_X6_stonesToEnclose_86 N x1 x2 n 1 fi fa x3 x5 2 x8 (x9 + 1)))
    else
    lp_X6_stonesToEnclose_86 N x1 x2 n 1 fi fa x3 x5 x7 x8 (x9 + 1)))))
set_option maxHeartbeats 4000000 in
theorem w_X6_stonesToEnclose_86 {p : Program} {l : Launch} {e : Env} {s : State} {m : MethodId} {args : Array Value} {below : List Frame} {meth : Method} {c : Code} {D : va_G} {cA : Nat → ClassId} {A : Nat → Prop} {b : Nat} {fr : Nat → Nat} {N : Nat} {x1 : Int32} {x2 : Int32} (C : ga_cx p m c meth s args RX6 cX6_stonesToEnclose 10 (some .int)) (hK : ga_K D cA s) {out : Int32 × ga_MS} : ∀ n : Nat, (∀ (fi : Nat → Int32) (fa : Nat → Nat → Int32) (x3 : Int64) (x5 : Int64) (x7 : Int32) (x8 : Int32), lp_X6_stonesToEnclose_86 N x1 x2 n 0 fi fa x3 x5 x7 x8 0 = some out → ∀ (H : Heap) (locs : List Loc), va_P D ga_cl (mW b cA fr fi fa) H → va_D A (mW b cA fr fi fa) → va_S A s.heap H locs → ∀ ls : Array Slot, lv_has ls 10 [(0, .ref b), (2, .int x2), (3, .long x3), (5, .long x5), (7, .int x7), (8, .int x8)] → W p l e (headSpec (ws_ yX6_stonesToEnclose cX6_stonesToEnclose 10 (some .int)) rm_X6_stonesToEnclose).room s m args below meth c H locs 0 0 (MQ below (va_Qi (fun (r : Int32) (u : ga_MS) => (out.1 = r) ∧ out.2 = u) (ga_MB D cA A b fr) A) args s 0 0 A) (F0 m 86 ls [])) ∧ (∀ (fi : Nat → Int32) (fa : Nat → Nat → Int32) (x3 : Int64) (x5 : Int64) (x7 : Int32) (x8 : Int32) (x9 : Int32), lp_X6_stonesToEnclose_86 N x1 x2 n 1 fi fa x3 x5 x7 x8 x9 = some out → ∀ (H : Heap) (locs : List Loc), va_P D ga_cl (mW b cA fr fi fa) H → va_D A (mW b cA fr fi fa) → va_S A s.heap H locs → ∀ ls : Array Slot, lv_has ls 10 [(0, .ref b), (2, .int x2), (3, .long x3), (5, .long x5), (7, .int x7), (8, .int x8), (9, .int x9)] → W p l e (headSpec (ws_ yX6_stonesToEnclose cX6_stonesToEnclose 10 (some .int)) rm_X6_stonesToEnclose).room s m args below meth c H locs 0 0 (MQ below (va_Qi (fun (r : Int32) (u : ga_MS) => (out.1 = r) ∧ out.2 = u) (ga_MB D cA A b fr) A) args s 0 0 A) (F0 m 136 ls [])) := by
  have C0 := C
  obtain ⟨hx, hb, hr, hlocks, hml, hown, hts⟩ := C0
  intro n
  induction n with
  | zero =>
    refine ⟨?_, ?_⟩
    · intro fi fa x3 x5 x7 x8 h
      rw [lp_X6_stonesToEnclose_86.eq_1] at h
      cases h
    · intro fi fa x3 x5 x7 x8 x9 h
      rw [lp_X6_stonesToEnclose_86.eq_1] at h
      cases h
  | succ n ih =>
    refine ⟨?_, ?_⟩
    · intro fi fa x3 x5 x7 x8 h H locs hP hD hS ls hl
      rw [lp_X6_stonesToEnclose_86.eq_2] at h
      refine lv_iload hx hb dX6_stonesToEnclose_86 (lv_at hl 5 rfl) ?_
      refine lv_aload_n hx hb dX6_stonesToEnclose_88 rfl (lv_at hl 0 rfl) ?_
      obtain ⟨r_37, e_38, h⟩ := ga_gb h
      refine vp_callSi (W.runV (As := []) (rest := [.int x8]) ⟨hx, hb, hml, hown, hts⟩ (met_X6_cells l D cA b fr fi fa N r_37 e_38) (cwV 0 hts (lw_V q1627 q1629 qs32 q79 q1630) rfl rfl rfl (by decide +kernel) ⟨Nat.le_of_ble_eq_true rfl, Nat.le_of_ble_eq_true rfl⟩) (ga_PV hK hP (va_recv hK.1 hP (ci := 0) (q0 := 0) rfl rfl)) rfl rfl hl.1 rfl (lv_room (Nat.le_of_ble_eq_true rfl)) dX6_stonesToEnclose_89 ⟨Nat.le_of_ble_eq_true rfl, Nat.le_of_ble_eq_true rfl⟩) (fun z_39 w_40 => ?_)
      obtain rfl := w_40
      refine lv_icmp_ge (tgt := 205) hx hb dX6_stonesToEnclose_92 (by decide) (fun c_41 => ?_) (fun c_41 => ?_)
      · replace h := ga_ift c_41 h
        refine lv_iload hx hb dX6_stonesToEnclose_205 (lv_at hl 4 rfl) ?_
        refine lv_iconst (v := 2) hx hb dX6_stonesToEnclose_207 (by decide) ?_
        refine lv_icmp_ne (tgt := 215) hx hb dX6_stonesToEnclose_208 (by decide) (fun c_42 => ?_) (fun c_42 => ?_)
        · replace h := ga_iff c_42 h
          refine lv_aload_n hx hb dX6_stonesToEnclose_215 rfl (lv_at hl 0 rfl) ?_
          refine lv_iconst (v := 2) hx hb dX6_stonesToEnclose_216 (by decide) ?_
          obtain ⟨r_43, e_44, h⟩ := ga_gb h
          refine va_calli (va_runV (As := [.int 2]) (rest := []) ⟨hx, hb, hml, hown, hts⟩ (met_X6_no l D cA A b fr fi fa N 2 r_43 e_44) (cwV 1 hts (lw_V q1726 q1728 qs52 q79 q1729) rfl rfl rfl (by decide +kernel) ⟨Nat.le_of_ble_eq_true rfl, Nat.le_of_ble_eq_true rfl⟩) (ga_NV hK hP hD (va_recv hK.1 hP (ci := 0) (q0 := 0) rfl rfl)) rfl rfl hl.1 rfl (lv_room (Nat.le_of_ble_eq_true rfl)) dX6_stonesToEnclose_217 ⟨Nat.le_of_ble_eq_true rfl, Nat.le_of_ble_eq_true rfl⟩) hS (fun _ _ hq => hq) (fun _ hq => hq) (fun z_45 u t H locs ht _ w_46 hB _ _ hS => ?_)
          obtain ⟨rfl, rfl⟩ := w_46
          obtain ⟨hP, -, hD⟩ := hB
          rw [ht] at hP
          cases h
          exact W.iret hx hb hr (fun t ht hW => ⟨⟨_, _, rfl, ⟨rfl, rfl⟩, ⟨by rw [ht]; exact hP, hK.warm hW, hD⟩⟩, hS.F ht⟩) hS.2.2 dX6_stonesToEnclose_220
        · replace h := ga_ift c_42 h
          refine lv_iconst (v := 2) hx hb dX6_stonesToEnclose_211 (by decide) ?_
          refine lv_goto (tgt := 220) hx hb dX6_stonesToEnclose_212 (by decide) ?_
          cases h
          exact W.iret hx hb hr (fun t ht hW => ⟨⟨_, _, rfl, ⟨rfl, rfl⟩, ⟨by rw [ht]; exact hP, hK.warm hW, hD⟩⟩, hS.F ht⟩) hS.2.2 dX6_stonesToEnclose_220
      · replace h := ga_iff c_41 h
        refine lv_lload hx hb dX6_stonesToEnclose_95 (lv_at hl 3 rfl) ?_
        refine lv_iload hx hb dX6_stonesToEnclose_97 (lv_at hl 5 rfl) ?_
        refine lv_lshr (v := (jlshr x5 x8)) hx hb dX6_stonesToEnclose_99 rfl ?_
        refine lv_lconst (v := 1) hx hb dX6_stonesToEnclose_100 (by decide) ?_
        refine lv_land hx hb dX6_stonesToEnclose_101 ?_
        refine lv_lconst (v := 0) hx hb dX6_stonesToEnclose_102 (by decide) ?_
        refine W.lcmp hx hb dX6_stonesToEnclose_103 ?_
        refine lv_if_ne (tgt := 110) hx hb dX6_stonesToEnclose_104 (by decide) (fun c_48 => ?_) (fun c_48 => ?_)
        · replace h := ga_iff c_48 h
          refine lv_aload_n hx hb dX6_stonesToEnclose_110 rfl (lv_at hl 0 rfl) ?_
          refine lv_lload_n hx hb dX6_stonesToEnclose_111 rfl (lv_at hl 2 rfl) ?_
          refine lv_lconst (v := 1) hx hb dX6_stonesToEnclose_112 (by decide) ?_
          refine lv_iload hx hb dX6_stonesToEnclose_113 (lv_at hl 5 rfl) ?_
          refine lv_lshl (v := (jlshl 1 x8)) hx hb dX6_stonesToEnclose_115 rfl ?_
          refine lv_ldc2 hx hb hown (hts _ q1703) dX6_stonesToEnclose_116 ?_
          refine lv_lxor hx hb dX6_stonesToEnclose_119 ?_
          refine lv_land hx hb dX6_stonesToEnclose_120 ?_
          refine lv_iload_n hx hb dX6_stonesToEnclose_121 rfl (lv_at hl 1 rfl) ?_
          obtain ⟨r_49, e_50, h⟩ := ga_gb h
          refine vp_callSi (W.runV (As := [.long (x3 &&& ((jlshl 1 x8) ^^^ (-1))), .int x2]) (rest := []) ⟨hx, hb, hml, hown, hts⟩ (met_X6_isEnclosed l D cA b fr fi fa N (x3 &&& ((jlshl 1 x8) ^^^ (-1))) x2 r_49 e_50) (cwV 2 hts (lw_V q1778 q1780 qs55 q79 q1781) rfl rfl rfl (by decide +kernel) ⟨Nat.le_of_ble_eq_true rfl, Nat.le_of_ble_eq_true rfl⟩) (ga_PV hK hP (va_recv hK.1 hP (ci := 0) (q0 := 0) rfl rfl)) rfl rfl hl.1 rfl (lv_room (Nat.le_of_ble_eq_true rfl)) dX6_stonesToEnclose_122 ⟨Nat.le_of_ble_eq_true rfl, Nat.le_of_ble_eq_true rfl⟩) (fun z_51 w_52 => ?_)
          obtain ⟨rfl, b_53⟩ := w_52
          refine lv_if_eq (tgt := 130) hx hb dX6_stonesToEnclose_125 (by decide) (fun c_54 => ?_) (fun c_54 => ?_)
          · replace h := ga_ift c_54 h
            refine lv_iload hx hb dX6_stonesToEnclose_130 (lv_at hl 5 rfl) ?_
            refine lv_iconst (v := 1) hx hb dX6_stonesToEnclose_132 (by decide) ?_
            refine lv_iadd hx hb dX6_stonesToEnclose_133 ?_
            refine lv_istore (lv' := [(9, .int (x8 + 1)), (0, .ref b), (2, .int x2), (3, .long x3), (5, .long x5), (7, .int x7), (8, .int x8)]) hx hb dX6_stonesToEnclose_134 hl (by decide) rfl (fun ls hl => ?_)
            exact ih.2 fi fa x3 x5 x7 x8 (x8 + 1) h _ _ hP hD hS _ (lv_sub hl [1, 2, 3, 4, 5, 6, 0] rfl)
          · replace h := ga_iff c_54 h
            refine lv_iconst (v := 1) hx hb dX6_stonesToEnclose_128 (by decide) ?_
            cases h
            exact W.iret hx hb hr (fun t ht hW => ⟨⟨_, _, rfl, ⟨rfl, rfl⟩, ⟨by rw [ht]; exact hP, hK.warm hW, hD⟩⟩, hS.F ht⟩) hS.2.2 dX6_stonesToEnclose_129
        · replace h := ga_ift c_48 h
          refine lv_goto (tgt := 199) hx hb dX6_stonesToEnclose_107 (by decide) ?_
          refine lv_iinc (v := (x8 + 1)) (lv' := [(8, .int (x8 + 1)), (0, .ref b), (2, .int x2), (3, .long x3), (5, .long x5), (7, .int x7)]) hx hb dX6_stonesToEnclose_199 hl (k := 5) rfl rfl (by decide) rfl (fun ls hl => ?_)
          refine lv_goto (tgt := 86) hx hb dX6_stonesToEnclose_202 (by decide) ?_
          exact ih.1 fi fa x3 x5 x7 (x8 + 1) h _ _ hP hD hS _ (lv_sub hl [1, 2, 3, 4, 5, 0] rfl)
    · intro fi fa x3 x5 x7 x8 x9 h H locs hP hD hS ls hl
      rw [lp_X6_stonesToEnclose_86.eq_3] at h
      refine lv_iload hx hb dX6_stonesToEnclose_136 (lv_at hl 6 rfl) ?_
      refine lv_aload_n hx hb dX6_stonesToEnclose_138 rfl (lv_at hl 0 rfl) ?_
      obtain ⟨r_55, e_56, h⟩ := ga_gb h
      refine vp_callSi (W.runV (As := []) (rest := [.int x9]) ⟨hx, hb, hml, hown, hts⟩ (met_X6_cells l D cA b fr fi fa N r_55 e_56) (cwV 0 hts (lw_V q1627 q1629 qs32 q79 q1630) rfl rfl rfl (by decide +kernel) ⟨Nat.le_of_ble_eq_true rfl, Nat.le_of_ble_eq_true rfl⟩) (ga_PV hK hP (va_recv hK.1 hP (ci := 0) (q0 := 0) rfl rfl)) rfl rfl hl.1 rfl (lv_room (Nat.le_of_ble_eq_true rfl)) dX6_stonesToEnclose_139 ⟨Nat.le_of_ble_eq_true rfl, Nat.le_of_ble_eq_true rfl⟩) (fun z_57 w_58 => ?_)
      obtain rfl := w_58
      refine lv_icmp_ge (tgt := 199) hx hb dX6_stonesToEnclose_142 (by decide) (fun c_59 => ?_) (fun c_59 => ?_)
      · replace h := ga_ift c_59 h
        refine lv_iinc (v := (x8 + 1)) (lv' := [(8, .int (x8 + 1)), (0, .ref b), (2, .int x2), (3, .long x3), (5, .long x5), (7, .int x7), (9, .int x9)]) hx hb dX6_stonesToEnclose_199 hl (k := 5) rfl rfl (by decide) rfl (fun ls hl => ?_)
        refine lv_goto (tgt := 86) hx hb dX6_stonesToEnclose_202 (by decide) ?_
        exact ih.1 fi fa x3 x5 x7 (x8 + 1) h _ _ hP hD hS _ (lv_sub hl [1, 2, 3, 4, 5, 0] rfl)
      · replace h := ga_iff c_59 h
        refine lv_iload hx hb dX6_stonesToEnclose_145 (lv_at hl 4 rfl) ?_
        refine lv_iconst (v := 2) hx hb dX6_stonesToEnclose_147 (by decide) ?_
        refine lv_icmp_le (tgt := 199) hx hb dX6_stonesToEnclose_148 (by decide) (fun c_60 => ?_) (fun c_60 => ?_)
        · replace h := ga_ift c_60 h
          refine lv_iinc (v := (x8 + 1)) (lv' := [(8, .int (x8 + 1)), (0, .ref b), (2, .int x2), (3, .long x3), (5, .long x5), (7, .int x7), (9, .int x9)]) hx hb dX6_stonesToEnclose_199 hl (k := 5) rfl rfl (by decide) rfl (fun ls hl => ?_)
          refine lv_goto (tgt := 86) hx hb dX6_stonesToEnclose_202 (by decide) ?_
          exact ih.1 fi fa x3 x5 x7 (x8 + 1) h _ _ hP hD hS _ (lv_sub hl [1, 2, 3, 4, 5, 0] rfl)
        · replace h := ga_iff c_60 h
          refine lv_lload hx hb dX6_stonesToEnclose_151 (lv_at hl 3 rfl) ?_
          refine lv_iload hx hb dX6_stonesToEnclose_153 (lv_at hl 6 rfl) ?_
          refine lv_lshr (v := (jlshr x5 x9)) hx hb dX6_stonesToEnclose_155 rfl ?_
          refine lv_lconst (v := 1) hx hb dX6_stonesToEnclose_156 (by decide) ?_
          refine lv_land hx hb dX6_stonesToEnclose_157 ?_
          refine lv_lconst (v := 1) hx hb dX6_stonesToEnclose_158 (by decide) ?_
          refine W.lcmp hx hb dX6_stonesToEnclose_159 ?_
          refine lv_if_ne (tgt := 193) hx hb dX6_stonesToEnclose_160 (by decide) (fun c_61 => ?_) (fun c_61 => ?_)
          · replace h := ga_iff c_61 h
            refine lv_iinc (v := (x9 + 1)) (lv' := [(9, .int (x9 + 1)), (0, .ref b), (2, .int x2), (3, .long x3), (5, .long x5), (7, .int x7), (8, .int x8)]) hx hb dX6_stonesToEnclose_193 hl (k := 6) rfl rfl (by decide) rfl (fun ls hl => ?_)
            refine lv_goto (tgt := 136) hx hb dX6_stonesToEnclose_196 (by decide) ?_
            exact ih.2 fi fa x3 x5 x7 x8 (x9 + 1) h _ _ hP hD hS _ (lv_sub hl [1, 2, 3, 4, 5, 6, 0] rfl)
          · replace h := ga_ift c_61 h
            refine lv_aload_n hx hb dX6_stonesToEnclose_163 rfl (lv_at hl 0 rfl) ?_
            refine lv_lload_n hx hb dX6_stonesToEnclose_164 rfl (lv_at hl 2 rfl) ?_
            refine lv_lconst (v := 1) hx hb dX6_stonesToEnclose_165 (by decide) ?_
            refine lv_iload hx hb dX6_stonesToEnclose_166 (lv_at hl 5 rfl) ?_
            refine lv_lshl (v := (jlshl 1 x8)) hx hb dX6_stonesToEnclose_168 rfl ?_
            refine lv_ldc2 hx hb hown (hts _ q1703) dX6_stonesToEnclose_169 ?_
            refine lv_lxor hx hb dX6_stonesToEnclose_172 ?_
            refine lv_land hx hb dX6_stonesToEnclose_173 ?_
            refine lv_lconst (v := 1) hx hb dX6_stonesToEnclose_174 (by decide) ?_
            refine lv_iload hx hb dX6_stonesToEnclose_175 (lv_at hl 6 rfl) ?_
            refine lv_lshl (v := (jlshl 1 x9)) hx hb dX6_stonesToEnclose_177 rfl ?_
            refine lv_ldc2 hx hb hown (hts _ q1703) dX6_stonesToEnclose_178 ?_
            refine lv_lxor hx hb dX6_stonesToEnclose_181 ?_
            refine lv_land hx hb dX6_stonesToEnclose_182 ?_
            refine lv_iload_n hx hb dX6_stonesToEnclose_183 rfl (lv_at hl 1 rfl) ?_
            obtain ⟨r_62, e_63, h⟩ := ga_gb h
            refine vp_callSi (W.runV (As := [.long ((x3 &&& ((jlshl 1 x8) ^^^ (-1))) &&& ((jlshl 1 x9) ^^^ (-1))), .int x2]) (rest := []) ⟨hx, hb, hml, hown, hts⟩ (met_X6_isEnclosed l D cA b fr fi fa N ((x3 &&& ((jlshl 1 x8) ^^^ (-1))) &&& ((jlshl 1 x9) ^^^ (-1))) x2 r_62 e_63) (cwV 2 hts (lw_V q1778 q1780 qs55 q79 q1781) rfl rfl rfl (by decide +kernel) ⟨Nat.le_of_ble_eq_true rfl, Nat.le_of_ble_eq_true rfl⟩) (ga_PV hK hP (va_recv hK.1 hP (ci := 0) (q0 := 0) rfl rfl)) rfl rfl hl.1 rfl (lv_room (Nat.le_of_ble_eq_true rfl)) dX6_stonesToEnclose_184 ⟨Nat.le_of_ble_eq_true rfl, Nat.le_of_ble_eq_true rfl⟩) (fun z_64 w_65 => ?_)
            obtain ⟨rfl, b_66⟩ := w_65
            refine lv_if_eq (tgt := 193) hx hb dX6_stonesToEnclose_187 (by decide) (fun c_67 => ?_) (fun c_67 => ?_)
            · replace h := ga_ift c_67 h
              refine lv_iinc (v := (x9 + 1)) (lv' := [(9, .int (x9 + 1)), (0, .ref b), (2, .int x2), (3, .long x3), (5, .long x5), (7, .int x7), (8, .int x8)]) hx hb dX6_stonesToEnclose_193 hl (k := 6) rfl rfl (by decide) rfl (fun ls hl => ?_)
              refine lv_goto (tgt := 136) hx hb dX6_stonesToEnclose_196 (by decide) ?_
              exact ih.2 fi fa x3 x5 x7 x8 (x9 + 1) h _ _ hP hD hS _ (lv_sub hl [1, 2, 3, 4, 5, 6, 0] rfl)
            · replace h := ga_iff c_67 h
              refine lv_iconst (v := 2) hx hb dX6_stonesToEnclose_190 (by decide) ?_
              refine lv_istore (lv' := [(7, .int 2), (0, .ref b), (2, .int x2), (3, .long x3), (5, .long x5), (8, .int x8), (9, .int x9)]) hx hb dX6_stonesToEnclose_191 hl (by decide) rfl (fun ls hl => ?_)
              refine lv_iinc (v := (x9 + 1)) (lv' := [(9, .int (x9 + 1)), (7, .int 2), (0, .ref b), (2, .int x2), (3, .long x3), (5, .long x5), (8, .int x8)]) hx hb dX6_stonesToEnclose_193 hl (k := 6) rfl rfl (by decide) rfl (fun ls hl => ?_)
              refine lv_goto (tgt := 136) hx hb dX6_stonesToEnclose_196 (by decide) ?_
              exact ih.2 fi fa x3 x5 2 x8 (x9 + 1) h _ _ hP hD hS _ (lv_sub hl [2, 3, 4, 5, 1, 6, 0] rfl)
def F_X6_stonesToEnclose (N : Nat) (fi : Nat → Int32) (fa : Nat → Nat → Int32) (x1 : Int32) (x2 : Int32) : Option (Int32 × ga_MS) :=
  ((F_X6_isIn N x1 0 1).bind fun r_1 =>
  (if r_1 = 0 then
  some (0, (upd fi 0 1, fa))
  else
  ((F_X6_isCell N fi fa x2).bind fun r_8 =>
  (if r_8 = 0 then
  some (0, (upd fi 0 1, fa))
  else
  ((F_X6_isOutside N fi fa x1 x2).bind fun r_14 =>
  (if r_14 = 0 then
  some (0, (upd fi 0 2, fa))
  else
  ((F_X6_outside N (upd fi 0 0) fa x1).bind fun r_21 =>
  ((F_X6_isEnclosed N (upd fi 0 0) fa r_21 x2).bind fun r_25 =>
  (if r_25 = 0 then
  ((F_X6_bits N (upd fi 0 0) fa 0).bind fun r_31 =>
  lp_X6_stonesToEnclose_86 N x1 x2 N 0 (upd fi 0 0) fa r_21 (r_31 &&& ((jlshl 1 x2) ^^^ (-1))) 3 0 0)
  else
  some (0, (upd fi 0 0, fa)))))))))))
set_option maxHeartbeats 4000000 in
theorem met_X6_stonesToEnclose (l : Launch) (D : va_G) (cA : Nat → ClassId) (A : Nat → Prop) (b : Nat) (fr : Nat → Nat) (fi : Nat → Int32) (fa : Nat → Nat → Int32) (N : Nat) (x1 : Int32) (x2 : Int32) (out : Int32 × ga_MS) (h : F_X6_stonesToEnclose N fi fa x1 x2 = some out) : Met l yX6_stonesToEnclose (ws_ yX6_stonesToEnclose cX6_stonesToEnclose 10 (some .int)) rm_X6_stonesToEnclose (ga_N D cA A (mW b cA fr fi fa) [.ref b, .int x1, .int x2]) (va_Qi (fun (r : Int32) (u : ga_MS) => (out.1 = r) ∧ out.2 = u) (ga_MB D cA A b fr) A) 0 0 A := by
  refine Met.ofW (cc := cX6_stonesToEnclose) (maxL := 10) (ret := (some .int)) (by decide) rfl ?_
  intro p e s m args below meth c s₁ B hml hv
  obtain ⟨rfl, hP, hK, hD⟩ := hv
  have hS : va_S A s.heap s.heap [] := va_S.rf
  have C : ga_cx p m c meth s _ RX6 cX6_stonesToEnclose 10 (some .int) := ga_cx_of B hml
  have C0 := C
  obtain ⟨hx, hb, hr, hlocks, hml, hown, hts⟩ := C0
  have hl := lv_entry ([.ref b, .int x1, .int x2]) (n := 10) (Nat.le_of_ble_eq_true rfl)
  rw [lg_entry_eq]
  generalize (lg_sl ([.ref b, .int x1, .int x2]) ++ List.replicate (10 - (lg_sl ([.ref b, .int x1, .int x2])).length) Slot.unset).toArray = ls at hl ⊢
  have hl : lv_has ls 10 [(0, .ref b), (1, .int x1), (2, .int x2)] := hl
  rw [F_X6_stonesToEnclose] at h
  refine lv_aload_n hx hb dX6_stonesToEnclose_0 rfl (lv_at hl 0 rfl) ?_
  refine lv_iload_n hx hb dX6_stonesToEnclose_1 rfl (lv_at hl 1 rfl) ?_
  refine lv_iconst (v := 0) hx hb dX6_stonesToEnclose_2 (by decide) ?_
  refine lv_iconst (v := 1) hx hb dX6_stonesToEnclose_3 (by decide) ?_
  obtain ⟨r_1, e_2, h⟩ := ga_gb h
  refine vp_callSi (W.runS (As := [.int x1, .int 0, .int 1]) (rest := [.ref b]) ⟨hx, hb, hml, hown, hts⟩ (met_X6_isIn l D cA N x1 0 1 r_1 e_2) (va_cwS 3 hts (lw_S q1620 q1621 q79 q1622) rfl rfl rfl (by decide +kernel) ⟨Nat.le_of_ble_eq_true rfl, Nat.le_of_ble_eq_true rfl⟩) (ga_PS hK ga_P0) rfl rfl hl.1 rfl (lv_room (Nat.le_of_ble_eq_true rfl)) dX6_stonesToEnclose_4 ⟨Nat.le_of_ble_eq_true rfl, Nat.le_of_ble_eq_true rfl⟩) (fun z_3 w_4 => ?_)
  obtain ⟨rfl, b_5⟩ := w_4
  refine lv_if_eq (tgt := 18) hx hb dX6_stonesToEnclose_7 (by decide) (fun c_6 => ?_) (fun c_6 => ?_)
  · replace h := ga_ift c_6 h
    refine lv_iconst (v := 1) hx hb dX6_stonesToEnclose_18 (by decide) ?_
    refine lv_goto (tgt := 36) hx hb dX6_stonesToEnclose_19 (by decide) ?_
    refine va_put hx hb hts in_X6 tyX6 tyX6_ok nmX6 hown hK.1 hP hD hS 0 (fs := mF fi fr) rfl rfl 0 (by decide) (hts _ q1512) (fun _ hh => hh) rfl (v := .int 1) rfl rfl rfl (mF_lt (by decide)) dX6_stonesToEnclose_36 (fun H locs hP hD hS => ?_)
    rw [mS_0] at hP hD
    refine lv_aload_n hx hb dX6_stonesToEnclose_39 rfl (lv_at hl 0 rfl) ?_
    refine va_get hx hb hts in_X6 hown hK.1 hP 0 (fs := mF (upd fi 0 1) fr) rfl rfl 0 (by decide) (hts _ q1512) (fun _ hh => hh) (v := .int 1) rfl dX6_stonesToEnclose_40 ?_
    refine lv_if_le (tgt := 48) hx hb dX6_stonesToEnclose_43 (by decide) (fun c_7 => absurd c_7 (by decide)) (fun _ => ?_)
    refine lv_iconst (v := 0) hx hb dX6_stonesToEnclose_46 (by decide) ?_
    cases h
    exact W.iret hx hb hr (fun t ht hW => ⟨⟨_, _, rfl, ⟨rfl, rfl⟩, ⟨by rw [ht]; exact hP, hK.warm hW, hD⟩⟩, hS.F ht⟩) hS.2.2 dX6_stonesToEnclose_47
  · replace h := ga_iff c_6 h
    refine lv_aload_n hx hb dX6_stonesToEnclose_10 rfl (lv_at hl 0 rfl) ?_
    refine lv_iload_n hx hb dX6_stonesToEnclose_11 rfl (lv_at hl 2 rfl) ?_
    obtain ⟨r_8, e_9, h⟩ := ga_gb h
    refine vp_callSi (W.runV (As := [.int x2]) (rest := [.ref b]) ⟨hx, hb, hml, hown, hts⟩ (met_X6_isCell l D cA b fr fi fa N x2 r_8 e_9) (cwV 1 hts (lw_V q1647 q1649 qs34 q79 q1650) rfl rfl rfl (by decide +kernel) ⟨Nat.le_of_ble_eq_true rfl, Nat.le_of_ble_eq_true rfl⟩) (ga_PV hK hP (va_recv hK.1 hP (ci := 0) (q0 := 0) rfl rfl)) rfl rfl hl.1 rfl (lv_room (Nat.le_of_ble_eq_true rfl)) dX6_stonesToEnclose_12 ⟨Nat.le_of_ble_eq_true rfl, Nat.le_of_ble_eq_true rfl⟩) (fun z_10 w_11 => ?_)
    obtain ⟨rfl, b_12⟩ := w_11
    refine lv_if_ne (tgt := 22) hx hb dX6_stonesToEnclose_15 (by decide) (fun c_13 => ?_) (fun c_13 => ?_)
    · replace h := ga_iff c_13 h
      refine lv_aload_n hx hb dX6_stonesToEnclose_22 rfl (lv_at hl 0 rfl) ?_
      refine lv_iload_n hx hb dX6_stonesToEnclose_23 rfl (lv_at hl 1 rfl) ?_
      refine lv_iload_n hx hb dX6_stonesToEnclose_24 rfl (lv_at hl 2 rfl) ?_
      obtain ⟨r_14, e_15, h⟩ := ga_gb h
      refine vp_callSi (W.runV (As := [.int x1, .int x2]) (rest := [.ref b]) ⟨hx, hb, hml, hown, hts⟩ (met_X6_isOutside l D cA b fr fi fa N x1 x2 r_14 e_15) (cwV 2 hts (lw_V q1762 q1764 qs54 q79 q1765) rfl rfl rfl (by decide +kernel) ⟨Nat.le_of_ble_eq_true rfl, Nat.le_of_ble_eq_true rfl⟩) (ga_PV hK hP (va_recv hK.1 hP (ci := 0) (q0 := 0) rfl rfl)) rfl rfl hl.1 rfl (lv_room (Nat.le_of_ble_eq_true rfl)) dX6_stonesToEnclose_25 ⟨Nat.le_of_ble_eq_true rfl, Nat.le_of_ble_eq_true rfl⟩) (fun z_16 w_17 => ?_)
      obtain ⟨rfl, b_18⟩ := w_17
      refine lv_if_ne (tgt := 35) hx hb dX6_stonesToEnclose_28 (by decide) (fun c_19 => ?_) (fun c_19 => ?_)
      · replace h := ga_iff c_19 h
        refine lv_iconst (v := 0) hx hb dX6_stonesToEnclose_35 (by decide) ?_
        refine va_put hx hb hts in_X6 tyX6 tyX6_ok nmX6 hown hK.1 hP hD hS 0 (fs := mF fi fr) rfl rfl 0 (by decide) (hts _ q1512) (fun _ hh => hh) rfl (v := .int 0) rfl rfl rfl (mF_lt (by decide)) dX6_stonesToEnclose_36 (fun H locs hP hD hS => ?_)
        rw [mS_0] at hP hD
        refine lv_aload_n hx hb dX6_stonesToEnclose_39 rfl (lv_at hl 0 rfl) ?_
        refine va_get hx hb hts in_X6 hown hK.1 hP 0 (fs := mF (upd fi 0 0) fr) rfl rfl 0 (by decide) (hts _ q1512) (fun _ hh => hh) (v := .int 0) rfl dX6_stonesToEnclose_40 ?_
        refine lv_if_le (tgt := 48) hx hb dX6_stonesToEnclose_43 (by decide) (fun _ => ?_) (fun c_20 => absurd (by decide) c_20)
        refine lv_aload_n hx hb dX6_stonesToEnclose_48 rfl (lv_at hl 0 rfl) ?_
        refine lv_iload_n hx hb dX6_stonesToEnclose_49 rfl (lv_at hl 1 rfl) ?_
        obtain ⟨r_21, e_22, h⟩ := ga_gb h
        refine vp_callSl (W.runV (As := [.int x1]) (rest := []) ⟨hx, hb, hml, hown, hts⟩ (met_X6_outside l D cA b fr (upd fi 0 0) fa N x1 r_21 e_22) (cwV 1 hts (lw_V q1691 q1693 qs45 q79 q1694) rfl rfl rfl (by decide +kernel) ⟨Nat.le_of_ble_eq_true rfl, Nat.le_of_ble_eq_true rfl⟩) (ga_PV hK hP (va_recv hK.1 hP (ci := 0) (q0 := 0) rfl rfl)) rfl rfl hl.1 rfl (lv_room (Nat.le_of_ble_eq_true rfl)) dX6_stonesToEnclose_50 ⟨Nat.le_of_ble_eq_true rfl, Nat.le_of_ble_eq_true rfl⟩) (fun z_23 w_24 => ?_)
        obtain rfl := w_24
        refine lv_lstore_n (lv' := [(3, .long r_21), (0, .ref b), (1, .int x1), (2, .int x2)]) hx hb dX6_stonesToEnclose_53 rfl hl (by decide) rfl (fun ls hl => ?_)
        refine lv_aload_n hx hb dX6_stonesToEnclose_54 rfl (lv_at hl 1 rfl) ?_
        refine lv_lload_n hx hb dX6_stonesToEnclose_55 rfl (lv_at hl 0 rfl) ?_
        refine lv_iload_n hx hb dX6_stonesToEnclose_56 rfl (lv_at hl 3 rfl) ?_
        obtain ⟨r_25, e_26, h⟩ := ga_gb h
        refine vp_callSi (W.runV (As := [.long r_21, .int x2]) (rest := []) ⟨hx, hb, hml, hown, hts⟩ (met_X6_isEnclosed l D cA b fr (upd fi 0 0) fa N r_21 x2 r_25 e_26) (cwV 2 hts (lw_V q1778 q1780 qs55 q79 q1781) rfl rfl rfl (by decide +kernel) ⟨Nat.le_of_ble_eq_true rfl, Nat.le_of_ble_eq_true rfl⟩) (ga_PV hK hP (va_recv hK.1 hP (ci := 0) (q0 := 0) rfl rfl)) rfl rfl hl.1 rfl (lv_room (Nat.le_of_ble_eq_true rfl)) dX6_stonesToEnclose_57 ⟨Nat.le_of_ble_eq_true rfl, Nat.le_of_ble_eq_true rfl⟩) (fun z_27 w_28 => ?_)
        obtain ⟨rfl, b_29⟩ := w_28
        refine lv_if_eq (tgt := 65) hx hb dX6_stonesToEnclose_60 (by decide) (fun c_30 => ?_) (fun c_30 => ?_)
        · replace h := ga_ift c_30 h
          refine lv_aload_n hx hb dX6_stonesToEnclose_65 rfl (lv_at hl 1 rfl) ?_
          refine lv_iconst (v := 0) hx hb dX6_stonesToEnclose_66 (by decide) ?_
          obtain ⟨r_31, e_32, h⟩ := ga_gb h
          refine vp_callSl (W.runV (As := [.int 0]) (rest := []) ⟨hx, hb, hml, hown, hts⟩ (met_X6_bits l D cA b fr (upd fi 0 0) fa N 0 r_31 e_32) (cwV 1 hts (lw_V q1699 q1701 qs47 q79 q1702) rfl rfl rfl (by decide +kernel) ⟨Nat.le_of_ble_eq_true rfl, Nat.le_of_ble_eq_true rfl⟩) (ga_PV hK hP (va_recv hK.1 hP (ci := 0) (q0 := 0) rfl rfl)) rfl rfl hl.1 rfl (lv_room (Nat.le_of_ble_eq_true rfl)) dX6_stonesToEnclose_67 ⟨Nat.le_of_ble_eq_true rfl, Nat.le_of_ble_eq_true rfl⟩) (fun z_33 w_34 => ?_)
          obtain rfl := w_34
          refine lv_lconst (v := 1) hx hb dX6_stonesToEnclose_70 (by decide) ?_
          refine lv_iload_n hx hb dX6_stonesToEnclose_71 rfl (lv_at hl 3 rfl) ?_
          refine lv_lshl (v := (jlshl 1 x2)) hx hb dX6_stonesToEnclose_72 rfl ?_
          refine lv_ldc2 hx hb hown (hts _ q1703) dX6_stonesToEnclose_73 ?_
          refine lv_lxor hx hb dX6_stonesToEnclose_76 ?_
          refine lv_land hx hb dX6_stonesToEnclose_77 ?_
          refine lv_lstore (lv' := [(5, .long (r_31 &&& ((jlshl 1 x2) ^^^ (-1)))), (3, .long r_21), (0, .ref b), (1, .int x1), (2, .int x2)]) hx hb dX6_stonesToEnclose_78 hl (by decide) rfl (fun ls hl => ?_)
          refine lv_iconst (v := 3) hx hb dX6_stonesToEnclose_80 (by decide) ?_
          refine lv_istore (lv' := [(7, .int 3), (5, .long (r_31 &&& ((jlshl 1 x2) ^^^ (-1)))), (3, .long r_21), (0, .ref b), (1, .int x1), (2, .int x2)]) hx hb dX6_stonesToEnclose_81 hl (by decide) rfl (fun ls hl => ?_)
          refine lv_iconst (v := 0) hx hb dX6_stonesToEnclose_83 (by decide) ?_
          refine lv_istore (lv' := [(8, .int 0), (7, .int 3), (5, .long (r_31 &&& ((jlshl 1 x2) ^^^ (-1)))), (3, .long r_21), (0, .ref b), (1, .int x1), (2, .int x2)]) hx hb dX6_stonesToEnclose_84 hl (by decide) rfl (fun ls hl => ?_)
          exact (w_X6_stonesToEnclose_86 C hK N).1 (upd fi 0 0) fa r_21 (r_31 &&& ((jlshl 1 x2) ^^^ (-1))) 3 0 h _ _ hP hD hS _ (lv_sub hl [4, 6, 3, 2, 1, 0] rfl)
        · replace h := ga_iff c_30 h
          refine lv_iconst (v := 0) hx hb dX6_stonesToEnclose_63 (by decide) ?_
          cases h
          exact W.iret hx hb hr (fun t ht hW => ⟨⟨_, _, rfl, ⟨rfl, rfl⟩, ⟨by rw [ht]; exact hP, hK.warm hW, hD⟩⟩, hS.F ht⟩) hS.2.2 dX6_stonesToEnclose_64
      · replace h := ga_ift c_19 h
        refine lv_iconst (v := 2) hx hb dX6_stonesToEnclose_31 (by decide) ?_
        refine lv_goto (tgt := 36) hx hb dX6_stonesToEnclose_32 (by decide) ?_
        refine va_put hx hb hts in_X6 tyX6 tyX6_ok nmX6 hown hK.1 hP hD hS 0 (fs := mF fi fr) rfl rfl 0 (by decide) (hts _ q1512) (fun _ hh => hh) rfl (v := .int 2) rfl rfl rfl (mF_lt (by decide)) dX6_stonesToEnclose_36 (fun H locs hP hD hS => ?_)
        rw [mS_0] at hP hD
        refine lv_aload_n hx hb dX6_stonesToEnclose_39 rfl (lv_at hl 0 rfl) ?_
        refine va_get hx hb hts in_X6 hown hK.1 hP 0 (fs := mF (upd fi 0 2) fr) rfl rfl 0 (by decide) (hts _ q1512) (fun _ hh => hh) (v := .int 2) rfl dX6_stonesToEnclose_40 ?_
        refine lv_if_le (tgt := 48) hx hb dX6_stonesToEnclose_43 (by decide) (fun c_35 => absurd c_35 (by decide)) (fun _ => ?_)
        refine lv_iconst (v := 0) hx hb dX6_stonesToEnclose_46 (by decide) ?_
        cases h
        exact W.iret hx hb hr (fun t ht hW => ⟨⟨_, _, rfl, ⟨rfl, rfl⟩, ⟨by rw [ht]; exact hP, hK.warm hW, hD⟩⟩, hS.F ht⟩) hS.2.2 dX6_stonesToEnclose_47
    · replace h := ga_ift c_13 h
      refine lv_iconst (v := 1) hx hb dX6_stonesToEnclose_18 (by decide) ?_
      refine lv_goto (tgt := 36) hx hb dX6_stonesToEnclose_19 (by decide) ?_
      refine va_put hx hb hts in_X6 tyX6 tyX6_ok nmX6 hown hK.1 hP hD hS 0 (fs := mF fi fr) rfl rfl 0 (by decide) (hts _ q1512) (fun _ hh => hh) rfl (v := .int 1) rfl rfl rfl (mF_lt (by decide)) dX6_stonesToEnclose_36 (fun H locs hP hD hS => ?_)
      rw [mS_0] at hP hD
      refine lv_aload_n hx hb dX6_stonesToEnclose_39 rfl (lv_at hl 0 rfl) ?_
      refine va_get hx hb hts in_X6 hown hK.1 hP 0 (fs := mF (upd fi 0 1) fr) rfl rfl 0 (by decide) (hts _ q1512) (fun _ hh => hh) (v := .int 1) rfl dX6_stonesToEnclose_40 ?_
      refine lv_if_le (tgt := 48) hx hb dX6_stonesToEnclose_43 (by decide) (fun c_36 => absurd c_36 (by decide)) (fun _ => ?_)
      refine lv_iconst (v := 0) hx hb dX6_stonesToEnclose_46 (by decide) ?_
      cases h
      exact W.iret hx hb hr (fun t ht hW => ⟨⟨_, _, rfl, ⟨rfl, rfl⟩, ⟨by rw [ht]; exact hP, hK.warm hW, hD⟩⟩, hS.F ht⟩) hS.2.2 dX6_stonesToEnclose_47
abbrev rm_X6_share : Room := { frames := 3, cells := 0, slots := 0, locals := 55 }
def F_X6_share (N : Nat) (fi : Nat → Int32) (fa : Nat → Nat → Int32) (x1 : Int32) : Option (UInt64 × ga_MS) :=
  ((F_X6_isIn N x1 0 1).bind fun r_1 =>
  (if r_1 = 0 then
  some (0, (upd fi 0 1, fa))
  else
  ((F_X6_many N (upd fi 0 0) fa (1 + x1)).bind fun r_9 =>
  ((F_X6_many N (upd fi 0 0) fa (3 + x1)).bind fun r_13 =>
  ((F_X6_cells N (upd fi 0 0) fa).bind fun r_17 =>
  (if ga_n64b (FP.ddiv (FP.i2d (r_9 + r_13)) (FP.i2d r_17)) = true then
  some ((FP.ddiv (FP.i2d (r_9 + r_13)) (FP.i2d r_17)), (upd fi 0 0, fa))
  else none))))))
set_option maxHeartbeats 4000000 in
theorem met_X6_share (l : Launch) (D : va_G) (cA : Nat → ClassId) (A : Nat → Prop) (b : Nat) (fr : Nat → Nat) (fi : Nat → Int32) (fa : Nat → Nat → Int32) (N : Nat) (x1 : Int32) (out : UInt64 × ga_MS) (h : F_X6_share N fi fa x1 = some out) : Met l yX6_share (ws_ yX6_share cX6_share 2 (some .double)) rm_X6_share (ga_N D cA A (mW b cA fr fi fa) [.ref b, .int x1]) (va_Qd (fun (r : UInt64) (u : ga_MS) => (out.1 = r) ∧ out.2 = u) (ga_MB D cA A b fr) A) 0 0 A := by
  refine Met.ofW (cc := cX6_share) (maxL := 2) (ret := (some .double)) (by decide) rfl ?_
  intro p e s m args below meth c s₁ B hml hv
  obtain ⟨rfl, hP, hK, hD⟩ := hv
  have hS : va_S A s.heap s.heap [] := va_S.rf
  have C : ga_cx p m c meth s _ RX6 cX6_share 2 (some .double) := ga_cx_of B hml
  have C0 := C
  obtain ⟨hx, hb, hr, hlocks, hml, hown, hts⟩ := C0
  have hl := lv_entry ([.ref b, .int x1]) (n := 2) (Nat.le_of_ble_eq_true rfl)
  rw [lg_entry_eq]
  generalize (lg_sl ([.ref b, .int x1]) ++ List.replicate (2 - (lg_sl ([.ref b, .int x1])).length) Slot.unset).toArray = ls at hl ⊢
  have hl : lv_has ls 2 [(0, .ref b), (1, .int x1)] := hl
  rw [F_X6_share] at h
  refine lv_aload_n hx hb dX6_share_0 rfl (lv_at hl 0 rfl) ?_
  refine lv_iload_n hx hb dX6_share_1 rfl (lv_at hl 1 rfl) ?_
  refine lv_iconst (v := 0) hx hb dX6_share_2 (by decide) ?_
  refine lv_iconst (v := 1) hx hb dX6_share_3 (by decide) ?_
  obtain ⟨r_1, e_2, h⟩ := ga_gb h
  refine vp_callSi (W.runS (As := [.int x1, .int 0, .int 1]) (rest := [.ref b]) ⟨hx, hb, hml, hown, hts⟩ (met_X6_isIn l D cA N x1 0 1 r_1 e_2) (va_cwS 3 hts (lw_S q1620 q1621 q79 q1622) rfl rfl rfl (by decide +kernel) ⟨Nat.le_of_ble_eq_true rfl, Nat.le_of_ble_eq_true rfl⟩) (ga_PS hK ga_P0) rfl rfl hl.1 rfl (lv_room (Nat.le_of_ble_eq_true rfl)) dX6_share_4 ⟨Nat.le_of_ble_eq_true rfl, Nat.le_of_ble_eq_true rfl⟩) (fun z_3 w_4 => ?_)
  obtain ⟨rfl, b_5⟩ := w_4
  refine lv_if_eq (tgt := 14) hx hb dX6_share_7 (by decide) (fun c_6 => ?_) (fun c_6 => ?_)
  · replace h := ga_ift c_6 h
    refine lv_iconst (v := 1) hx hb dX6_share_14 (by decide) ?_
    refine va_put hx hb hts in_X6 tyX6 tyX6_ok nmX6 hown hK.1 hP hD hS 0 (fs := mF fi fr) rfl rfl 0 (by decide) (hts _ q1512) (fun _ hh => hh) rfl (v := .int 1) rfl rfl rfl (mF_lt (by decide)) dX6_share_15 (fun H locs hP hD hS => ?_)
    rw [mS_0] at hP hD
    refine lv_aload_n hx hb dX6_share_18 rfl (lv_at hl 0 rfl) ?_
    refine va_get hx hb hts in_X6 hown hK.1 hP 0 (fs := mF (upd fi 0 1) fr) rfl rfl 0 (by decide) (hts _ q1512) (fun _ hh => hh) (v := .int 1) rfl dX6_share_19 ?_
    refine lv_iconst (v := 1) hx hb dX6_share_22 (by decide) ?_
    refine lv_icmp_ne (tgt := 30) hx hb dX6_share_23 (by decide) (fun c_7 => absurd (by decide) c_7) (fun _ => ?_)
    refine lv_dconst0 hx hb dX6_share_26 ?_
    refine lv_goto (tgt := 52) hx hb dX6_share_27 (by decide) ?_
    cases h
    exact W.dret hx hb hr (fun t ht hW => ⟨⟨_, _, rfl, ⟨rfl, rfl⟩, ⟨by rw [ht]; exact hP, hK.warm hW, hD⟩⟩, hS.F ht⟩) hS.2.2 dX6_share_52
  · replace h := ga_iff c_6 h
    refine lv_iconst (v := 0) hx hb dX6_share_10 (by decide) ?_
    refine lv_goto (tgt := 15) hx hb dX6_share_11 (by decide) ?_
    refine va_put hx hb hts in_X6 tyX6 tyX6_ok nmX6 hown hK.1 hP hD hS 0 (fs := mF fi fr) rfl rfl 0 (by decide) (hts _ q1512) (fun _ hh => hh) rfl (v := .int 0) rfl rfl rfl (mF_lt (by decide)) dX6_share_15 (fun H locs hP hD hS => ?_)
    rw [mS_0] at hP hD
    refine lv_aload_n hx hb dX6_share_18 rfl (lv_at hl 0 rfl) ?_
    refine va_get hx hb hts in_X6 hown hK.1 hP 0 (fs := mF (upd fi 0 0) fr) rfl rfl 0 (by decide) (hts _ q1512) (fun _ hh => hh) (v := .int 0) rfl dX6_share_19 ?_
    refine lv_iconst (v := 1) hx hb dX6_share_22 (by decide) ?_
    refine lv_icmp_ne (tgt := 30) hx hb dX6_share_23 (by decide) (fun _ => ?_) (fun c_8 => absurd c_8 (by decide))
    refine lv_aload_n hx hb dX6_share_30 rfl (lv_at hl 0 rfl) ?_
    refine lv_iconst (v := 1) hx hb dX6_share_31 (by decide) ?_
    refine lv_iload_n hx hb dX6_share_32 rfl (lv_at hl 1 rfl) ?_
    refine lv_iadd hx hb dX6_share_33 ?_
    obtain ⟨r_9, e_10, h⟩ := ga_gb h
    refine vp_callSi (W.runV (As := [.int (1 + x1)]) (rest := []) ⟨hx, hb, hml, hown, hts⟩ (met_X6_many l D cA b fr (upd fi 0 0) fa N (1 + x1) r_9 e_10) (cwV 1 hts (lw_V q1623 q1625 qs31 q79 q1626) rfl rfl rfl (by decide +kernel) ⟨Nat.le_of_ble_eq_true rfl, Nat.le_of_ble_eq_true rfl⟩) (ga_PV hK hP (va_recv hK.1 hP (ci := 0) (q0 := 0) rfl rfl)) rfl rfl hl.1 rfl (lv_room (Nat.le_of_ble_eq_true rfl)) dX6_share_34 ⟨Nat.le_of_ble_eq_true rfl, Nat.le_of_ble_eq_true rfl⟩) (fun z_11 w_12 => ?_)
    obtain rfl := w_12
    refine lv_aload_n hx hb dX6_share_37 rfl (lv_at hl 0 rfl) ?_
    refine lv_iconst (v := 3) hx hb dX6_share_38 (by decide) ?_
    refine lv_iload_n hx hb dX6_share_39 rfl (lv_at hl 1 rfl) ?_
    refine lv_iadd hx hb dX6_share_40 ?_
    obtain ⟨r_13, e_14, h⟩ := ga_gb h
    refine vp_callSi (W.runV (As := [.int (3 + x1)]) (rest := [.int r_9]) ⟨hx, hb, hml, hown, hts⟩ (met_X6_many l D cA b fr (upd fi 0 0) fa N (3 + x1) r_13 e_14) (cwV 1 hts (lw_V q1623 q1625 qs31 q79 q1626) rfl rfl rfl (by decide +kernel) ⟨Nat.le_of_ble_eq_true rfl, Nat.le_of_ble_eq_true rfl⟩) (ga_PV hK hP (va_recv hK.1 hP (ci := 0) (q0 := 0) rfl rfl)) rfl rfl hl.1 rfl (lv_room (Nat.le_of_ble_eq_true rfl)) dX6_share_41 ⟨Nat.le_of_ble_eq_true rfl, Nat.le_of_ble_eq_true rfl⟩) (fun z_15 w_16 => ?_)
    obtain rfl := w_16
    refine lv_iadd hx hb dX6_share_44 ?_
    refine lv_i2d hx hb dX6_share_45 ?_
    refine lv_aload_n hx hb dX6_share_46 rfl (lv_at hl 0 rfl) ?_
    obtain ⟨r_17, e_18, h⟩ := ga_gb h
    refine vp_callSi (W.runV (As := []) (rest := [.double (FP.i2d (r_9 + r_13))]) ⟨hx, hb, hml, hown, hts⟩ (met_X6_cells l D cA b fr (upd fi 0 0) fa N r_17 e_18) (cwV 0 hts (lw_V q1627 q1629 qs32 q79 q1630) rfl rfl rfl (by decide +kernel) ⟨Nat.le_of_ble_eq_true rfl, Nat.le_of_ble_eq_true rfl⟩) (ga_PV hK hP (va_recv hK.1 hP (ci := 0) (q0 := 0) rfl rfl)) rfl rfl hl.1 rfl (lv_room (Nat.le_of_ble_eq_true rfl)) dX6_share_47 ⟨Nat.le_of_ble_eq_true rfl, Nat.le_of_ble_eq_true rfl⟩) (fun z_19 w_20 => ?_)
    obtain rfl := w_20
    refine lv_i2d hx hb dX6_share_50 ?_
    obtain ⟨z_21, h⟩ := ga_gif h
    refine lv_ddiv hx hb dX6_share_51 (ga_n64 z_21) ?_
    cases h
    exact W.dret hx hb hr (fun t ht hW => ⟨⟨_, _, rfl, ⟨rfl, rfl⟩, ⟨by rw [ht]; exact hP, hK.warm hW, hD⟩⟩, hS.F ht⟩) hS.2.2 dX6_share_52
abbrev rm_X6_round : Room := { frames := 2, cells := 0, slots := 0, locals := 34 }
def F_X6_round (N : Nat) (fi : Nat → Int32) (fa : Nat → Nat → Int32) (x1 : Int32) (x2 : Int32) : Option (Int32 × ga_MS) :=
  ((F_X6_isIn N x1 0 ((fa 5 (ix 153)) - 1)).bind fun r_1 =>
  (if r_1 = 0 then
  some (0, (upd fi 0 1, fa))
  else
  ((F_X6_isIn N x2 0 6).bind fun r_7 =>
  (if r_7 = 0 then
  some (0, (upd fi 0 2, fa))
  else
  (if inb ((7 * x1) + x2) 420 = true then
  some ((fa 9 (ix ((7 * x1) + x2))), (upd fi 0 0, fa))
  else none)))))
set_option maxHeartbeats 4000000 in
theorem met_X6_round (l : Launch) (D : va_G) (cA : Nat → ClassId) (A : Nat → Prop) (b : Nat) (fr : Nat → Nat) (fi : Nat → Int32) (fa : Nat → Nat → Int32) (N : Nat) (x1 : Int32) (x2 : Int32) (out : Int32 × ga_MS) (h : F_X6_round N fi fa x1 x2 = some out) : Met l yX6_round (ws_ yX6_round cX6_round 3 (some .int)) rm_X6_round (ga_N D cA A (mW b cA fr fi fa) [.ref b, .int x1, .int x2]) (va_Qi (fun (r : Int32) (u : ga_MS) => (out.1 = r) ∧ out.2 = u) (ga_MB D cA A b fr) A) 0 0 A := by
  refine Met.ofW (cc := cX6_round) (maxL := 3) (ret := (some .int)) (by decide) rfl ?_
  intro p e s m args below meth c s₁ B hml hv
  obtain ⟨rfl, hP, hK, hD⟩ := hv
  have hS : va_S A s.heap s.heap [] := va_S.rf
  have C : ga_cx p m c meth s _ RX6 cX6_round 3 (some .int) := ga_cx_of B hml
  have C0 := C
  obtain ⟨hx, hb, hr, hlocks, hml, hown, hts⟩ := C0
  have hl := lv_entry ([.ref b, .int x1, .int x2]) (n := 3) (Nat.le_of_ble_eq_true rfl)
  rw [lg_entry_eq]
  generalize (lg_sl ([.ref b, .int x1, .int x2]) ++ List.replicate (3 - (lg_sl ([.ref b, .int x1, .int x2])).length) Slot.unset).toArray = ls at hl ⊢
  have hl : lv_has ls 3 [(0, .ref b), (1, .int x1), (2, .int x2)] := hl
  rw [F_X6_round] at h
  refine lv_aload_n hx hb dX6_round_0 rfl (lv_at hl 0 rfl) ?_
  refine lv_iload_n hx hb dX6_round_1 rfl (lv_at hl 1 rfl) ?_
  refine lv_iconst (v := 0) hx hb dX6_round_2 (by decide) ?_
  refine lv_aload_n hx hb dX6_round_3 rfl (lv_at hl 0 rfl) ?_
  refine va_get hx hb hts in_X6 hown hK.1 hP 0 (fs := mF fi fr) rfl rfl 5 (by decide) (hts _ q1517) (fun _ hh => hh) (v := .ref (fr 5)) rfl dX6_round_4 ?_
  refine lv_sipush (v := 153) hx hb dX6_round_7 (by decide) ?_
  refine va_iald hx hb hK.1 hP 2 0 (f := fa 5) rfl rfl (ga_in (by decide)) dX6_round_10 ?_
  refine lv_iconst (v := 1) hx hb dX6_round_11 (by decide) ?_
  refine lv_isub hx hb dX6_round_12 ?_
  obtain ⟨r_1, e_2, h⟩ := ga_gb h
  refine vp_callSi (W.runS (As := [.int x1, .int 0, .int ((fa 5 (ix 153)) - 1)]) (rest := [.ref b]) ⟨hx, hb, hml, hown, hts⟩ (met_X6_isIn l D cA N x1 0 ((fa 5 (ix 153)) - 1) r_1 e_2) (va_cwS 3 hts (lw_S q1620 q1621 q79 q1622) rfl rfl rfl (by decide +kernel) ⟨Nat.le_of_ble_eq_true rfl, Nat.le_of_ble_eq_true rfl⟩) (ga_PS hK ga_P0) rfl rfl hl.1 rfl (lv_room (Nat.le_of_ble_eq_true rfl)) dX6_round_13 ⟨Nat.le_of_ble_eq_true rfl, Nat.le_of_ble_eq_true rfl⟩) (fun z_3 w_4 => ?_)
  obtain ⟨rfl, b_5⟩ := w_4
  refine lv_if_ne (tgt := 23) hx hb dX6_round_16 (by decide) (fun c_6 => ?_) (fun c_6 => ?_)
  · replace h := ga_iff c_6 h
    refine lv_iload_n hx hb dX6_round_23 rfl (lv_at hl 2 rfl) ?_
    refine lv_iconst (v := 0) hx hb dX6_round_24 (by decide) ?_
    refine lv_bipush (v := 6) hx hb dX6_round_25 (by decide) ?_
    obtain ⟨r_7, e_8, h⟩ := ga_gb h
    refine vp_callSi (W.runS (As := [.int x2, .int 0, .int 6]) (rest := [.ref b]) ⟨hx, hb, hml, hown, hts⟩ (met_X6_isIn l D cA N x2 0 6 r_7 e_8) (va_cwS 3 hts (lw_S q1620 q1621 q79 q1622) rfl rfl rfl (by decide +kernel) ⟨Nat.le_of_ble_eq_true rfl, Nat.le_of_ble_eq_true rfl⟩) (ga_PS hK ga_P0) rfl rfl hl.1 rfl (lv_room (Nat.le_of_ble_eq_true rfl)) dX6_round_27 ⟨Nat.le_of_ble_eq_true rfl, Nat.le_of_ble_eq_true rfl⟩) (fun z_9 w_10 => ?_)
    obtain ⟨rfl, b_11⟩ := w_10
    refine lv_if_ne (tgt := 37) hx hb dX6_round_30 (by decide) (fun c_12 => ?_) (fun c_12 => ?_)
    · replace h := ga_iff c_12 h
      refine lv_iconst (v := 0) hx hb dX6_round_37 (by decide) ?_
      refine va_put hx hb hts in_X6 tyX6 tyX6_ok nmX6 hown hK.1 hP hD hS 0 (fs := mF fi fr) rfl rfl 0 (by decide) (hts _ q1512) (fun _ hh => hh) rfl (v := .int 0) rfl rfl rfl (mF_lt (by decide)) dX6_round_38 (fun H locs hP hD hS => ?_)
      rw [mS_0] at hP hD
      refine lv_aload_n hx hb dX6_round_41 rfl (lv_at hl 0 rfl) ?_
      refine va_get hx hb hts in_X6 hown hK.1 hP 0 (fs := mF (upd fi 0 0) fr) rfl rfl 0 (by decide) (hts _ q1512) (fun _ hh => hh) (v := .int 0) rfl dX6_round_42 ?_
      refine lv_if_ne (tgt := 62) hx hb dX6_round_45 (by decide) (fun c_13 => absurd (by decide) c_13) (fun _ => ?_)
      refine lv_aload_n hx hb dX6_round_48 rfl (lv_at hl 0 rfl) ?_
      refine va_get hx hb hts in_X6 hown hK.1 hP 0 (fs := mF (upd fi 0 0) fr) rfl rfl 9 (by decide) (hts _ q1521) (fun _ hh => hh) (v := .ref (fr 9)) rfl dX6_round_49 ?_
      refine lv_bipush (v := 7) hx hb dX6_round_52 (by decide) ?_
      refine lv_iload_n hx hb dX6_round_54 rfl (lv_at hl 1 rfl) ?_
      refine lv_imul hx hb dX6_round_55 ?_
      refine lv_iload_n hx hb dX6_round_56 rfl (lv_at hl 2 rfl) ?_
      refine lv_iadd hx hb dX6_round_57 ?_
      obtain ⟨i_14, h⟩ := ga_gif h
      refine va_iald hx hb hK.1 hP 6 0 (f := fa 9) rfl rfl (ga_in i_14) dX6_round_58 ?_
      refine lv_goto (tgt := 63) hx hb dX6_round_59 (by decide) ?_
      cases h
      exact W.iret hx hb hr (fun t ht hW => ⟨⟨_, _, rfl, ⟨rfl, rfl⟩, ⟨by rw [ht]; exact hP, hK.warm hW, hD⟩⟩, hS.F ht⟩) hS.2.2 dX6_round_63
    · replace h := ga_ift c_12 h
      refine lv_iconst (v := 2) hx hb dX6_round_33 (by decide) ?_
      refine lv_goto (tgt := 38) hx hb dX6_round_34 (by decide) ?_
      refine va_put hx hb hts in_X6 tyX6 tyX6_ok nmX6 hown hK.1 hP hD hS 0 (fs := mF fi fr) rfl rfl 0 (by decide) (hts _ q1512) (fun _ hh => hh) rfl (v := .int 2) rfl rfl rfl (mF_lt (by decide)) dX6_round_38 (fun H locs hP hD hS => ?_)
      rw [mS_0] at hP hD
      refine lv_aload_n hx hb dX6_round_41 rfl (lv_at hl 0 rfl) ?_
      refine va_get hx hb hts in_X6 hown hK.1 hP 0 (fs := mF (upd fi 0 2) fr) rfl rfl 0 (by decide) (hts _ q1512) (fun _ hh => hh) (v := .int 2) rfl dX6_round_42 ?_
      refine lv_if_ne (tgt := 62) hx hb dX6_round_45 (by decide) (fun _ => ?_) (fun c_15 => absurd c_15 (by decide))
      refine lv_iconst (v := 0) hx hb dX6_round_62 (by decide) ?_
      cases h
      exact W.iret hx hb hr (fun t ht hW => ⟨⟨_, _, rfl, ⟨rfl, rfl⟩, ⟨by rw [ht]; exact hP, hK.warm hW, hD⟩⟩, hS.F ht⟩) hS.2.2 dX6_round_63
  · replace h := ga_ift c_6 h
    refine lv_iconst (v := 1) hx hb dX6_round_19 (by decide) ?_
    refine lv_goto (tgt := 38) hx hb dX6_round_20 (by decide) ?_
    refine va_put hx hb hts in_X6 tyX6 tyX6_ok nmX6 hown hK.1 hP hD hS 0 (fs := mF fi fr) rfl rfl 0 (by decide) (hts _ q1512) (fun _ hh => hh) rfl (v := .int 1) rfl rfl rfl (mF_lt (by decide)) dX6_round_38 (fun H locs hP hD hS => ?_)
    rw [mS_0] at hP hD
    refine lv_aload_n hx hb dX6_round_41 rfl (lv_at hl 0 rfl) ?_
    refine va_get hx hb hts in_X6 hown hK.1 hP 0 (fs := mF (upd fi 0 1) fr) rfl rfl 0 (by decide) (hts _ q1512) (fun _ hh => hh) (v := .int 1) rfl dX6_round_42 ?_
    refine lv_if_ne (tgt := 62) hx hb dX6_round_45 (by decide) (fun _ => ?_) (fun c_16 => absurd c_16 (by decide))
    refine lv_iconst (v := 0) hx hb dX6_round_62 (by decide) ?_
    cases h
    exact W.iret hx hb hr (fun t ht hW => ⟨⟨_, _, rfl, ⟨rfl, rfl⟩, ⟨by rw [ht]; exact hP, hK.warm hW, hD⟩⟩, hS.F ht⟩) hS.2.2 dX6_round_63
abbrev rm_X6_turningPoint : Room := { frames := 1, cells := 0, slots := 0, locals := 12 }
def lp_X6_turningPoint_41 (N : Nat) : Nat → (Nat → Int32) → (Nat → Nat → Int32) → Int32 → Int32 → Int32 → Int32 → Option (Int32 × ga_MS)
  | 0, _, _, _, _, _, _ => none
  | n+1, fi, fa, x1, x2, x3, x4 =>
    (if (fa 5 (ix 153)) ≤ x4 then
    some (x1, (fi, fa))
    else
    (if inb ((7 * x4) + 5) 420 = true then
    (if inb ((7 * x4) + 6) 420 = true then
    (if ((fa 9 (ix ((7 * x4) + 5))) - (fa 9 (ix ((7 * x4) + 6)))) ≤ x3 then
    (if (x3 - ((fa 9 (ix ((7 * x4) + 5))) - (fa 9 (ix ((7 * x4) + 6))))) ≤ x2 then
    lp_X6_turningPoint_41 N n fi fa x1 x2 ((fa 9 (ix ((7 * x4) + 5))) - (fa 9 (ix ((7 * x4) + 6)))) (x4 + 1)
    else
    lp_X6_turningPoint_41 N n fi fa x4 (x3 - ((fa 9 (ix ((7 * x4) + 5))) - (fa 9 (ix ((7 * x4) + 6))))) ((fa 9 (ix ((7 * x4) + 5))) - (fa 9 (ix ((7 * x4) + 6)))) (x4 + 1))
    else
    (if (((fa 9 (ix ((7 * x4) + 5))) - (fa 9 (ix ((7 * x4) + 6)))) - x3) ≤ x2 then
    lp_X6_turningPoint_41 N n fi fa x1 x2 ((fa 9 (ix ((7 * x4) + 5))) - (fa 9 (ix ((7 * x4) + 6)))) (x4 + 1)
    else
    lp_X6_turningPoint_41 N n fi fa x4 (((fa 9 (ix ((7 * x4) + 5))) - (fa 9 (ix ((7 * x4) + 6)))) - x3) ((fa 9 (ix ((7 * x4) + 5))) - (fa 9 (ix ((7 * x4) + 6)))) (x4 + 1)))
    else none)
    else none))
set_option maxHeartbeats 4000000 in
theorem w_X6_turningPoint_41 {p : Program} {l : Launch} {e : Env} {s : State} {m : MethodId} {args : Array Value} {below : List Frame} {meth : Method} {c : Code} {D : va_G} {cA : Nat → ClassId} {A : Nat → Prop} {b : Nat} {fr : Nat → Nat} {N : Nat} (C : ga_cx p m c meth s args RX6 cX6_turningPoint 7 (some .int)) (hK : ga_K D cA s) {out : Int32 × ga_MS} : ∀ n : Nat, ∀ (fi : Nat → Int32) (fa : Nat → Nat → Int32) (x1 : Int32) (x2 : Int32) (x3 : Int32) (x4 : Int32), lp_X6_turningPoint_41 N n fi fa x1 x2 x3 x4 = some out → ∀ (H : Heap) (locs : List Loc), va_P D ga_cl (mW b cA fr fi fa) H → va_D A (mW b cA fr fi fa) → va_S A s.heap H locs → ∀ ls : Array Slot, lv_has ls 7 [(0, .ref b), (1, .int x1), (2, .int x2), (3, .int x3), (4, .int x4)] → W p l e (headSpec (ws_ yX6_turningPoint cX6_turningPoint 7 (some .int)) rm_X6_turningPoint).room s m args below meth c H locs 0 0 (MQ below (va_Qi (fun (r : Int32) (u : ga_MS) => (out.1 = r) ∧ out.2 = u) (ga_MB D cA A b fr) A) args s 0 0 A) (F0 m 41 ls []) := by
  have C0 := C
  obtain ⟨hx, hb, hr, hlocks, hml, hown, hts⟩ := C0
  intro n
  induction n with
  | zero =>
    intro fi fa x1 x2 x3 x4 h
    rw [lp_X6_turningPoint_41.eq_1] at h
    cases h
  | succ n ih =>
    intro fi fa x1 x2 x3 x4 h H locs hP hD hS ls hl
    rw [lp_X6_turningPoint_41.eq_2] at h
    refine lv_iload hx hb dX6_turningPoint_41 (lv_at hl 4 rfl) ?_
    refine lv_aload_n hx hb dX6_turningPoint_43 rfl (lv_at hl 0 rfl) ?_
    refine va_get hx hb hts in_X6 hown hK.1 hP 0 (fs := mF fi fr) rfl rfl 5 (by decide) (hts _ q1517) (fun _ hh => hh) (v := .ref (fr 5)) rfl dX6_turningPoint_44 ?_
    refine lv_sipush (v := 153) hx hb dX6_turningPoint_47 (by decide) ?_
    refine va_iald hx hb hK.1 hP 2 0 (f := fa 5) rfl rfl (ga_in (by decide)) dX6_turningPoint_50 ?_
    refine lv_icmp_ge (tgt := 122) hx hb dX6_turningPoint_51 (by decide) (fun c_2 => ?_) (fun c_2 => ?_)
    · replace h := ga_ift c_2 h
      refine lv_iload_n hx hb dX6_turningPoint_122 rfl (lv_at hl 1 rfl) ?_
      cases h
      exact W.iret hx hb hr (fun t ht hW => ⟨⟨_, _, rfl, ⟨rfl, rfl⟩, ⟨by rw [ht]; exact hP, hK.warm hW, hD⟩⟩, hS.F ht⟩) hS.2.2 dX6_turningPoint_123
    · replace h := ga_iff c_2 h
      refine lv_aload_n hx hb dX6_turningPoint_54 rfl (lv_at hl 0 rfl) ?_
      refine va_get hx hb hts in_X6 hown hK.1 hP 0 (fs := mF fi fr) rfl rfl 9 (by decide) (hts _ q1521) (fun _ hh => hh) (v := .ref (fr 9)) rfl dX6_turningPoint_55 ?_
      refine lv_bipush (v := 7) hx hb dX6_turningPoint_58 (by decide) ?_
      refine lv_iload hx hb dX6_turningPoint_60 (lv_at hl 4 rfl) ?_
      refine lv_imul hx hb dX6_turningPoint_62 ?_
      refine lv_iconst (v := 5) hx hb dX6_turningPoint_63 (by decide) ?_
      refine lv_iadd hx hb dX6_turningPoint_64 ?_
      obtain ⟨i_3, h⟩ := ga_gif h
      refine va_iald hx hb hK.1 hP 6 0 (f := fa 9) rfl rfl (ga_in i_3) dX6_turningPoint_65 ?_
      refine lv_aload_n hx hb dX6_turningPoint_66 rfl (lv_at hl 0 rfl) ?_
      refine va_get hx hb hts in_X6 hown hK.1 hP 0 (fs := mF fi fr) rfl rfl 9 (by decide) (hts _ q1521) (fun _ hh => hh) (v := .ref (fr 9)) rfl dX6_turningPoint_67 ?_
      refine lv_bipush (v := 7) hx hb dX6_turningPoint_70 (by decide) ?_
      refine lv_iload hx hb dX6_turningPoint_72 (lv_at hl 4 rfl) ?_
      refine lv_imul hx hb dX6_turningPoint_74 ?_
      refine lv_bipush (v := 6) hx hb dX6_turningPoint_75 (by decide) ?_
      refine lv_iadd hx hb dX6_turningPoint_77 ?_
      obtain ⟨i_4, h⟩ := ga_gif h
      refine va_iald hx hb hK.1 hP 6 0 (f := fa 9) rfl rfl (ga_in i_4) dX6_turningPoint_78 ?_
      refine lv_isub hx hb dX6_turningPoint_79 ?_
      refine lv_istore (lv' := [(5, .int ((fa 9 (ix ((7 * x4) + 5))) - (fa 9 (ix ((7 * x4) + 6))))), (0, .ref b), (1, .int x1), (2, .int x2), (3, .int x3), (4, .int x4)]) hx hb dX6_turningPoint_80 hl (by decide) rfl (fun ls hl => ?_)
      refine lv_iload hx hb dX6_turningPoint_82 (lv_at hl 0 rfl) ?_
      refine lv_iload_n hx hb dX6_turningPoint_84 rfl (lv_at hl 4 rfl) ?_
      refine lv_icmp_le (tgt := 95) hx hb dX6_turningPoint_85 (by decide) (fun c_5 => ?_) (fun c_5 => ?_)
      · replace h := ga_ift c_5 h
        refine lv_iload_n hx hb dX6_turningPoint_95 rfl (lv_at hl 4 rfl) ?_
        refine lv_iload hx hb dX6_turningPoint_96 (lv_at hl 0 rfl) ?_
        refine lv_isub hx hb dX6_turningPoint_98 ?_
        refine lv_istore (lv' := [(6, .int (x3 - ((fa 9 (ix ((7 * x4) + 5))) - (fa 9 (ix ((7 * x4) + 6)))))), (5, .int ((fa 9 (ix ((7 * x4) + 5))) - (fa 9 (ix ((7 * x4) + 6))))), (0, .ref b), (1, .int x1), (2, .int x2), (3, .int x3), (4, .int x4)]) hx hb dX6_turningPoint_99 hl (by decide) rfl (fun ls hl => ?_)
        refine lv_iload hx hb dX6_turningPoint_101 (lv_at hl 0 rfl) ?_
        refine lv_iload_n hx hb dX6_turningPoint_103 rfl (lv_at hl 4 rfl) ?_
        refine lv_icmp_le (tgt := 113) hx hb dX6_turningPoint_104 (by decide) (fun c_6 => ?_) (fun c_6 => ?_)
        · replace h := ga_ift c_6 h
          refine lv_iload hx hb dX6_turningPoint_113 (lv_at hl 1 rfl) ?_
          refine lv_istore_n (lv' := [(3, .int ((fa 9 (ix ((7 * x4) + 5))) - (fa 9 (ix ((7 * x4) + 6))))), (6, .int (x3 - ((fa 9 (ix ((7 * x4) + 5))) - (fa 9 (ix ((7 * x4) + 6)))))), (5, .int ((fa 9 (ix ((7 * x4) + 5))) - (fa 9 (ix ((7 * x4) + 6))))), (0, .ref b), (1, .int x1), (2, .int x2), (4, .int x4)]) hx hb dX6_turningPoint_115 rfl hl (by decide) rfl (fun ls hl => ?_)
          refine lv_iinc (v := (x4 + 1)) (lv' := [(4, .int (x4 + 1)), (3, .int ((fa 9 (ix ((7 * x4) + 5))) - (fa 9 (ix ((7 * x4) + 6))))), (6, .int (x3 - ((fa 9 (ix ((7 * x4) + 5))) - (fa 9 (ix ((7 * x4) + 6)))))), (5, .int ((fa 9 (ix ((7 * x4) + 5))) - (fa 9 (ix ((7 * x4) + 6))))), (0, .ref b), (1, .int x1), (2, .int x2)]) hx hb dX6_turningPoint_116 hl (k := 6) rfl rfl (by decide) rfl (fun ls hl => ?_)
          refine lv_goto (tgt := 41) hx hb dX6_turningPoint_119 (by decide) ?_
          exact ih fi fa x1 x2 ((fa 9 (ix ((7 * x4) + 5))) - (fa 9 (ix ((7 * x4) + 6)))) (x4 + 1) h _ _ hP hD hS _ (lv_sub hl [4, 5, 6, 1, 0] rfl)
        · replace h := ga_iff c_6 h
          refine lv_iload hx hb dX6_turningPoint_107 (lv_at hl 6 rfl) ?_
          refine lv_istore_n (lv' := [(1, .int x4), (6, .int (x3 - ((fa 9 (ix ((7 * x4) + 5))) - (fa 9 (ix ((7 * x4) + 6)))))), (5, .int ((fa 9 (ix ((7 * x4) + 5))) - (fa 9 (ix ((7 * x4) + 6))))), (0, .ref b), (2, .int x2), (3, .int x3), (4, .int x4)]) hx hb dX6_turningPoint_109 rfl hl (by decide) rfl (fun ls hl => ?_)
          refine lv_iload hx hb dX6_turningPoint_110 (lv_at hl 1 rfl) ?_
          refine lv_istore_n (lv' := [(2, .int (x3 - ((fa 9 (ix ((7 * x4) + 5))) - (fa 9 (ix ((7 * x4) + 6)))))), (1, .int x4), (6, .int (x3 - ((fa 9 (ix ((7 * x4) + 5))) - (fa 9 (ix ((7 * x4) + 6)))))), (5, .int ((fa 9 (ix ((7 * x4) + 5))) - (fa 9 (ix ((7 * x4) + 6))))), (0, .ref b), (3, .int x3), (4, .int x4)]) hx hb dX6_turningPoint_112 rfl hl (by decide) rfl (fun ls hl => ?_)
          refine lv_iload hx hb dX6_turningPoint_113 (lv_at hl 3 rfl) ?_
          refine lv_istore_n (lv' := [(3, .int ((fa 9 (ix ((7 * x4) + 5))) - (fa 9 (ix ((7 * x4) + 6))))), (2, .int (x3 - ((fa 9 (ix ((7 * x4) + 5))) - (fa 9 (ix ((7 * x4) + 6)))))), (1, .int x4), (6, .int (x3 - ((fa 9 (ix ((7 * x4) + 5))) - (fa 9 (ix ((7 * x4) + 6)))))), (5, .int ((fa 9 (ix ((7 * x4) + 5))) - (fa 9 (ix ((7 * x4) + 6))))), (0, .ref b), (4, .int x4)]) hx hb dX6_turningPoint_115 rfl hl (by decide) rfl (fun ls hl => ?_)
          refine lv_iinc (v := (x4 + 1)) (lv' := [(4, .int (x4 + 1)), (3, .int ((fa 9 (ix ((7 * x4) + 5))) - (fa 9 (ix ((7 * x4) + 6))))), (2, .int (x3 - ((fa 9 (ix ((7 * x4) + 5))) - (fa 9 (ix ((7 * x4) + 6)))))), (1, .int x4), (6, .int (x3 - ((fa 9 (ix ((7 * x4) + 5))) - (fa 9 (ix ((7 * x4) + 6)))))), (5, .int ((fa 9 (ix ((7 * x4) + 5))) - (fa 9 (ix ((7 * x4) + 6))))), (0, .ref b)]) hx hb dX6_turningPoint_116 hl (k := 6) rfl rfl (by decide) rfl (fun ls hl => ?_)
          refine lv_goto (tgt := 41) hx hb dX6_turningPoint_119 (by decide) ?_
          exact ih fi fa x4 (x3 - ((fa 9 (ix ((7 * x4) + 5))) - (fa 9 (ix ((7 * x4) + 6))))) ((fa 9 (ix ((7 * x4) + 5))) - (fa 9 (ix ((7 * x4) + 6)))) (x4 + 1) h _ _ hP hD hS _ (lv_sub hl [6, 3, 2, 1, 0] rfl)
      · replace h := ga_iff c_5 h
        refine lv_iload hx hb dX6_turningPoint_88 (lv_at hl 0 rfl) ?_
        refine lv_iload_n hx hb dX6_turningPoint_90 rfl (lv_at hl 4 rfl) ?_
        refine lv_isub hx hb dX6_turningPoint_91 ?_
        refine lv_goto (tgt := 99) hx hb dX6_turningPoint_92 (by decide) ?_
        refine lv_istore (lv' := [(6, .int (((fa 9 (ix ((7 * x4) + 5))) - (fa 9 (ix ((7 * x4) + 6)))) - x3)), (5, .int ((fa 9 (ix ((7 * x4) + 5))) - (fa 9 (ix ((7 * x4) + 6))))), (0, .ref b), (1, .int x1), (2, .int x2), (3, .int x3), (4, .int x4)]) hx hb dX6_turningPoint_99 hl (by decide) rfl (fun ls hl => ?_)
        refine lv_iload hx hb dX6_turningPoint_101 (lv_at hl 0 rfl) ?_
        refine lv_iload_n hx hb dX6_turningPoint_103 rfl (lv_at hl 4 rfl) ?_
        refine lv_icmp_le (tgt := 113) hx hb dX6_turningPoint_104 (by decide) (fun c_7 => ?_) (fun c_7 => ?_)
        · replace h := ga_ift c_7 h
          refine lv_iload hx hb dX6_turningPoint_113 (lv_at hl 1 rfl) ?_
          refine lv_istore_n (lv' := [(3, .int ((fa 9 (ix ((7 * x4) + 5))) - (fa 9 (ix ((7 * x4) + 6))))), (6, .int (((fa 9 (ix ((7 * x4) + 5))) - (fa 9 (ix ((7 * x4) + 6)))) - x3)), (5, .int ((fa 9 (ix ((7 * x4) + 5))) - (fa 9 (ix ((7 * x4) + 6))))), (0, .ref b), (1, .int x1), (2, .int x2), (4, .int x4)]) hx hb dX6_turningPoint_115 rfl hl (by decide) rfl (fun ls hl => ?_)
          refine lv_iinc (v := (x4 + 1)) (lv' := [(4, .int (x4 + 1)), (3, .int ((fa 9 (ix ((7 * x4) + 5))) - (fa 9 (ix ((7 * x4) + 6))))), (6, .int (((fa 9 (ix ((7 * x4) + 5))) - (fa 9 (ix ((7 * x4) + 6)))) - x3)), (5, .int ((fa 9 (ix ((7 * x4) + 5))) - (fa 9 (ix ((7 * x4) + 6))))), (0, .ref b), (1, .int x1), (2, .int x2)]) hx hb dX6_turningPoint_116 hl (k := 6) rfl rfl (by decide) rfl (fun ls hl => ?_)
          refine lv_goto (tgt := 41) hx hb dX6_turningPoint_119 (by decide) ?_
          exact ih fi fa x1 x2 ((fa 9 (ix ((7 * x4) + 5))) - (fa 9 (ix ((7 * x4) + 6)))) (x4 + 1) h _ _ hP hD hS _ (lv_sub hl [4, 5, 6, 1, 0] rfl)
        · replace h := ga_iff c_7 h
          refine lv_iload hx hb dX6_turningPoint_107 (lv_at hl 6 rfl) ?_
          refine lv_istore_n (lv' := [(1, .int x4), (6, .int (((fa 9 (ix ((7 * x4) + 5))) - (fa 9 (ix ((7 * x4) + 6)))) - x3)), (5, .int ((fa 9 (ix ((7 * x4) + 5))) - (fa 9 (ix ((7 * x4) + 6))))), (0, .ref b), (2, .int x2), (3, .int x3), (4, .int x4)]) hx hb dX6_turningPoint_109 rfl hl (by decide) rfl (fun ls hl => ?_)
          refine lv_iload hx hb dX6_turningPoint_110 (lv_at hl 1 rfl) ?_
          refine lv_istore_n (lv' := [(2, .int (((fa 9 (ix ((7 * x4) + 5))) - (fa 9 (ix ((7 * x4) + 6)))) - x3)), (1, .int x4), (6, .int (((fa 9 (ix ((7 * x4) + 5))) - (fa 9 (ix ((7 * x4) + 6)))) - x3)), (5, .int ((fa 9 (ix ((7 * x4) + 5))) - (fa 9 (ix ((7 * x4) + 6))))), (0, .ref b), (3, .int x3), (4, .int x4)]) hx hb dX6_turningPoint_112 rfl hl (by decide) rfl (fun ls hl => ?_)
          refine lv_iload hx hb dX6_turningPoint_113 (lv_at hl 3 rfl) ?_
          refine lv_istore_n (lv' := [(3, .int ((fa 9 (ix ((7 * x4) + 5))) - (fa 9 (ix ((7 * x4) + 6))))), (2, .int (((fa 9 (ix ((7 * x4) + 5))) - (fa 9 (ix ((7 * x4) + 6)))) - x3)), (1, .int x4), (6, .int (((fa 9 (ix ((7 * x4) + 5))) - (fa 9 (ix ((7 * x4) + 6)))) - x3)), (5, .int ((fa 9 (ix ((7 * x4) + 5))) - (fa 9 (ix ((7 * x4) + 6))))), (0, .ref b), (4, .int x4)]) hx hb dX6_turningPoint_115 rfl hl (by decide) rfl (fun ls hl => ?_)
          refine lv_iinc (v := (x4 + 1)) (lv' := [(4, .int (x4 + 1)), (3, .int ((fa 9 (ix ((7 * x4) + 5))) - (fa 9 (ix ((7 * x4) + 6))))), (2, .int (((fa 9 (ix ((7 * x4) + 5))) - (fa 9 (ix ((7 * x4) + 6)))) - x3)), (1, .int x4), (6, .int (((fa 9 (ix ((7 * x4) + 5))) - (fa 9 (ix ((7 * x4) + 6)))) - x3)), (5, .int ((fa 9 (ix ((7 * x4) + 5))) - (fa 9 (ix ((7 * x4) + 6))))), (0, .ref b)]) hx hb dX6_turningPoint_116 hl (k := 6) rfl rfl (by decide) rfl (fun ls hl => ?_)
          refine lv_goto (tgt := 41) hx hb dX6_turningPoint_119 (by decide) ?_
          exact ih fi fa x4 (((fa 9 (ix ((7 * x4) + 5))) - (fa 9 (ix ((7 * x4) + 6)))) - x3) ((fa 9 (ix ((7 * x4) + 5))) - (fa 9 (ix ((7 * x4) + 6)))) (x4 + 1) h _ _ hP hD hS _ (lv_sub hl [6, 3, 2, 1, 0] rfl)
def F_X6_turningPoint (N : Nat) (fi : Nat → Int32) (fa : Nat → Nat → Int32)  : Option (Int32 × ga_MS) :=
  (if (fa 5 (ix 153)) = 0 then
  lp_X6_turningPoint_41 N N (upd fi 0 1) fa 0 (-1) ((fa 4 (ix 0)) - (fa 4 (ix 1))) 0
  else
  lp_X6_turningPoint_41 N N (upd fi 0 0) fa 0 (-1) ((fa 4 (ix 0)) - (fa 4 (ix 1))) 0)
set_option maxHeartbeats 4000000 in
theorem met_X6_turningPoint (l : Launch) (D : va_G) (cA : Nat → ClassId) (A : Nat → Prop) (b : Nat) (fr : Nat → Nat) (fi : Nat → Int32) (fa : Nat → Nat → Int32) (N : Nat)  (out : Int32 × ga_MS) (h : F_X6_turningPoint N fi fa = some out) : Met l yX6_turningPoint (ws_ yX6_turningPoint cX6_turningPoint 7 (some .int)) rm_X6_turningPoint (ga_N D cA A (mW b cA fr fi fa) [.ref b]) (va_Qi (fun (r : Int32) (u : ga_MS) => (out.1 = r) ∧ out.2 = u) (ga_MB D cA A b fr) A) 0 0 A := by
  refine Met.ofW (cc := cX6_turningPoint) (maxL := 7) (ret := (some .int)) (by decide) rfl ?_
  intro p e s m args below meth c s₁ B hml hv
  obtain ⟨rfl, hP, hK, hD⟩ := hv
  have hS : va_S A s.heap s.heap [] := va_S.rf
  have C : ga_cx p m c meth s _ RX6 cX6_turningPoint 7 (some .int) := ga_cx_of B hml
  have C0 := C
  obtain ⟨hx, hb, hr, hlocks, hml, hown, hts⟩ := C0
  have hl := lv_entry ([.ref b]) (n := 7) (Nat.le_of_ble_eq_true rfl)
  rw [lg_entry_eq]
  generalize (lg_sl ([.ref b]) ++ List.replicate (7 - (lg_sl ([.ref b])).length) Slot.unset).toArray = ls at hl ⊢
  have hl : lv_has ls 7 [(0, .ref b)] := hl
  rw [F_X6_turningPoint] at h
  refine lv_aload_n hx hb dX6_turningPoint_0 rfl (lv_at hl 0 rfl) ?_
  refine lv_aload_n hx hb dX6_turningPoint_1 rfl (lv_at hl 0 rfl) ?_
  refine va_get hx hb hts in_X6 hown hK.1 hP 0 (fs := mF fi fr) rfl rfl 5 (by decide) (hts _ q1517) (fun _ hh => hh) (v := .ref (fr 5)) rfl dX6_turningPoint_2 ?_
  refine lv_sipush (v := 153) hx hb dX6_turningPoint_5 (by decide) ?_
  refine va_iald hx hb hK.1 hP 2 0 (f := fa 5) rfl rfl (ga_in (by decide)) dX6_turningPoint_8 ?_
  refine lv_if_ne (tgt := 16) hx hb dX6_turningPoint_9 (by decide) (fun c_1 => ?_) (fun c_1 => ?_)
  · replace h := ga_iff c_1 h
    refine lv_iconst (v := 0) hx hb dX6_turningPoint_16 (by decide) ?_
    refine va_put hx hb hts in_X6 tyX6 tyX6_ok nmX6 hown hK.1 hP hD hS 0 (fs := mF fi fr) rfl rfl 0 (by decide) (hts _ q1512) (fun _ hh => hh) rfl (v := .int 0) rfl rfl rfl (mF_lt (by decide)) dX6_turningPoint_17 (fun H locs hP hD hS => ?_)
    rw [mS_0] at hP hD
    refine lv_iconst (v := 0) hx hb dX6_turningPoint_20 (by decide) ?_
    refine lv_istore_n (lv' := [(1, .int 0), (0, .ref b)]) hx hb dX6_turningPoint_21 rfl hl (by decide) rfl (fun ls hl => ?_)
    refine lv_iconst (v := (-1)) hx hb dX6_turningPoint_22 (by decide) ?_
    refine lv_istore_n (lv' := [(2, .int (-1)), (1, .int 0), (0, .ref b)]) hx hb dX6_turningPoint_23 rfl hl (by decide) rfl (fun ls hl => ?_)
    refine lv_aload_n hx hb dX6_turningPoint_24 rfl (lv_at hl 2 rfl) ?_
    refine va_get hx hb hts in_X6 hown hK.1 hP 0 (fs := mF (upd fi 0 0) fr) rfl rfl 4 (by decide) (hts _ q1516) (fun _ hh => hh) (v := .ref (fr 4)) rfl dX6_turningPoint_25 ?_
    refine lv_iconst (v := 0) hx hb dX6_turningPoint_28 (by decide) ?_
    refine va_iald hx hb hK.1 hP 1 0 (f := fa 4) rfl rfl (ga_in (by decide)) dX6_turningPoint_29 ?_
    refine lv_aload_n hx hb dX6_turningPoint_30 rfl (lv_at hl 2 rfl) ?_
    refine va_get hx hb hts in_X6 hown hK.1 hP 0 (fs := mF (upd fi 0 0) fr) rfl rfl 4 (by decide) (hts _ q1516) (fun _ hh => hh) (v := .ref (fr 4)) rfl dX6_turningPoint_31 ?_
    refine lv_iconst (v := 1) hx hb dX6_turningPoint_34 (by decide) ?_
    refine va_iald hx hb hK.1 hP 1 0 (f := fa 4) rfl rfl (ga_in (by decide)) dX6_turningPoint_35 ?_
    refine lv_isub hx hb dX6_turningPoint_36 ?_
    refine lv_istore_n (lv' := [(3, .int ((fa 4 (ix 0)) - (fa 4 (ix 1)))), (2, .int (-1)), (1, .int 0), (0, .ref b)]) hx hb dX6_turningPoint_37 rfl hl (by decide) rfl (fun ls hl => ?_)
    refine lv_iconst (v := 0) hx hb dX6_turningPoint_38 (by decide) ?_
    refine lv_istore (lv' := [(4, .int 0), (3, .int ((fa 4 (ix 0)) - (fa 4 (ix 1)))), (2, .int (-1)), (1, .int 0), (0, .ref b)]) hx hb dX6_turningPoint_39 hl (by decide) rfl (fun ls hl => ?_)
    exact w_X6_turningPoint_41 C hK N (upd fi 0 0) fa 0 (-1) ((fa 4 (ix 0)) - (fa 4 (ix 1))) 0 h _ _ hP hD hS _ (lv_sub hl [4, 3, 2, 1, 0] rfl)
  · replace h := ga_ift c_1 h
    refine lv_iconst (v := 1) hx hb dX6_turningPoint_12 (by decide) ?_
    refine lv_goto (tgt := 17) hx hb dX6_turningPoint_13 (by decide) ?_
    refine va_put hx hb hts in_X6 tyX6 tyX6_ok nmX6 hown hK.1 hP hD hS 0 (fs := mF fi fr) rfl rfl 0 (by decide) (hts _ q1512) (fun _ hh => hh) rfl (v := .int 1) rfl rfl rfl (mF_lt (by decide)) dX6_turningPoint_17 (fun H locs hP hD hS => ?_)
    rw [mS_0] at hP hD
    refine lv_iconst (v := 0) hx hb dX6_turningPoint_20 (by decide) ?_
    refine lv_istore_n (lv' := [(1, .int 0), (0, .ref b)]) hx hb dX6_turningPoint_21 rfl hl (by decide) rfl (fun ls hl => ?_)
    refine lv_iconst (v := (-1)) hx hb dX6_turningPoint_22 (by decide) ?_
    refine lv_istore_n (lv' := [(2, .int (-1)), (1, .int 0), (0, .ref b)]) hx hb dX6_turningPoint_23 rfl hl (by decide) rfl (fun ls hl => ?_)
    refine lv_aload_n hx hb dX6_turningPoint_24 rfl (lv_at hl 2 rfl) ?_
    refine va_get hx hb hts in_X6 hown hK.1 hP 0 (fs := mF (upd fi 0 1) fr) rfl rfl 4 (by decide) (hts _ q1516) (fun _ hh => hh) (v := .ref (fr 4)) rfl dX6_turningPoint_25 ?_
    refine lv_iconst (v := 0) hx hb dX6_turningPoint_28 (by decide) ?_
    refine va_iald hx hb hK.1 hP 1 0 (f := fa 4) rfl rfl (ga_in (by decide)) dX6_turningPoint_29 ?_
    refine lv_aload_n hx hb dX6_turningPoint_30 rfl (lv_at hl 2 rfl) ?_
    refine va_get hx hb hts in_X6 hown hK.1 hP 0 (fs := mF (upd fi 0 1) fr) rfl rfl 4 (by decide) (hts _ q1516) (fun _ hh => hh) (v := .ref (fr 4)) rfl dX6_turningPoint_31 ?_
    refine lv_iconst (v := 1) hx hb dX6_turningPoint_34 (by decide) ?_
    refine va_iald hx hb hK.1 hP 1 0 (f := fa 4) rfl rfl (ga_in (by decide)) dX6_turningPoint_35 ?_
    refine lv_isub hx hb dX6_turningPoint_36 ?_
    refine lv_istore_n (lv' := [(3, .int ((fa 4 (ix 0)) - (fa 4 (ix 1)))), (2, .int (-1)), (1, .int 0), (0, .ref b)]) hx hb dX6_turningPoint_37 rfl hl (by decide) rfl (fun ls hl => ?_)
    refine lv_iconst (v := 0) hx hb dX6_turningPoint_38 (by decide) ?_
    refine lv_istore (lv' := [(4, .int 0), (3, .int ((fa 4 (ix 0)) - (fa 4 (ix 1)))), (2, .int (-1)), (1, .int 0), (0, .ref b)]) hx hb dX6_turningPoint_39 hl (by decide) rfl (fun ls hl => ?_)
    exact w_X6_turningPoint_41 C hK N (upd fi 0 1) fa 0 (-1) ((fa 4 (ix 0)) - (fa 4 (ix 1))) 0 h _ _ hP hD hS _ (lv_sub hl [4, 3, 2, 1, 0] rfl)
