abbrev rm_X4_init : Room := { frames := 2, cells := 0, slots := 0, locals := 32 }
def lp_X4_init_31 (N : Nat) (x1 : Int32) (x2 : Int32) : Nat → (Int32) → (Int32) → (Int64) → (Int64) → (Int32) → Option (Int32 × Int32 × Int64 × Int64 × Int64 × Int64)
  | 0, _, _, _, _, _ => none
  | n+1, k0, k1, k2, x3, x5 =>
    (if x2 ≤ x5 then
    some (k0, k1, k2, x3, (jlshl x3 (x1 - 1)), (((x3 ||| (jlshl x3 (x1 - 1))) ||| ((jlshl 1 x1) - 1)) ||| (jlshl ((jlshl 1 x1) - 1) (x1 * (x2 - 1)))))
    else
    lp_X4_init_31 N x1 x2 n k0 k1 k2 (x3 ||| (jlshl 1 (x1 * x5))) (x5 + 1))
set_option maxHeartbeats 4000000 in
theorem w_X4_init_31 {p : Program} {l : Launch} {e : Env} {s : State} {m : MethodId} {args : Array Value} {below : List Frame} {meth : Method} {c : Code} {D : va_G} {cA : Nat → ClassId} {A : Nat → Prop} {sh : Nat} {N : Nat} {x1 : Int32} {x2 : Int32}  (C : ga_cx p m c meth s args RX4 cX4_init 7 none) (hin : meth.name = "<init>") (hK : ga_K D cA s) (hA : ∀ q : Nat, s.heap.size ≤ q → A q) {out : Int32 × Int32 × Int64 × Int64 × Int64 × Int64} : ∀ n : Nat, ∀ (k0 : Int32) (k1 : Int32) (k2 : Int64) (x3 : Int64) (x5 : Int32), lp_X4_init_31 N x1 x2 n k0 k1 k2 x3 x5 = some out → ∀ (H : Heap) (locs : List Loc), va_P D ga_cl [(sh, .inr (4, [.int k0, .int k1, .long k2, .long 0, .long 0, .long 0]))] H → va_D A [(sh, .inr (4, [.int k0, .int k1, .long k2, .long 0, .long 0, .long 0]))] → va_S A s.heap H locs → ∀ ls : Array Slot, lv_has ls 7 [(0, .ref sh), (1, .int x1), (2, .int x2), (3, .long x3), (5, .int x5)] → W p l e (headSpec (ws_ yX4_init cX4_init 7 none) rm_X4_init).room s m args below meth c H locs 0 0 (MQ below (va_Qv (fun (u : Int32 × Int32 × Int64 × Int64 × Int64 × Int64) => out = u) (fun (u : Int32 × Int32 × Int64 × Int64 × Int64 × Int64) (t : State) => va_P D ga_cl [(sh, .inr (4, [.int u.1, .int u.2.1, .long u.2.2.1, .long u.2.2.2.1, .long u.2.2.2.2.1, .long u.2.2.2.2.2]))] t.heap ∧ ga_K D cA t ∧ va_D A [(sh, .inr (4, [.int u.1, .int u.2.1, .long u.2.2.1, .long u.2.2.2.1, .long u.2.2.2.2.1, .long u.2.2.2.2.2]))]) A) args s 0 0 A) (F0 m 31 ls []) := by
  have C0 := C
  obtain ⟨hx, hb, hr, hlocks, hml, hown, hts⟩ := C0
  intro n
  induction n with
  | zero =>
    intro k0 k1 k2 x3 x5 h
    rw [lp_X4_init_31.eq_1] at h
    cases h
  | succ n ih =>
    intro k0 k1 k2 x3 x5 h H locs hP hD hS ls hl
    rw [lp_X4_init_31.eq_2] at h
    refine lv_iload hx hb dX4_init_31 (lv_at hl 4 rfl) ?_
    refine lv_iload_n hx hb dX4_init_33 rfl (lv_at hl 2 rfl) ?_
    refine lv_icmp_ge (tgt := 53) hx hb dX4_init_34 (by decide) (fun c_12 => ?_) (fun c_12 => ?_)
    · replace h := ga_ift c_12 h
      refine lv_aload_n hx hb dX4_init_53 rfl (lv_at hl 0 rfl) ?_
      refine lv_lload_n hx hb dX4_init_54 rfl (lv_at hl 3 rfl) ?_
      refine va_putF hx hb hts in_X4 tyX4 tyX4_ok nmX4 hown hK.1 hP hD hS 0 (fs := [.int k0, .int k1, .long k2, .long 0, .long 0, .long 0]) rfl rfl 3 (by decide) (hts _ q195) (fun _ hh => hh) rfl hin rfl (v := .long x3) rfl rfl rfl (show 3 < 6 by decide) dX4_init_55 (fun H_13 locs hP hD hS => ?_)
      have hP : va_P D ga_cl [(sh, .inr (4, [.int k0, .int k1, .long k2, .long x3, .long 0, .long 0]))] H_13 := hP
      have hD : va_D A [(sh, .inr (4, [.int k0, .int k1, .long k2, .long x3, .long 0, .long 0]))] := hD
      refine lv_aload_n hx hb dX4_init_58 rfl (lv_at hl 0 rfl) ?_
      refine lv_lload_n hx hb dX4_init_59 rfl (lv_at hl 3 rfl) ?_
      refine lv_iload_n hx hb dX4_init_60 rfl (lv_at hl 1 rfl) ?_
      refine lv_iconst (v := 1) hx hb dX4_init_61 (by decide) ?_
      refine lv_isub hx hb dX4_init_62 ?_
      refine lv_lshl (v := (jlshl x3 (x1 - 1))) hx hb dX4_init_63 rfl ?_
      refine va_putF hx hb hts in_X4 tyX4 tyX4_ok nmX4 hown hK.1 hP hD hS 0 (fs := [.int k0, .int k1, .long k2, .long x3, .long 0, .long 0]) rfl rfl 4 (by decide) (hts _ q196) (fun _ hh => hh) rfl hin rfl (v := .long (jlshl x3 (x1 - 1))) rfl rfl rfl (show 4 < 6 by decide) dX4_init_64 (fun H_15 locs hP hD hS => ?_)
      have hP : va_P D ga_cl [(sh, .inr (4, [.int k0, .int k1, .long k2, .long x3, .long (jlshl x3 (x1 - 1)), .long 0]))] H_15 := hP
      have hD : va_D A [(sh, .inr (4, [.int k0, .int k1, .long k2, .long x3, .long (jlshl x3 (x1 - 1)), .long 0]))] := hD
      refine lv_iload_n hx hb dX4_init_67 rfl (lv_at hl 1 rfl) ?_
      refine vp_callSl (va_Run.run (va_runSN (As := [.int x1]) (rest := []) ⟨hx, hb, hml, hown, hts⟩ (met_X1_bit l D cA N x1 (jlshl 1 x1) rfl) (⟨va_cnB 1 hts (lw_meth q186) rfl rfl rfl (hK.2.1 _ q184 rfl) (hts _ q67) (by decide +kernel) ⟨Nat.le_of_ble_eq_true rfl, Nat.le_of_ble_eq_true rfl⟩, hts _ q185, trivial⟩) (ga_PS hK ga_P0) rfl rfl hl.1 rfl (lv_room (Nat.le_of_ble_eq_true rfl)) dX4_init_68 ⟨Nat.le_of_ble_eq_true rfl, Nat.le_of_ble_eq_true rfl⟩)) (fun z_19 w_20 => ?_)
      obtain rfl := w_20
      refine lv_lconst (v := 1) hx hb dX4_init_71 (by decide) ?_
      refine lv_lsub hx hb dX4_init_72 ?_
      refine lv_lstore (lv' := [(5, .long ((jlshl 1 x1) - 1)), (0, .ref sh), (1, .int x1), (2, .int x2), (3, .long x3)]) hx hb dX4_init_73 hl (by decide) rfl (fun ls hl => ?_)
      refine lv_aload_n hx hb dX4_init_75 rfl (lv_at hl 1 rfl) ?_
      refine lv_aload_n hx hb dX4_init_76 rfl (lv_at hl 1 rfl) ?_
      refine va_get hx hb hts in_X4 hown hK.1 hP 0 (fs := [.int k0, .int k1, .long k2, .long x3, .long (jlshl x3 (x1 - 1)), .long 0]) rfl rfl 3 (by decide) (hts _ q195) (fun _ hh => hh) (v := .long x3) rfl dX4_init_77 ?_
      refine lv_aload_n hx hb dX4_init_80 rfl (lv_at hl 1 rfl) ?_
      refine va_get hx hb hts in_X4 hown hK.1 hP 0 (fs := [.int k0, .int k1, .long k2, .long x3, .long (jlshl x3 (x1 - 1)), .long 0]) rfl rfl 4 (by decide) (hts _ q196) (fun _ hh => hh) (v := .long (jlshl x3 (x1 - 1))) rfl dX4_init_81 ?_
      refine lv_lor hx hb dX4_init_84 ?_
      refine lv_lload hx hb dX4_init_85 (lv_at hl 0 rfl) ?_
      refine lv_lor hx hb dX4_init_87 ?_
      refine lv_lload hx hb dX4_init_88 (lv_at hl 0 rfl) ?_
      refine lv_iload_n hx hb dX4_init_90 rfl (lv_at hl 2 rfl) ?_
      refine lv_iload_n hx hb dX4_init_91 rfl (lv_at hl 3 rfl) ?_
      refine lv_iconst (v := 1) hx hb dX4_init_92 (by decide) ?_
      refine lv_isub hx hb dX4_init_93 ?_
      refine lv_imul hx hb dX4_init_94 ?_
      refine lv_lshl (v := (jlshl ((jlshl 1 x1) - 1) (x1 * (x2 - 1)))) hx hb dX4_init_95 rfl ?_
      refine lv_lor hx hb dX4_init_96 ?_
      refine va_putF hx hb hts in_X4 tyX4 tyX4_ok nmX4 hown hK.1 hP hD hS 0 (fs := [.int k0, .int k1, .long k2, .long x3, .long (jlshl x3 (x1 - 1)), .long 0]) rfl rfl 5 (by decide) (hts _ q197) (fun _ hh => hh) rfl hin rfl (v := .long (((x3 ||| (jlshl x3 (x1 - 1))) ||| ((jlshl 1 x1) - 1)) ||| (jlshl ((jlshl 1 x1) - 1) (x1 * (x2 - 1))))) rfl rfl rfl (show 5 < 6 by decide) dX4_init_97 (fun H_22 locs hP hD hS => ?_)
      have hP : va_P D ga_cl [(sh, .inr (4, [.int k0, .int k1, .long k2, .long x3, .long (jlshl x3 (x1 - 1)), .long (((x3 ||| (jlshl x3 (x1 - 1))) ||| ((jlshl 1 x1) - 1)) ||| (jlshl ((jlshl 1 x1) - 1) (x1 * (x2 - 1))))]))] H_22 := hP
      have hD : va_D A [(sh, .inr (4, [.int k0, .int k1, .long k2, .long x3, .long (jlshl x3 (x1 - 1)), .long (((x3 ||| (jlshl x3 (x1 - 1))) ||| ((jlshl 1 x1) - 1)) ||| (jlshl ((jlshl 1 x1) - 1) (x1 * (x2 - 1))))]))] := hD
      have hP9 := hP.sub (ws' := [(sh, .inr (4, [.int k0, .int k1, .long k2, .long x3, .long (jlshl x3 (x1 - 1)), .long (((x3 ||| (jlshl x3 (x1 - 1))) ||| ((jlshl 1 x1) - 1)) ||| (jlshl ((jlshl 1 x1) - 1) (x1 * (x2 - 1))))]))]) [0] rfl
      have hD9 := hD.sub (ws' := [(sh, .inr (4, [.int k0, .int k1, .long k2, .long x3, .long (jlshl x3 (x1 - 1)), .long (((x3 ||| (jlshl x3 (x1 - 1))) ||| ((jlshl 1 x1) - 1)) ||| (jlshl ((jlshl 1 x1) - 1) (x1 * (x2 - 1))))]))]) [0] (by decide) rfl
      obtain rfl := Option.some.inj h
      exact W.vret hx hb hr (fun t ht hW => ⟨⟨(k0, k1, k2, x3, (jlshl x3 (x1 - 1)), (((x3 ||| (jlshl x3 (x1 - 1))) ||| ((jlshl 1 x1) - 1)) ||| (jlshl ((jlshl 1 x1) - 1) (x1 * (x2 - 1))))), rfl, rfl, ⟨by rw [ht]; exact hP9, hK.warm hW, hD9⟩⟩, hS.F ht⟩) hS.2.2 dX4_init_100
    · replace h := ga_iff c_12 h
      refine lv_lload_n hx hb dX4_init_37 rfl (lv_at hl 3 rfl) ?_
      refine lv_iload_n hx hb dX4_init_38 rfl (lv_at hl 1 rfl) ?_
      refine lv_iload hx hb dX4_init_39 (lv_at hl 4 rfl) ?_
      refine lv_imul hx hb dX4_init_41 ?_
      refine vp_callSl (va_Run.run (va_runSN (As := [.int (x1 * x5)]) (rest := [.long x3]) ⟨hx, hb, hml, hown, hts⟩ (met_X1_bit l D cA N (x1 * x5) (jlshl 1 (x1 * x5)) rfl) (⟨va_cnB 1 hts (lw_meth q186) rfl rfl rfl (hK.2.1 _ q184 rfl) (hts _ q67) (by decide +kernel) ⟨Nat.le_of_ble_eq_true rfl, Nat.le_of_ble_eq_true rfl⟩, hts _ q185, trivial⟩) (ga_PS hK ga_P0) rfl rfl hl.1 rfl (lv_room (Nat.le_of_ble_eq_true rfl)) dX4_init_42 ⟨Nat.le_of_ble_eq_true rfl, Nat.le_of_ble_eq_true rfl⟩)) (fun z_26 w_27 => ?_)
      obtain rfl := w_27
      refine lv_lor hx hb dX4_init_45 ?_
      refine lv_lstore_n (lv' := [(3, .long (x3 ||| (jlshl 1 (x1 * x5)))), (0, .ref sh), (1, .int x1), (2, .int x2), (5, .int x5)]) hx hb dX4_init_46 rfl hl (by decide) rfl (fun ls hl => ?_)
      refine lv_iinc (v := (x5 + 1)) (lv' := [(5, .int (x5 + 1)), (3, .long (x3 ||| (jlshl 1 (x1 * x5)))), (0, .ref sh), (1, .int x1), (2, .int x2)]) hx hb dX4_init_47 hl (k := 4) rfl rfl (by decide) rfl (fun ls hl => ?_)
      refine lv_goto (tgt := 31) hx hb dX4_init_50 (by decide) ?_
      exact ih k0 k1 k2 (x3 ||| (jlshl 1 (x1 * x5))) (x5 + 1) h _ _ (hP.sub [0] rfl) (hD.sub [0] (by decide) rfl) hS _ (lv_sub hl [2, 3, 4, 1, 0] rfl)
def F_X4_init (N : Nat)  (x1 : Int32) (x2 : Int32) : Option (Int32 × Int32 × Int64 × Int64 × Int64 × Int64) :=
  lp_X4_init_31 N x1 x2 N x1 x2 ((jlshl 1 (x1 * x2)) - 1) 0 0
set_option maxHeartbeats 4000000 in
theorem met_X4_init (l : Launch) (D : va_G) (cA : Nat → ClassId) (A : Nat → Prop) (sh : Nat)  (N : Nat) (x1 : Int32) (x2 : Int32)  (out : Int32 × Int32 × Int64 × Int64 × Int64 × Int64) (h : F_X4_init N x1 x2 = some out) : Met l yX4_init (ws_ yX4_init cX4_init 7 none) rm_X4_init (ga_L D cA A [(sh, .inr (4, [.int 0, .int 0, .long 0, .long 0, .long 0, .long 0]))] [.ref sh, .int x1, .int x2]) (va_Qv (fun (u : Int32 × Int32 × Int64 × Int64 × Int64 × Int64) => out = u) (fun (u : Int32 × Int32 × Int64 × Int64 × Int64 × Int64) (t : State) => va_P D ga_cl [(sh, .inr (4, [.int u.1, .int u.2.1, .long u.2.2.1, .long u.2.2.2.1, .long u.2.2.2.2.1, .long u.2.2.2.2.2]))] t.heap ∧ ga_K D cA t ∧ va_D A [(sh, .inr (4, [.int u.1, .int u.2.1, .long u.2.2.1, .long u.2.2.2.1, .long u.2.2.2.2.1, .long u.2.2.2.2.2]))]) A) 0 0 A := by
  refine Met.ofW (cc := cX4_init) (maxL := 7) (ret := none) (by decide) rfl ?_
  intro p e s m args below meth c s₁ B hml hv
  obtain ⟨rfl, hP, hK, hD, hA⟩ := hv
  have hS : va_S A s.heap s.heap [] := va_S.rf
  have hin : meth.name = "<init>" := (name_of_methodNamed B.named B.method).1
  have C : ga_cx p m c meth s _ RX4 cX4_init 7 none := ga_cx_of B hml
  have C0 := C
  obtain ⟨hx, hb, hr, hlocks, hml, hown, hts⟩ := C0
  have hl := lv_entry ([.ref sh, .int x1, .int x2]) (n := 7) (Nat.le_of_ble_eq_true rfl)
  rw [lg_entry_eq]
  generalize (lg_sl ([.ref sh, .int x1, .int x2]) ++ List.replicate (7 - (lg_sl ([.ref sh, .int x1, .int x2])).length) Slot.unset).toArray = ls at hl ⊢
  have hl : lv_has ls 7 [(0, .ref sh), (1, .int x1), (2, .int x2)] := hl
  rw [F_X4_init] at h
  refine lv_aload_n hx hb dX4_init_0 rfl (lv_at hl 0 rfl) ?_
  refine W.objInit hx hb hown (hts _ q183) (hts _ q113) (hts _ q114) rfl (by rw [hml]; exact hl.1) rfl dX4_init_1 (Nat.le_of_ble_eq_true rfl) (Nat.le_of_ble_eq_true rfl) ?_
  refine W.eq (g2 := F0 m 4 ls []) rfl ?_
  refine lv_aload_n hx hb dX4_init_4 rfl (lv_at hl 0 rfl) ?_
  refine lv_iload_n hx hb dX4_init_5 rfl (lv_at hl 1 rfl) ?_
  refine va_putF hx hb hts in_X4 tyX4 tyX4_ok nmX4 hown hK.1 hP hD hS 0 (fs := [.int 0, .int 0, .long 0, .long 0, .long 0, .long 0]) rfl rfl 0 (by decide) (hts _ q187) (fun _ hh => hh) rfl hin rfl (v := .int x1) rfl rfl rfl (show 0 < 6 by decide) dX4_init_6 (fun H_1 locs hP hD hS => ?_)
  have hP : va_P D ga_cl [(sh, .inr (4, [.int x1, .int 0, .long 0, .long 0, .long 0, .long 0]))] H_1 := hP
  have hD : va_D A [(sh, .inr (4, [.int x1, .int 0, .long 0, .long 0, .long 0, .long 0]))] := hD
  refine lv_aload_n hx hb dX4_init_9 rfl (lv_at hl 0 rfl) ?_
  refine lv_iload_n hx hb dX4_init_10 rfl (lv_at hl 2 rfl) ?_
  refine va_putF hx hb hts in_X4 tyX4 tyX4_ok nmX4 hown hK.1 hP hD hS 0 (fs := [.int x1, .int 0, .long 0, .long 0, .long 0, .long 0]) rfl rfl 1 (by decide) (hts _ q190) (fun _ hh => hh) rfl hin rfl (v := .int x2) rfl rfl rfl (show 1 < 6 by decide) dX4_init_11 (fun H_3 locs hP hD hS => ?_)
  have hP : va_P D ga_cl [(sh, .inr (4, [.int x1, .int x2, .long 0, .long 0, .long 0, .long 0]))] H_3 := hP
  have hD : va_D A [(sh, .inr (4, [.int x1, .int x2, .long 0, .long 0, .long 0, .long 0]))] := hD
  refine lv_aload_n hx hb dX4_init_14 rfl (lv_at hl 0 rfl) ?_
  refine lv_iload_n hx hb dX4_init_15 rfl (lv_at hl 1 rfl) ?_
  refine lv_iload_n hx hb dX4_init_16 rfl (lv_at hl 2 rfl) ?_
  refine lv_imul hx hb dX4_init_17 ?_
  refine vp_callSl (va_Run.run (va_runSN (As := [.int (x1 * x2)]) (rest := [.ref sh]) ⟨hx, hb, hml, hown, hts⟩ (met_X1_bit l D cA N (x1 * x2) (jlshl 1 (x1 * x2)) rfl) (⟨va_cnB 1 hts (lw_meth q186) rfl rfl rfl (hK.2.1 _ q184 rfl) (hts _ q67) (by decide +kernel) ⟨Nat.le_of_ble_eq_true rfl, Nat.le_of_ble_eq_true rfl⟩, hts _ q185, trivial⟩) (ga_PS hK ga_P0) rfl rfl hl.1 rfl (lv_room (Nat.le_of_ble_eq_true rfl)) dX4_init_18 ⟨Nat.le_of_ble_eq_true rfl, Nat.le_of_ble_eq_true rfl⟩)) (fun z_7 w_8 => ?_)
  obtain rfl := w_8
  refine lv_lconst (v := 1) hx hb dX4_init_21 (by decide) ?_
  refine lv_lsub hx hb dX4_init_22 ?_
  refine va_putF hx hb hts in_X4 tyX4 tyX4_ok nmX4 hown hK.1 hP hD hS 0 (fs := [.int x1, .int x2, .long 0, .long 0, .long 0, .long 0]) rfl rfl 2 (by decide) (hts _ q193) (fun _ hh => hh) rfl hin rfl (v := .long ((jlshl 1 (x1 * x2)) - 1)) rfl rfl rfl (show 2 < 6 by decide) dX4_init_23 (fun H_10 locs hP hD hS => ?_)
  have hP : va_P D ga_cl [(sh, .inr (4, [.int x1, .int x2, .long ((jlshl 1 (x1 * x2)) - 1), .long 0, .long 0, .long 0]))] H_10 := hP
  have hD : va_D A [(sh, .inr (4, [.int x1, .int x2, .long ((jlshl 1 (x1 * x2)) - 1), .long 0, .long 0, .long 0]))] := hD
  refine lv_lconst (v := 0) hx hb dX4_init_26 (by decide) ?_
  refine lv_lstore_n (lv' := [(3, .long 0), (0, .ref sh), (1, .int x1), (2, .int x2)]) hx hb dX4_init_27 rfl hl (by decide) rfl (fun ls hl => ?_)
  refine lv_iconst (v := 0) hx hb dX4_init_28 (by decide) ?_
  refine lv_istore (lv' := [(5, .int 0), (3, .long 0), (0, .ref sh), (1, .int x1), (2, .int x2)]) hx hb dX4_init_29 hl (by decide) rfl (fun ls hl => ?_)
  exact w_X4_init_31 C hin hK hA N x1 x2 ((jlshl 1 (x1 * x2)) - 1) 0 0 h _ _ (hP.sub [0] rfl) (hD.sub [0] (by decide) rfl) hS _ (lv_sub hl [2, 3, 4, 1, 0] rfl)
abbrev rm_X4_handicap : Room := { frames := 2, cells := 1, slots := 4, locals := 32 }
def lp_X4_handicap_69 (N : Nat) (zw : Int32) (zh : Int32) (zA : Int64) (zL : Int64) (zR : Int64) (zE : Int64) (x1 : Int32) : Nat → (Nat → Int32) → (Int64) → (Int32) → Option (Int64 × Unit)
  | 0, _, _, _ => none
  | n+1, k0, x3, x5 =>
    (if x1 ≤ x5 then
    some (x3, ())
    else
    (if inb x5 4 = true then
    lp_X4_handicap_69 N zw zh zA zL zR zE x1 n k0 (x3 ||| (jlshl 1 (k0 (ix x5)))) (x5 + 1)
    else none))
set_option maxHeartbeats 4000000 in
theorem w_X4_handicap_69 {p : Program} {l : Launch} {e : Env} {s : State} {m : MethodId} {args : Array Value} {below : List Frame} {meth : Method} {c : Code} {D : va_G} {cA : Nat → ClassId} {A : Nat → Prop} {sh : Nat} {N : Nat} {zw : Int32} {zh : Int32} {zA : Int64} {zL : Int64} {zR : Int64} {zE : Int64} {x1 : Int32}  (C : ga_cx p m c meth s args RX4 cX4_handicap 6 (some .long)) (hK : ga_K D cA s) (hA : ∀ q : Nat, s.heap.size ≤ q → A q) {out : Int64 × Unit} : ∀ n : Nat, ∀ (n0 : Nat) (k0 : Nat → Int32) (x3 : Int64) (x5 : Int32), lp_X4_handicap_69 N zw zh zA zL zR zE x1 n k0 x3 x5 = some out → ∀ (H : Heap) (locs : List Loc), va_P D ga_cl [(sh, .inr (4, [.int zw, .int zh, .long zA, .long zL, .long zR, .long zE])), (n0, .inl (cA 0, 4, .inl k0))] H → va_D A [(sh, .inr (4, [.int zw, .int zh, .long zA, .long zL, .long zR, .long zE])), (n0, .inl (cA 0, 4, .inl k0))] → va_S A s.heap H locs → ∀ ls : Array Slot, lv_has ls 6 [(1, .int x1), (2, .ref n0), (3, .long x3), (5, .int x5)] → W p l e (headSpec (ws_ yX4_handicap cX4_handicap 6 (some .long)) rm_X4_handicap).room s m args below meth c H locs 1 4 (MQ below (va_Ql (fun (r : Int64) (u : Unit) => (out.1 = r) ∧ out.2 = u) (fun (u : Unit) (t : State) => va_P D ga_cl [(sh, .inr (4, [.int zw, .int zh, .long zA, .long zL, .long zR, .long zE]))] t.heap ∧ ga_K D cA t ∧ va_D A [(sh, .inr (4, [.int zw, .int zh, .long zA, .long zL, .long zR, .long zE]))]) A) args s 1 4 A) (F0 m 69 ls []) := by
  have C0 := C
  obtain ⟨hx, hb, hr, hlocks, hml, hown, hts⟩ := C0
  intro n
  induction n with
  | zero =>
    intro n0 k0 x3 x5 h
    rw [lp_X4_handicap_69.eq_1] at h
    cases h
  | succ n ih =>
    intro n0 k0 x3 x5 h H locs hP hD hS ls hl
    rw [lp_X4_handicap_69.eq_2] at h
    refine lv_iload hx hb dX4_handicap_69 (lv_at hl 3 rfl) ?_
    refine lv_iload_n hx hb dX4_handicap_71 rfl (lv_at hl 0 rfl) ?_
    refine lv_icmp_ge (tgt := 91) hx hb dX4_handicap_72 (by decide) (fun c_8 => ?_) (fun c_8 => ?_)
    · replace h := ga_ift c_8 h
      refine lv_lload_n hx hb dX4_handicap_91 rfl (lv_at hl 2 rfl) ?_
      have hP9 := hP.sub (ws' := [(sh, .inr (4, [.int zw, .int zh, .long zA, .long zL, .long zR, .long zE]))]) [0] rfl
      have hD9 := hD.sub (ws' := [(sh, .inr (4, [.int zw, .int zh, .long zA, .long zL, .long zR, .long zE]))]) [0] (by decide) rfl
      obtain rfl := Option.some.inj h
      exact W.lret hx hb hr (fun t ht hW => ⟨⟨_, (), rfl, ⟨rfl, rfl⟩, ⟨by rw [ht]; exact hP9, hK.warm hW, hD9⟩⟩, hS.F ht⟩) hS.2.2 dX4_handicap_92
    · replace h := ga_iff c_8 h
      refine lv_lload_n hx hb dX4_handicap_75 rfl (lv_at hl 2 rfl) ?_
      refine lv_aload_n hx hb dX4_handicap_76 rfl (lv_at hl 1 rfl) ?_
      refine lv_iload hx hb dX4_handicap_77 (lv_at hl 3 rfl) ?_
      obtain ⟨i_9, h⟩ := ga_gif h
      refine va_iald hx hb hK.1 hP 1 0 (f := k0) rfl rfl (ga_in i_9) dX4_handicap_79 ?_
      refine vp_callSl (va_Run.run (va_runSN (As := [.int (k0 (ix x5))]) (rest := [.long x3]) ⟨hx, hb, hml, hown, hts⟩ (met_X1_bit l D cA N (k0 (ix x5)) (jlshl 1 (k0 (ix x5))) rfl) (⟨va_cnB 1 hts (lw_meth q186) rfl rfl rfl (hK.2.1 _ q184 rfl) (hts _ q67) (by decide +kernel) ⟨Nat.le_of_ble_eq_true rfl, Nat.le_of_ble_eq_true rfl⟩, hts _ q185, trivial⟩) (ga_PS hK ga_P0) rfl rfl hl.1 rfl (lv_room (Nat.le_of_ble_eq_true rfl)) dX4_handicap_80 ⟨Nat.le_of_ble_eq_true rfl, Nat.le_of_ble_eq_true rfl⟩)) (fun z_12 w_13 => ?_)
      obtain rfl := w_13
      refine lv_lor hx hb dX4_handicap_83 ?_
      refine lv_lstore_n (lv' := [(3, .long (x3 ||| (jlshl 1 (k0 (ix x5))))), (1, .int x1), (2, .ref n0), (5, .int x5)]) hx hb dX4_handicap_84 rfl hl (by decide) rfl (fun ls hl => ?_)
      refine lv_iinc (v := (x5 + 1)) (lv' := [(5, .int (x5 + 1)), (3, .long (x3 ||| (jlshl 1 (k0 (ix x5))))), (1, .int x1), (2, .ref n0)]) hx hb dX4_handicap_85 hl (k := 3) rfl rfl (by decide) rfl (fun ls hl => ?_)
      refine lv_goto (tgt := 69) hx hb dX4_handicap_88 (by decide) ?_
      exact ih n0 k0 (x3 ||| (jlshl 1 (k0 (ix x5)))) (x5 + 1) h _ _ (hP.sub [0, 1] rfl) (hD.sub [0, 1] (by decide) rfl) hS _ (lv_sub hl [2, 3, 1, 0] rfl)
def F_X4_handicap (N : Nat) (zw : Int32) (zh : Int32) (zA : Int64) (zL : Int64) (zR : Int64) (zE : Int64) (x1 : Int32) : Option (Int64 × Unit) :=
  lp_X4_handicap_69 N zw zh zA zL zR zE x1 N (upd (upd (upd (upd (fun _ => 0) (ix 0) (zw + 1)) (ix 1) (((zw * (zh - 2)) + zw) - 2)) (ix 2) ((zw + zw) - 2)) (ix 3) ((zw * (zh - 2)) + 1)) 0 0
set_option maxHeartbeats 4000000 in
theorem met_X4_handicap (l : Launch) (D : va_G) (cA : Nat → ClassId) (A : Nat → Prop) (sh : Nat) (zw : Int32) (zh : Int32) (zA : Int64) (zL : Int64) (zR : Int64) (zE : Int64) (N : Nat) (x1 : Int32)  (out : Int64 × Unit) (h : F_X4_handicap N zw zh zA zL zR zE x1 = some out) : Met l yX4_handicap (ws_ yX4_handicap cX4_handicap 6 (some .long)) rm_X4_handicap (ga_L D cA A [(sh, .inr (4, [.int zw, .int zh, .long zA, .long zL, .long zR, .long zE]))] [.ref sh, .int x1]) (va_Ql (fun (r : Int64) (u : Unit) => (out.1 = r) ∧ out.2 = u) (fun (u : Unit) (t : State) => va_P D ga_cl [(sh, .inr (4, [.int zw, .int zh, .long zA, .long zL, .long zR, .long zE]))] t.heap ∧ ga_K D cA t ∧ va_D A [(sh, .inr (4, [.int zw, .int zh, .long zA, .long zL, .long zR, .long zE]))]) A) 1 4 A := by
  refine Met.ofW (cc := cX4_handicap) (maxL := 6) (ret := (some .long)) (by decide) rfl ?_
  intro p e s m args below meth c s₁ B hml hv
  obtain ⟨rfl, hP, hK, hD, hA⟩ := hv
  have hS : va_S A s.heap s.heap [] := va_S.rf
  have C : ga_cx p m c meth s _ RX4 cX4_handicap 6 (some .long) := ga_cx_of B hml
  have C0 := C
  obtain ⟨hx, hb, hr, hlocks, hml, hown, hts⟩ := C0
  have hl := lv_entry ([.ref sh, .int x1]) (n := 6) (Nat.le_of_ble_eq_true rfl)
  rw [lg_entry_eq]
  generalize (lg_sl ([.ref sh, .int x1]) ++ List.replicate (6 - (lg_sl ([.ref sh, .int x1])).length) Slot.unset).toArray = ls at hl ⊢
  have hl : lv_has ls 6 [(0, .ref sh), (1, .int x1)] := hl
  rw [F_X4_handicap] at h
  refine lv_iconst (v := 4) hx hb dX4_handicap_0 (by decide) ?_
  refine va_newa (atype := .int) (a0 := (4, .inl (fun _ => 0))) hx hb (hts _ q176) rfl hK.1 hP hD hS hA (fun _ => rfl) (by decide) rfl (Nat.le_of_ble_eq_true rfl) (Nat.le_of_ble_eq_true rfl) (Nat.le_of_ble_eq_true rfl) dX4_handicap_1 (fun q_1 k_3 H_2 hK9 hP hD hS => ?_)
  obtain rfl := ga_tyqI hK9
  have hP : va_P D ga_cl [(sh, .inr (4, [.int zw, .int zh, .long zA, .long zL, .long zR, .long zE])), (q_1, .inl (cA 0, 4, .inl (fun _ => 0)))] H_2 := hP
  have hD : va_D A [(sh, .inr (4, [.int zw, .int zh, .long zA, .long zL, .long zR, .long zE])), (q_1, .inl (cA 0, 4, .inl (fun _ => 0)))] := hD
  refine W.cs (cells' := 1) (slots' := 4) rfl rfl ?_
  refine lv_dup hx hb dX4_handicap_3 rfl ?_
  refine lv_iconst (v := 0) hx hb dX4_handicap_4 (by decide) ?_
  refine lv_aload_n hx hb dX4_handicap_5 rfl (lv_at hl 0 rfl) ?_
  refine va_get hx hb hts in_X4 hown hK.1 hP 0 (fs := [.int zw, .int zh, .long zA, .long zL, .long zR, .long zE]) rfl rfl 0 (by decide) (hts _ q187) (fun _ hh => hh) (v := .int zw) rfl dX4_handicap_6 ?_
  refine lv_iconst (v := 1) hx hb dX4_handicap_9 (by decide) ?_
  refine lv_iadd hx hb dX4_handicap_10 ?_
  refine va_iast hx hb hK.1 hP hD hS 1 0 (f := (fun _ => 0)) rfl rfl (ga_in (by decide)) dX4_handicap_11 (fun H_4 locs hP hD hS => ?_)
  have hP : va_P D ga_cl [(sh, .inr (4, [.int zw, .int zh, .long zA, .long zL, .long zR, .long zE])), (q_1, .inl (cA 0, 4, .inl (upd (fun _ => 0) (ix 0) (zw + 1))))] H_4 := hP
  have hD : va_D A [(sh, .inr (4, [.int zw, .int zh, .long zA, .long zL, .long zR, .long zE])), (q_1, .inl (cA 0, 4, .inl (upd (fun _ => 0) (ix 0) (zw + 1))))] := hD
  refine lv_dup hx hb dX4_handicap_12 rfl ?_
  refine lv_iconst (v := 1) hx hb dX4_handicap_13 (by decide) ?_
  refine lv_aload_n hx hb dX4_handicap_14 rfl (lv_at hl 0 rfl) ?_
  refine va_get hx hb hts in_X4 hown hK.1 hP 0 (fs := [.int zw, .int zh, .long zA, .long zL, .long zR, .long zE]) rfl rfl 0 (by decide) (hts _ q187) (fun _ hh => hh) (v := .int zw) rfl dX4_handicap_15 ?_
  refine lv_aload_n hx hb dX4_handicap_18 rfl (lv_at hl 0 rfl) ?_
  refine va_get hx hb hts in_X4 hown hK.1 hP 0 (fs := [.int zw, .int zh, .long zA, .long zL, .long zR, .long zE]) rfl rfl 1 (by decide) (hts _ q190) (fun _ hh => hh) (v := .int zh) rfl dX4_handicap_19 ?_
  refine lv_iconst (v := 2) hx hb dX4_handicap_22 (by decide) ?_
  refine lv_isub hx hb dX4_handicap_23 ?_
  refine lv_imul hx hb dX4_handicap_24 ?_
  refine lv_aload_n hx hb dX4_handicap_25 rfl (lv_at hl 0 rfl) ?_
  refine va_get hx hb hts in_X4 hown hK.1 hP 0 (fs := [.int zw, .int zh, .long zA, .long zL, .long zR, .long zE]) rfl rfl 0 (by decide) (hts _ q187) (fun _ hh => hh) (v := .int zw) rfl dX4_handicap_26 ?_
  refine lv_iadd hx hb dX4_handicap_29 ?_
  refine lv_iconst (v := 2) hx hb dX4_handicap_30 (by decide) ?_
  refine lv_isub hx hb dX4_handicap_31 ?_
  refine va_iast hx hb hK.1 hP hD hS 1 0 (f := (upd (fun _ => 0) (ix 0) (zw + 1))) rfl rfl (ga_in (by decide)) dX4_handicap_32 (fun H_5 locs hP hD hS => ?_)
  have hP : va_P D ga_cl [(sh, .inr (4, [.int zw, .int zh, .long zA, .long zL, .long zR, .long zE])), (q_1, .inl (cA 0, 4, .inl (upd (upd (fun _ => 0) (ix 0) (zw + 1)) (ix 1) (((zw * (zh - 2)) + zw) - 2))))] H_5 := hP
  have hD : va_D A [(sh, .inr (4, [.int zw, .int zh, .long zA, .long zL, .long zR, .long zE])), (q_1, .inl (cA 0, 4, .inl (upd (upd (fun _ => 0) (ix 0) (zw + 1)) (ix 1) (((zw * (zh - 2)) + zw) - 2))))] := hD
  refine lv_dup hx hb dX4_handicap_33 rfl ?_
  refine lv_iconst (v := 2) hx hb dX4_handicap_34 (by decide) ?_
  refine lv_aload_n hx hb dX4_handicap_35 rfl (lv_at hl 0 rfl) ?_
  refine va_get hx hb hts in_X4 hown hK.1 hP 0 (fs := [.int zw, .int zh, .long zA, .long zL, .long zR, .long zE]) rfl rfl 0 (by decide) (hts _ q187) (fun _ hh => hh) (v := .int zw) rfl dX4_handicap_36 ?_
  refine lv_aload_n hx hb dX4_handicap_39 rfl (lv_at hl 0 rfl) ?_
  refine va_get hx hb hts in_X4 hown hK.1 hP 0 (fs := [.int zw, .int zh, .long zA, .long zL, .long zR, .long zE]) rfl rfl 0 (by decide) (hts _ q187) (fun _ hh => hh) (v := .int zw) rfl dX4_handicap_40 ?_
  refine lv_iadd hx hb dX4_handicap_43 ?_
  refine lv_iconst (v := 2) hx hb dX4_handicap_44 (by decide) ?_
  refine lv_isub hx hb dX4_handicap_45 ?_
  refine va_iast hx hb hK.1 hP hD hS 1 0 (f := (upd (upd (fun _ => 0) (ix 0) (zw + 1)) (ix 1) (((zw * (zh - 2)) + zw) - 2))) rfl rfl (ga_in (by decide)) dX4_handicap_46 (fun H_6 locs hP hD hS => ?_)
  have hP : va_P D ga_cl [(sh, .inr (4, [.int zw, .int zh, .long zA, .long zL, .long zR, .long zE])), (q_1, .inl (cA 0, 4, .inl (upd (upd (upd (fun _ => 0) (ix 0) (zw + 1)) (ix 1) (((zw * (zh - 2)) + zw) - 2)) (ix 2) ((zw + zw) - 2))))] H_6 := hP
  have hD : va_D A [(sh, .inr (4, [.int zw, .int zh, .long zA, .long zL, .long zR, .long zE])), (q_1, .inl (cA 0, 4, .inl (upd (upd (upd (fun _ => 0) (ix 0) (zw + 1)) (ix 1) (((zw * (zh - 2)) + zw) - 2)) (ix 2) ((zw + zw) - 2))))] := hD
  refine lv_dup hx hb dX4_handicap_47 rfl ?_
  refine lv_iconst (v := 3) hx hb dX4_handicap_48 (by decide) ?_
  refine lv_aload_n hx hb dX4_handicap_49 rfl (lv_at hl 0 rfl) ?_
  refine va_get hx hb hts in_X4 hown hK.1 hP 0 (fs := [.int zw, .int zh, .long zA, .long zL, .long zR, .long zE]) rfl rfl 0 (by decide) (hts _ q187) (fun _ hh => hh) (v := .int zw) rfl dX4_handicap_50 ?_
  refine lv_aload_n hx hb dX4_handicap_53 rfl (lv_at hl 0 rfl) ?_
  refine va_get hx hb hts in_X4 hown hK.1 hP 0 (fs := [.int zw, .int zh, .long zA, .long zL, .long zR, .long zE]) rfl rfl 1 (by decide) (hts _ q190) (fun _ hh => hh) (v := .int zh) rfl dX4_handicap_54 ?_
  refine lv_iconst (v := 2) hx hb dX4_handicap_57 (by decide) ?_
  refine lv_isub hx hb dX4_handicap_58 ?_
  refine lv_imul hx hb dX4_handicap_59 ?_
  refine lv_iconst (v := 1) hx hb dX4_handicap_60 (by decide) ?_
  refine lv_iadd hx hb dX4_handicap_61 ?_
  refine va_iast hx hb hK.1 hP hD hS 1 0 (f := (upd (upd (upd (fun _ => 0) (ix 0) (zw + 1)) (ix 1) (((zw * (zh - 2)) + zw) - 2)) (ix 2) ((zw + zw) - 2))) rfl rfl (ga_in (by decide)) dX4_handicap_62 (fun H_7 locs hP hD hS => ?_)
  have hP : va_P D ga_cl [(sh, .inr (4, [.int zw, .int zh, .long zA, .long zL, .long zR, .long zE])), (q_1, .inl (cA 0, 4, .inl (upd (upd (upd (upd (fun _ => 0) (ix 0) (zw + 1)) (ix 1) (((zw * (zh - 2)) + zw) - 2)) (ix 2) ((zw + zw) - 2)) (ix 3) ((zw * (zh - 2)) + 1))))] H_7 := hP
  have hD : va_D A [(sh, .inr (4, [.int zw, .int zh, .long zA, .long zL, .long zR, .long zE])), (q_1, .inl (cA 0, 4, .inl (upd (upd (upd (upd (fun _ => 0) (ix 0) (zw + 1)) (ix 1) (((zw * (zh - 2)) + zw) - 2)) (ix 2) ((zw + zw) - 2)) (ix 3) ((zw * (zh - 2)) + 1))))] := hD
  refine lv_astore_n (lv' := [(2, .ref q_1), (0, .ref sh), (1, .int x1)]) hx hb dX4_handicap_63 rfl hl (by decide) rfl (fun ls hl => ?_)
  refine lv_lconst (v := 0) hx hb dX4_handicap_64 (by decide) ?_
  refine lv_lstore_n (lv' := [(3, .long 0), (2, .ref q_1), (0, .ref sh), (1, .int x1)]) hx hb dX4_handicap_65 rfl hl (by decide) rfl (fun ls hl => ?_)
  refine lv_iconst (v := 0) hx hb dX4_handicap_66 (by decide) ?_
  refine lv_istore (lv' := [(5, .int 0), (3, .long 0), (2, .ref q_1), (0, .ref sh), (1, .int x1)]) hx hb dX4_handicap_67 hl (by decide) rfl (fun ls hl => ?_)
  exact w_X4_handicap_69 C hK hA N q_1 (upd (upd (upd (upd (fun _ => 0) (ix 0) (zw + 1)) (ix 1) (((zw * (zh - 2)) + zw) - 2)) (ix 2) ((zw + zw) - 2)) (ix 3) ((zw * (zh - 2)) + 1)) 0 0 h _ _ (hP.sub [0, 1] rfl) (hD.sub [0, 1] (by decide) rfl) hS _ (lv_sub hl [4, 2, 1, 0] rfl)
abbrev rm_X5_isClash : Room := { frames := 1, cells := 0, slots := 0, locals := 12 }
def F_X5_isClash (N : Nat) (r1 : Int32) (r2 : Int32) (rN : Int32)  : Option (Int32) :=
  (if r1 = r2 then
  (if r1 = (-1) then
  some 0
  else
  some 1)
  else
  some 0)
set_option maxHeartbeats 4000000 in
theorem met_X5_isClash (l : Launch) (D : va_G) (cA : Nat → ClassId) (r : Nat) (r_b : Nat) (r_w : Nat) (r_s : Nat) (r_r : Nat) (r_v : Nat) (r1 : Int32) (r2 : Int32) (rN : Int32) (N : Nat)   (out : Int32) (h : F_X5_isClash N r1 r2 rN = some out) : Met l yX5_isClash (ws_ yX5_isClash cX5_isClash 1 (some .boolean)) rm_X5_isClash (ga_P D cA [(r, .inr (5, [.int r1, .int r2, .ref r_b, .ref r_w, .int rN, .ref r_s, .ref r_r, .ref r_v]))] [.ref r]) (vp_Si (fun r => out = r ∧ ga_B r)) 0 0 ga_F := by
  refine Met.ofW (cc := cX5_isClash) (maxL := 1) (ret := (some .boolean)) (by decide) rfl ?_
  intro p e s m args below meth c s₁ B hml hv
  obtain ⟨rfl, hP, hK⟩ := hv
  have C : ga_cx p m c meth s _ RX5 cX5_isClash 1 (some .boolean) := ga_cx_of B hml
  have C0 := C
  obtain ⟨hx, hb, hr, hlocks, hml, hown, hts⟩ := C0
  have hl := lv_entry ([.ref r]) (n := 1) (Nat.le_of_ble_eq_true rfl)
  rw [lg_entry_eq]
  generalize (lg_sl ([.ref r]) ++ List.replicate (1 - (lg_sl ([.ref r])).length) Slot.unset).toArray = ls at hl ⊢
  have hl : lv_has ls 1 [(0, .ref r)] := hl
  rw [F_X5_isClash] at h
  refine lv_aload_n hx hb dX5_isClash_0 rfl (lv_at hl 0 rfl) ?_
  refine va_get hx hb hts in_X5 hown hK.1 hP 0 (fs := [.int r1, .int r2, .ref r_b, .ref r_w, .int rN, .ref r_s, .ref r_r, .ref r_v]) rfl rfl 0 (by decide) (hts _ q223) (fun _ hh => hh) (v := .int r1) rfl dX5_isClash_1 ?_
  refine lv_aload_n hx hb dX5_isClash_4 rfl (lv_at hl 0 rfl) ?_
  refine va_get hx hb hts in_X5 hown hK.1 hP 0 (fs := [.int r1, .int r2, .ref r_b, .ref r_w, .int rN, .ref r_s, .ref r_r, .ref r_v]) rfl rfl 1 (by decide) (hts _ q225) (fun _ hh => hh) (v := .int r2) rfl dX5_isClash_5 ?_
  refine lv_icmp_ne (tgt := 23) hx hb dX5_isClash_8 (by decide) (fun c_1 => ?_) (fun c_1 => ?_)
  · replace h := ga_iff c_1 h
    refine lv_iconst (v := 0) hx hb dX5_isClash_23 (by decide) ?_
    obtain rfl := Option.some.inj h
    exact W.zret hx hb hr (ga_nb (Or.inl rfl)) (fun t ht hW => ⟨_, rfl, ⟨rfl, Or.inl rfl⟩, ht⟩) (fun _ hq => by cases hq) dX5_isClash_24
  · replace h := ga_ift c_1 h
    refine lv_aload_n hx hb dX5_isClash_11 rfl (lv_at hl 0 rfl) ?_
    refine va_get hx hb hts in_X5 hown hK.1 hP 0 (fs := [.int r1, .int r2, .ref r_b, .ref r_w, .int rN, .ref r_s, .ref r_r, .ref r_v]) rfl rfl 0 (by decide) (hts _ q223) (fun _ hh => hh) (v := .int r1) rfl dX5_isClash_12 ?_
    refine lv_iconst (v := (-1)) hx hb dX5_isClash_15 (by decide) ?_
    refine lv_icmp_eq (tgt := 23) hx hb dX5_isClash_16 (by decide) (fun c_2 => ?_) (fun c_2 => ?_)
    · replace h := ga_ift c_2 h
      refine lv_iconst (v := 0) hx hb dX5_isClash_23 (by decide) ?_
      obtain rfl := Option.some.inj h
      exact W.zret hx hb hr (ga_nb (Or.inl rfl)) (fun t ht hW => ⟨_, rfl, ⟨rfl, Or.inl rfl⟩, ht⟩) (fun _ hq => by cases hq) dX5_isClash_24
    · replace h := ga_iff c_2 h
      refine lv_iconst (v := 1) hx hb dX5_isClash_19 (by decide) ?_
      refine lv_goto (tgt := 24) hx hb dX5_isClash_20 (by decide) ?_
      obtain rfl := Option.some.inj h
      exact W.zret hx hb hr (ga_nb (Or.inr rfl)) (fun t ht hW => ⟨_, rfl, ⟨rfl, Or.inr rfl⟩, ht⟩) (fun _ hq => by cases hq) dX5_isClash_24
abbrev rm_X5_isEnd : Room := { frames := 1, cells := 0, slots := 0, locals := 12 }
def F_X5_isEnd (N : Nat) (r1 : Int32) (r2 : Int32) (rN : Int32)  : Option (Int32) :=
  (if r1 = (-1) then
  (if r2 = (-1) then
  some 1
  else
  some 0)
  else
  some 0)
set_option maxHeartbeats 4000000 in
theorem met_X5_isEnd (l : Launch) (D : va_G) (cA : Nat → ClassId) (r : Nat) (r_b : Nat) (r_w : Nat) (r_s : Nat) (r_r : Nat) (r_v : Nat) (r1 : Int32) (r2 : Int32) (rN : Int32) (N : Nat)   (out : Int32) (h : F_X5_isEnd N r1 r2 rN = some out) : Met l yX5_isEnd (ws_ yX5_isEnd cX5_isEnd 1 (some .boolean)) rm_X5_isEnd (ga_P D cA [(r, .inr (5, [.int r1, .int r2, .ref r_b, .ref r_w, .int rN, .ref r_s, .ref r_r, .ref r_v]))] [.ref r]) (vp_Si (fun r => out = r ∧ ga_B r)) 0 0 ga_F := by
  refine Met.ofW (cc := cX5_isEnd) (maxL := 1) (ret := (some .boolean)) (by decide) rfl ?_
  intro p e s m args below meth c s₁ B hml hv
  obtain ⟨rfl, hP, hK⟩ := hv
  have C : ga_cx p m c meth s _ RX5 cX5_isEnd 1 (some .boolean) := ga_cx_of B hml
  have C0 := C
  obtain ⟨hx, hb, hr, hlocks, hml, hown, hts⟩ := C0
  have hl := lv_entry ([.ref r]) (n := 1) (Nat.le_of_ble_eq_true rfl)
  rw [lg_entry_eq]
  generalize (lg_sl ([.ref r]) ++ List.replicate (1 - (lg_sl ([.ref r])).length) Slot.unset).toArray = ls at hl ⊢
  have hl : lv_has ls 1 [(0, .ref r)] := hl
  rw [F_X5_isEnd] at h
  refine lv_aload_n hx hb dX5_isEnd_0 rfl (lv_at hl 0 rfl) ?_
  refine va_get hx hb hts in_X5 hown hK.1 hP 0 (fs := [.int r1, .int r2, .ref r_b, .ref r_w, .int rN, .ref r_s, .ref r_r, .ref r_v]) rfl rfl 0 (by decide) (hts _ q223) (fun _ hh => hh) (v := .int r1) rfl dX5_isEnd_1 ?_
  refine lv_iconst (v := (-1)) hx hb dX5_isEnd_4 (by decide) ?_
  refine lv_icmp_ne (tgt := 20) hx hb dX5_isEnd_5 (by decide) (fun c_1 => ?_) (fun c_1 => ?_)
  · replace h := ga_iff c_1 h
    refine lv_iconst (v := 0) hx hb dX5_isEnd_20 (by decide) ?_
    obtain rfl := Option.some.inj h
    exact W.zret hx hb hr (ga_nb (Or.inl rfl)) (fun t ht hW => ⟨_, rfl, ⟨rfl, Or.inl rfl⟩, ht⟩) (fun _ hq => by cases hq) dX5_isEnd_21
  · replace h := ga_ift c_1 h
    refine lv_aload_n hx hb dX5_isEnd_8 rfl (lv_at hl 0 rfl) ?_
    refine va_get hx hb hts in_X5 hown hK.1 hP 0 (fs := [.int r1, .int r2, .ref r_b, .ref r_w, .int rN, .ref r_s, .ref r_r, .ref r_v]) rfl rfl 1 (by decide) (hts _ q225) (fun _ hh => hh) (v := .int r2) rfl dX5_isEnd_9 ?_
    refine lv_iconst (v := (-1)) hx hb dX5_isEnd_12 (by decide) ?_
    refine lv_icmp_ne (tgt := 20) hx hb dX5_isEnd_13 (by decide) (fun c_2 => ?_) (fun c_2 => ?_)
    · replace h := ga_iff c_2 h
      refine lv_iconst (v := 0) hx hb dX5_isEnd_20 (by decide) ?_
      obtain rfl := Option.some.inj h
      exact W.zret hx hb hr (ga_nb (Or.inl rfl)) (fun t ht hW => ⟨_, rfl, ⟨rfl, Or.inl rfl⟩, ht⟩) (fun _ hq => by cases hq) dX5_isEnd_21
    · replace h := ga_ift c_2 h
      refine lv_iconst (v := 1) hx hb dX5_isEnd_16 (by decide) ?_
      refine lv_goto (tgt := 21) hx hb dX5_isEnd_17 (by decide) ?_
      obtain rfl := Option.some.inj h
      exact W.zret hx hb hr (ga_nb (Or.inr rfl)) (fun t ht hW => ⟨_, rfl, ⟨rfl, Or.inr rfl⟩, ht⟩) (fun _ hq => by cases hq) dX5_isEnd_21
abbrev rm_X5_captures : Room := { frames := 1, cells := 0, slots := 0, locals := 12 }
def lp_X5_captures_13 (N : Nat) (r1 : Int32) (r2 : Int32) (rN : Int32) (rW : Nat → Int32) : Nat → (Int32) → (Int32) → (Int32) → Option (Int32)
  | 0, _, _, _ => none
  | n+1, x1, x3, x4 =>
    (if x3 ≤ x4 then
    some x1
    else
    (if inb x4 8 = true then
    lp_X5_captures_13 N r1 r2 rN rW n (x1 + (rW (ix x4))) x3 (x4 + 1)
    else none))
set_option maxHeartbeats 4000000 in
theorem w_X5_captures_13 {p : Program} {l : Launch} {e : Env} {s : State} {m : MethodId} {args : Array Value} {below : List Frame} {meth : Method} {c : Code} {D : va_G} {cA : Nat → ClassId} {r : Nat} {r_b : Nat} {r_w : Nat} {r_s : Nat} {r_r : Nat} {r_v : Nat} {N : Nat} {r1 : Int32} {r2 : Int32} {rN : Int32} {rW : Nat → Int32}  (C : ga_cx p m c meth s args RX5 cX5_captures 6 (some .int)) (hK : ga_K D cA s) (hP : va_P D ga_cl [(r, .inr (5, [.int r1, .int r2, .ref r_b, .ref r_w, .int rN, .ref r_s, .ref r_r, .ref r_v])), (r_w, .inl (cA 0, 8, .inl rW))] s.heap) {out : Int32} : ∀ n : Nat, ∀ (x1 : Int32) (x3 : Int32) (x4 : Int32), lp_X5_captures_13 N r1 r2 rN rW n x1 x3 x4 = some out → ∀ ls : Array Slot, lv_has ls 6 [(1, .int x1), (2, .ref r_w), (3, .int x3), (4, .int x4)] → W p l e (headSpec (ws_ yX5_captures cX5_captures 6 (some .int)) rm_X5_captures).room s m args below meth c s.heap [] 0 0 (MQ below (vp_Si (fun r => out = r)) args s 0 0 ga_F) (F0 m 13 ls []) := by
  have C0 := C
  obtain ⟨hx, hb, hr, hlocks, hml, hown, hts⟩ := C0
  intro n
  induction n with
  | zero =>
    intro x1 x3 x4 h
    rw [lp_X5_captures_13.eq_1] at h
    cases h
  | succ n ih =>
    intro x1 x3 x4 h ls hl
    rw [lp_X5_captures_13.eq_2] at h
    refine lv_iload hx hb dX5_captures_13 (lv_at hl 3 rfl) ?_
    refine lv_iload_n hx hb dX5_captures_15 rfl (lv_at hl 2 rfl) ?_
    refine lv_icmp_ge (tgt := 36) hx hb dX5_captures_16 (by decide) (fun c_1 => ?_) (fun c_1 => ?_)
    · replace h := ga_ift c_1 h
      refine lv_iload_n hx hb dX5_captures_36 rfl (lv_at hl 0 rfl) ?_
      obtain rfl := Option.some.inj h
      exact W.iret hx hb hr (fun t ht hW => ⟨_, rfl, rfl, ht⟩) (fun _ hq => by cases hq) dX5_captures_37
    · replace h := ga_iff c_1 h
      refine lv_aload_n hx hb dX5_captures_19 rfl (lv_at hl 1 rfl) ?_
      refine lv_iload hx hb dX5_captures_20 (lv_at hl 3 rfl) ?_
      obtain ⟨i_2, h⟩ := ga_gif h
      refine va_iald hx hb hK.1 hP 1 0 (f := rW) rfl rfl (ga_in i_2) dX5_captures_22 ?_
      refine lv_istore (lv' := [(5, .int (rW (ix x4))), (1, .int x1), (2, .ref r_w), (3, .int x3), (4, .int x4)]) hx hb dX5_captures_23 hl (by decide) rfl (fun ls hl => ?_)
      refine lv_iload_n hx hb dX5_captures_25 rfl (lv_at hl 1 rfl) ?_
      refine lv_iload hx hb dX5_captures_26 (lv_at hl 0 rfl) ?_
      refine lv_iadd hx hb dX5_captures_28 ?_
      refine lv_istore_n (lv' := [(1, .int (x1 + (rW (ix x4)))), (5, .int (rW (ix x4))), (2, .ref r_w), (3, .int x3), (4, .int x4)]) hx hb dX5_captures_29 rfl hl (by decide) rfl (fun ls hl => ?_)
      refine lv_iinc (v := (x4 + 1)) (lv' := [(4, .int (x4 + 1)), (1, .int (x1 + (rW (ix x4)))), (5, .int (rW (ix x4))), (2, .ref r_w), (3, .int x3)]) hx hb dX5_captures_30 hl (k := 4) rfl rfl (by decide) rfl (fun ls hl => ?_)
      refine lv_goto (tgt := 13) hx hb dX5_captures_33 (by decide) ?_
      exact ih (x1 + (rW (ix x4))) x3 (x4 + 1) h _ (lv_sub hl [1, 3, 4, 0] rfl)
def F_X5_captures (N : Nat) (r1 : Int32) (r2 : Int32) (rN : Int32) (rW : Nat → Int32)  : Option (Int32) :=
  lp_X5_captures_13 N r1 r2 rN rW N 0 8 0
set_option maxHeartbeats 4000000 in
theorem met_X5_captures (l : Launch) (D : va_G) (cA : Nat → ClassId) (r : Nat) (r_b : Nat) (r_w : Nat) (r_s : Nat) (r_r : Nat) (r_v : Nat) (r1 : Int32) (r2 : Int32) (rN : Int32) (rW : Nat → Int32) (N : Nat)   (out : Int32) (h : F_X5_captures N r1 r2 rN rW = some out) : Met l yX5_captures (ws_ yX5_captures cX5_captures 6 (some .int)) rm_X5_captures (ga_P D cA [(r, .inr (5, [.int r1, .int r2, .ref r_b, .ref r_w, .int rN, .ref r_s, .ref r_r, .ref r_v])), (r_w, .inl (cA 0, 8, .inl rW))] [.ref r]) (vp_Si (fun r => out = r)) 0 0 ga_F := by
  refine Met.ofW (cc := cX5_captures) (maxL := 6) (ret := (some .int)) (by decide) rfl ?_
  intro p e s m args below meth c s₁ B hml hv
  obtain ⟨rfl, hP, hK⟩ := hv
  have C : ga_cx p m c meth s _ RX5 cX5_captures 6 (some .int) := ga_cx_of B hml
  have C0 := C
  obtain ⟨hx, hb, hr, hlocks, hml, hown, hts⟩ := C0
  have hl := lv_entry ([.ref r]) (n := 6) (Nat.le_of_ble_eq_true rfl)
  rw [lg_entry_eq]
  generalize (lg_sl ([.ref r]) ++ List.replicate (6 - (lg_sl ([.ref r])).length) Slot.unset).toArray = ls at hl ⊢
  have hl : lv_has ls 6 [(0, .ref r)] := hl
  rw [F_X5_captures] at h
  refine lv_iconst (v := 0) hx hb dX5_captures_0 (by decide) ?_
  refine lv_istore_n (lv' := [(1, .int 0), (0, .ref r)]) hx hb dX5_captures_1 rfl hl (by decide) rfl (fun ls hl => ?_)
  refine lv_aload_n hx hb dX5_captures_2 rfl (lv_at hl 1 rfl) ?_
  refine va_get hx hb hts in_X5 hown hK.1 hP 0 (fs := [.int r1, .int r2, .ref r_b, .ref r_w, .int rN, .ref r_s, .ref r_r, .ref r_v]) rfl rfl 3 (by decide) (hts _ q229) (fun _ hh => hh) (v := .ref r_w) rfl dX5_captures_3 ?_
  refine lv_astore_n (lv' := [(2, .ref r_w), (1, .int 0), (0, .ref r)]) hx hb dX5_captures_6 rfl hl (by decide) rfl (fun ls hl => ?_)
  refine lv_aload_n hx hb dX5_captures_7 rfl (lv_at hl 0 rfl) ?_
  refine va_alen (v := 8) hx hb hK.1 hP 1 0 rfl rfl rfl dX5_captures_8 ?_
  refine lv_istore_n (lv' := [(3, .int 8), (2, .ref r_w), (1, .int 0), (0, .ref r)]) hx hb dX5_captures_9 rfl hl (by decide) rfl (fun ls hl => ?_)
  refine lv_iconst (v := 0) hx hb dX5_captures_10 (by decide) ?_
  refine lv_istore (lv' := [(4, .int 0), (3, .int 8), (2, .ref r_w), (1, .int 0), (0, .ref r)]) hx hb dX5_captures_11 hl (by decide) rfl (fun ls hl => ?_)
  exact w_X5_captures_13 C hK hP N 0 8 0 h _ (lv_sub hl [3, 2, 1, 0] rfl)
abbrev rm_X5_part : Room := { frames := 2, cells := 0, slots := 0, locals := 37 }
def F_X5_part (N : Nat) (r1 : Int32) (r2 : Int32) (rN : Int32) (rW : Nat → Int32) (rP : Nat → Int32) (x1 : Int32) : Option (Int32) :=
  (if x1 = 0 then
  some r1
  else
  (if x1 = 1 then
  some r2
  else
  (if x1 = 2 then
  ((F_X5_isClash N r1 r2 rN).bind fun r_4 =>
  (if r_4 = 0 then
  some 0
  else
  some 1))
  else
  (if x1 = 3 then
  some rN
  else
  (if x1 = 4 then
  ((F_X5_captures N r1 r2 rN rW).bind fun r_12 =>
  some r_12)
  else
  (if inb (x1 - 5) 2 = true then
  some (rP (ix (x1 - 5)))
  else none))))))
set_option maxHeartbeats 4000000 in
theorem met_X5_part (l : Launch) (D : va_G) (cA : Nat → ClassId) (r : Nat) (r_b : Nat) (r_w : Nat) (r_s : Nat) (r_r : Nat) (r_v : Nat) (r1 : Int32) (r2 : Int32) (rN : Int32) (rW : Nat → Int32) (rP : Nat → Int32) (N : Nat) (x1 : Int32)  (out : Int32) (h : F_X5_part N r1 r2 rN rW rP x1 = some out) : Met l yX5_part (ws_ yX5_part cX5_part 2 (some .int)) rm_X5_part (ga_P D cA [(r, .inr (5, [.int r1, .int r2, .ref r_b, .ref r_w, .int rN, .ref r_s, .ref r_r, .ref r_v])), (r_w, .inl (cA 0, 8, .inl rW)), (r_s, .inl (cA 0, 2, .inl rP))] [.ref r, .int x1]) (vp_Si (fun r => out = r)) 0 0 ga_F := by
  refine Met.ofW (cc := cX5_part) (maxL := 2) (ret := (some .int)) (by decide) rfl ?_
  intro p e s m args below meth c s₁ B hml hv
  obtain ⟨rfl, hP, hK⟩ := hv
  have C : ga_cx p m c meth s _ RX5 cX5_part 2 (some .int) := ga_cx_of B hml
  have C0 := C
  obtain ⟨hx, hb, hr, hlocks, hml, hown, hts⟩ := C0
  have hl := lv_entry ([.ref r, .int x1]) (n := 2) (Nat.le_of_ble_eq_true rfl)
  rw [lg_entry_eq]
  generalize (lg_sl ([.ref r, .int x1]) ++ List.replicate (2 - (lg_sl ([.ref r, .int x1])).length) Slot.unset).toArray = ls at hl ⊢
  have hl : lv_has ls 2 [(0, .ref r), (1, .int x1)] := hl
  rw [F_X5_part] at h
  refine lv_iload_n hx hb dX5_part_0 rfl (lv_at hl 1 rfl) ?_
  by_cases c_1 : x1 = 0
  · replace h := ga_ift c_1 h
    refine lv_tableIn (off := 35) (tgt := 36) hx hb dX5_part_1 (by rw [c_1]; decide) (by rw [c_1]; decide) (by rw [c_1]; rfl) (by decide) ?_
    refine lv_aload_n hx hb dX5_part_36 rfl (lv_at hl 0 rfl) ?_
    refine va_get hx hb hts in_X5 hown hK.1 hP 0 (fs := [.int r1, .int r2, .ref r_b, .ref r_w, .int rN, .ref r_s, .ref r_r, .ref r_v]) rfl rfl 0 (by decide) (hts _ q223) (fun _ hh => hh) (v := .int r1) rfl dX5_part_37 ?_
    obtain rfl := Option.some.inj h
    exact W.iret hx hb hr (fun t ht hW => ⟨_, rfl, rfl, ht⟩) (fun _ hq => by cases hq) dX5_part_40
  · replace h := ga_iff c_1 h
    by_cases c_2 : x1 = 1
    · replace h := ga_ift c_2 h
      refine lv_tableIn (off := 40) (tgt := 41) hx hb dX5_part_1 (by rw [c_2]; decide) (by rw [c_2]; decide) (by rw [c_2]; rfl) (by decide) ?_
      refine lv_aload_n hx hb dX5_part_41 rfl (lv_at hl 0 rfl) ?_
      refine va_get hx hb hts in_X5 hown hK.1 hP 0 (fs := [.int r1, .int r2, .ref r_b, .ref r_w, .int rN, .ref r_s, .ref r_r, .ref r_v]) rfl rfl 1 (by decide) (hts _ q225) (fun _ hh => hh) (v := .int r2) rfl dX5_part_42 ?_
      obtain rfl := Option.some.inj h
      exact W.iret hx hb hr (fun t ht hW => ⟨_, rfl, rfl, ht⟩) (fun _ hq => by cases hq) dX5_part_45
    · replace h := ga_iff c_2 h
      by_cases c_3 : x1 = 2
      · replace h := ga_ift c_3 h
        refine lv_tableIn (off := 45) (tgt := 46) hx hb dX5_part_1 (by rw [c_3]; decide) (by rw [c_3]; decide) (by rw [c_3]; rfl) (by decide) ?_
        refine lv_aload_n hx hb dX5_part_46 rfl (lv_at hl 0 rfl) ?_
        obtain ⟨r_4, e_5, h⟩ := ga_gb h
        refine vp_callSi (va_Run.run (va_runV (As := []) (rest := []) ⟨hx, hb, hml, hown, hts⟩ (met_X5_isClash l D cA r r_b r_w r_s r_r r_v r1 r2 rN N r_4 e_5) (cwV 0 hts (lw_V q923 q924 q925 q74 q926) rfl rfl rfl (by decide +kernel) ⟨Nat.le_of_ble_eq_true rfl, Nat.le_of_ble_eq_true rfl⟩) (ga_PV hK (hP.sub (ws' := [(r, .inr (5, [.int r1, .int r2, .ref r_b, .ref r_w, .int rN, .ref r_s, .ref r_r, .ref r_v]))]) [0] rfl) (va_recv hK.1 hP (ci := 5) (q0 := 0) rfl rfl)) rfl rfl hl.1 rfl (lv_room (Nat.le_of_ble_eq_true rfl)) dX5_part_47 ⟨Nat.le_of_ble_eq_true rfl, Nat.le_of_ble_eq_true rfl⟩)) (fun z_6 w_7 => ?_)
        obtain ⟨rfl, b_8⟩ := w_7
        refine lv_if_eq (tgt := 57) hx hb dX5_part_50 (by decide) (fun c_9 => ?_) (fun c_9 => ?_)
        · replace h := ga_ift c_9 h
          refine lv_iconst (v := 0) hx hb dX5_part_57 (by decide) ?_
          obtain rfl := Option.some.inj h
          exact W.iret hx hb hr (fun t ht hW => ⟨_, rfl, rfl, ht⟩) (fun _ hq => by cases hq) dX5_part_58
        · replace h := ga_iff c_9 h
          refine lv_iconst (v := 1) hx hb dX5_part_53 (by decide) ?_
          refine lv_goto (tgt := 58) hx hb dX5_part_54 (by decide) ?_
          obtain rfl := Option.some.inj h
          exact W.iret hx hb hr (fun t ht hW => ⟨_, rfl, rfl, ht⟩) (fun _ hq => by cases hq) dX5_part_58
      · replace h := ga_iff c_3 h
        by_cases c_10 : x1 = 3
        · replace h := ga_ift c_10 h
          refine lv_tableIn (off := 58) (tgt := 59) hx hb dX5_part_1 (by rw [c_10]; decide) (by rw [c_10]; decide) (by rw [c_10]; rfl) (by decide) ?_
          refine lv_aload_n hx hb dX5_part_59 rfl (lv_at hl 0 rfl) ?_
          refine va_get hx hb hts in_X5 hown hK.1 hP 0 (fs := [.int r1, .int r2, .ref r_b, .ref r_w, .int rN, .ref r_s, .ref r_r, .ref r_v]) rfl rfl 4 (by decide) (hts _ q231) (fun _ hh => hh) (v := .int rN) rfl dX5_part_60 ?_
          obtain rfl := Option.some.inj h
          exact W.iret hx hb hr (fun t ht hW => ⟨_, rfl, rfl, ht⟩) (fun _ hq => by cases hq) dX5_part_63
        · replace h := ga_iff c_10 h
          by_cases c_11 : x1 = 4
          · replace h := ga_ift c_11 h
            refine lv_tableIn (off := 63) (tgt := 64) hx hb dX5_part_1 (by rw [c_11]; decide) (by rw [c_11]; decide) (by rw [c_11]; rfl) (by decide) ?_
            refine lv_aload_n hx hb dX5_part_64 rfl (lv_at hl 0 rfl) ?_
            obtain ⟨r_12, e_13, h⟩ := ga_gb h
            refine vp_callSi (va_Run.run (va_runV (As := []) (rest := []) ⟨hx, hb, hml, hown, hts⟩ (met_X5_captures l D cA r r_b r_w r_s r_r r_v r1 r2 rN rW N r_12 e_13) (cwV 0 hts (lw_V q927 q856 q857 q74 q858) rfl rfl rfl (by decide +kernel) ⟨Nat.le_of_ble_eq_true rfl, Nat.le_of_ble_eq_true rfl⟩) (ga_PV hK (hP.sub (ws' := [(r, .inr (5, [.int r1, .int r2, .ref r_b, .ref r_w, .int rN, .ref r_s, .ref r_r, .ref r_v])), (r_w, .inl (cA 0, 8, .inl rW))]) [0, 1] rfl) (va_recv hK.1 hP (ci := 5) (q0 := 0) rfl rfl)) rfl rfl hl.1 rfl (lv_room (Nat.le_of_ble_eq_true rfl)) dX5_part_65 ⟨Nat.le_of_ble_eq_true rfl, Nat.le_of_ble_eq_true rfl⟩)) (fun z_14 w_15 => ?_)
            obtain rfl := w_15
            obtain rfl := Option.some.inj h
            exact W.iret hx hb hr (fun t ht hW => ⟨_, rfl, rfl, ht⟩) (fun _ hq => by cases hq) dX5_part_68
          · replace h := ga_iff c_11 h
            have tc_1 := lv_neT c_1 (a := 0) (by decide)
            have tc_2 := lv_neT c_2 (a := 1) (by decide)
            have tc_3 := lv_neT c_3 (a := 2) (by decide)
            have tc_10 := lv_neT c_10 (a := 3) (by decide)
            have tc_11 := lv_neT c_11 (a := 4) (by decide)
            refine lv_tableOut (tgt := 69) hx hb dX5_part_1 (by omega) (by decide) ?_
            refine lv_aload_n hx hb dX5_part_69 rfl (lv_at hl 0 rfl) ?_
            refine va_get hx hb hts in_X5 hown hK.1 hP 0 (fs := [.int r1, .int r2, .ref r_b, .ref r_w, .int rN, .ref r_s, .ref r_r, .ref r_v]) rfl rfl 5 (by decide) (hts _ q232) (fun _ hh => hh) (v := .ref r_s) rfl dX5_part_70 ?_
            refine lv_iload_n hx hb dX5_part_73 rfl (lv_at hl 1 rfl) ?_
            refine lv_iconst (v := 5) hx hb dX5_part_74 (by decide) ?_
            refine lv_isub hx hb dX5_part_75 ?_
            obtain ⟨i_17, h⟩ := ga_gif h
            refine va_iald hx hb hK.1 hP 2 0 (f := rP) rfl rfl (ga_in i_17) dX5_part_76 ?_
            obtain rfl := Option.some.inj h
            exact W.iret hx hb hr (fun t ht hW => ⟨_, rfl, rfl, ht⟩) (fun _ hq => by cases hq) dX5_part_77
abbrev rm_X5_note : Room := { frames := 2, cells := 0, slots := 0, locals := 34 }
def lp_X5_note_3 (N : Nat) (r1 : Int32) (r2 : Int32) (rN : Int32) (x1 : Int64) (x3 : Int32) (x4 : Int32) : Nat → (Nat → Int32) → (Nat → Int32) → (Int32) → Option ((Nat → Int32) × (Nat → Int32))
  | 0, _, _, _ => none
  | n+1, rR, rV, x5 =>
    (if 49 ≤ x5 then
    some (rR, rV)
    else
    ((F_X1_has N x1 x5).bind fun r_2 =>
    (if r_2 = 0 then
    (if inb x5 49 = true then
    (if inb x5 49 = true then
    ((F_X1_has N x1 x5).bind fun r_11 =>
    (if r_11 = 0 then
    (if inb x5 49 = true then
    (if inb x5 49 = true then
    lp_X5_note_3 N r1 r2 rN x1 x3 x4 n (upd rR (ix x5) (rR (ix x5))) (upd rV (ix x5) (rV (ix x5))) (x5 + 1)
    else none)
    else none)
    else
    (if inb x5 49 = true then
    lp_X5_note_3 N r1 r2 rN x1 x3 x4 n (upd rR (ix x5) (rR (ix x5))) (upd rV (ix x5) x4) (x5 + 1)
    else none)))
    else none)
    else none)
    else
    (if inb x5 49 = true then
    ((F_X1_has N x1 x5).bind fun r_24 =>
    (if r_24 = 0 then
    (if inb x5 49 = true then
    (if inb x5 49 = true then
    lp_X5_note_3 N r1 r2 rN x1 x3 x4 n (upd rR (ix x5) x3) (upd rV (ix x5) (rV (ix x5))) (x5 + 1)
    else none)
    else none)
    else
    (if inb x5 49 = true then
    lp_X5_note_3 N r1 r2 rN x1 x3 x4 n (upd rR (ix x5) x3) (upd rV (ix x5) x4) (x5 + 1)
    else none)))
    else none))))
set_option maxHeartbeats 4000000 in
theorem w_X5_note_3 {p : Program} {l : Launch} {e : Env} {s : State} {m : MethodId} {args : Array Value} {below : List Frame} {meth : Method} {c : Code} {D : va_G} {cA : Nat → ClassId} {A : Nat → Prop} {r : Nat} {r_b : Nat} {r_w : Nat} {r_s : Nat} {r_r : Nat} {r_v : Nat} {N : Nat} {r1 : Int32} {r2 : Int32} {rN : Int32} {x1 : Int64} {x3 : Int32} {x4 : Int32}  (C : ga_cx p m c meth s args RX5 cX5_note 6 none) (hK : ga_K D cA s) (hA : ∀ q : Nat, s.heap.size ≤ q → A q) {out : (Nat → Int32) × (Nat → Int32)} : ∀ n : Nat, ∀ (rR : Nat → Int32) (rV : Nat → Int32) (x5 : Int32), lp_X5_note_3 N r1 r2 rN x1 x3 x4 n rR rV x5 = some out → ∀ (H : Heap) (locs : List Loc), va_P D ga_cl [(r, .inr (5, [.int r1, .int r2, .ref r_b, .ref r_w, .int rN, .ref r_s, .ref r_r, .ref r_v])), (r_r, .inl (cA 0, 49, .inl rR)), (r_v, .inl (cA 0, 49, .inl rV))] H → va_D A [(r, .inr (5, [.int r1, .int r2, .ref r_b, .ref r_w, .int rN, .ref r_s, .ref r_r, .ref r_v])), (r_r, .inl (cA 0, 49, .inl rR)), (r_v, .inl (cA 0, 49, .inl rV))] → va_S A s.heap H locs → ∀ ls : Array Slot, lv_has ls 6 [(0, .ref r), (1, .long x1), (3, .int x3), (4, .int x4), (5, .int x5)] → W p l e (headSpec (ws_ yX5_note cX5_note 6 none) rm_X5_note).room s m args below meth c H locs 0 0 (MQ below (va_Qv (fun (u : (Nat → Int32) × (Nat → Int32)) => out = u) (fun (u : (Nat → Int32) × (Nat → Int32)) (t : State) => va_P D ga_cl [(r, .inr (5, [.int r1, .int r2, .ref r_b, .ref r_w, .int rN, .ref r_s, .ref r_r, .ref r_v])), (r_r, .inl (cA 0, 49, .inl u.1)), (r_v, .inl (cA 0, 49, .inl u.2))] t.heap ∧ ga_K D cA t ∧ va_D A [(r, .inr (5, [.int r1, .int r2, .ref r_b, .ref r_w, .int rN, .ref r_s, .ref r_r, .ref r_v])), (r_r, .inl (cA 0, 49, .inl u.1)), (r_v, .inl (cA 0, 49, .inl u.2))]) A) args s 0 0 A) (F0 m 3 ls []) := by
  have C0 := C
  obtain ⟨hx, hb, hr, hlocks, hml, hown, hts⟩ := C0
  intro n
  induction n with
  | zero =>
    intro rR rV x5 h
    rw [lp_X5_note_3.eq_1] at h
    cases h
  | succ n ih =>
    intro rR rV x5 h H locs hP hD hS ls hl
    rw [lp_X5_note_3.eq_2] at h
    refine lv_iload hx hb dX5_note_3 (lv_at hl 4 rfl) ?_
    refine lv_bipush (v := 49) hx hb dX5_note_5 (by decide) ?_
    refine lv_icmp_ge (tgt := 71) hx hb dX5_note_7 (by decide) (fun c_1 => ?_) (fun c_1 => ?_)
    · replace h := ga_ift c_1 h
      have hP9 := hP.sub (ws' := [(r, .inr (5, [.int r1, .int r2, .ref r_b, .ref r_w, .int rN, .ref r_s, .ref r_r, .ref r_v])), (r_r, .inl (cA 0, 49, .inl rR)), (r_v, .inl (cA 0, 49, .inl rV))]) [0, 1, 2] rfl
      have hD9 := hD.sub (ws' := [(r, .inr (5, [.int r1, .int r2, .ref r_b, .ref r_w, .int rN, .ref r_s, .ref r_r, .ref r_v])), (r_r, .inl (cA 0, 49, .inl rR)), (r_v, .inl (cA 0, 49, .inl rV))]) [0, 1, 2] (by decide) rfl
      obtain rfl := Option.some.inj h
      exact W.vret hx hb hr (fun t ht hW => ⟨⟨(rR, rV), rfl, rfl, ⟨by rw [ht]; exact hP9, hK.warm hW, hD9⟩⟩, hS.F ht⟩) hS.2.2 dX5_note_71
    · replace h := ga_iff c_1 h
      refine lv_aload_n hx hb dX5_note_10 rfl (lv_at hl 0 rfl) ?_
      refine va_get hx hb hts in_X5 hown hK.1 hP 0 (fs := [.int r1, .int r2, .ref r_b, .ref r_w, .int rN, .ref r_s, .ref r_r, .ref r_v]) rfl rfl 6 (by decide) (hts _ q235) (fun _ hh => hh) (v := .ref r_r) rfl dX5_note_11 ?_
      refine lv_iload hx hb dX5_note_14 (lv_at hl 4 rfl) ?_
      refine lv_lload_n hx hb dX5_note_16 rfl (lv_at hl 1 rfl) ?_
      refine lv_iload hx hb dX5_note_17 (lv_at hl 4 rfl) ?_
      obtain ⟨r_2, e_3, h⟩ := ga_gb h
      refine vp_callSi (va_Run.run (va_runSN (As := [.long x1, .int x5]) (rest := [.int x5, .ref r_r]) ⟨hx, hb, hml, hown, hts⟩ (met_X1_has l D cA N x1 x5 r_2 e_3) (⟨va_cnB 2 hts (lw_meth q708) rfl rfl rfl (hK.2.1 _ q828 rfl) (hts _ q67) (by decide +kernel) ⟨Nat.le_of_ble_eq_true rfl, Nat.le_of_ble_eq_true rfl⟩, hts _ q707, trivial⟩) (ga_PS hK ga_P0) rfl rfl hl.1 rfl (lv_room (Nat.le_of_ble_eq_true rfl)) dX5_note_19 ⟨Nat.le_of_ble_eq_true rfl, Nat.le_of_ble_eq_true rfl⟩)) (fun z_4 w_5 => ?_)
      obtain ⟨rfl, b_6⟩ := w_5
      refine lv_if_eq (tgt := 29) hx hb dX5_note_22 (by decide) (fun c_7 => ?_) (fun c_7 => ?_)
      · replace h := ga_ift c_7 h
        refine lv_aload_n hx hb dX5_note_29 rfl (lv_at hl 0 rfl) ?_
        refine va_get hx hb hts in_X5 hown hK.1 hP 0 (fs := [.int r1, .int r2, .ref r_b, .ref r_w, .int rN, .ref r_s, .ref r_r, .ref r_v]) rfl rfl 6 (by decide) (hts _ q235) (fun _ hh => hh) (v := .ref r_r) rfl dX5_note_30 ?_
        refine lv_iload hx hb dX5_note_33 (lv_at hl 4 rfl) ?_
        obtain ⟨i_8, h⟩ := ga_gif h
        refine va_iald hx hb hK.1 hP 1 0 (f := rR) rfl rfl (ga_in i_8) dX5_note_35 ?_
        obtain ⟨i_9, h⟩ := ga_gif h
        refine va_iast hx hb hK.1 hP hD hS 1 0 (f := rR) rfl rfl (ga_in i_9) dX5_note_36 (fun H_10 locs hP hD hS => ?_)
        have hP : va_P D ga_cl [(r, .inr (5, [.int r1, .int r2, .ref r_b, .ref r_w, .int rN, .ref r_s, .ref r_r, .ref r_v])), (r_r, .inl (cA 0, 49, .inl (upd rR (ix x5) (rR (ix x5))))), (r_v, .inl (cA 0, 49, .inl rV))] H_10 := hP
        have hD : va_D A [(r, .inr (5, [.int r1, .int r2, .ref r_b, .ref r_w, .int rN, .ref r_s, .ref r_r, .ref r_v])), (r_r, .inl (cA 0, 49, .inl (upd rR (ix x5) (rR (ix x5))))), (r_v, .inl (cA 0, 49, .inl rV))] := hD
        refine lv_aload_n hx hb dX5_note_37 rfl (lv_at hl 0 rfl) ?_
        refine va_get hx hb hts in_X5 hown hK.1 hP 0 (fs := [.int r1, .int r2, .ref r_b, .ref r_w, .int rN, .ref r_s, .ref r_r, .ref r_v]) rfl rfl 7 (by decide) (hts _ q238) (fun _ hh => hh) (v := .ref r_v) rfl dX5_note_38 ?_
        refine lv_iload hx hb dX5_note_41 (lv_at hl 4 rfl) ?_
        refine lv_lload_n hx hb dX5_note_43 rfl (lv_at hl 1 rfl) ?_
        refine lv_iload hx hb dX5_note_44 (lv_at hl 4 rfl) ?_
        obtain ⟨r_11, e_12, h⟩ := ga_gb h
        refine vp_callSi (va_Run.run (va_runSN (As := [.long x1, .int x5]) (rest := [.int x5, .ref r_v]) ⟨hx, hb, hml, hown, hts⟩ (met_X1_has l D cA N x1 x5 r_11 e_12) (⟨va_cnB 2 hts (lw_meth q708) rfl rfl rfl (hK.2.1 _ q828 rfl) (hts _ q67) (by decide +kernel) ⟨Nat.le_of_ble_eq_true rfl, Nat.le_of_ble_eq_true rfl⟩, hts _ q707, trivial⟩) (ga_PS hK ga_P0) rfl rfl hl.1 rfl (lv_room (Nat.le_of_ble_eq_true rfl)) dX5_note_46 ⟨Nat.le_of_ble_eq_true rfl, Nat.le_of_ble_eq_true rfl⟩)) (fun z_13 w_14 => ?_)
        obtain ⟨rfl, b_15⟩ := w_14
        refine lv_if_eq (tgt := 57) hx hb dX5_note_49 (by decide) (fun c_16 => ?_) (fun c_16 => ?_)
        · replace h := ga_ift c_16 h
          refine lv_aload_n hx hb dX5_note_57 rfl (lv_at hl 0 rfl) ?_
          refine va_get hx hb hts in_X5 hown hK.1 hP 0 (fs := [.int r1, .int r2, .ref r_b, .ref r_w, .int rN, .ref r_s, .ref r_r, .ref r_v]) rfl rfl 7 (by decide) (hts _ q238) (fun _ hh => hh) (v := .ref r_v) rfl dX5_note_58 ?_
          refine lv_iload hx hb dX5_note_61 (lv_at hl 4 rfl) ?_
          obtain ⟨i_17, h⟩ := ga_gif h
          refine va_iald hx hb hK.1 hP 2 0 (f := rV) rfl rfl (ga_in i_17) dX5_note_63 ?_
          obtain ⟨i_18, h⟩ := ga_gif h
          refine va_iast hx hb hK.1 hP hD hS 2 0 (f := rV) rfl rfl (ga_in i_18) dX5_note_64 (fun H_19 locs hP hD hS => ?_)
          have hP : va_P D ga_cl [(r, .inr (5, [.int r1, .int r2, .ref r_b, .ref r_w, .int rN, .ref r_s, .ref r_r, .ref r_v])), (r_r, .inl (cA 0, 49, .inl (upd rR (ix x5) (rR (ix x5))))), (r_v, .inl (cA 0, 49, .inl (upd rV (ix x5) (rV (ix x5)))))] H_19 := hP
          have hD : va_D A [(r, .inr (5, [.int r1, .int r2, .ref r_b, .ref r_w, .int rN, .ref r_s, .ref r_r, .ref r_v])), (r_r, .inl (cA 0, 49, .inl (upd rR (ix x5) (rR (ix x5))))), (r_v, .inl (cA 0, 49, .inl (upd rV (ix x5) (rV (ix x5)))))] := hD
          refine lv_iinc (v := (x5 + 1)) (lv' := [(5, .int (x5 + 1)), (0, .ref r), (1, .long x1), (3, .int x3), (4, .int x4)]) hx hb dX5_note_65 hl (k := 4) rfl rfl (by decide) rfl (fun ls hl => ?_)
          refine lv_goto (tgt := 3) hx hb dX5_note_68 (by decide) ?_
          exact ih (upd rR (ix x5) (rR (ix x5))) (upd rV (ix x5) (rV (ix x5))) (x5 + 1) h _ _ (hP.sub [0, 1, 2] rfl) (hD.sub [0, 1, 2] (by decide) rfl) hS _ (lv_sub hl [1, 2, 3, 4, 0] rfl)
        · replace h := ga_iff c_16 h
          refine lv_iload hx hb dX5_note_52 (lv_at hl 3 rfl) ?_
          refine lv_goto (tgt := 64) hx hb dX5_note_54 (by decide) ?_
          obtain ⟨i_20, h⟩ := ga_gif h
          refine va_iast hx hb hK.1 hP hD hS 2 0 (f := rV) rfl rfl (ga_in i_20) dX5_note_64 (fun H_21 locs hP hD hS => ?_)
          have hP : va_P D ga_cl [(r, .inr (5, [.int r1, .int r2, .ref r_b, .ref r_w, .int rN, .ref r_s, .ref r_r, .ref r_v])), (r_r, .inl (cA 0, 49, .inl (upd rR (ix x5) (rR (ix x5))))), (r_v, .inl (cA 0, 49, .inl (upd rV (ix x5) x4)))] H_21 := hP
          have hD : va_D A [(r, .inr (5, [.int r1, .int r2, .ref r_b, .ref r_w, .int rN, .ref r_s, .ref r_r, .ref r_v])), (r_r, .inl (cA 0, 49, .inl (upd rR (ix x5) (rR (ix x5))))), (r_v, .inl (cA 0, 49, .inl (upd rV (ix x5) x4)))] := hD
          refine lv_iinc (v := (x5 + 1)) (lv' := [(5, .int (x5 + 1)), (0, .ref r), (1, .long x1), (3, .int x3), (4, .int x4)]) hx hb dX5_note_65 hl (k := 4) rfl rfl (by decide) rfl (fun ls hl => ?_)
          refine lv_goto (tgt := 3) hx hb dX5_note_68 (by decide) ?_
          exact ih (upd rR (ix x5) (rR (ix x5))) (upd rV (ix x5) x4) (x5 + 1) h _ _ (hP.sub [0, 1, 2] rfl) (hD.sub [0, 1, 2] (by decide) rfl) hS _ (lv_sub hl [1, 2, 3, 4, 0] rfl)
      · replace h := ga_iff c_7 h
        refine lv_iload_n hx hb dX5_note_25 rfl (lv_at hl 2 rfl) ?_
        refine lv_goto (tgt := 36) hx hb dX5_note_26 (by decide) ?_
        obtain ⟨i_22, h⟩ := ga_gif h
        refine va_iast hx hb hK.1 hP hD hS 1 0 (f := rR) rfl rfl (ga_in i_22) dX5_note_36 (fun H_23 locs hP hD hS => ?_)
        have hP : va_P D ga_cl [(r, .inr (5, [.int r1, .int r2, .ref r_b, .ref r_w, .int rN, .ref r_s, .ref r_r, .ref r_v])), (r_r, .inl (cA 0, 49, .inl (upd rR (ix x5) x3))), (r_v, .inl (cA 0, 49, .inl rV))] H_23 := hP
        have hD : va_D A [(r, .inr (5, [.int r1, .int r2, .ref r_b, .ref r_w, .int rN, .ref r_s, .ref r_r, .ref r_v])), (r_r, .inl (cA 0, 49, .inl (upd rR (ix x5) x3))), (r_v, .inl (cA 0, 49, .inl rV))] := hD
        refine lv_aload_n hx hb dX5_note_37 rfl (lv_at hl 0 rfl) ?_
        refine va_get hx hb hts in_X5 hown hK.1 hP 0 (fs := [.int r1, .int r2, .ref r_b, .ref r_w, .int rN, .ref r_s, .ref r_r, .ref r_v]) rfl rfl 7 (by decide) (hts _ q238) (fun _ hh => hh) (v := .ref r_v) rfl dX5_note_38 ?_
        refine lv_iload hx hb dX5_note_41 (lv_at hl 4 rfl) ?_
        refine lv_lload_n hx hb dX5_note_43 rfl (lv_at hl 1 rfl) ?_
        refine lv_iload hx hb dX5_note_44 (lv_at hl 4 rfl) ?_
        obtain ⟨r_24, e_25, h⟩ := ga_gb h
        refine vp_callSi (va_Run.run (va_runSN (As := [.long x1, .int x5]) (rest := [.int x5, .ref r_v]) ⟨hx, hb, hml, hown, hts⟩ (met_X1_has l D cA N x1 x5 r_24 e_25) (⟨va_cnB 2 hts (lw_meth q708) rfl rfl rfl (hK.2.1 _ q828 rfl) (hts _ q67) (by decide +kernel) ⟨Nat.le_of_ble_eq_true rfl, Nat.le_of_ble_eq_true rfl⟩, hts _ q707, trivial⟩) (ga_PS hK ga_P0) rfl rfl hl.1 rfl (lv_room (Nat.le_of_ble_eq_true rfl)) dX5_note_46 ⟨Nat.le_of_ble_eq_true rfl, Nat.le_of_ble_eq_true rfl⟩)) (fun z_26 w_27 => ?_)
        obtain ⟨rfl, b_28⟩ := w_27
        refine lv_if_eq (tgt := 57) hx hb dX5_note_49 (by decide) (fun c_29 => ?_) (fun c_29 => ?_)
        · replace h := ga_ift c_29 h
          refine lv_aload_n hx hb dX5_note_57 rfl (lv_at hl 0 rfl) ?_
          refine va_get hx hb hts in_X5 hown hK.1 hP 0 (fs := [.int r1, .int r2, .ref r_b, .ref r_w, .int rN, .ref r_s, .ref r_r, .ref r_v]) rfl rfl 7 (by decide) (hts _ q238) (fun _ hh => hh) (v := .ref r_v) rfl dX5_note_58 ?_
          refine lv_iload hx hb dX5_note_61 (lv_at hl 4 rfl) ?_
          obtain ⟨i_30, h⟩ := ga_gif h
          refine va_iald hx hb hK.1 hP 2 0 (f := rV) rfl rfl (ga_in i_30) dX5_note_63 ?_
          obtain ⟨i_31, h⟩ := ga_gif h
          refine va_iast hx hb hK.1 hP hD hS 2 0 (f := rV) rfl rfl (ga_in i_31) dX5_note_64 (fun H_32 locs hP hD hS => ?_)
          have hP : va_P D ga_cl [(r, .inr (5, [.int r1, .int r2, .ref r_b, .ref r_w, .int rN, .ref r_s, .ref r_r, .ref r_v])), (r_r, .inl (cA 0, 49, .inl (upd rR (ix x5) x3))), (r_v, .inl (cA 0, 49, .inl (upd rV (ix x5) (rV (ix x5)))))] H_32 := hP
          have hD : va_D A [(r, .inr (5, [.int r1, .int r2, .ref r_b, .ref r_w, .int rN, .ref r_s, .ref r_r, .ref r_v])), (r_r, .inl (cA 0, 49, .inl (upd rR (ix x5) x3))), (r_v, .inl (cA 0, 49, .inl (upd rV (ix x5) (rV (ix x5)))))] := hD
          refine lv_iinc (v := (x5 + 1)) (lv' := [(5, .int (x5 + 1)), (0, .ref r), (1, .long x1), (3, .int x3), (4, .int x4)]) hx hb dX5_note_65 hl (k := 4) rfl rfl (by decide) rfl (fun ls hl => ?_)
          refine lv_goto (tgt := 3) hx hb dX5_note_68 (by decide) ?_
          exact ih (upd rR (ix x5) x3) (upd rV (ix x5) (rV (ix x5))) (x5 + 1) h _ _ (hP.sub [0, 1, 2] rfl) (hD.sub [0, 1, 2] (by decide) rfl) hS _ (lv_sub hl [1, 2, 3, 4, 0] rfl)
        · replace h := ga_iff c_29 h
          refine lv_iload hx hb dX5_note_52 (lv_at hl 3 rfl) ?_
          refine lv_goto (tgt := 64) hx hb dX5_note_54 (by decide) ?_
          obtain ⟨i_33, h⟩ := ga_gif h
          refine va_iast hx hb hK.1 hP hD hS 2 0 (f := rV) rfl rfl (ga_in i_33) dX5_note_64 (fun H_34 locs hP hD hS => ?_)
          have hP : va_P D ga_cl [(r, .inr (5, [.int r1, .int r2, .ref r_b, .ref r_w, .int rN, .ref r_s, .ref r_r, .ref r_v])), (r_r, .inl (cA 0, 49, .inl (upd rR (ix x5) x3))), (r_v, .inl (cA 0, 49, .inl (upd rV (ix x5) x4)))] H_34 := hP
          have hD : va_D A [(r, .inr (5, [.int r1, .int r2, .ref r_b, .ref r_w, .int rN, .ref r_s, .ref r_r, .ref r_v])), (r_r, .inl (cA 0, 49, .inl (upd rR (ix x5) x3))), (r_v, .inl (cA 0, 49, .inl (upd rV (ix x5) x4)))] := hD
          refine lv_iinc (v := (x5 + 1)) (lv' := [(5, .int (x5 + 1)), (0, .ref r), (1, .long x1), (3, .int x3), (4, .int x4)]) hx hb dX5_note_65 hl (k := 4) rfl rfl (by decide) rfl (fun ls hl => ?_)
          refine lv_goto (tgt := 3) hx hb dX5_note_68 (by decide) ?_
          exact ih (upd rR (ix x5) x3) (upd rV (ix x5) x4) (x5 + 1) h _ _ (hP.sub [0, 1, 2] rfl) (hD.sub [0, 1, 2] (by decide) rfl) hS _ (lv_sub hl [1, 2, 3, 4, 0] rfl)
def F_X5_note (N : Nat) (r1 : Int32) (r2 : Int32) (rN : Int32) (rR : Nat → Int32) (rV : Nat → Int32) (x1 : Int64) (x3 : Int32) (x4 : Int32) : Option ((Nat → Int32) × (Nat → Int32)) :=
  lp_X5_note_3 N r1 r2 rN x1 x3 x4 N rR rV 0
set_option maxHeartbeats 4000000 in
theorem met_X5_note (l : Launch) (D : va_G) (cA : Nat → ClassId) (A : Nat → Prop) (r : Nat) (r_b : Nat) (r_w : Nat) (r_s : Nat) (r_r : Nat) (r_v : Nat) (r1 : Int32) (r2 : Int32) (rN : Int32) (rR : Nat → Int32) (rV : Nat → Int32) (N : Nat) (x1 : Int64) (x3 : Int32) (x4 : Int32)  (out : (Nat → Int32) × (Nat → Int32)) (h : F_X5_note N r1 r2 rN rR rV x1 x3 x4 = some out) : Met l yX5_note (ws_ yX5_note cX5_note 6 none) rm_X5_note (ga_L D cA A [(r, .inr (5, [.int r1, .int r2, .ref r_b, .ref r_w, .int rN, .ref r_s, .ref r_r, .ref r_v])), (r_r, .inl (cA 0, 49, .inl rR)), (r_v, .inl (cA 0, 49, .inl rV))] [.ref r, .long x1, .int x3, .int x4]) (va_Qv (fun (u : (Nat → Int32) × (Nat → Int32)) => out = u) (fun (u : (Nat → Int32) × (Nat → Int32)) (t : State) => va_P D ga_cl [(r, .inr (5, [.int r1, .int r2, .ref r_b, .ref r_w, .int rN, .ref r_s, .ref r_r, .ref r_v])), (r_r, .inl (cA 0, 49, .inl u.1)), (r_v, .inl (cA 0, 49, .inl u.2))] t.heap ∧ ga_K D cA t ∧ va_D A [(r, .inr (5, [.int r1, .int r2, .ref r_b, .ref r_w, .int rN, .ref r_s, .ref r_r, .ref r_v])), (r_r, .inl (cA 0, 49, .inl u.1)), (r_v, .inl (cA 0, 49, .inl u.2))]) A) 0 0 A := by
  refine Met.ofW (cc := cX5_note) (maxL := 6) (ret := none) (by decide) rfl ?_
  intro p e s m args below meth c s₁ B hml hv
  obtain ⟨rfl, hP, hK, hD, hA⟩ := hv
  have hS : va_S A s.heap s.heap [] := va_S.rf
  have C : ga_cx p m c meth s _ RX5 cX5_note 6 none := ga_cx_of B hml
  have C0 := C
  obtain ⟨hx, hb, hr, hlocks, hml, hown, hts⟩ := C0
  have hl := lv_entry ([.ref r, .long x1, .int x3, .int x4]) (n := 6) (Nat.le_of_ble_eq_true rfl)
  rw [lg_entry_eq]
  generalize (lg_sl ([.ref r, .long x1, .int x3, .int x4]) ++ List.replicate (6 - (lg_sl ([.ref r, .long x1, .int x3, .int x4])).length) Slot.unset).toArray = ls at hl ⊢
  have hl : lv_has ls 6 [(0, .ref r), (1, .long x1), (3, .int x3), (4, .int x4)] := hl
  rw [F_X5_note] at h
  refine lv_iconst (v := 0) hx hb dX5_note_0 (by decide) ?_
  refine lv_istore (lv' := [(5, .int 0), (0, .ref r), (1, .long x1), (3, .int x3), (4, .int x4)]) hx hb dX5_note_1 hl (by decide) rfl (fun ls hl => ?_)
  exact w_X5_note_3 C hK hA N rR rV 0 h _ _ (hP.sub [0, 1, 2] rfl) (hD.sub [0, 1, 2] (by decide) rfl) hS _ (lv_sub hl [1, 2, 3, 4, 0] rfl)
abbrev rm_X5_play : Room := { frames := 5, cells := 0, slots := 0, locals := 112 }
def lp_X5_play_57 (N : Nat) (r1 : Int32) (r2 : Int32) (zw : Int32) (zh : Int32) (zA : Int64) (zL : Int64) (zR : Int64) (zE : Int64) (x2 : Int32) (x3 : Int32) : Nat → (Nat → Int32) → (Int32) → (Nat → Int32) → (Nat → Int32) → (Int64) → (Nat → Int64) → (Nat → Int64) → (Nat → Int32) → (Nat → Int64) → (Int32) → Option (Int32 × (Nat → Int32) × (Nat → Int32) × (Nat → Int32) × Int64 × (Nat → Int64) × (Nat → Int64) × (Nat → Int32) × (Nat → Int64))
  | 0, _, _, _, _, _, _, _, _, _, _ => none
  | n+1, rW, rN, rR, rV, rbB, rbS, rbA, rbC, rbG, x6 =>
    (if x6 ≤ 0 then
    some (rN, rW, rR, rV, rbB, rbS, rbA, rbC, rbG)
    else
    ((F_X5_note N r1 r2 rN rR rV ((rbG (ix 0)) ||| (rbG (ix 1))) x2 rN).bind fun r_33 =>
    (if inb rN 8 = true then
    (if 8 ≤ (rN + 1) then
    lp_X5_play_57 N r1 r2 zw zh zA zL zR zE x2 x3 n (upd rW (ix rN) x6) (rN + 1) r_33.1 r_33.2 rbB rbS rbA rbC rbG 0
    else
    ((F_X3_wave N rbB rbS rbA rbC rbG zw zh zA zL zR zE).bind fun r_45 =>
    lp_X5_play_57 N r1 r2 zw zh zA zL zR zE x2 x3 n (upd rW (ix rN) x6) (rN + 1) r_33.1 r_33.2 rbB r_45.2.1 r_45.2.2.1 r_45.2.2.2.1 r_45.2.2.2.2 r_45.1))
    else none)))
set_option maxHeartbeats 4000000 in
theorem w_X5_play_57 {p : Program} {l : Launch} {e : Env} {s : State} {m : MethodId} {args : Array Value} {below : List Frame} {meth : Method} {c : Code} {D : va_G} {cA : Nat → ClassId} {A : Nat → Prop} {r : Nat} {r_b : Nat} {r_w : Nat} {r_s : Nat} {r_r : Nat} {r_v : Nat} {r_b_s : Nat} {r_b_a : Nat} {r_b_c : Nat} {r_b_g : Nat} {sh : Nat} {N : Nat} {r1 : Int32} {r2 : Int32} {zw : Int32} {zh : Int32} {zA : Int64} {zL : Int64} {zR : Int64} {zE : Int64} {x2 : Int32} {x3 : Int32}  (C : ga_cx p m c meth s args RX5 cX5_play 7 none) (hK : ga_K D cA s) (hA : ∀ q : Nat, s.heap.size ≤ q → A q) {out : Int32 × (Nat → Int32) × (Nat → Int32) × (Nat → Int32) × Int64 × (Nat → Int64) × (Nat → Int64) × (Nat → Int32) × (Nat → Int64)} : ∀ n : Nat, ∀ (rW : Nat → Int32) (rN : Int32) (rR : Nat → Int32) (rV : Nat → Int32) (rbB : Int64) (rbS : Nat → Int64) (rbA : Nat → Int64) (rbC : Nat → Int32) (rbG : Nat → Int64) (x6 : Int32), lp_X5_play_57 N r1 r2 zw zh zA zL zR zE x2 x3 n rW rN rR rV rbB rbS rbA rbC rbG x6 = some out → ∀ (H : Heap) (locs : List Loc), va_P D ga_cl [(r_w, .inl (cA 0, 8, .inl rW)), (r, .inr (5, [.int r1, .int r2, .ref r_b, .ref r_w, .int rN, .ref r_s, .ref r_r, .ref r_v])), (r_r, .inl (cA 0, 49, .inl rR)), (r_v, .inl (cA 0, 49, .inl rV)), (r_b, .inr (3, [.ref r_b_s, .ref r_b_a, .long rbB, .ref r_b_c, .ref r_b_g])), (r_b_s, .inl (cA 1, 2, .inr (.inl rbS))), (r_b_a, .inl (cA 1, 2, .inr (.inl rbA))), (r_b_c, .inl (cA 0, 2, .inl rbC)), (r_b_g, .inl (cA 1, 2, .inr (.inl rbG))), (sh, .inr (4, [.int zw, .int zh, .long zA, .long zL, .long zR, .long zE]))] H → va_D A [(r_w, .inl (cA 0, 8, .inl rW)), (r, .inr (5, [.int r1, .int r2, .ref r_b, .ref r_w, .int rN, .ref r_s, .ref r_r, .ref r_v])), (r_r, .inl (cA 0, 49, .inl rR)), (r_v, .inl (cA 0, 49, .inl rV)), (r_b, .inr (3, [.ref r_b_s, .ref r_b_a, .long rbB, .ref r_b_c, .ref r_b_g])), (r_b_s, .inl (cA 1, 2, .inr (.inl rbS))), (r_b_a, .inl (cA 1, 2, .inr (.inl rbA))), (r_b_c, .inl (cA 0, 2, .inl rbC)), (r_b_g, .inl (cA 1, 2, .inr (.inl rbG))), (sh, .inr (4, [.int zw, .int zh, .long zA, .long zL, .long zR, .long zE]))] → va_S A s.heap H locs → ∀ ls : Array Slot, lv_has ls 7 [(0, .ref r), (1, .ref sh), (2, .int x2), (6, .int x6)] → W p l e (headSpec (ws_ yX5_play cX5_play 7 none) rm_X5_play).room s m args below meth c H locs 0 0 (MQ below (va_Qv (fun (u : Int32 × (Nat → Int32) × (Nat → Int32) × (Nat → Int32) × Int64 × (Nat → Int64) × (Nat → Int64) × (Nat → Int32) × (Nat → Int64)) => out = u) (fun (u : Int32 × (Nat → Int32) × (Nat → Int32) × (Nat → Int32) × Int64 × (Nat → Int64) × (Nat → Int64) × (Nat → Int32) × (Nat → Int64)) (t : State) => va_P D ga_cl [(r, .inr (5, [.int r1, .int r2, .ref r_b, .ref r_w, .int u.1, .ref r_s, .ref r_r, .ref r_v])), (r_w, .inl (cA 0, 8, .inl u.2.1)), (r_r, .inl (cA 0, 49, .inl u.2.2.1)), (r_v, .inl (cA 0, 49, .inl u.2.2.2.1)), (r_b, .inr (3, [.ref r_b_s, .ref r_b_a, .long u.2.2.2.2.1, .ref r_b_c, .ref r_b_g])), (r_b_s, .inl (cA 1, 2, .inr (.inl u.2.2.2.2.2.1))), (r_b_a, .inl (cA 1, 2, .inr (.inl u.2.2.2.2.2.2.1))), (r_b_c, .inl (cA 0, 2, .inl u.2.2.2.2.2.2.2.1)), (r_b_g, .inl (cA 1, 2, .inr (.inl u.2.2.2.2.2.2.2.2))), (sh, .inr (4, [.int zw, .int zh, .long zA, .long zL, .long zR, .long zE]))] t.heap ∧ ga_K D cA t ∧ va_D A [(r, .inr (5, [.int r1, .int r2, .ref r_b, .ref r_w, .int u.1, .ref r_s, .ref r_r, .ref r_v])), (r_w, .inl (cA 0, 8, .inl u.2.1)), (r_r, .inl (cA 0, 49, .inl u.2.2.1)), (r_v, .inl (cA 0, 49, .inl u.2.2.2.1)), (r_b, .inr (3, [.ref r_b_s, .ref r_b_a, .long u.2.2.2.2.1, .ref r_b_c, .ref r_b_g])), (r_b_s, .inl (cA 1, 2, .inr (.inl u.2.2.2.2.2.1))), (r_b_a, .inl (cA 1, 2, .inr (.inl u.2.2.2.2.2.2.1))), (r_b_c, .inl (cA 0, 2, .inl u.2.2.2.2.2.2.2.1)), (r_b_g, .inl (cA 1, 2, .inr (.inl u.2.2.2.2.2.2.2.2))), (sh, .inr (4, [.int zw, .int zh, .long zA, .long zL, .long zR, .long zE]))]) A) args s 0 0 A) (F0 m 57 ls []) := by
  have C0 := C
  obtain ⟨hx, hb, hr, hlocks, hml, hown, hts⟩ := C0
  intro n
  induction n with
  | zero =>
    intro rW rN rR rV rbB rbS rbA rbC rbG x6 h
    rw [lp_X5_play_57.eq_1] at h
    cases h
  | succ n ih =>
    intro rW rN rR rV rbB rbS rbA rbC rbG x6 h H locs hP hD hS ls hl
    rw [lp_X5_play_57.eq_2] at h
    refine lv_iload hx hb dX5_play_57 (lv_at hl 3 rfl) ?_
    refine lv_if_le (tgt := 137) hx hb dX5_play_59 (by decide) (fun c_32 => ?_) (fun c_32 => ?_)
    · replace h := ga_ift c_32 h
      have hP9 := hP.sub (ws' := [(r, .inr (5, [.int r1, .int r2, .ref r_b, .ref r_w, .int rN, .ref r_s, .ref r_r, .ref r_v])), (r_w, .inl (cA 0, 8, .inl rW)), (r_r, .inl (cA 0, 49, .inl rR)), (r_v, .inl (cA 0, 49, .inl rV)), (r_b, .inr (3, [.ref r_b_s, .ref r_b_a, .long rbB, .ref r_b_c, .ref r_b_g])), (r_b_s, .inl (cA 1, 2, .inr (.inl rbS))), (r_b_a, .inl (cA 1, 2, .inr (.inl rbA))), (r_b_c, .inl (cA 0, 2, .inl rbC)), (r_b_g, .inl (cA 1, 2, .inr (.inl rbG))), (sh, .inr (4, [.int zw, .int zh, .long zA, .long zL, .long zR, .long zE]))]) [1, 0, 2, 3, 4, 5, 6, 7, 8, 9] rfl
      have hD9 := hD.sub (ws' := [(r, .inr (5, [.int r1, .int r2, .ref r_b, .ref r_w, .int rN, .ref r_s, .ref r_r, .ref r_v])), (r_w, .inl (cA 0, 8, .inl rW)), (r_r, .inl (cA 0, 49, .inl rR)), (r_v, .inl (cA 0, 49, .inl rV)), (r_b, .inr (3, [.ref r_b_s, .ref r_b_a, .long rbB, .ref r_b_c, .ref r_b_g])), (r_b_s, .inl (cA 1, 2, .inr (.inl rbS))), (r_b_a, .inl (cA 1, 2, .inr (.inl rbA))), (r_b_c, .inl (cA 0, 2, .inl rbC)), (r_b_g, .inl (cA 1, 2, .inr (.inl rbG))), (sh, .inr (4, [.int zw, .int zh, .long zA, .long zL, .long zR, .long zE]))]) [1, 0, 2, 3, 4, 5, 6, 7, 8, 9] (by decide) rfl
      obtain rfl := Option.some.inj h
      exact W.vret hx hb hr (fun t ht hW => ⟨⟨(rN, rW, rR, rV, rbB, rbS, rbA, rbC, rbG), rfl, rfl, ⟨by rw [ht]; exact hP9, hK.warm hW, hD9⟩⟩, hS.F ht⟩) hS.2.2 dX5_play_137
    · replace h := ga_iff c_32 h
      refine lv_aload_n hx hb dX5_play_62 rfl (lv_at hl 0 rfl) ?_
      refine lv_aload_n hx hb dX5_play_63 rfl (lv_at hl 0 rfl) ?_
      refine va_get hx hb hts in_X5 hown hK.1 hP 1 (fs := [.int r1, .int r2, .ref r_b, .ref r_w, .int rN, .ref r_s, .ref r_r, .ref r_v]) rfl rfl 2 (by decide) (hts _ q227) (fun _ hh => hh) (v := .ref r_b) rfl dX5_play_64 ?_
      refine va_getN hx hb hts in_X3 hown hK.1 hP 4 (fs := [.ref r_b_s, .ref r_b_a, .long rbB, .ref r_b_c, .ref r_b_g]) rfl rfl 4 (by decide) (ga_nu hK q164 rfl) (fun _ hh => hh) (v := .ref r_b_g) rfl dX5_play_67 ?_
      refine lv_iconst (v := 0) hx hb dX5_play_70 (by decide) ?_
      refine va_lald hx hb hK.1 hP 8 1 (f := rbG) rfl rfl (ga_in (by decide)) dX5_play_71 ?_
      refine lv_aload_n hx hb dX5_play_72 rfl (lv_at hl 0 rfl) ?_
      refine va_get hx hb hts in_X5 hown hK.1 hP 1 (fs := [.int r1, .int r2, .ref r_b, .ref r_w, .int rN, .ref r_s, .ref r_r, .ref r_v]) rfl rfl 2 (by decide) (hts _ q227) (fun _ hh => hh) (v := .ref r_b) rfl dX5_play_73 ?_
      refine va_getN hx hb hts in_X3 hown hK.1 hP 4 (fs := [.ref r_b_s, .ref r_b_a, .long rbB, .ref r_b_c, .ref r_b_g]) rfl rfl 4 (by decide) (ga_nu hK q164 rfl) (fun _ hh => hh) (v := .ref r_b_g) rfl dX5_play_76 ?_
      refine lv_iconst (v := 1) hx hb dX5_play_79 (by decide) ?_
      refine va_lald hx hb hK.1 hP 8 1 (f := rbG) rfl rfl (ga_in (by decide)) dX5_play_80 ?_
      refine lv_lor hx hb dX5_play_81 ?_
      refine lv_iload_n hx hb dX5_play_82 rfl (lv_at hl 2 rfl) ?_
      refine lv_aload_n hx hb dX5_play_83 rfl (lv_at hl 0 rfl) ?_
      refine va_get hx hb hts in_X5 hown hK.1 hP 1 (fs := [.int r1, .int r2, .ref r_b, .ref r_w, .int rN, .ref r_s, .ref r_r, .ref r_v]) rfl rfl 4 (by decide) (hts _ q231) (fun _ hh => hh) (v := .int rN) rfl dX5_play_84 ?_
      obtain ⟨r_33, e_34, h⟩ := ga_gb h
      have hFc := va_free (wc := [(r, .inr (5, [.int r1, .int r2, .ref r_b, .ref r_w, .int rN, .ref r_s, .ref r_r, .ref r_v])), (r_r, .inl (cA 0, 49, .inl rR)), (r_v, .inl (cA 0, 49, .inl rV))]) hD hS hA [1, 2, 3] rfl
      refine va_callv (va_runV (As := [.long ((rbG (ix 0)) ||| (rbG (ix 1))), .int x2, .int rN]) (rest := []) ⟨hx, hb, hml, hown, hts⟩ (met_X5_note l D cA (va_A [(r, .inr (5, [.int r1, .int r2, .ref r_b, .ref r_w, .int rN, .ref r_s, .ref r_r, .ref r_v])), (r_r, .inl (cA 0, 49, .inl rR)), (r_v, .inl (cA 0, 49, .inl rV))] H.size) r r_b r_w r_s r_r r_v r1 r2 rN rR rV N ((rbG (ix 0)) ||| (rbG (ix 1))) x2 rN r_33 e_34) (cwV 3 hts (lw_V q824 q826 qs9 q74 q827) rfl rfl rfl (by decide +kernel) ⟨Nat.le_of_ble_eq_true rfl, Nat.le_of_ble_eq_true rfl⟩) (ga_LV hK (hP.sub (ws' := [(r, .inr (5, [.int r1, .int r2, .ref r_b, .ref r_w, .int rN, .ref r_s, .ref r_r, .ref r_v])), (r_r, .inl (cA 0, 49, .inl rR)), (r_v, .inl (cA 0, 49, .inl rV))]) [1, 2, 3] rfl) (hD.sub (ws' := [(r, .inr (5, [.int r1, .int r2, .ref r_b, .ref r_w, .int rN, .ref r_s, .ref r_r, .ref r_v])), (r_r, .inl (cA 0, 49, .inl rR)), (r_v, .inl (cA 0, 49, .inl rV))]) [1, 2, 3] (by decide) rfl).self (fun _ hq => Or.inr hq) (va_recv hK.1 hP (ci := 5) (q0 := 1) rfl rfl)) rfl rfl hl.1 rfl (lv_room (Nat.le_of_ble_eq_true rfl)) dX5_play_87 ⟨Nat.le_of_ble_eq_true rfl, Nat.le_of_ble_eq_true rfl⟩) hS (fun q _ hq => hFc q hq) hFc (fun u_38 t H_37 locs ht _ w_36 hB _ hk hS => ?_)
      obtain ⟨hP1, -, hD1⟩ := hB
      obtain rfl := w_36
      rw [ht] at hP1
      obtain ⟨hP, hD⟩ := va_join (wr := [(r_w, .inl (cA 0, 8, .inl rW)), (r_b, .inr (3, [.ref r_b_s, .ref r_b_a, .long rbB, .ref r_b_c, .ref r_b_g])), (r_b_s, .inl (cA 1, 2, .inr (.inl rbS))), (r_b_a, .inl (cA 1, 2, .inr (.inl rbA))), (r_b_c, .inl (cA 0, 2, .inl rbC)), (r_b_g, .inl (cA 1, 2, .inr (.inl rbG))), (sh, .inr (4, [.int zw, .int zh, .long zA, .long zL, .long zR, .long zE]))]) (w1 := [(r, .inr (5, [.int r1, .int r2, .ref r_b, .ref r_w, .int rN, .ref r_s, .ref r_r, .ref r_v])), (r_r, .inl (cA 0, 49, .inl r_33.1)), (r_v, .inl (cA 0, 49, .inl r_33.2))]) hP hD [1, 2, 3] [0, 4, 5, 6, 7, 8, 9] rfl rfl (by decide) (by decide) hk hFc hP1 hD1
      have hP : va_P D ga_cl [(r_w, .inl (cA 0, 8, .inl rW)), (r_b, .inr (3, [.ref r_b_s, .ref r_b_a, .long rbB, .ref r_b_c, .ref r_b_g])), (r_b_s, .inl (cA 1, 2, .inr (.inl rbS))), (r_b_a, .inl (cA 1, 2, .inr (.inl rbA))), (r_b_c, .inl (cA 0, 2, .inl rbC)), (r_b_g, .inl (cA 1, 2, .inr (.inl rbG))), (sh, .inr (4, [.int zw, .int zh, .long zA, .long zL, .long zR, .long zE])), (r, .inr (5, [.int r1, .int r2, .ref r_b, .ref r_w, .int rN, .ref r_s, .ref r_r, .ref r_v])), (r_r, .inl (cA 0, 49, .inl r_33.1)), (r_v, .inl (cA 0, 49, .inl r_33.2))] H_37 := hP
      have hD : va_D A [(r_w, .inl (cA 0, 8, .inl rW)), (r_b, .inr (3, [.ref r_b_s, .ref r_b_a, .long rbB, .ref r_b_c, .ref r_b_g])), (r_b_s, .inl (cA 1, 2, .inr (.inl rbS))), (r_b_a, .inl (cA 1, 2, .inr (.inl rbA))), (r_b_c, .inl (cA 0, 2, .inl rbC)), (r_b_g, .inl (cA 1, 2, .inr (.inl rbG))), (sh, .inr (4, [.int zw, .int zh, .long zA, .long zL, .long zR, .long zE])), (r, .inr (5, [.int r1, .int r2, .ref r_b, .ref r_w, .int rN, .ref r_s, .ref r_r, .ref r_v])), (r_r, .inl (cA 0, 49, .inl r_33.1)), (r_v, .inl (cA 0, 49, .inl r_33.2))] := hD
      refine lv_aload_n hx hb dX5_play_90 rfl (lv_at hl 0 rfl) ?_
      refine va_get hx hb hts in_X5 hown hK.1 hP 7 (fs := [.int r1, .int r2, .ref r_b, .ref r_w, .int rN, .ref r_s, .ref r_r, .ref r_v]) rfl rfl 3 (by decide) (hts _ q229) (fun _ hh => hh) (v := .ref r_w) rfl dX5_play_91 ?_
      refine lv_aload_n hx hb dX5_play_94 rfl (lv_at hl 0 rfl) ?_
      refine va_get hx hb hts in_X5 hown hK.1 hP 7 (fs := [.int r1, .int r2, .ref r_b, .ref r_w, .int rN, .ref r_s, .ref r_r, .ref r_v]) rfl rfl 4 (by decide) (hts _ q231) (fun _ hh => hh) (v := .int rN) rfl dX5_play_95 ?_
      refine lv_iload hx hb dX5_play_98 (lv_at hl 3 rfl) ?_
      obtain ⟨i_40, h⟩ := ga_gif h
      refine va_iast hx hb hK.1 hP hD hS 0 0 (f := rW) rfl rfl (ga_in i_40) dX5_play_100 (fun H_41 locs hP hD hS => ?_)
      have hP : va_P D ga_cl [(r_w, .inl (cA 0, 8, .inl (upd rW (ix rN) x6))), (r_b, .inr (3, [.ref r_b_s, .ref r_b_a, .long rbB, .ref r_b_c, .ref r_b_g])), (r_b_s, .inl (cA 1, 2, .inr (.inl rbS))), (r_b_a, .inl (cA 1, 2, .inr (.inl rbA))), (r_b_c, .inl (cA 0, 2, .inl rbC)), (r_b_g, .inl (cA 1, 2, .inr (.inl rbG))), (sh, .inr (4, [.int zw, .int zh, .long zA, .long zL, .long zR, .long zE])), (r, .inr (5, [.int r1, .int r2, .ref r_b, .ref r_w, .int rN, .ref r_s, .ref r_r, .ref r_v])), (r_r, .inl (cA 0, 49, .inl r_33.1)), (r_v, .inl (cA 0, 49, .inl r_33.2))] H_41 := hP
      have hD : va_D A [(r_w, .inl (cA 0, 8, .inl (upd rW (ix rN) x6))), (r_b, .inr (3, [.ref r_b_s, .ref r_b_a, .long rbB, .ref r_b_c, .ref r_b_g])), (r_b_s, .inl (cA 1, 2, .inr (.inl rbS))), (r_b_a, .inl (cA 1, 2, .inr (.inl rbA))), (r_b_c, .inl (cA 0, 2, .inl rbC)), (r_b_g, .inl (cA 1, 2, .inr (.inl rbG))), (sh, .inr (4, [.int zw, .int zh, .long zA, .long zL, .long zR, .long zE])), (r, .inr (5, [.int r1, .int r2, .ref r_b, .ref r_w, .int rN, .ref r_s, .ref r_r, .ref r_v])), (r_r, .inl (cA 0, 49, .inl r_33.1)), (r_v, .inl (cA 0, 49, .inl r_33.2))] := hD
      refine lv_aload_n hx hb dX5_play_101 rfl (lv_at hl 0 rfl) ?_
      refine lv_dup hx hb dX5_play_102 rfl ?_
      refine va_get hx hb hts in_X5 hown hK.1 hP 7 (fs := [.int r1, .int r2, .ref r_b, .ref r_w, .int rN, .ref r_s, .ref r_r, .ref r_v]) rfl rfl 4 (by decide) (hts _ q231) (fun _ hh => hh) (v := .int rN) rfl dX5_play_103 ?_
      refine lv_iconst (v := 1) hx hb dX5_play_106 (by decide) ?_
      refine lv_iadd hx hb dX5_play_107 ?_
      refine va_put hx hb hts in_X5 tyX5 tyX5_ok nmX5 hown hK.1 hP hD hS 7 (fs := [.int r1, .int r2, .ref r_b, .ref r_w, .int rN, .ref r_s, .ref r_r, .ref r_v]) rfl rfl 4 (by decide) (hts _ q231) (fun _ hh => hh) rfl (v := .int (rN + 1)) rfl rfl rfl (show 4 < 8 by decide) dX5_play_108 (fun H_42 locs hP hD hS => ?_)
      have hP : va_P D ga_cl [(r_w, .inl (cA 0, 8, .inl (upd rW (ix rN) x6))), (r_b, .inr (3, [.ref r_b_s, .ref r_b_a, .long rbB, .ref r_b_c, .ref r_b_g])), (r_b_s, .inl (cA 1, 2, .inr (.inl rbS))), (r_b_a, .inl (cA 1, 2, .inr (.inl rbA))), (r_b_c, .inl (cA 0, 2, .inl rbC)), (r_b_g, .inl (cA 1, 2, .inr (.inl rbG))), (sh, .inr (4, [.int zw, .int zh, .long zA, .long zL, .long zR, .long zE])), (r, .inr (5, [.int r1, .int r2, .ref r_b, .ref r_w, .int (rN + 1), .ref r_s, .ref r_r, .ref r_v])), (r_r, .inl (cA 0, 49, .inl r_33.1)), (r_v, .inl (cA 0, 49, .inl r_33.2))] H_42 := hP
      have hD : va_D A [(r_w, .inl (cA 0, 8, .inl (upd rW (ix rN) x6))), (r_b, .inr (3, [.ref r_b_s, .ref r_b_a, .long rbB, .ref r_b_c, .ref r_b_g])), (r_b_s, .inl (cA 1, 2, .inr (.inl rbS))), (r_b_a, .inl (cA 1, 2, .inr (.inl rbA))), (r_b_c, .inl (cA 0, 2, .inl rbC)), (r_b_g, .inl (cA 1, 2, .inr (.inl rbG))), (sh, .inr (4, [.int zw, .int zh, .long zA, .long zL, .long zR, .long zE])), (r, .inr (5, [.int r1, .int r2, .ref r_b, .ref r_w, .int (rN + 1), .ref r_s, .ref r_r, .ref r_v])), (r_r, .inl (cA 0, 49, .inl r_33.1)), (r_v, .inl (cA 0, 49, .inl r_33.2))] := hD
      refine lv_aload_n hx hb dX5_play_111 rfl (lv_at hl 0 rfl) ?_
      refine va_get hx hb hts in_X5 hown hK.1 hP 7 (fs := [.int r1, .int r2, .ref r_b, .ref r_w, .int (rN + 1), .ref r_s, .ref r_r, .ref r_v]) rfl rfl 4 (by decide) (hts _ q231) (fun _ hh => hh) (v := .int (rN + 1)) rfl dX5_play_112 ?_
      refine lv_bipush (v := 8) hx hb dX5_play_115 (by decide) ?_
      refine lv_icmp_ge (tgt := 131) hx hb dX5_play_117 (by decide) (fun c_44 => ?_) (fun c_44 => ?_)
      · replace h := ga_ift c_44 h
        refine lv_iconst (v := 0) hx hb dX5_play_131 (by decide) ?_
        refine lv_istore (lv' := [(6, .int 0), (0, .ref r), (1, .ref sh), (2, .int x2)]) hx hb dX5_play_132 hl (by decide) rfl (fun ls hl => ?_)
        refine lv_goto (tgt := 57) hx hb dX5_play_134 (by decide) ?_
        exact ih (upd rW (ix rN) x6) (rN + 1) r_33.1 r_33.2 rbB rbS rbA rbC rbG 0 h _ _ (hP.sub [0, 7, 8, 9, 1, 2, 3, 4, 5, 6] rfl) (hD.sub [0, 7, 8, 9, 1, 2, 3, 4, 5, 6] (by decide) rfl) hS _ (lv_sub hl [1, 2, 3, 0] rfl)
      · replace h := ga_iff c_44 h
        refine lv_aload_n hx hb dX5_play_120 rfl (lv_at hl 0 rfl) ?_
        refine va_get hx hb hts in_X5 hown hK.1 hP 7 (fs := [.int r1, .int r2, .ref r_b, .ref r_w, .int (rN + 1), .ref r_s, .ref r_r, .ref r_v]) rfl rfl 2 (by decide) (hts _ q227) (fun _ hh => hh) (v := .ref r_b) rfl dX5_play_121 ?_
        refine lv_aload_n hx hb dX5_play_124 rfl (lv_at hl 1 rfl) ?_
        obtain ⟨r_45, e_46, h⟩ := ga_gb h
        have hFc := va_free (wc := [(r_b, .inr (3, [.ref r_b_s, .ref r_b_a, .long rbB, .ref r_b_c, .ref r_b_g])), (r_b_s, .inl (cA 1, 2, .inr (.inl rbS))), (r_b_a, .inl (cA 1, 2, .inr (.inl rbA))), (r_b_c, .inl (cA 0, 2, .inl rbC)), (r_b_g, .inl (cA 1, 2, .inr (.inl rbG))), (sh, .inr (4, [.int zw, .int zh, .long zA, .long zL, .long zR, .long zE]))]) hD hS hA [1, 2, 3, 4, 5, 6] rfl
        refine va_calli (va_runV (As := [.ref sh]) (rest := []) ⟨hx, hb, hml, hown, hts⟩ (met_X3_wave l D cA (va_A [(r_b, .inr (3, [.ref r_b_s, .ref r_b_a, .long rbB, .ref r_b_c, .ref r_b_g])), (r_b_s, .inl (cA 1, 2, .inr (.inl rbS))), (r_b_a, .inl (cA 1, 2, .inr (.inl rbA))), (r_b_c, .inl (cA 0, 2, .inl rbC)), (r_b_g, .inl (cA 1, 2, .inr (.inl rbG))), (sh, .inr (4, [.int zw, .int zh, .long zA, .long zL, .long zR, .long zE]))] H_42.size) r_b r_b_s r_b_a r_b_c r_b_g sh rbB rbS rbA rbC rbG zw zh zA zL zR zE N r_45 e_46) (cwV 1 hts (lw_V q829 q830 q831 q72 q832) rfl rfl rfl (by decide +kernel) ⟨Nat.le_of_ble_eq_true rfl, Nat.le_of_ble_eq_true rfl⟩) (ga_LV hK (hP.sub (ws' := [(r_b, .inr (3, [.ref r_b_s, .ref r_b_a, .long rbB, .ref r_b_c, .ref r_b_g])), (r_b_s, .inl (cA 1, 2, .inr (.inl rbS))), (r_b_a, .inl (cA 1, 2, .inr (.inl rbA))), (r_b_c, .inl (cA 0, 2, .inl rbC)), (r_b_g, .inl (cA 1, 2, .inr (.inl rbG))), (sh, .inr (4, [.int zw, .int zh, .long zA, .long zL, .long zR, .long zE]))]) [1, 2, 3, 4, 5, 6] rfl) (hD.sub (ws' := [(r_b, .inr (3, [.ref r_b_s, .ref r_b_a, .long rbB, .ref r_b_c, .ref r_b_g])), (r_b_s, .inl (cA 1, 2, .inr (.inl rbS))), (r_b_a, .inl (cA 1, 2, .inr (.inl rbA))), (r_b_c, .inl (cA 0, 2, .inl rbC)), (r_b_g, .inl (cA 1, 2, .inr (.inl rbG))), (sh, .inr (4, [.int zw, .int zh, .long zA, .long zL, .long zR, .long zE]))]) [1, 2, 3, 4, 5, 6] (by decide) rfl).self (fun _ hq => Or.inr hq) (va_recv hK.1 hP (ci := 3) (q0 := 1) rfl rfl)) rfl rfl hl.1 rfl (lv_room (Nat.le_of_ble_eq_true rfl)) dX5_play_125 ⟨Nat.le_of_ble_eq_true rfl, Nat.le_of_ble_eq_true rfl⟩) hS (fun q _ hq => hFc q hq) hFc (fun z_47 u_50 t H_49 locs ht _ w_48 hB _ hk hS => ?_)
        obtain ⟨hP1, -, hD1⟩ := hB
        obtain ⟨rfl, rfl⟩ := w_48
        rw [ht] at hP1
        obtain ⟨hP, hD⟩ := va_join (wr := [(r_w, .inl (cA 0, 8, .inl (upd rW (ix rN) x6))), (r, .inr (5, [.int r1, .int r2, .ref r_b, .ref r_w, .int (rN + 1), .ref r_s, .ref r_r, .ref r_v])), (r_r, .inl (cA 0, 49, .inl r_33.1)), (r_v, .inl (cA 0, 49, .inl r_33.2))]) (w1 := [(r_b, .inr (3, [.ref r_b_s, .ref r_b_a, .long rbB, .ref r_b_c, .ref r_b_g])), (r_b_s, .inl (cA 1, 2, .inr (.inl r_45.2.1))), (r_b_a, .inl (cA 1, 2, .inr (.inl r_45.2.2.1))), (r_b_c, .inl (cA 0, 2, .inl r_45.2.2.2.1)), (r_b_g, .inl (cA 1, 2, .inr (.inl r_45.2.2.2.2))), (sh, .inr (4, [.int zw, .int zh, .long zA, .long zL, .long zR, .long zE]))]) hP hD [1, 2, 3, 4, 5, 6] [0, 7, 8, 9] rfl rfl (by decide) (by decide) hk hFc hP1 hD1
        have hP : va_P D ga_cl [(r_w, .inl (cA 0, 8, .inl (upd rW (ix rN) x6))), (r, .inr (5, [.int r1, .int r2, .ref r_b, .ref r_w, .int (rN + 1), .ref r_s, .ref r_r, .ref r_v])), (r_r, .inl (cA 0, 49, .inl r_33.1)), (r_v, .inl (cA 0, 49, .inl r_33.2)), (r_b, .inr (3, [.ref r_b_s, .ref r_b_a, .long rbB, .ref r_b_c, .ref r_b_g])), (r_b_s, .inl (cA 1, 2, .inr (.inl r_45.2.1))), (r_b_a, .inl (cA 1, 2, .inr (.inl r_45.2.2.1))), (r_b_c, .inl (cA 0, 2, .inl r_45.2.2.2.1)), (r_b_g, .inl (cA 1, 2, .inr (.inl r_45.2.2.2.2))), (sh, .inr (4, [.int zw, .int zh, .long zA, .long zL, .long zR, .long zE]))] H_49 := hP
        have hD : va_D A [(r_w, .inl (cA 0, 8, .inl (upd rW (ix rN) x6))), (r, .inr (5, [.int r1, .int r2, .ref r_b, .ref r_w, .int (rN + 1), .ref r_s, .ref r_r, .ref r_v])), (r_r, .inl (cA 0, 49, .inl r_33.1)), (r_v, .inl (cA 0, 49, .inl r_33.2)), (r_b, .inr (3, [.ref r_b_s, .ref r_b_a, .long rbB, .ref r_b_c, .ref r_b_g])), (r_b_s, .inl (cA 1, 2, .inr (.inl r_45.2.1))), (r_b_a, .inl (cA 1, 2, .inr (.inl r_45.2.2.1))), (r_b_c, .inl (cA 0, 2, .inl r_45.2.2.2.1)), (r_b_g, .inl (cA 1, 2, .inr (.inl r_45.2.2.2.2))), (sh, .inr (4, [.int zw, .int zh, .long zA, .long zL, .long zR, .long zE]))] := hD
        refine lv_goto (tgt := 132) hx hb dX5_play_128 (by decide) ?_
        refine lv_istore (lv' := [(6, .int r_45.1), (0, .ref r), (1, .ref sh), (2, .int x2)]) hx hb dX5_play_132 hl (by decide) rfl (fun ls hl => ?_)
        refine lv_goto (tgt := 57) hx hb dX5_play_134 (by decide) ?_
        exact ih (upd rW (ix rN) x6) (rN + 1) r_33.1 r_33.2 rbB r_45.2.1 r_45.2.2.1 r_45.2.2.2.1 r_45.2.2.2.2 r_45.1 h _ _ (hP.sub [0, 1, 2, 3, 4, 5, 6, 7, 8, 9] rfl) (hD.sub [0, 1, 2, 3, 4, 5, 6, 7, 8, 9] (by decide) rfl) hS _ (lv_sub hl [1, 2, 3, 0] rfl)
def F_X5_play (N : Nat) (r1 : Int32) (r2 : Int32) (rN : Int32) (rW : Nat → Int32) (rR : Nat → Int32) (rV : Nat → Int32) (rbB : Int64) (rbS : Nat → Int64) (rbA : Nat → Int64) (rbC : Nat → Int32) (rbG : Nat → Int64) (zw : Int32) (zh : Int32) (zA : Int64) (zL : Int64) (zR : Int64) (zE : Int64) (x2 : Int32) (x3 : Int32) : Option (Int32 × (Nat → Int32) × (Nat → Int32) × (Nat → Int32) × Int64 × (Nat → Int64) × (Nat → Int64) × (Nat → Int32) × (Nat → Int64)) :=
  ((F_X3_empty N rbB rbS rbA zw zh zA zL zR zE).bind fun r_1 =>
  ((F_X3_place N rbB rbS r1 r2 x3).bind fun r_6 =>
  ((F_X3_empty N r_6.1 r_6.2 rbA zw zh zA zL zR zE).bind fun r_13 =>
  ((F_X5_note N r1 r2 rN rR rV (r_1 &&& (r_13 ^^^ (-1))) x2 (-1)).bind fun r_18 =>
  ((F_X3_wave N r_6.1 r_6.2 rbA rbC rbG zw zh zA zL zR zE).bind fun r_25 =>
  lp_X5_play_57 N r1 r2 zw zh zA zL zR zE x2 x3 N rW rN r_18.1 r_18.2 r_6.1 r_25.2.1 r_25.2.2.1 r_25.2.2.2.1 r_25.2.2.2.2 r_25.1)))))
set_option maxHeartbeats 4000000 in
theorem met_X5_play (l : Launch) (D : va_G) (cA : Nat → ClassId) (A : Nat → Prop) (r : Nat) (r_b : Nat) (r_w : Nat) (r_s : Nat) (r_r : Nat) (r_v : Nat) (r_b_s : Nat) (r_b_a : Nat) (r_b_c : Nat) (r_b_g : Nat) (sh : Nat) (r1 : Int32) (r2 : Int32) (rN : Int32) (rW : Nat → Int32) (rR : Nat → Int32) (rV : Nat → Int32) (rbB : Int64) (rbS : Nat → Int64) (rbA : Nat → Int64) (rbC : Nat → Int32) (rbG : Nat → Int64) (zw : Int32) (zh : Int32) (zA : Int64) (zL : Int64) (zR : Int64) (zE : Int64) (N : Nat) (x2 : Int32) (x3 : Int32)  (out : Int32 × (Nat → Int32) × (Nat → Int32) × (Nat → Int32) × Int64 × (Nat → Int64) × (Nat → Int64) × (Nat → Int32) × (Nat → Int64)) (h : F_X5_play N r1 r2 rN rW rR rV rbB rbS rbA rbC rbG zw zh zA zL zR zE x2 x3 = some out) : Met l yX5_play (ws_ yX5_play cX5_play 7 none) rm_X5_play (ga_L D cA A [(r, .inr (5, [.int r1, .int r2, .ref r_b, .ref r_w, .int rN, .ref r_s, .ref r_r, .ref r_v])), (r_w, .inl (cA 0, 8, .inl rW)), (r_r, .inl (cA 0, 49, .inl rR)), (r_v, .inl (cA 0, 49, .inl rV)), (r_b, .inr (3, [.ref r_b_s, .ref r_b_a, .long rbB, .ref r_b_c, .ref r_b_g])), (r_b_s, .inl (cA 1, 2, .inr (.inl rbS))), (r_b_a, .inl (cA 1, 2, .inr (.inl rbA))), (r_b_c, .inl (cA 0, 2, .inl rbC)), (r_b_g, .inl (cA 1, 2, .inr (.inl rbG))), (sh, .inr (4, [.int zw, .int zh, .long zA, .long zL, .long zR, .long zE]))] [.ref r, .ref sh, .int x2, .int x3]) (va_Qv (fun (u : Int32 × (Nat → Int32) × (Nat → Int32) × (Nat → Int32) × Int64 × (Nat → Int64) × (Nat → Int64) × (Nat → Int32) × (Nat → Int64)) => out = u) (fun (u : Int32 × (Nat → Int32) × (Nat → Int32) × (Nat → Int32) × Int64 × (Nat → Int64) × (Nat → Int64) × (Nat → Int32) × (Nat → Int64)) (t : State) => va_P D ga_cl [(r, .inr (5, [.int r1, .int r2, .ref r_b, .ref r_w, .int u.1, .ref r_s, .ref r_r, .ref r_v])), (r_w, .inl (cA 0, 8, .inl u.2.1)), (r_r, .inl (cA 0, 49, .inl u.2.2.1)), (r_v, .inl (cA 0, 49, .inl u.2.2.2.1)), (r_b, .inr (3, [.ref r_b_s, .ref r_b_a, .long u.2.2.2.2.1, .ref r_b_c, .ref r_b_g])), (r_b_s, .inl (cA 1, 2, .inr (.inl u.2.2.2.2.2.1))), (r_b_a, .inl (cA 1, 2, .inr (.inl u.2.2.2.2.2.2.1))), (r_b_c, .inl (cA 0, 2, .inl u.2.2.2.2.2.2.2.1)), (r_b_g, .inl (cA 1, 2, .inr (.inl u.2.2.2.2.2.2.2.2))), (sh, .inr (4, [.int zw, .int zh, .long zA, .long zL, .long zR, .long zE]))] t.heap ∧ ga_K D cA t ∧ va_D A [(r, .inr (5, [.int r1, .int r2, .ref r_b, .ref r_w, .int u.1, .ref r_s, .ref r_r, .ref r_v])), (r_w, .inl (cA 0, 8, .inl u.2.1)), (r_r, .inl (cA 0, 49, .inl u.2.2.1)), (r_v, .inl (cA 0, 49, .inl u.2.2.2.1)), (r_b, .inr (3, [.ref r_b_s, .ref r_b_a, .long u.2.2.2.2.1, .ref r_b_c, .ref r_b_g])), (r_b_s, .inl (cA 1, 2, .inr (.inl u.2.2.2.2.2.1))), (r_b_a, .inl (cA 1, 2, .inr (.inl u.2.2.2.2.2.2.1))), (r_b_c, .inl (cA 0, 2, .inl u.2.2.2.2.2.2.2.1)), (r_b_g, .inl (cA 1, 2, .inr (.inl u.2.2.2.2.2.2.2.2))), (sh, .inr (4, [.int zw, .int zh, .long zA, .long zL, .long zR, .long zE]))]) A) 0 0 A := by
  refine Met.ofW (cc := cX5_play) (maxL := 7) (ret := none) (by decide) rfl ?_
  intro p e s m args below meth c s₁ B hml hv
  obtain ⟨rfl, hP, hK, hD, hA⟩ := hv
  have hS : va_S A s.heap s.heap [] := va_S.rf
  have C : ga_cx p m c meth s _ RX5 cX5_play 7 none := ga_cx_of B hml
  have C0 := C
  obtain ⟨hx, hb, hr, hlocks, hml, hown, hts⟩ := C0
  have hl := lv_entry ([.ref r, .ref sh, .int x2, .int x3]) (n := 7) (Nat.le_of_ble_eq_true rfl)
  rw [lg_entry_eq]
  generalize (lg_sl ([.ref r, .ref sh, .int x2, .int x3]) ++ List.replicate (7 - (lg_sl ([.ref r, .ref sh, .int x2, .int x3])).length) Slot.unset).toArray = ls at hl ⊢
  have hl : lv_has ls 7 [(0, .ref r), (1, .ref sh), (2, .int x2), (3, .int x3)] := hl
  rw [F_X5_play] at h
  refine lv_aload_n hx hb dX5_play_0 rfl (lv_at hl 0 rfl) ?_
  refine va_get hx hb hts in_X5 hown hK.1 hP 0 (fs := [.int r1, .int r2, .ref r_b, .ref r_w, .int rN, .ref r_s, .ref r_r, .ref r_v]) rfl rfl 2 (by decide) (hts _ q227) (fun _ hh => hh) (v := .ref r_b) rfl dX5_play_1 ?_
  refine lv_aload_n hx hb dX5_play_4 rfl (lv_at hl 1 rfl) ?_
  obtain ⟨r_1, e_2, h⟩ := ga_gb h
  refine vp_callSl (va_Run.run (va_runV (As := [.ref sh]) (rest := []) ⟨hx, hb, hml, hown, hts⟩ (met_X3_empty l D cA r_b r_b_s r_b_a r_b_c r_b_g sh rbB rbS rbA zw zh zA zL zR zE N r_1 e_2) (cwV 1 hts (lw_V q817 q423 q424 q72 q425) rfl rfl rfl (by decide +kernel) ⟨Nat.le_of_ble_eq_true rfl, Nat.le_of_ble_eq_true rfl⟩) (ga_PV hK (hP.sub (ws' := [(r_b, .inr (3, [.ref r_b_s, .ref r_b_a, .long rbB, .ref r_b_c, .ref r_b_g])), (r_b_s, .inl (cA 1, 2, .inr (.inl rbS))), (r_b_a, .inl (cA 1, 2, .inr (.inl rbA))), (sh, .inr (4, [.int zw, .int zh, .long zA, .long zL, .long zR, .long zE]))]) [4, 5, 6, 9] rfl) (va_recv hK.1 hP (ci := 3) (q0 := 4) rfl rfl)) rfl rfl hl.1 rfl (lv_room (Nat.le_of_ble_eq_true rfl)) dX5_play_5 ⟨Nat.le_of_ble_eq_true rfl, Nat.le_of_ble_eq_true rfl⟩)) (fun z_3 w_4 => ?_)
  obtain rfl := w_4
  refine lv_lstore (lv' := [(4, .long r_1), (0, .ref r), (1, .ref sh), (2, .int x2), (3, .int x3)]) hx hb dX5_play_8 hl (by decide) rfl (fun ls hl => ?_)
  refine lv_aload_n hx hb dX5_play_10 rfl (lv_at hl 1 rfl) ?_
  refine va_get hx hb hts in_X5 hown hK.1 hP 0 (fs := [.int r1, .int r2, .ref r_b, .ref r_w, .int rN, .ref r_s, .ref r_r, .ref r_v]) rfl rfl 2 (by decide) (hts _ q227) (fun _ hh => hh) (v := .ref r_b) rfl dX5_play_11 ?_
  refine lv_aload_n hx hb dX5_play_14 rfl (lv_at hl 1 rfl) ?_
  refine va_get hx hb hts in_X5 hown hK.1 hP 0 (fs := [.int r1, .int r2, .ref r_b, .ref r_w, .int rN, .ref r_s, .ref r_r, .ref r_v]) rfl rfl 0 (by decide) (hts _ q223) (fun _ hh => hh) (v := .int r1) rfl dX5_play_15 ?_
  refine lv_aload_n hx hb dX5_play_18 rfl (lv_at hl 1 rfl) ?_
  refine va_get hx hb hts in_X5 hown hK.1 hP 0 (fs := [.int r1, .int r2, .ref r_b, .ref r_w, .int rN, .ref r_s, .ref r_r, .ref r_v]) rfl rfl 1 (by decide) (hts _ q225) (fun _ hh => hh) (v := .int r2) rfl dX5_play_19 ?_
  refine lv_iload_n hx hb dX5_play_22 rfl (lv_at hl 4 rfl) ?_
  obtain ⟨r_6, e_7, h⟩ := ga_gb h
  have hFc := va_free (wc := [(r_b, .inr (3, [.ref r_b_s, .ref r_b_a, .long rbB, .ref r_b_c, .ref r_b_g])), (r_b_s, .inl (cA 1, 2, .inr (.inl rbS)))]) hD hS hA [4, 5] rfl
  refine va_callv (va_runV (As := [.int r1, .int r2, .int x3]) (rest := []) ⟨hx, hb, hml, hown, hts⟩ (met_X3_place l D cA (va_A [(r_b, .inr (3, [.ref r_b_s, .ref r_b_a, .long rbB, .ref r_b_c, .ref r_b_g])), (r_b_s, .inl (cA 1, 2, .inr (.inl rbS)))] s.heap.size) r_b r_b_s r_b_a r_b_c r_b_g rbB rbS N r1 r2 x3 r_6 e_7) (cwV 3 hts (lw_V q818 q819 q820 q72 q821) rfl rfl rfl (by decide +kernel) ⟨Nat.le_of_ble_eq_true rfl, Nat.le_of_ble_eq_true rfl⟩) (ga_LV hK (hP.sub (ws' := [(r_b, .inr (3, [.ref r_b_s, .ref r_b_a, .long rbB, .ref r_b_c, .ref r_b_g])), (r_b_s, .inl (cA 1, 2, .inr (.inl rbS)))]) [4, 5] rfl) (hD.sub (ws' := [(r_b, .inr (3, [.ref r_b_s, .ref r_b_a, .long rbB, .ref r_b_c, .ref r_b_g])), (r_b_s, .inl (cA 1, 2, .inr (.inl rbS)))]) [4, 5] (by decide) rfl).self (fun _ hq => Or.inr hq) (va_recv hK.1 hP (ci := 3) (q0 := 4) rfl rfl)) rfl rfl hl.1 rfl (lv_room (Nat.le_of_ble_eq_true rfl)) dX5_play_23 ⟨Nat.le_of_ble_eq_true rfl, Nat.le_of_ble_eq_true rfl⟩) hS (fun q _ hq => hFc q hq) hFc (fun u_11 t H_10 locs ht _ w_9 hB _ hk hS => ?_)
  obtain ⟨hP1, -, hD1⟩ := hB
  obtain rfl := w_9
  rw [ht] at hP1
  obtain ⟨hP, hD⟩ := va_join (wr := [(r, .inr (5, [.int r1, .int r2, .ref r_b, .ref r_w, .int rN, .ref r_s, .ref r_r, .ref r_v])), (r_w, .inl (cA 0, 8, .inl rW)), (r_r, .inl (cA 0, 49, .inl rR)), (r_v, .inl (cA 0, 49, .inl rV)), (r_b_a, .inl (cA 1, 2, .inr (.inl rbA))), (r_b_c, .inl (cA 0, 2, .inl rbC)), (r_b_g, .inl (cA 1, 2, .inr (.inl rbG))), (sh, .inr (4, [.int zw, .int zh, .long zA, .long zL, .long zR, .long zE]))]) (w1 := [(r_b, .inr (3, [.ref r_b_s, .ref r_b_a, .long r_6.1, .ref r_b_c, .ref r_b_g])), (r_b_s, .inl (cA 1, 2, .inr (.inl r_6.2)))]) hP hD [4, 5] [0, 1, 2, 3, 6, 7, 8, 9] rfl rfl (by decide) (by decide) hk hFc hP1 hD1
  have hP : va_P D ga_cl [(r, .inr (5, [.int r1, .int r2, .ref r_b, .ref r_w, .int rN, .ref r_s, .ref r_r, .ref r_v])), (r_w, .inl (cA 0, 8, .inl rW)), (r_r, .inl (cA 0, 49, .inl rR)), (r_v, .inl (cA 0, 49, .inl rV)), (r_b_a, .inl (cA 1, 2, .inr (.inl rbA))), (r_b_c, .inl (cA 0, 2, .inl rbC)), (r_b_g, .inl (cA 1, 2, .inr (.inl rbG))), (sh, .inr (4, [.int zw, .int zh, .long zA, .long zL, .long zR, .long zE])), (r_b, .inr (3, [.ref r_b_s, .ref r_b_a, .long r_6.1, .ref r_b_c, .ref r_b_g])), (r_b_s, .inl (cA 1, 2, .inr (.inl r_6.2)))] H_10 := hP
  have hD : va_D A [(r, .inr (5, [.int r1, .int r2, .ref r_b, .ref r_w, .int rN, .ref r_s, .ref r_r, .ref r_v])), (r_w, .inl (cA 0, 8, .inl rW)), (r_r, .inl (cA 0, 49, .inl rR)), (r_v, .inl (cA 0, 49, .inl rV)), (r_b_a, .inl (cA 1, 2, .inr (.inl rbA))), (r_b_c, .inl (cA 0, 2, .inl rbC)), (r_b_g, .inl (cA 1, 2, .inr (.inl rbG))), (sh, .inr (4, [.int zw, .int zh, .long zA, .long zL, .long zR, .long zE])), (r_b, .inr (3, [.ref r_b_s, .ref r_b_a, .long r_6.1, .ref r_b_c, .ref r_b_g])), (r_b_s, .inl (cA 1, 2, .inr (.inl r_6.2)))] := hD
  refine lv_aload_n hx hb dX5_play_26 rfl (lv_at hl 1 rfl) ?_
  refine lv_lload hx hb dX5_play_27 (lv_at hl 0 rfl) ?_
  refine lv_aload_n hx hb dX5_play_29 rfl (lv_at hl 1 rfl) ?_
  refine va_get hx hb hts in_X5 hown hK.1 hP 0 (fs := [.int r1, .int r2, .ref r_b, .ref r_w, .int rN, .ref r_s, .ref r_r, .ref r_v]) rfl rfl 2 (by decide) (hts _ q227) (fun _ hh => hh) (v := .ref r_b) rfl dX5_play_30 ?_
  refine lv_aload_n hx hb dX5_play_33 rfl (lv_at hl 2 rfl) ?_
  obtain ⟨r_13, e_14, h⟩ := ga_gb h
  refine vp_callSl (va_Run.run (va_runV (As := [.ref sh]) (rest := [.long r_1, .ref r]) ⟨hx, hb, hml, hown, hts⟩ (met_X3_empty l D cA r_b r_b_s r_b_a r_b_c r_b_g sh r_6.1 r_6.2 rbA zw zh zA zL zR zE N r_13 e_14) (cwV 1 hts (lw_V q817 q423 q424 q72 q425) rfl rfl rfl (by decide +kernel) ⟨Nat.le_of_ble_eq_true rfl, Nat.le_of_ble_eq_true rfl⟩) (ga_PV hK (hP.sub (ws' := [(r_b, .inr (3, [.ref r_b_s, .ref r_b_a, .long r_6.1, .ref r_b_c, .ref r_b_g])), (r_b_s, .inl (cA 1, 2, .inr (.inl r_6.2))), (r_b_a, .inl (cA 1, 2, .inr (.inl rbA))), (sh, .inr (4, [.int zw, .int zh, .long zA, .long zL, .long zR, .long zE]))]) [8, 9, 4, 7] rfl) (va_recv hK.1 hP (ci := 3) (q0 := 8) rfl rfl)) rfl rfl hl.1 rfl (lv_room (Nat.le_of_ble_eq_true rfl)) dX5_play_34 ⟨Nat.le_of_ble_eq_true rfl, Nat.le_of_ble_eq_true rfl⟩)) (fun z_15 w_16 => ?_)
  obtain rfl := w_16
  refine lv_ldc2 hx hb hown (hts _ q823) dX5_play_37 ?_
  refine lv_lxor hx hb dX5_play_40 ?_
  refine lv_land hx hb dX5_play_41 ?_
  refine lv_iload_n hx hb dX5_play_42 rfl (lv_at hl 3 rfl) ?_
  refine lv_iconst (v := (-1)) hx hb dX5_play_43 (by decide) ?_
  obtain ⟨r_18, e_19, h⟩ := ga_gb h
  have hFc := va_free (wc := [(r, .inr (5, [.int r1, .int r2, .ref r_b, .ref r_w, .int rN, .ref r_s, .ref r_r, .ref r_v])), (r_r, .inl (cA 0, 49, .inl rR)), (r_v, .inl (cA 0, 49, .inl rV))]) hD hS hA [0, 2, 3] rfl
  refine va_callv (va_runV (As := [.long (r_1 &&& (r_13 ^^^ (-1))), .int x2, .int (-1)]) (rest := []) ⟨hx, hb, hml, hown, hts⟩ (met_X5_note l D cA (va_A [(r, .inr (5, [.int r1, .int r2, .ref r_b, .ref r_w, .int rN, .ref r_s, .ref r_r, .ref r_v])), (r_r, .inl (cA 0, 49, .inl rR)), (r_v, .inl (cA 0, 49, .inl rV))] H_10.size) r r_b r_w r_s r_r r_v r1 r2 rN rR rV N (r_1 &&& (r_13 ^^^ (-1))) x2 (-1) r_18 e_19) (cwV 3 hts (lw_V q824 q826 qs9 q74 q827) rfl rfl rfl (by decide +kernel) ⟨Nat.le_of_ble_eq_true rfl, Nat.le_of_ble_eq_true rfl⟩) (ga_LV hK (hP.sub (ws' := [(r, .inr (5, [.int r1, .int r2, .ref r_b, .ref r_w, .int rN, .ref r_s, .ref r_r, .ref r_v])), (r_r, .inl (cA 0, 49, .inl rR)), (r_v, .inl (cA 0, 49, .inl rV))]) [0, 2, 3] rfl) (hD.sub (ws' := [(r, .inr (5, [.int r1, .int r2, .ref r_b, .ref r_w, .int rN, .ref r_s, .ref r_r, .ref r_v])), (r_r, .inl (cA 0, 49, .inl rR)), (r_v, .inl (cA 0, 49, .inl rV))]) [0, 2, 3] (by decide) rfl).self (fun _ hq => Or.inr hq) (va_recv hK.1 hP (ci := 5) (q0 := 0) rfl rfl)) rfl rfl hl.1 rfl (lv_room (Nat.le_of_ble_eq_true rfl)) dX5_play_44 ⟨Nat.le_of_ble_eq_true rfl, Nat.le_of_ble_eq_true rfl⟩) hS (fun q _ hq => hFc q hq) hFc (fun u_23 t H_22 locs ht _ w_21 hB _ hk hS => ?_)
  obtain ⟨hP1, -, hD1⟩ := hB
  obtain rfl := w_21
  rw [ht] at hP1
  obtain ⟨hP, hD⟩ := va_join (wr := [(r_w, .inl (cA 0, 8, .inl rW)), (r_b_a, .inl (cA 1, 2, .inr (.inl rbA))), (r_b_c, .inl (cA 0, 2, .inl rbC)), (r_b_g, .inl (cA 1, 2, .inr (.inl rbG))), (sh, .inr (4, [.int zw, .int zh, .long zA, .long zL, .long zR, .long zE])), (r_b, .inr (3, [.ref r_b_s, .ref r_b_a, .long r_6.1, .ref r_b_c, .ref r_b_g])), (r_b_s, .inl (cA 1, 2, .inr (.inl r_6.2)))]) (w1 := [(r, .inr (5, [.int r1, .int r2, .ref r_b, .ref r_w, .int rN, .ref r_s, .ref r_r, .ref r_v])), (r_r, .inl (cA 0, 49, .inl r_18.1)), (r_v, .inl (cA 0, 49, .inl r_18.2))]) hP hD [0, 2, 3] [1, 4, 5, 6, 7, 8, 9] rfl rfl (by decide) (by decide) hk hFc hP1 hD1
  have hP : va_P D ga_cl [(r_w, .inl (cA 0, 8, .inl rW)), (r_b_a, .inl (cA 1, 2, .inr (.inl rbA))), (r_b_c, .inl (cA 0, 2, .inl rbC)), (r_b_g, .inl (cA 1, 2, .inr (.inl rbG))), (sh, .inr (4, [.int zw, .int zh, .long zA, .long zL, .long zR, .long zE])), (r_b, .inr (3, [.ref r_b_s, .ref r_b_a, .long r_6.1, .ref r_b_c, .ref r_b_g])), (r_b_s, .inl (cA 1, 2, .inr (.inl r_6.2))), (r, .inr (5, [.int r1, .int r2, .ref r_b, .ref r_w, .int rN, .ref r_s, .ref r_r, .ref r_v])), (r_r, .inl (cA 0, 49, .inl r_18.1)), (r_v, .inl (cA 0, 49, .inl r_18.2))] H_22 := hP
  have hD : va_D A [(r_w, .inl (cA 0, 8, .inl rW)), (r_b_a, .inl (cA 1, 2, .inr (.inl rbA))), (r_b_c, .inl (cA 0, 2, .inl rbC)), (r_b_g, .inl (cA 1, 2, .inr (.inl rbG))), (sh, .inr (4, [.int zw, .int zh, .long zA, .long zL, .long zR, .long zE])), (r_b, .inr (3, [.ref r_b_s, .ref r_b_a, .long r_6.1, .ref r_b_c, .ref r_b_g])), (r_b_s, .inl (cA 1, 2, .inr (.inl r_6.2))), (r, .inr (5, [.int r1, .int r2, .ref r_b, .ref r_w, .int rN, .ref r_s, .ref r_r, .ref r_v])), (r_r, .inl (cA 0, 49, .inl r_18.1)), (r_v, .inl (cA 0, 49, .inl r_18.2))] := hD
  refine lv_aload_n hx hb dX5_play_47 rfl (lv_at hl 1 rfl) ?_
  refine va_get hx hb hts in_X5 hown hK.1 hP 7 (fs := [.int r1, .int r2, .ref r_b, .ref r_w, .int rN, .ref r_s, .ref r_r, .ref r_v]) rfl rfl 2 (by decide) (hts _ q227) (fun _ hh => hh) (v := .ref r_b) rfl dX5_play_48 ?_
  refine lv_aload_n hx hb dX5_play_51 rfl (lv_at hl 2 rfl) ?_
  obtain ⟨r_25, e_26, h⟩ := ga_gb h
  have hFc := va_free (wc := [(r_b, .inr (3, [.ref r_b_s, .ref r_b_a, .long r_6.1, .ref r_b_c, .ref r_b_g])), (r_b_s, .inl (cA 1, 2, .inr (.inl r_6.2))), (r_b_a, .inl (cA 1, 2, .inr (.inl rbA))), (r_b_c, .inl (cA 0, 2, .inl rbC)), (r_b_g, .inl (cA 1, 2, .inr (.inl rbG))), (sh, .inr (4, [.int zw, .int zh, .long zA, .long zL, .long zR, .long zE]))]) hD hS hA [5, 6, 1, 2, 3, 4] rfl
  refine va_calli (va_runV (As := [.ref sh]) (rest := []) ⟨hx, hb, hml, hown, hts⟩ (met_X3_wave l D cA (va_A [(r_b, .inr (3, [.ref r_b_s, .ref r_b_a, .long r_6.1, .ref r_b_c, .ref r_b_g])), (r_b_s, .inl (cA 1, 2, .inr (.inl r_6.2))), (r_b_a, .inl (cA 1, 2, .inr (.inl rbA))), (r_b_c, .inl (cA 0, 2, .inl rbC)), (r_b_g, .inl (cA 1, 2, .inr (.inl rbG))), (sh, .inr (4, [.int zw, .int zh, .long zA, .long zL, .long zR, .long zE]))] H_22.size) r_b r_b_s r_b_a r_b_c r_b_g sh r_6.1 r_6.2 rbA rbC rbG zw zh zA zL zR zE N r_25 e_26) (cwV 1 hts (lw_V q829 q830 q831 q72 q832) rfl rfl rfl (by decide +kernel) ⟨Nat.le_of_ble_eq_true rfl, Nat.le_of_ble_eq_true rfl⟩) (ga_LV hK (hP.sub (ws' := [(r_b, .inr (3, [.ref r_b_s, .ref r_b_a, .long r_6.1, .ref r_b_c, .ref r_b_g])), (r_b_s, .inl (cA 1, 2, .inr (.inl r_6.2))), (r_b_a, .inl (cA 1, 2, .inr (.inl rbA))), (r_b_c, .inl (cA 0, 2, .inl rbC)), (r_b_g, .inl (cA 1, 2, .inr (.inl rbG))), (sh, .inr (4, [.int zw, .int zh, .long zA, .long zL, .long zR, .long zE]))]) [5, 6, 1, 2, 3, 4] rfl) (hD.sub (ws' := [(r_b, .inr (3, [.ref r_b_s, .ref r_b_a, .long r_6.1, .ref r_b_c, .ref r_b_g])), (r_b_s, .inl (cA 1, 2, .inr (.inl r_6.2))), (r_b_a, .inl (cA 1, 2, .inr (.inl rbA))), (r_b_c, .inl (cA 0, 2, .inl rbC)), (r_b_g, .inl (cA 1, 2, .inr (.inl rbG))), (sh, .inr (4, [.int zw, .int zh, .long zA, .long zL, .long zR, .long zE]))]) [5, 6, 1, 2, 3, 4] (by decide) rfl).self (fun _ hq => Or.inr hq) (va_recv hK.1 hP (ci := 3) (q0 := 5) rfl rfl)) rfl rfl hl.1 rfl (lv_room (Nat.le_of_ble_eq_true rfl)) dX5_play_52 ⟨Nat.le_of_ble_eq_true rfl, Nat.le_of_ble_eq_true rfl⟩) hS (fun q _ hq => hFc q hq) hFc (fun z_27 u_30 t H_29 locs ht _ w_28 hB _ hk hS => ?_)
  obtain ⟨hP1, -, hD1⟩ := hB
  obtain ⟨rfl, rfl⟩ := w_28
  rw [ht] at hP1
  obtain ⟨hP, hD⟩ := va_join (wr := [(r_w, .inl (cA 0, 8, .inl rW)), (r, .inr (5, [.int r1, .int r2, .ref r_b, .ref r_w, .int rN, .ref r_s, .ref r_r, .ref r_v])), (r_r, .inl (cA 0, 49, .inl r_18.1)), (r_v, .inl (cA 0, 49, .inl r_18.2))]) (w1 := [(r_b, .inr (3, [.ref r_b_s, .ref r_b_a, .long r_6.1, .ref r_b_c, .ref r_b_g])), (r_b_s, .inl (cA 1, 2, .inr (.inl r_25.2.1))), (r_b_a, .inl (cA 1, 2, .inr (.inl r_25.2.2.1))), (r_b_c, .inl (cA 0, 2, .inl r_25.2.2.2.1)), (r_b_g, .inl (cA 1, 2, .inr (.inl r_25.2.2.2.2))), (sh, .inr (4, [.int zw, .int zh, .long zA, .long zL, .long zR, .long zE]))]) hP hD [5, 6, 1, 2, 3, 4] [0, 7, 8, 9] rfl rfl (by decide) (by decide) hk hFc hP1 hD1
  have hP : va_P D ga_cl [(r_w, .inl (cA 0, 8, .inl rW)), (r, .inr (5, [.int r1, .int r2, .ref r_b, .ref r_w, .int rN, .ref r_s, .ref r_r, .ref r_v])), (r_r, .inl (cA 0, 49, .inl r_18.1)), (r_v, .inl (cA 0, 49, .inl r_18.2)), (r_b, .inr (3, [.ref r_b_s, .ref r_b_a, .long r_6.1, .ref r_b_c, .ref r_b_g])), (r_b_s, .inl (cA 1, 2, .inr (.inl r_25.2.1))), (r_b_a, .inl (cA 1, 2, .inr (.inl r_25.2.2.1))), (r_b_c, .inl (cA 0, 2, .inl r_25.2.2.2.1)), (r_b_g, .inl (cA 1, 2, .inr (.inl r_25.2.2.2.2))), (sh, .inr (4, [.int zw, .int zh, .long zA, .long zL, .long zR, .long zE]))] H_29 := hP
  have hD : va_D A [(r_w, .inl (cA 0, 8, .inl rW)), (r, .inr (5, [.int r1, .int r2, .ref r_b, .ref r_w, .int rN, .ref r_s, .ref r_r, .ref r_v])), (r_r, .inl (cA 0, 49, .inl r_18.1)), (r_v, .inl (cA 0, 49, .inl r_18.2)), (r_b, .inr (3, [.ref r_b_s, .ref r_b_a, .long r_6.1, .ref r_b_c, .ref r_b_g])), (r_b_s, .inl (cA 1, 2, .inr (.inl r_25.2.1))), (r_b_a, .inl (cA 1, 2, .inr (.inl r_25.2.2.1))), (r_b_c, .inl (cA 0, 2, .inl r_25.2.2.2.1)), (r_b_g, .inl (cA 1, 2, .inr (.inl r_25.2.2.2.2))), (sh, .inr (4, [.int zw, .int zh, .long zA, .long zL, .long zR, .long zE]))] := hD
  refine lv_istore (lv' := [(6, .int r_25.1), (4, .long r_1), (0, .ref r), (1, .ref sh), (2, .int x2), (3, .int x3)]) hx hb dX5_play_55 hl (by decide) rfl (fun ls hl => ?_)
  exact w_X5_play_57 C hK hA N rW rN r_18.1 r_18.2 r_6.1 r_25.2.1 r_25.2.2.1 r_25.2.2.2.1 r_25.2.2.2.2 r_25.1 h _ _ (hP.sub [0, 1, 2, 3, 4, 5, 6, 7, 8, 9] rfl) (hD.sub [0, 1, 2, 3, 4, 5, 6, 7, 8, 9] (by decide) rfl) hS _ (lv_sub hl [2, 3, 4, 0] rfl)
abbrev rm_X5_init_0 : Room := { frames := 3, cells := 10, slots := 125, locals := 57 }
def lp_X5_init_0_72 (N : Nat) (zw : Int32) (zh : Int32) (zA : Int64) (zL : Int64) (zR : Int64) (zE : Int64) (x2 : Int32) : Nat → (Int32) → (Int32) → (Int64) → (Nat → Int64) → (Nat → Int64) → (Nat → Int32) → (Nat → Int64) → (Nat → Int32) → (Nat → Int32) → (Nat → Int32) → (Nat → Int32) → (Int32) → Option (Int32 × Int32 × Int32 × (Nat → Int32) × (Nat → Int32) × (Nat → Int32) × (Nat → Int32) × Int64 × (Nat → Int64) × (Nat → Int64) × (Nat → Int32) × (Nat → Int64))
  | 0, _, _, _, _, _, _, _, _, _, _, _, _ => none
  | n+1, k0, k1, k2, k3, k4, k5, k6, k7, k8, k9, k10, x3 =>
    (if 49 ≤ x3 then
    some (k0, k1, 0, k7, k8, k9, k10, k2, k3, k4, k5, k6)
    else
    (if inb x3 49 = true then
    (if inb x3 49 = true then
    lp_X5_init_0_72 N zw zh zA zL zR zE x2 n k0 k1 k2 k3 k4 k5 k6 k7 k8 (upd k9 (ix x3) (-1)) (upd k10 (ix x3) (-1)) (x3 + 1)
    else none)
    else none))
set_option maxHeartbeats 4000000 in
theorem w_X5_init_0_72 {p : Program} {l : Launch} {e : Env} {s : State} {m : MethodId} {args : Array Value} {below : List Frame} {meth : Method} {c : Code} {D : va_G} {cA : Nat → ClassId} {A : Nat → Prop} {r : Nat} {sh : Nat} {N : Nat} {zw : Int32} {zh : Int32} {zA : Int64} {zL : Int64} {zR : Int64} {zE : Int64} {x2 : Int32}  (C : ga_cx p m c meth s args RX5 cX5_init 4 none) (hin : meth.name = "<init>") (hK : ga_K D cA s) (hA : ∀ q : Nat, s.heap.size ≤ q → A q) {out : Int32 × Int32 × Int32 × (Nat → Int32) × (Nat → Int32) × (Nat → Int32) × (Nat → Int32) × Int64 × (Nat → Int64) × (Nat → Int64) × (Nat → Int32) × (Nat → Int64)} : ∀ n : Nat, ∀ (n0 : Nat) (n1 : Nat) (n2 : Nat) (n3 : Nat) (n4 : Nat) (n5 : Nat) (n6 : Nat) (n7 : Nat) (n8 : Nat) (k0 : Int32) (k1 : Int32) (k2 : Int64) (k3 : Nat → Int64) (k4 : Nat → Int64) (k5 : Nat → Int32) (k6 : Nat → Int64) (k7 : Nat → Int32) (k8 : Nat → Int32) (k9 : Nat → Int32) (k10 : Nat → Int32) (x3 : Int32), lp_X5_init_0_72 N zw zh zA zL zR zE x2 n k0 k1 k2 k3 k4 k5 k6 k7 k8 k9 k10 x3 = some out → ∀ (H : Heap) (locs : List Loc), va_P D ga_cl [(r, .inr (5, [.int k0, .int k1, .ref n0, .ref n5, .int 0, .ref n6, .ref n7, .ref n8])), (n0, .inr (3, [.ref n1, .ref n2, .long k2, .ref n3, .ref n4])), (n1, .inl (cA 1, 2, .inr (.inl k3))), (n2, .inl (cA 1, 2, .inr (.inl k4))), (n3, .inl (cA 0, 2, .inl k5)), (n4, .inl (cA 1, 2, .inr (.inl k6))), (n5, .inl (cA 0, 8, .inl k7)), (n6, .inl (cA 0, 2, .inl k8)), (n7, .inl (cA 0, 49, .inl k9)), (n8, .inl (cA 0, 49, .inl k10)), (sh, .inr (4, [.int zw, .int zh, .long zA, .long zL, .long zR, .long zE]))] H → va_D A [(r, .inr (5, [.int k0, .int k1, .ref n0, .ref n5, .int 0, .ref n6, .ref n7, .ref n8])), (n0, .inr (3, [.ref n1, .ref n2, .long k2, .ref n3, .ref n4])), (n1, .inl (cA 1, 2, .inr (.inl k3))), (n2, .inl (cA 1, 2, .inr (.inl k4))), (n3, .inl (cA 0, 2, .inl k5)), (n4, .inl (cA 1, 2, .inr (.inl k6))), (n5, .inl (cA 0, 8, .inl k7)), (n6, .inl (cA 0, 2, .inl k8)), (n7, .inl (cA 0, 49, .inl k9)), (n8, .inl (cA 0, 49, .inl k10)), (sh, .inr (4, [.int zw, .int zh, .long zA, .long zL, .long zR, .long zE]))] → va_S A s.heap H locs → ∀ ls : Array Slot, lv_has ls 4 [(0, .ref r), (3, .int x3)] → W p l e (headSpec (ws_ yX5_init cX5_init 4 none) rm_X5_init_0).room s m args below meth c H locs 10 125 (MQ below (va_Qv (fun (u : (Int32 × Int32 × Int32 × (Nat → Int32) × (Nat → Int32) × (Nat → Int32) × (Nat → Int32) × Int64 × (Nat → Int64) × (Nat → Int64) × (Nat → Int32) × (Nat → Int64)) × (Nat → Nat)) => out = u.1) (fun (u : (Int32 × Int32 × Int32 × (Nat → Int32) × (Nat → Int32) × (Nat → Int32) × (Nat → Int32) × Int64 × (Nat → Int64) × (Nat → Int64) × (Nat → Int32) × (Nat → Int64)) × (Nat → Nat)) (t : State) => va_P D ga_cl [(r, .inr (5, [.int u.1.1, .int u.1.2.1, .ref (u.2 0), .ref (u.2 1), .int u.1.2.2.1, .ref (u.2 2), .ref (u.2 3), .ref (u.2 4)])), ((u.2 1), .inl (cA 0, 8, .inl u.1.2.2.2.1)), ((u.2 2), .inl (cA 0, 2, .inl u.1.2.2.2.2.1)), ((u.2 3), .inl (cA 0, 49, .inl u.1.2.2.2.2.2.1)), ((u.2 4), .inl (cA 0, 49, .inl u.1.2.2.2.2.2.2.1)), ((u.2 0), .inr (3, [.ref (u.2 5), .ref (u.2 6), .long u.1.2.2.2.2.2.2.2.1, .ref (u.2 7), .ref (u.2 8)])), ((u.2 5), .inl (cA 1, 2, .inr (.inl u.1.2.2.2.2.2.2.2.2.1))), ((u.2 6), .inl (cA 1, 2, .inr (.inl u.1.2.2.2.2.2.2.2.2.2.1))), ((u.2 7), .inl (cA 0, 2, .inl u.1.2.2.2.2.2.2.2.2.2.2.1)), ((u.2 8), .inl (cA 1, 2, .inr (.inl u.1.2.2.2.2.2.2.2.2.2.2.2))), (sh, .inr (4, [.int zw, .int zh, .long zA, .long zL, .long zR, .long zE]))] t.heap ∧ ga_K D cA t ∧ va_D A [(r, .inr (5, [.int u.1.1, .int u.1.2.1, .ref (u.2 0), .ref (u.2 1), .int u.1.2.2.1, .ref (u.2 2), .ref (u.2 3), .ref (u.2 4)])), ((u.2 1), .inl (cA 0, 8, .inl u.1.2.2.2.1)), ((u.2 2), .inl (cA 0, 2, .inl u.1.2.2.2.2.1)), ((u.2 3), .inl (cA 0, 49, .inl u.1.2.2.2.2.2.1)), ((u.2 4), .inl (cA 0, 49, .inl u.1.2.2.2.2.2.2.1)), ((u.2 0), .inr (3, [.ref (u.2 5), .ref (u.2 6), .long u.1.2.2.2.2.2.2.2.1, .ref (u.2 7), .ref (u.2 8)])), ((u.2 5), .inl (cA 1, 2, .inr (.inl u.1.2.2.2.2.2.2.2.2.1))), ((u.2 6), .inl (cA 1, 2, .inr (.inl u.1.2.2.2.2.2.2.2.2.2.1))), ((u.2 7), .inl (cA 0, 2, .inl u.1.2.2.2.2.2.2.2.2.2.2.1)), ((u.2 8), .inl (cA 1, 2, .inr (.inl u.1.2.2.2.2.2.2.2.2.2.2.2))), (sh, .inr (4, [.int zw, .int zh, .long zA, .long zL, .long zR, .long zE]))]) A) args s 10 125 A) (F0 m 72 ls []) := by
  have C0 := C
  obtain ⟨hx, hb, hr, hlocks, hml, hown, hts⟩ := C0
  intro n
  induction n with
  | zero =>
    intro n0 n1 n2 n3 n4 n5 n6 n7 n8 k0 k1 k2 k3 k4 k5 k6 k7 k8 k9 k10 x3 h
    rw [lp_X5_init_0_72.eq_1] at h
    cases h
  | succ n ih =>
    intro n0 n1 n2 n3 n4 n5 n6 n7 n8 k0 k1 k2 k3 k4 k5 k6 k7 k8 k9 k10 x3 h H locs hP hD hS ls hl
    rw [lp_X5_init_0_72.eq_2] at h
    refine lv_iload_n hx hb dX5_init_72 rfl (lv_at hl 1 rfl) ?_
    refine lv_bipush (v := 49) hx hb dX5_init_73 (by decide) ?_
    refine lv_icmp_ge (tgt := 98) hx hb dX5_init_75 (by decide) (fun c_46 => ?_) (fun c_46 => ?_)
    · replace h := ga_ift c_46 h
      have hP9 := hP.sub (ws' := [(r, .inr (5, [.int k0, .int k1, .ref n0, .ref n5, .int 0, .ref n6, .ref n7, .ref n8])), (n5, .inl (cA 0, 8, .inl k7)), (n6, .inl (cA 0, 2, .inl k8)), (n7, .inl (cA 0, 49, .inl k9)), (n8, .inl (cA 0, 49, .inl k10)), (n0, .inr (3, [.ref n1, .ref n2, .long k2, .ref n3, .ref n4])), (n1, .inl (cA 1, 2, .inr (.inl k3))), (n2, .inl (cA 1, 2, .inr (.inl k4))), (n3, .inl (cA 0, 2, .inl k5)), (n4, .inl (cA 1, 2, .inr (.inl k6))), (sh, .inr (4, [.int zw, .int zh, .long zA, .long zL, .long zR, .long zE]))]) [0, 6, 7, 8, 9, 1, 2, 3, 4, 5, 10] rfl
      have hD9 := hD.sub (ws' := [(r, .inr (5, [.int k0, .int k1, .ref n0, .ref n5, .int 0, .ref n6, .ref n7, .ref n8])), (n5, .inl (cA 0, 8, .inl k7)), (n6, .inl (cA 0, 2, .inl k8)), (n7, .inl (cA 0, 49, .inl k9)), (n8, .inl (cA 0, 49, .inl k10)), (n0, .inr (3, [.ref n1, .ref n2, .long k2, .ref n3, .ref n4])), (n1, .inl (cA 1, 2, .inr (.inl k3))), (n2, .inl (cA 1, 2, .inr (.inl k4))), (n3, .inl (cA 0, 2, .inl k5)), (n4, .inl (cA 1, 2, .inr (.inl k6))), (sh, .inr (4, [.int zw, .int zh, .long zA, .long zL, .long zR, .long zE]))]) [0, 6, 7, 8, 9, 1, 2, 3, 4, 5, 10] (by decide) rfl
      obtain rfl := Option.some.inj h
      exact W.vret hx hb hr (fun t ht hW => ⟨⟨((k0, k1, 0, k7, k8, k9, k10, k2, k3, k4, k5, k6), ga_ad [n0, n5, n6, n7, n8, n1, n2, n3, n4]), rfl, rfl, ⟨by rw [ht]; exact hP9, hK.warm hW, hD9⟩⟩, hS.F ht⟩) hS.2.2 dX5_init_98
    · replace h := ga_iff c_46 h
      refine lv_aload_n hx hb dX5_init_78 rfl (lv_at hl 0 rfl) ?_
      refine va_get hx hb hts in_X5 hown hK.1 hP 0 (fs := [.int k0, .int k1, .ref n0, .ref n5, .int 0, .ref n6, .ref n7, .ref n8]) rfl rfl 6 (by decide) (hts _ q235) (fun _ hh => hh) (v := .ref n7) rfl dX5_init_79 ?_
      refine lv_iload_n hx hb dX5_init_82 rfl (lv_at hl 1 rfl) ?_
      refine lv_iconst (v := (-1)) hx hb dX5_init_83 (by decide) ?_
      obtain ⟨i_47, h⟩ := ga_gif h
      refine va_iast hx hb hK.1 hP hD hS 8 0 (f := k9) rfl rfl (ga_in i_47) dX5_init_84 (fun H_48 locs hP hD hS => ?_)
      have hP : va_P D ga_cl [(r, .inr (5, [.int k0, .int k1, .ref n0, .ref n5, .int 0, .ref n6, .ref n7, .ref n8])), (n0, .inr (3, [.ref n1, .ref n2, .long k2, .ref n3, .ref n4])), (n1, .inl (cA 1, 2, .inr (.inl k3))), (n2, .inl (cA 1, 2, .inr (.inl k4))), (n3, .inl (cA 0, 2, .inl k5)), (n4, .inl (cA 1, 2, .inr (.inl k6))), (n5, .inl (cA 0, 8, .inl k7)), (n6, .inl (cA 0, 2, .inl k8)), (n7, .inl (cA 0, 49, .inl (upd k9 (ix x3) (-1)))), (n8, .inl (cA 0, 49, .inl k10)), (sh, .inr (4, [.int zw, .int zh, .long zA, .long zL, .long zR, .long zE]))] H_48 := hP
      have hD : va_D A [(r, .inr (5, [.int k0, .int k1, .ref n0, .ref n5, .int 0, .ref n6, .ref n7, .ref n8])), (n0, .inr (3, [.ref n1, .ref n2, .long k2, .ref n3, .ref n4])), (n1, .inl (cA 1, 2, .inr (.inl k3))), (n2, .inl (cA 1, 2, .inr (.inl k4))), (n3, .inl (cA 0, 2, .inl k5)), (n4, .inl (cA 1, 2, .inr (.inl k6))), (n5, .inl (cA 0, 8, .inl k7)), (n6, .inl (cA 0, 2, .inl k8)), (n7, .inl (cA 0, 49, .inl (upd k9 (ix x3) (-1)))), (n8, .inl (cA 0, 49, .inl k10)), (sh, .inr (4, [.int zw, .int zh, .long zA, .long zL, .long zR, .long zE]))] := hD
      refine lv_aload_n hx hb dX5_init_85 rfl (lv_at hl 0 rfl) ?_
      refine va_get hx hb hts in_X5 hown hK.1 hP 0 (fs := [.int k0, .int k1, .ref n0, .ref n5, .int 0, .ref n6, .ref n7, .ref n8]) rfl rfl 7 (by decide) (hts _ q238) (fun _ hh => hh) (v := .ref n8) rfl dX5_init_86 ?_
      refine lv_iload_n hx hb dX5_init_89 rfl (lv_at hl 1 rfl) ?_
      refine lv_iconst (v := (-1)) hx hb dX5_init_90 (by decide) ?_
      obtain ⟨i_49, h⟩ := ga_gif h
      refine va_iast hx hb hK.1 hP hD hS 9 0 (f := k10) rfl rfl (ga_in i_49) dX5_init_91 (fun H_50 locs hP hD hS => ?_)
      have hP : va_P D ga_cl [(r, .inr (5, [.int k0, .int k1, .ref n0, .ref n5, .int 0, .ref n6, .ref n7, .ref n8])), (n0, .inr (3, [.ref n1, .ref n2, .long k2, .ref n3, .ref n4])), (n1, .inl (cA 1, 2, .inr (.inl k3))), (n2, .inl (cA 1, 2, .inr (.inl k4))), (n3, .inl (cA 0, 2, .inl k5)), (n4, .inl (cA 1, 2, .inr (.inl k6))), (n5, .inl (cA 0, 8, .inl k7)), (n6, .inl (cA 0, 2, .inl k8)), (n7, .inl (cA 0, 49, .inl (upd k9 (ix x3) (-1)))), (n8, .inl (cA 0, 49, .inl (upd k10 (ix x3) (-1)))), (sh, .inr (4, [.int zw, .int zh, .long zA, .long zL, .long zR, .long zE]))] H_50 := hP
      have hD : va_D A [(r, .inr (5, [.int k0, .int k1, .ref n0, .ref n5, .int 0, .ref n6, .ref n7, .ref n8])), (n0, .inr (3, [.ref n1, .ref n2, .long k2, .ref n3, .ref n4])), (n1, .inl (cA 1, 2, .inr (.inl k3))), (n2, .inl (cA 1, 2, .inr (.inl k4))), (n3, .inl (cA 0, 2, .inl k5)), (n4, .inl (cA 1, 2, .inr (.inl k6))), (n5, .inl (cA 0, 8, .inl k7)), (n6, .inl (cA 0, 2, .inl k8)), (n7, .inl (cA 0, 49, .inl (upd k9 (ix x3) (-1)))), (n8, .inl (cA 0, 49, .inl (upd k10 (ix x3) (-1)))), (sh, .inr (4, [.int zw, .int zh, .long zA, .long zL, .long zR, .long zE]))] := hD
      refine lv_iinc (v := (x3 + 1)) (lv' := [(3, .int (x3 + 1)), (0, .ref r)]) hx hb dX5_init_92 hl (k := 1) rfl rfl (by decide) rfl (fun ls hl => ?_)
      refine lv_goto (tgt := 72) hx hb dX5_init_95 (by decide) ?_
      exact ih n0 n1 n2 n3 n4 n5 n6 n7 n8 k0 k1 k2 k3 k4 k5 k6 k7 k8 (upd k9 (ix x3) (-1)) (upd k10 (ix x3) (-1)) (x3 + 1) h _ _ (hP.sub [0, 1, 2, 3, 4, 5, 6, 7, 8, 9, 10] rfl) (hD.sub [0, 1, 2, 3, 4, 5, 6, 7, 8, 9, 10] (by decide) rfl) hS _ (lv_sub hl [1, 0] rfl)
def F_X5_init_0 (N : Nat) (zw : Int32) (zh : Int32) (zA : Int64) (zL : Int64) (zR : Int64) (zE : Int64) (x2 : Int32) : Option (Int32 × Int32 × Int32 × (Nat → Int32) × (Nat → Int32) × (Nat → Int32) × (Nat → Int32) × Int64 × (Nat → Int64) × (Nat → Int64) × (Nat → Int32) × (Nat → Int64)) :=
  ((F_X3_init N).bind fun r_5 =>
  ((F_X4_handicap N zw zh zA zL zR zE x2).bind fun r_38 =>
  lp_X5_init_0_72 N zw zh zA zL zR zE x2 N (-1) (-1) r_5.1 (vp_updL r_5.2.1 (ix 1) r_38.1) r_5.2.2.1 r_5.2.2.2.1 r_5.2.2.2.2 (fun _ => 0) (fun _ => 0) (fun _ => 0) (fun _ => 0) 0))
set_option maxHeartbeats 4000000 in
theorem met_X5_init_0 (l : Launch) (D : va_G) (cA : Nat → ClassId) (A : Nat → Prop) (r : Nat) (sh : Nat) (zw : Int32) (zh : Int32) (zA : Int64) (zL : Int64) (zR : Int64) (zE : Int64) (N : Nat) (x2 : Int32)  (out : Int32 × Int32 × Int32 × (Nat → Int32) × (Nat → Int32) × (Nat → Int32) × (Nat → Int32) × Int64 × (Nat → Int64) × (Nat → Int64) × (Nat → Int32) × (Nat → Int64)) (h : F_X5_init_0 N zw zh zA zL zR zE x2 = some out) : Met l yX5_init (ws_ yX5_init cX5_init 4 none) rm_X5_init_0 (ga_L D cA A [(r, .inr (5, [.int 0, .int 0, .null, .null, .int 0, .null, .null, .null])), (sh, .inr (4, [.int zw, .int zh, .long zA, .long zL, .long zR, .long zE]))] [.ref r, .ref sh, .int x2]) (va_Qv (fun (u : (Int32 × Int32 × Int32 × (Nat → Int32) × (Nat → Int32) × (Nat → Int32) × (Nat → Int32) × Int64 × (Nat → Int64) × (Nat → Int64) × (Nat → Int32) × (Nat → Int64)) × (Nat → Nat)) => out = u.1) (fun (u : (Int32 × Int32 × Int32 × (Nat → Int32) × (Nat → Int32) × (Nat → Int32) × (Nat → Int32) × Int64 × (Nat → Int64) × (Nat → Int64) × (Nat → Int32) × (Nat → Int64)) × (Nat → Nat)) (t : State) => va_P D ga_cl [(r, .inr (5, [.int u.1.1, .int u.1.2.1, .ref (u.2 0), .ref (u.2 1), .int u.1.2.2.1, .ref (u.2 2), .ref (u.2 3), .ref (u.2 4)])), ((u.2 1), .inl (cA 0, 8, .inl u.1.2.2.2.1)), ((u.2 2), .inl (cA 0, 2, .inl u.1.2.2.2.2.1)), ((u.2 3), .inl (cA 0, 49, .inl u.1.2.2.2.2.2.1)), ((u.2 4), .inl (cA 0, 49, .inl u.1.2.2.2.2.2.2.1)), ((u.2 0), .inr (3, [.ref (u.2 5), .ref (u.2 6), .long u.1.2.2.2.2.2.2.2.1, .ref (u.2 7), .ref (u.2 8)])), ((u.2 5), .inl (cA 1, 2, .inr (.inl u.1.2.2.2.2.2.2.2.2.1))), ((u.2 6), .inl (cA 1, 2, .inr (.inl u.1.2.2.2.2.2.2.2.2.2.1))), ((u.2 7), .inl (cA 0, 2, .inl u.1.2.2.2.2.2.2.2.2.2.2.1)), ((u.2 8), .inl (cA 1, 2, .inr (.inl u.1.2.2.2.2.2.2.2.2.2.2.2))), (sh, .inr (4, [.int zw, .int zh, .long zA, .long zL, .long zR, .long zE]))] t.heap ∧ ga_K D cA t ∧ va_D A [(r, .inr (5, [.int u.1.1, .int u.1.2.1, .ref (u.2 0), .ref (u.2 1), .int u.1.2.2.1, .ref (u.2 2), .ref (u.2 3), .ref (u.2 4)])), ((u.2 1), .inl (cA 0, 8, .inl u.1.2.2.2.1)), ((u.2 2), .inl (cA 0, 2, .inl u.1.2.2.2.2.1)), ((u.2 3), .inl (cA 0, 49, .inl u.1.2.2.2.2.2.1)), ((u.2 4), .inl (cA 0, 49, .inl u.1.2.2.2.2.2.2.1)), ((u.2 0), .inr (3, [.ref (u.2 5), .ref (u.2 6), .long u.1.2.2.2.2.2.2.2.1, .ref (u.2 7), .ref (u.2 8)])), ((u.2 5), .inl (cA 1, 2, .inr (.inl u.1.2.2.2.2.2.2.2.2.1))), ((u.2 6), .inl (cA 1, 2, .inr (.inl u.1.2.2.2.2.2.2.2.2.2.1))), ((u.2 7), .inl (cA 0, 2, .inl u.1.2.2.2.2.2.2.2.2.2.2.1)), ((u.2 8), .inl (cA 1, 2, .inr (.inl u.1.2.2.2.2.2.2.2.2.2.2.2))), (sh, .inr (4, [.int zw, .int zh, .long zA, .long zL, .long zR, .long zE]))]) A) 10 125 A := by
  refine Met.ofW (cc := cX5_init) (maxL := 4) (ret := none) (by decide) rfl ?_
  intro p e s m args below meth c s₁ B hml hv
  obtain ⟨rfl, hP, hK, hD, hA⟩ := hv
  have hS : va_S A s.heap s.heap [] := va_S.rf
  have hin : meth.name = "<init>" := (name_of_methodNamed B.named B.method).1
  have C : ga_cx p m c meth s _ RX5 cX5_init 4 none := ga_cx_of B hml
  have C0 := C
  obtain ⟨hx, hb, hr, hlocks, hml, hown, hts⟩ := C0
  have hl := lv_entry ([.ref r, .ref sh, .int x2]) (n := 4) (Nat.le_of_ble_eq_true rfl)
  rw [lg_entry_eq]
  generalize (lg_sl ([.ref r, .ref sh, .int x2]) ++ List.replicate (4 - (lg_sl ([.ref r, .ref sh, .int x2])).length) Slot.unset).toArray = ls at hl ⊢
  have hl : lv_has ls 4 [(0, .ref r), (1, .ref sh), (2, .int x2)] := hl
  rw [F_X5_init_0] at h
  refine lv_aload_n hx hb dX5_init_0 rfl (lv_at hl 0 rfl) ?_
  refine W.objInit hx hb hown (hts _ q216) (hts _ q113) (hts _ q114) rfl (by rw [hml]; exact hl.1) rfl dX5_init_1 (Nat.le_of_ble_eq_true rfl) (Nat.le_of_ble_eq_true rfl) ?_
  refine W.eq (g2 := F0 m 4 ls []) rfl ?_
  refine lv_aload_n hx hb dX5_init_4 rfl (lv_at hl 0 rfl) ?_
  refine va_new (ci := 3) (fs := [.null, .null, .long 0, .null, .null]) (C := RX3) (T := TX3) (N := 5) hx hb hts in_X3 tyX3 tyX3_ok hown (hts _ q217) (hts _ q149) (hts _ q72) hK.1 hP hD hS hA rfl nw_X3 (Nat.le_of_ble_eq_true rfl) (Nat.le_of_ble_eq_true rfl) dX5_init_5 (fun q_1 H_2 hP hD hS => ?_)
  have hP : va_P D ga_cl [(r, .inr (5, [.int 0, .int 0, .null, .null, .int 0, .null, .null, .null])), (sh, .inr (4, [.int zw, .int zh, .long zA, .long zL, .long zR, .long zE])), (q_1, .inr (3, [.null, .null, .long 0, .null, .null]))] H_2 := hP
  have hD : va_D A [(r, .inr (5, [.int 0, .int 0, .null, .null, .int 0, .null, .null, .null])), (sh, .inr (4, [.int zw, .int zh, .long zA, .long zL, .long zR, .long zE])), (q_1, .inr (3, [.null, .null, .long 0, .null, .null]))] := hD
  refine W.cs (cells' := 1) (slots' := 5) rfl rfl ?_
  refine lv_dup hx hb dX5_init_8 rfl ?_
  obtain ⟨r_5, e_6, h⟩ := ga_gb h
  have hFc := va_free (wc := [(q_1, .inr (3, [.null, .null, .long 0, .null, .null]))]) hD hS hA [2] rfl
  refine va_callv (va_runIN (As := []) (rest := [.ref q_1, .ref r]) ⟨hx, hb, hml, hown, hts⟩ (met_X3_init l D cA (va_A [(q_1, .inr (3, [.null, .null, .long 0, .null, .null]))] H_2.size) q_1 N r_5 e_6) (⟨va_cnB 0 hts (lw_meth q152) rfl rfl rfl (hK.2.1 _ q218 rfl) (hts _ q72) (by decide +kernel) ⟨Nat.le_of_ble_eq_true rfl, Nat.le_of_ble_eq_true rfl⟩, rfl, hts _ q151⟩) (ga_LS hK (hP.sub (ws' := [(q_1, .inr (3, [.null, .null, .long 0, .null, .null]))]) [2] rfl) (hD.sub (ws' := [(q_1, .inr (3, [.null, .null, .long 0, .null, .null]))]) [2] (by decide) rfl).self (fun _ hq => Or.inr hq)) rfl rfl hl.1 rfl (lv_room (Nat.le_of_ble_eq_true rfl)) dX5_init_9 ⟨Nat.le_of_ble_eq_true rfl, Nat.le_of_ble_eq_true rfl⟩) hS (fun q _ hq => hFc q hq) hFc (fun u_10 t H_9 locs ht _ w_8 hB _ hk hS => ?_)
  obtain ⟨hP1, -, hD1⟩ := hB
  rw [show u_10.1 = r_5 from w_8.symm] at hP1 hD1
  rw [ht] at hP1
  obtain ⟨hP, hD⟩ := va_join (wr := [(r, .inr (5, [.int 0, .int 0, .null, .null, .int 0, .null, .null, .null])), (sh, .inr (4, [.int zw, .int zh, .long zA, .long zL, .long zR, .long zE]))]) (w1 := [(q_1, .inr (3, [.ref (u_10.2 0), .ref (u_10.2 1), .long r_5.1, .ref (u_10.2 2), .ref (u_10.2 3)])), ((u_10.2 0), .inl (cA 1, 2, .inr (.inl r_5.2.1))), ((u_10.2 1), .inl (cA 1, 2, .inr (.inl r_5.2.2.1))), ((u_10.2 2), .inl (cA 0, 2, .inl r_5.2.2.2.1)), ((u_10.2 3), .inl (cA 1, 2, .inr (.inl r_5.2.2.2.2)))]) hP hD [2] [0, 1] rfl rfl (by decide) (by decide) hk hFc hP1 hD1
  have hP : va_P D ga_cl [(r, .inr (5, [.int 0, .int 0, .null, .null, .int 0, .null, .null, .null])), (sh, .inr (4, [.int zw, .int zh, .long zA, .long zL, .long zR, .long zE])), (q_1, .inr (3, [.ref (u_10.2 0), .ref (u_10.2 1), .long r_5.1, .ref (u_10.2 2), .ref (u_10.2 3)])), ((u_10.2 0), .inl (cA 1, 2, .inr (.inl r_5.2.1))), ((u_10.2 1), .inl (cA 1, 2, .inr (.inl r_5.2.2.1))), ((u_10.2 2), .inl (cA 0, 2, .inl r_5.2.2.2.1)), ((u_10.2 3), .inl (cA 1, 2, .inr (.inl r_5.2.2.2.2)))] H_9 := hP
  have hD : va_D A [(r, .inr (5, [.int 0, .int 0, .null, .null, .int 0, .null, .null, .null])), (sh, .inr (4, [.int zw, .int zh, .long zA, .long zL, .long zR, .long zE])), (q_1, .inr (3, [.ref (u_10.2 0), .ref (u_10.2 1), .long r_5.1, .ref (u_10.2 2), .ref (u_10.2 3)])), ((u_10.2 0), .inl (cA 1, 2, .inr (.inl r_5.2.1))), ((u_10.2 1), .inl (cA 1, 2, .inr (.inl r_5.2.2.1))), ((u_10.2 2), .inl (cA 0, 2, .inl r_5.2.2.2.1)), ((u_10.2 3), .inl (cA 1, 2, .inr (.inl r_5.2.2.2.2)))] := hD
  refine W.cs (cells' := 5) (slots' := 13) rfl rfl ?_
  refine va_putF hx hb hts in_X5 tyX5 tyX5_ok nmX5 hown hK.1 hP hD hS 0 (fs := [.int 0, .int 0, .null, .null, .int 0, .null, .null, .null]) rfl rfl 2 (by decide) (hts _ q227) (fun _ hh => hh) rfl hin rfl (v := .ref q_1) rfl rfl rfl (show 2 < 8 by decide) dX5_init_12 (fun H_12 locs hP hD hS => ?_)
  have hP : va_P D ga_cl [(r, .inr (5, [.int 0, .int 0, .ref q_1, .null, .int 0, .null, .null, .null])), (sh, .inr (4, [.int zw, .int zh, .long zA, .long zL, .long zR, .long zE])), (q_1, .inr (3, [.ref (u_10.2 0), .ref (u_10.2 1), .long r_5.1, .ref (u_10.2 2), .ref (u_10.2 3)])), ((u_10.2 0), .inl (cA 1, 2, .inr (.inl r_5.2.1))), ((u_10.2 1), .inl (cA 1, 2, .inr (.inl r_5.2.2.1))), ((u_10.2 2), .inl (cA 0, 2, .inl r_5.2.2.2.1)), ((u_10.2 3), .inl (cA 1, 2, .inr (.inl r_5.2.2.2.2)))] H_12 := hP
  have hD : va_D A [(r, .inr (5, [.int 0, .int 0, .ref q_1, .null, .int 0, .null, .null, .null])), (sh, .inr (4, [.int zw, .int zh, .long zA, .long zL, .long zR, .long zE])), (q_1, .inr (3, [.ref (u_10.2 0), .ref (u_10.2 1), .long r_5.1, .ref (u_10.2 2), .ref (u_10.2 3)])), ((u_10.2 0), .inl (cA 1, 2, .inr (.inl r_5.2.1))), ((u_10.2 1), .inl (cA 1, 2, .inr (.inl r_5.2.2.1))), ((u_10.2 2), .inl (cA 0, 2, .inl r_5.2.2.2.1)), ((u_10.2 3), .inl (cA 1, 2, .inr (.inl r_5.2.2.2.2)))] := hD
  refine lv_aload_n hx hb dX5_init_15 rfl (lv_at hl 0 rfl) ?_
  refine lv_bipush (v := 8) hx hb dX5_init_16 (by decide) ?_
  refine va_newa (atype := .int) (a0 := (8, .inl (fun _ => 0))) hx hb (hts _ q176) rfl hK.1 hP hD hS hA (fun _ => rfl) (by decide) rfl (Nat.le_of_ble_eq_true rfl) (Nat.le_of_ble_eq_true rfl) (Nat.le_of_ble_eq_true rfl) dX5_init_18 (fun q_14 k_16 H_15 hK9 hP hD hS => ?_)
  obtain rfl := ga_tyqI hK9
  have hP : va_P D ga_cl [(r, .inr (5, [.int 0, .int 0, .ref q_1, .null, .int 0, .null, .null, .null])), (sh, .inr (4, [.int zw, .int zh, .long zA, .long zL, .long zR, .long zE])), (q_1, .inr (3, [.ref (u_10.2 0), .ref (u_10.2 1), .long r_5.1, .ref (u_10.2 2), .ref (u_10.2 3)])), ((u_10.2 0), .inl (cA 1, 2, .inr (.inl r_5.2.1))), ((u_10.2 1), .inl (cA 1, 2, .inr (.inl r_5.2.2.1))), ((u_10.2 2), .inl (cA 0, 2, .inl r_5.2.2.2.1)), ((u_10.2 3), .inl (cA 1, 2, .inr (.inl r_5.2.2.2.2))), (q_14, .inl (cA 0, 8, .inl (fun _ => 0)))] H_15 := hP
  have hD : va_D A [(r, .inr (5, [.int 0, .int 0, .ref q_1, .null, .int 0, .null, .null, .null])), (sh, .inr (4, [.int zw, .int zh, .long zA, .long zL, .long zR, .long zE])), (q_1, .inr (3, [.ref (u_10.2 0), .ref (u_10.2 1), .long r_5.1, .ref (u_10.2 2), .ref (u_10.2 3)])), ((u_10.2 0), .inl (cA 1, 2, .inr (.inl r_5.2.1))), ((u_10.2 1), .inl (cA 1, 2, .inr (.inl r_5.2.2.1))), ((u_10.2 2), .inl (cA 0, 2, .inl r_5.2.2.2.1)), ((u_10.2 3), .inl (cA 1, 2, .inr (.inl r_5.2.2.2.2))), (q_14, .inl (cA 0, 8, .inl (fun _ => 0)))] := hD
  refine W.cs (cells' := 6) (slots' := 21) rfl rfl ?_
  refine va_putF hx hb hts in_X5 tyX5 tyX5_ok nmX5 hown hK.1 hP hD hS 0 (fs := [.int 0, .int 0, .ref q_1, .null, .int 0, .null, .null, .null]) rfl rfl 3 (by decide) (hts _ q229) (fun _ hh => hh) rfl hin rfl (v := .ref q_14) rfl rfl rfl (show 3 < 8 by decide) dX5_init_20 (fun H_17 locs hP hD hS => ?_)
  have hP : va_P D ga_cl [(r, .inr (5, [.int 0, .int 0, .ref q_1, .ref q_14, .int 0, .null, .null, .null])), (sh, .inr (4, [.int zw, .int zh, .long zA, .long zL, .long zR, .long zE])), (q_1, .inr (3, [.ref (u_10.2 0), .ref (u_10.2 1), .long r_5.1, .ref (u_10.2 2), .ref (u_10.2 3)])), ((u_10.2 0), .inl (cA 1, 2, .inr (.inl r_5.2.1))), ((u_10.2 1), .inl (cA 1, 2, .inr (.inl r_5.2.2.1))), ((u_10.2 2), .inl (cA 0, 2, .inl r_5.2.2.2.1)), ((u_10.2 3), .inl (cA 1, 2, .inr (.inl r_5.2.2.2.2))), (q_14, .inl (cA 0, 8, .inl (fun _ => 0)))] H_17 := hP
  have hD : va_D A [(r, .inr (5, [.int 0, .int 0, .ref q_1, .ref q_14, .int 0, .null, .null, .null])), (sh, .inr (4, [.int zw, .int zh, .long zA, .long zL, .long zR, .long zE])), (q_1, .inr (3, [.ref (u_10.2 0), .ref (u_10.2 1), .long r_5.1, .ref (u_10.2 2), .ref (u_10.2 3)])), ((u_10.2 0), .inl (cA 1, 2, .inr (.inl r_5.2.1))), ((u_10.2 1), .inl (cA 1, 2, .inr (.inl r_5.2.2.1))), ((u_10.2 2), .inl (cA 0, 2, .inl r_5.2.2.2.1)), ((u_10.2 3), .inl (cA 1, 2, .inr (.inl r_5.2.2.2.2))), (q_14, .inl (cA 0, 8, .inl (fun _ => 0)))] := hD
  refine lv_aload_n hx hb dX5_init_23 rfl (lv_at hl 0 rfl) ?_
  refine lv_iconst (v := 2) hx hb dX5_init_24 (by decide) ?_
  refine va_newa (atype := .int) (a0 := (2, .inl (fun _ => 0))) hx hb (hts _ q176) rfl hK.1 hP hD hS hA (fun _ => rfl) (by decide) rfl (Nat.le_of_ble_eq_true rfl) (Nat.le_of_ble_eq_true rfl) (Nat.le_of_ble_eq_true rfl) dX5_init_25 (fun q_19 k_21 H_20 hK9 hP hD hS => ?_)
  obtain rfl := ga_tyqI hK9
  have hP : va_P D ga_cl [(r, .inr (5, [.int 0, .int 0, .ref q_1, .ref q_14, .int 0, .null, .null, .null])), (sh, .inr (4, [.int zw, .int zh, .long zA, .long zL, .long zR, .long zE])), (q_1, .inr (3, [.ref (u_10.2 0), .ref (u_10.2 1), .long r_5.1, .ref (u_10.2 2), .ref (u_10.2 3)])), ((u_10.2 0), .inl (cA 1, 2, .inr (.inl r_5.2.1))), ((u_10.2 1), .inl (cA 1, 2, .inr (.inl r_5.2.2.1))), ((u_10.2 2), .inl (cA 0, 2, .inl r_5.2.2.2.1)), ((u_10.2 3), .inl (cA 1, 2, .inr (.inl r_5.2.2.2.2))), (q_14, .inl (cA 0, 8, .inl (fun _ => 0))), (q_19, .inl (cA 0, 2, .inl (fun _ => 0)))] H_20 := hP
  have hD : va_D A [(r, .inr (5, [.int 0, .int 0, .ref q_1, .ref q_14, .int 0, .null, .null, .null])), (sh, .inr (4, [.int zw, .int zh, .long zA, .long zL, .long zR, .long zE])), (q_1, .inr (3, [.ref (u_10.2 0), .ref (u_10.2 1), .long r_5.1, .ref (u_10.2 2), .ref (u_10.2 3)])), ((u_10.2 0), .inl (cA 1, 2, .inr (.inl r_5.2.1))), ((u_10.2 1), .inl (cA 1, 2, .inr (.inl r_5.2.2.1))), ((u_10.2 2), .inl (cA 0, 2, .inl r_5.2.2.2.1)), ((u_10.2 3), .inl (cA 1, 2, .inr (.inl r_5.2.2.2.2))), (q_14, .inl (cA 0, 8, .inl (fun _ => 0))), (q_19, .inl (cA 0, 2, .inl (fun _ => 0)))] := hD
  refine W.cs (cells' := 7) (slots' := 23) rfl rfl ?_
  refine va_putF hx hb hts in_X5 tyX5 tyX5_ok nmX5 hown hK.1 hP hD hS 0 (fs := [.int 0, .int 0, .ref q_1, .ref q_14, .int 0, .null, .null, .null]) rfl rfl 5 (by decide) (hts _ q232) (fun _ hh => hh) rfl hin rfl (v := .ref q_19) rfl rfl rfl (show 5 < 8 by decide) dX5_init_27 (fun H_22 locs hP hD hS => ?_)
  have hP : va_P D ga_cl [(r, .inr (5, [.int 0, .int 0, .ref q_1, .ref q_14, .int 0, .ref q_19, .null, .null])), (sh, .inr (4, [.int zw, .int zh, .long zA, .long zL, .long zR, .long zE])), (q_1, .inr (3, [.ref (u_10.2 0), .ref (u_10.2 1), .long r_5.1, .ref (u_10.2 2), .ref (u_10.2 3)])), ((u_10.2 0), .inl (cA 1, 2, .inr (.inl r_5.2.1))), ((u_10.2 1), .inl (cA 1, 2, .inr (.inl r_5.2.2.1))), ((u_10.2 2), .inl (cA 0, 2, .inl r_5.2.2.2.1)), ((u_10.2 3), .inl (cA 1, 2, .inr (.inl r_5.2.2.2.2))), (q_14, .inl (cA 0, 8, .inl (fun _ => 0))), (q_19, .inl (cA 0, 2, .inl (fun _ => 0)))] H_22 := hP
  have hD : va_D A [(r, .inr (5, [.int 0, .int 0, .ref q_1, .ref q_14, .int 0, .ref q_19, .null, .null])), (sh, .inr (4, [.int zw, .int zh, .long zA, .long zL, .long zR, .long zE])), (q_1, .inr (3, [.ref (u_10.2 0), .ref (u_10.2 1), .long r_5.1, .ref (u_10.2 2), .ref (u_10.2 3)])), ((u_10.2 0), .inl (cA 1, 2, .inr (.inl r_5.2.1))), ((u_10.2 1), .inl (cA 1, 2, .inr (.inl r_5.2.2.1))), ((u_10.2 2), .inl (cA 0, 2, .inl r_5.2.2.2.1)), ((u_10.2 3), .inl (cA 1, 2, .inr (.inl r_5.2.2.2.2))), (q_14, .inl (cA 0, 8, .inl (fun _ => 0))), (q_19, .inl (cA 0, 2, .inl (fun _ => 0)))] := hD
  refine lv_aload_n hx hb dX5_init_30 rfl (lv_at hl 0 rfl) ?_
  refine lv_bipush (v := 49) hx hb dX5_init_31 (by decide) ?_
  refine va_newa (atype := .int) (a0 := (49, .inl (fun _ => 0))) hx hb (hts _ q176) rfl hK.1 hP hD hS hA (fun _ => rfl) (by decide) rfl (Nat.le_of_ble_eq_true rfl) (Nat.le_of_ble_eq_true rfl) (Nat.le_of_ble_eq_true rfl) dX5_init_33 (fun q_24 k_26 H_25 hK9 hP hD hS => ?_)
  obtain rfl := ga_tyqI hK9
  have hP : va_P D ga_cl [(r, .inr (5, [.int 0, .int 0, .ref q_1, .ref q_14, .int 0, .ref q_19, .null, .null])), (sh, .inr (4, [.int zw, .int zh, .long zA, .long zL, .long zR, .long zE])), (q_1, .inr (3, [.ref (u_10.2 0), .ref (u_10.2 1), .long r_5.1, .ref (u_10.2 2), .ref (u_10.2 3)])), ((u_10.2 0), .inl (cA 1, 2, .inr (.inl r_5.2.1))), ((u_10.2 1), .inl (cA 1, 2, .inr (.inl r_5.2.2.1))), ((u_10.2 2), .inl (cA 0, 2, .inl r_5.2.2.2.1)), ((u_10.2 3), .inl (cA 1, 2, .inr (.inl r_5.2.2.2.2))), (q_14, .inl (cA 0, 8, .inl (fun _ => 0))), (q_19, .inl (cA 0, 2, .inl (fun _ => 0))), (q_24, .inl (cA 0, 49, .inl (fun _ => 0)))] H_25 := hP
  have hD : va_D A [(r, .inr (5, [.int 0, .int 0, .ref q_1, .ref q_14, .int 0, .ref q_19, .null, .null])), (sh, .inr (4, [.int zw, .int zh, .long zA, .long zL, .long zR, .long zE])), (q_1, .inr (3, [.ref (u_10.2 0), .ref (u_10.2 1), .long r_5.1, .ref (u_10.2 2), .ref (u_10.2 3)])), ((u_10.2 0), .inl (cA 1, 2, .inr (.inl r_5.2.1))), ((u_10.2 1), .inl (cA 1, 2, .inr (.inl r_5.2.2.1))), ((u_10.2 2), .inl (cA 0, 2, .inl r_5.2.2.2.1)), ((u_10.2 3), .inl (cA 1, 2, .inr (.inl r_5.2.2.2.2))), (q_14, .inl (cA 0, 8, .inl (fun _ => 0))), (q_19, .inl (cA 0, 2, .inl (fun _ => 0))), (q_24, .inl (cA 0, 49, .inl (fun _ => 0)))] := hD
  refine W.cs (cells' := 8) (slots' := 72) rfl rfl ?_
  refine va_putF hx hb hts in_X5 tyX5 tyX5_ok nmX5 hown hK.1 hP hD hS 0 (fs := [.int 0, .int 0, .ref q_1, .ref q_14, .int 0, .ref q_19, .null, .null]) rfl rfl 6 (by decide) (hts _ q235) (fun _ hh => hh) rfl hin rfl (v := .ref q_24) rfl rfl rfl (show 6 < 8 by decide) dX5_init_35 (fun H_27 locs hP hD hS => ?_)
  have hP : va_P D ga_cl [(r, .inr (5, [.int 0, .int 0, .ref q_1, .ref q_14, .int 0, .ref q_19, .ref q_24, .null])), (sh, .inr (4, [.int zw, .int zh, .long zA, .long zL, .long zR, .long zE])), (q_1, .inr (3, [.ref (u_10.2 0), .ref (u_10.2 1), .long r_5.1, .ref (u_10.2 2), .ref (u_10.2 3)])), ((u_10.2 0), .inl (cA 1, 2, .inr (.inl r_5.2.1))), ((u_10.2 1), .inl (cA 1, 2, .inr (.inl r_5.2.2.1))), ((u_10.2 2), .inl (cA 0, 2, .inl r_5.2.2.2.1)), ((u_10.2 3), .inl (cA 1, 2, .inr (.inl r_5.2.2.2.2))), (q_14, .inl (cA 0, 8, .inl (fun _ => 0))), (q_19, .inl (cA 0, 2, .inl (fun _ => 0))), (q_24, .inl (cA 0, 49, .inl (fun _ => 0)))] H_27 := hP
  have hD : va_D A [(r, .inr (5, [.int 0, .int 0, .ref q_1, .ref q_14, .int 0, .ref q_19, .ref q_24, .null])), (sh, .inr (4, [.int zw, .int zh, .long zA, .long zL, .long zR, .long zE])), (q_1, .inr (3, [.ref (u_10.2 0), .ref (u_10.2 1), .long r_5.1, .ref (u_10.2 2), .ref (u_10.2 3)])), ((u_10.2 0), .inl (cA 1, 2, .inr (.inl r_5.2.1))), ((u_10.2 1), .inl (cA 1, 2, .inr (.inl r_5.2.2.1))), ((u_10.2 2), .inl (cA 0, 2, .inl r_5.2.2.2.1)), ((u_10.2 3), .inl (cA 1, 2, .inr (.inl r_5.2.2.2.2))), (q_14, .inl (cA 0, 8, .inl (fun _ => 0))), (q_19, .inl (cA 0, 2, .inl (fun _ => 0))), (q_24, .inl (cA 0, 49, .inl (fun _ => 0)))] := hD
  refine lv_aload_n hx hb dX5_init_38 rfl (lv_at hl 0 rfl) ?_
  refine lv_bipush (v := 49) hx hb dX5_init_39 (by decide) ?_
  refine va_newa (atype := .int) (a0 := (49, .inl (fun _ => 0))) hx hb (hts _ q176) rfl hK.1 hP hD hS hA (fun _ => rfl) (by decide) rfl (Nat.le_of_ble_eq_true rfl) (Nat.le_of_ble_eq_true rfl) (Nat.le_of_ble_eq_true rfl) dX5_init_41 (fun q_29 k_31 H_30 hK9 hP hD hS => ?_)
  obtain rfl := ga_tyqI hK9
  have hP : va_P D ga_cl [(r, .inr (5, [.int 0, .int 0, .ref q_1, .ref q_14, .int 0, .ref q_19, .ref q_24, .null])), (sh, .inr (4, [.int zw, .int zh, .long zA, .long zL, .long zR, .long zE])), (q_1, .inr (3, [.ref (u_10.2 0), .ref (u_10.2 1), .long r_5.1, .ref (u_10.2 2), .ref (u_10.2 3)])), ((u_10.2 0), .inl (cA 1, 2, .inr (.inl r_5.2.1))), ((u_10.2 1), .inl (cA 1, 2, .inr (.inl r_5.2.2.1))), ((u_10.2 2), .inl (cA 0, 2, .inl r_5.2.2.2.1)), ((u_10.2 3), .inl (cA 1, 2, .inr (.inl r_5.2.2.2.2))), (q_14, .inl (cA 0, 8, .inl (fun _ => 0))), (q_19, .inl (cA 0, 2, .inl (fun _ => 0))), (q_24, .inl (cA 0, 49, .inl (fun _ => 0))), (q_29, .inl (cA 0, 49, .inl (fun _ => 0)))] H_30 := hP
  have hD : va_D A [(r, .inr (5, [.int 0, .int 0, .ref q_1, .ref q_14, .int 0, .ref q_19, .ref q_24, .null])), (sh, .inr (4, [.int zw, .int zh, .long zA, .long zL, .long zR, .long zE])), (q_1, .inr (3, [.ref (u_10.2 0), .ref (u_10.2 1), .long r_5.1, .ref (u_10.2 2), .ref (u_10.2 3)])), ((u_10.2 0), .inl (cA 1, 2, .inr (.inl r_5.2.1))), ((u_10.2 1), .inl (cA 1, 2, .inr (.inl r_5.2.2.1))), ((u_10.2 2), .inl (cA 0, 2, .inl r_5.2.2.2.1)), ((u_10.2 3), .inl (cA 1, 2, .inr (.inl r_5.2.2.2.2))), (q_14, .inl (cA 0, 8, .inl (fun _ => 0))), (q_19, .inl (cA 0, 2, .inl (fun _ => 0))), (q_24, .inl (cA 0, 49, .inl (fun _ => 0))), (q_29, .inl (cA 0, 49, .inl (fun _ => 0)))] := hD
  refine W.cs (cells' := 9) (slots' := 121) rfl rfl ?_
  refine va_putF hx hb hts in_X5 tyX5 tyX5_ok nmX5 hown hK.1 hP hD hS 0 (fs := [.int 0, .int 0, .ref q_1, .ref q_14, .int 0, .ref q_19, .ref q_24, .null]) rfl rfl 7 (by decide) (hts _ q238) (fun _ hh => hh) rfl hin rfl (v := .ref q_29) rfl rfl rfl (show 7 < 8 by decide) dX5_init_43 (fun H_32 locs hP hD hS => ?_)
  have hP : va_P D ga_cl [(r, .inr (5, [.int 0, .int 0, .ref q_1, .ref q_14, .int 0, .ref q_19, .ref q_24, .ref q_29])), (sh, .inr (4, [.int zw, .int zh, .long zA, .long zL, .long zR, .long zE])), (q_1, .inr (3, [.ref (u_10.2 0), .ref (u_10.2 1), .long r_5.1, .ref (u_10.2 2), .ref (u_10.2 3)])), ((u_10.2 0), .inl (cA 1, 2, .inr (.inl r_5.2.1))), ((u_10.2 1), .inl (cA 1, 2, .inr (.inl r_5.2.2.1))), ((u_10.2 2), .inl (cA 0, 2, .inl r_5.2.2.2.1)), ((u_10.2 3), .inl (cA 1, 2, .inr (.inl r_5.2.2.2.2))), (q_14, .inl (cA 0, 8, .inl (fun _ => 0))), (q_19, .inl (cA 0, 2, .inl (fun _ => 0))), (q_24, .inl (cA 0, 49, .inl (fun _ => 0))), (q_29, .inl (cA 0, 49, .inl (fun _ => 0)))] H_32 := hP
  have hD : va_D A [(r, .inr (5, [.int 0, .int 0, .ref q_1, .ref q_14, .int 0, .ref q_19, .ref q_24, .ref q_29])), (sh, .inr (4, [.int zw, .int zh, .long zA, .long zL, .long zR, .long zE])), (q_1, .inr (3, [.ref (u_10.2 0), .ref (u_10.2 1), .long r_5.1, .ref (u_10.2 2), .ref (u_10.2 3)])), ((u_10.2 0), .inl (cA 1, 2, .inr (.inl r_5.2.1))), ((u_10.2 1), .inl (cA 1, 2, .inr (.inl r_5.2.2.1))), ((u_10.2 2), .inl (cA 0, 2, .inl r_5.2.2.2.1)), ((u_10.2 3), .inl (cA 1, 2, .inr (.inl r_5.2.2.2.2))), (q_14, .inl (cA 0, 8, .inl (fun _ => 0))), (q_19, .inl (cA 0, 2, .inl (fun _ => 0))), (q_24, .inl (cA 0, 49, .inl (fun _ => 0))), (q_29, .inl (cA 0, 49, .inl (fun _ => 0)))] := hD
  refine lv_aload_n hx hb dX5_init_46 rfl (lv_at hl 0 rfl) ?_
  refine lv_iconst (v := (-1)) hx hb dX5_init_47 (by decide) ?_
  refine va_putF hx hb hts in_X5 tyX5 tyX5_ok nmX5 hown hK.1 hP hD hS 0 (fs := [.int 0, .int 0, .ref q_1, .ref q_14, .int 0, .ref q_19, .ref q_24, .ref q_29]) rfl rfl 0 (by decide) (hts _ q223) (fun _ hh => hh) rfl hin rfl (v := .int (-1)) rfl rfl rfl (show 0 < 8 by decide) dX5_init_48 (fun H_34 locs hP hD hS => ?_)
  have hP : va_P D ga_cl [(r, .inr (5, [.int (-1), .int 0, .ref q_1, .ref q_14, .int 0, .ref q_19, .ref q_24, .ref q_29])), (sh, .inr (4, [.int zw, .int zh, .long zA, .long zL, .long zR, .long zE])), (q_1, .inr (3, [.ref (u_10.2 0), .ref (u_10.2 1), .long r_5.1, .ref (u_10.2 2), .ref (u_10.2 3)])), ((u_10.2 0), .inl (cA 1, 2, .inr (.inl r_5.2.1))), ((u_10.2 1), .inl (cA 1, 2, .inr (.inl r_5.2.2.1))), ((u_10.2 2), .inl (cA 0, 2, .inl r_5.2.2.2.1)), ((u_10.2 3), .inl (cA 1, 2, .inr (.inl r_5.2.2.2.2))), (q_14, .inl (cA 0, 8, .inl (fun _ => 0))), (q_19, .inl (cA 0, 2, .inl (fun _ => 0))), (q_24, .inl (cA 0, 49, .inl (fun _ => 0))), (q_29, .inl (cA 0, 49, .inl (fun _ => 0)))] H_34 := hP
  have hD : va_D A [(r, .inr (5, [.int (-1), .int 0, .ref q_1, .ref q_14, .int 0, .ref q_19, .ref q_24, .ref q_29])), (sh, .inr (4, [.int zw, .int zh, .long zA, .long zL, .long zR, .long zE])), (q_1, .inr (3, [.ref (u_10.2 0), .ref (u_10.2 1), .long r_5.1, .ref (u_10.2 2), .ref (u_10.2 3)])), ((u_10.2 0), .inl (cA 1, 2, .inr (.inl r_5.2.1))), ((u_10.2 1), .inl (cA 1, 2, .inr (.inl r_5.2.2.1))), ((u_10.2 2), .inl (cA 0, 2, .inl r_5.2.2.2.1)), ((u_10.2 3), .inl (cA 1, 2, .inr (.inl r_5.2.2.2.2))), (q_14, .inl (cA 0, 8, .inl (fun _ => 0))), (q_19, .inl (cA 0, 2, .inl (fun _ => 0))), (q_24, .inl (cA 0, 49, .inl (fun _ => 0))), (q_29, .inl (cA 0, 49, .inl (fun _ => 0)))] := hD
  refine lv_aload_n hx hb dX5_init_51 rfl (lv_at hl 0 rfl) ?_
  refine lv_iconst (v := (-1)) hx hb dX5_init_52 (by decide) ?_
  refine va_putF hx hb hts in_X5 tyX5 tyX5_ok nmX5 hown hK.1 hP hD hS 0 (fs := [.int (-1), .int 0, .ref q_1, .ref q_14, .int 0, .ref q_19, .ref q_24, .ref q_29]) rfl rfl 1 (by decide) (hts _ q225) (fun _ hh => hh) rfl hin rfl (v := .int (-1)) rfl rfl rfl (show 1 < 8 by decide) dX5_init_53 (fun H_36 locs hP hD hS => ?_)
  have hP : va_P D ga_cl [(r, .inr (5, [.int (-1), .int (-1), .ref q_1, .ref q_14, .int 0, .ref q_19, .ref q_24, .ref q_29])), (sh, .inr (4, [.int zw, .int zh, .long zA, .long zL, .long zR, .long zE])), (q_1, .inr (3, [.ref (u_10.2 0), .ref (u_10.2 1), .long r_5.1, .ref (u_10.2 2), .ref (u_10.2 3)])), ((u_10.2 0), .inl (cA 1, 2, .inr (.inl r_5.2.1))), ((u_10.2 1), .inl (cA 1, 2, .inr (.inl r_5.2.2.1))), ((u_10.2 2), .inl (cA 0, 2, .inl r_5.2.2.2.1)), ((u_10.2 3), .inl (cA 1, 2, .inr (.inl r_5.2.2.2.2))), (q_14, .inl (cA 0, 8, .inl (fun _ => 0))), (q_19, .inl (cA 0, 2, .inl (fun _ => 0))), (q_24, .inl (cA 0, 49, .inl (fun _ => 0))), (q_29, .inl (cA 0, 49, .inl (fun _ => 0)))] H_36 := hP
  have hD : va_D A [(r, .inr (5, [.int (-1), .int (-1), .ref q_1, .ref q_14, .int 0, .ref q_19, .ref q_24, .ref q_29])), (sh, .inr (4, [.int zw, .int zh, .long zA, .long zL, .long zR, .long zE])), (q_1, .inr (3, [.ref (u_10.2 0), .ref (u_10.2 1), .long r_5.1, .ref (u_10.2 2), .ref (u_10.2 3)])), ((u_10.2 0), .inl (cA 1, 2, .inr (.inl r_5.2.1))), ((u_10.2 1), .inl (cA 1, 2, .inr (.inl r_5.2.2.1))), ((u_10.2 2), .inl (cA 0, 2, .inl r_5.2.2.2.1)), ((u_10.2 3), .inl (cA 1, 2, .inr (.inl r_5.2.2.2.2))), (q_14, .inl (cA 0, 8, .inl (fun _ => 0))), (q_19, .inl (cA 0, 2, .inl (fun _ => 0))), (q_24, .inl (cA 0, 49, .inl (fun _ => 0))), (q_29, .inl (cA 0, 49, .inl (fun _ => 0)))] := hD
  refine lv_aload_n hx hb dX5_init_56 rfl (lv_at hl 0 rfl) ?_
  refine va_get hx hb hts in_X5 hown hK.1 hP 0 (fs := [.int (-1), .int (-1), .ref q_1, .ref q_14, .int 0, .ref q_19, .ref q_24, .ref q_29]) rfl rfl 2 (by decide) (hts _ q227) (fun _ hh => hh) (v := .ref q_1) rfl dX5_init_57 ?_
  refine va_getN hx hb hts in_X3 hown hK.1 hP 2 (fs := [.ref (u_10.2 0), .ref (u_10.2 1), .long r_5.1, .ref (u_10.2 2), .ref (u_10.2 3)]) rfl rfl 0 (by decide) (ga_nu hK q155 rfl) (fun _ hh => hh) (v := .ref (u_10.2 0)) rfl dX5_init_60 ?_
  refine lv_iconst (v := 1) hx hb dX5_init_63 (by decide) ?_
  refine lv_aload_n hx hb dX5_init_64 rfl (lv_at hl 1 rfl) ?_
  refine lv_iload_n hx hb dX5_init_65 rfl (lv_at hl 2 rfl) ?_
  obtain ⟨r_38, e_39, h⟩ := ga_gb h
  have hFc := va_free (wc := [(sh, .inr (4, [.int zw, .int zh, .long zA, .long zL, .long zR, .long zE]))]) hD hS hA [1] rfl
  refine va_calll (va_runV (As := [.int x2]) (rest := [.int 1, .ref (u_10.2 0)]) ⟨hx, hb, hml, hown, hts⟩ (met_X4_handicap l D cA (va_A [(sh, .inr (4, [.int zw, .int zh, .long zA, .long zL, .long zR, .long zE]))] H_36.size) sh zw zh zA zL zR zE N x2 r_38 e_39) (cwV 1 hts (lw_V q219 q220 q221 q73 q222) rfl rfl rfl (by decide +kernel) ⟨Nat.le_of_ble_eq_true rfl, Nat.le_of_ble_eq_true rfl⟩) (ga_LV hK (hP.sub (ws' := [(sh, .inr (4, [.int zw, .int zh, .long zA, .long zL, .long zR, .long zE]))]) [1] rfl) (hD.sub (ws' := [(sh, .inr (4, [.int zw, .int zh, .long zA, .long zL, .long zR, .long zE]))]) [1] (by decide) rfl).self (fun _ hq => Or.inr hq) (va_recv hK.1 hP (ci := 4) (q0 := 1) rfl rfl)) rfl rfl hl.1 rfl (lv_room (Nat.le_of_ble_eq_true rfl)) dX5_init_66 ⟨Nat.le_of_ble_eq_true rfl, Nat.le_of_ble_eq_true rfl⟩) hS (fun q _ hq => hFc q hq) hFc (fun z_40 u_43 t H_42 locs ht _ w_41 hB _ hk hS => ?_)
  obtain ⟨hP1, -, hD1⟩ := hB
  obtain ⟨rfl, rfl⟩ := w_41
  rw [ht] at hP1
  obtain ⟨hP, hD⟩ := va_join (wr := [(r, .inr (5, [.int (-1), .int (-1), .ref q_1, .ref q_14, .int 0, .ref q_19, .ref q_24, .ref q_29])), (q_1, .inr (3, [.ref (u_10.2 0), .ref (u_10.2 1), .long r_5.1, .ref (u_10.2 2), .ref (u_10.2 3)])), ((u_10.2 0), .inl (cA 1, 2, .inr (.inl r_5.2.1))), ((u_10.2 1), .inl (cA 1, 2, .inr (.inl r_5.2.2.1))), ((u_10.2 2), .inl (cA 0, 2, .inl r_5.2.2.2.1)), ((u_10.2 3), .inl (cA 1, 2, .inr (.inl r_5.2.2.2.2))), (q_14, .inl (cA 0, 8, .inl (fun _ => 0))), (q_19, .inl (cA 0, 2, .inl (fun _ => 0))), (q_24, .inl (cA 0, 49, .inl (fun _ => 0))), (q_29, .inl (cA 0, 49, .inl (fun _ => 0)))]) (w1 := [(sh, .inr (4, [.int zw, .int zh, .long zA, .long zL, .long zR, .long zE]))]) hP hD [1] [0, 2, 3, 4, 5, 6, 7, 8, 9, 10] rfl rfl (by decide) (by decide) hk hFc hP1 hD1
  have hP : va_P D ga_cl [(r, .inr (5, [.int (-1), .int (-1), .ref q_1, .ref q_14, .int 0, .ref q_19, .ref q_24, .ref q_29])), (q_1, .inr (3, [.ref (u_10.2 0), .ref (u_10.2 1), .long r_5.1, .ref (u_10.2 2), .ref (u_10.2 3)])), ((u_10.2 0), .inl (cA 1, 2, .inr (.inl r_5.2.1))), ((u_10.2 1), .inl (cA 1, 2, .inr (.inl r_5.2.2.1))), ((u_10.2 2), .inl (cA 0, 2, .inl r_5.2.2.2.1)), ((u_10.2 3), .inl (cA 1, 2, .inr (.inl r_5.2.2.2.2))), (q_14, .inl (cA 0, 8, .inl (fun _ => 0))), (q_19, .inl (cA 0, 2, .inl (fun _ => 0))), (q_24, .inl (cA 0, 49, .inl (fun _ => 0))), (q_29, .inl (cA 0, 49, .inl (fun _ => 0))), (sh, .inr (4, [.int zw, .int zh, .long zA, .long zL, .long zR, .long zE]))] H_42 := hP
  have hD : va_D A [(r, .inr (5, [.int (-1), .int (-1), .ref q_1, .ref q_14, .int 0, .ref q_19, .ref q_24, .ref q_29])), (q_1, .inr (3, [.ref (u_10.2 0), .ref (u_10.2 1), .long r_5.1, .ref (u_10.2 2), .ref (u_10.2 3)])), ((u_10.2 0), .inl (cA 1, 2, .inr (.inl r_5.2.1))), ((u_10.2 1), .inl (cA 1, 2, .inr (.inl r_5.2.2.1))), ((u_10.2 2), .inl (cA 0, 2, .inl r_5.2.2.2.1)), ((u_10.2 3), .inl (cA 1, 2, .inr (.inl r_5.2.2.2.2))), (q_14, .inl (cA 0, 8, .inl (fun _ => 0))), (q_19, .inl (cA 0, 2, .inl (fun _ => 0))), (q_24, .inl (cA 0, 49, .inl (fun _ => 0))), (q_29, .inl (cA 0, 49, .inl (fun _ => 0))), (sh, .inr (4, [.int zw, .int zh, .long zA, .long zL, .long zR, .long zE]))] := hD
  refine W.cs (cells' := 10) (slots' := 125) rfl rfl ?_
  refine va_last hx hb hK.1 hP hD hS 2 1 (f := r_5.2.1) rfl rfl (ga_in (by decide)) dX5_init_69 (fun H_45 locs hP hD hS => ?_)
  have hP : va_P D ga_cl [(r, .inr (5, [.int (-1), .int (-1), .ref q_1, .ref q_14, .int 0, .ref q_19, .ref q_24, .ref q_29])), (q_1, .inr (3, [.ref (u_10.2 0), .ref (u_10.2 1), .long r_5.1, .ref (u_10.2 2), .ref (u_10.2 3)])), ((u_10.2 0), .inl (cA 1, 2, .inr (.inl (vp_updL r_5.2.1 (ix 1) r_38.1)))), ((u_10.2 1), .inl (cA 1, 2, .inr (.inl r_5.2.2.1))), ((u_10.2 2), .inl (cA 0, 2, .inl r_5.2.2.2.1)), ((u_10.2 3), .inl (cA 1, 2, .inr (.inl r_5.2.2.2.2))), (q_14, .inl (cA 0, 8, .inl (fun _ => 0))), (q_19, .inl (cA 0, 2, .inl (fun _ => 0))), (q_24, .inl (cA 0, 49, .inl (fun _ => 0))), (q_29, .inl (cA 0, 49, .inl (fun _ => 0))), (sh, .inr (4, [.int zw, .int zh, .long zA, .long zL, .long zR, .long zE]))] H_45 := hP
  have hD : va_D A [(r, .inr (5, [.int (-1), .int (-1), .ref q_1, .ref q_14, .int 0, .ref q_19, .ref q_24, .ref q_29])), (q_1, .inr (3, [.ref (u_10.2 0), .ref (u_10.2 1), .long r_5.1, .ref (u_10.2 2), .ref (u_10.2 3)])), ((u_10.2 0), .inl (cA 1, 2, .inr (.inl (vp_updL r_5.2.1 (ix 1) r_38.1)))), ((u_10.2 1), .inl (cA 1, 2, .inr (.inl r_5.2.2.1))), ((u_10.2 2), .inl (cA 0, 2, .inl r_5.2.2.2.1)), ((u_10.2 3), .inl (cA 1, 2, .inr (.inl r_5.2.2.2.2))), (q_14, .inl (cA 0, 8, .inl (fun _ => 0))), (q_19, .inl (cA 0, 2, .inl (fun _ => 0))), (q_24, .inl (cA 0, 49, .inl (fun _ => 0))), (q_29, .inl (cA 0, 49, .inl (fun _ => 0))), (sh, .inr (4, [.int zw, .int zh, .long zA, .long zL, .long zR, .long zE]))] := hD
  refine lv_iconst (v := 0) hx hb dX5_init_70 (by decide) ?_
  refine lv_istore_n (lv' := [(3, .int 0), (0, .ref r), (1, .ref sh), (2, .int x2)]) hx hb dX5_init_71 rfl hl (by decide) rfl (fun ls hl => ?_)
  exact w_X5_init_0_72 C hin hK hA N q_1 (u_10.2 0) (u_10.2 1) (u_10.2 2) (u_10.2 3) q_14 q_19 q_24 q_29 (-1) (-1) r_5.1 (vp_updL r_5.2.1 (ix 1) r_38.1) r_5.2.2.1 r_5.2.2.2.1 r_5.2.2.2.2 (fun _ => 0) (fun _ => 0) (fun _ => 0) (fun _ => 0) 0 h _ _ (hP.sub [0, 1, 2, 3, 4, 5, 6, 7, 8, 9, 10] rfl) (hD.sub [0, 1, 2, 3, 4, 5, 6, 7, 8, 9, 10] (by decide) rfl) hS _ (lv_sub hl [1, 0] rfl)
abbrev rm_X5_init_2_1 : Room := { frames := 3, cells := 9, slots := 121, locals := 61 }
def F_X5_init_2_1 (N : Nat) (o1 : Int32) (o2 : Int32) (oN : Int32) (oR : Nat → Int32) (oV : Nat → Int32) (obB : Int64) (obS : Nat → Int64) (obA : Nat → Int64) (obC : Nat → Int32) (x2 : Int32) (x3 : Int32) : Option (Int32 × Int32 × Int32 × (Nat → Int32) × (Nat → Int32) × (Nat → Int32) × (Nat → Int32) × Int64 × (Nat → Int64) × (Nat → Int64) × (Nat → Int32) × (Nat → Int64)) :=
  ((F_X3_init N).bind fun r_5 =>
  ((F_X3_set N r_5.1 r_5.2.1 r_5.2.2.1 r_5.2.2.2.1 obB obS obA obC).bind fun r_38 =>
  some (x2, x3, 0, (fun _ => 0), (fun _ => 0), (va_cpy oR (fun _ => 0) (ix 0) (ix 0) (ix 49)), (va_cpy oV (fun _ => 0) (ix 0) (ix 0) (ix 49)), r_38.1, r_38.2.1, r_38.2.2.1, r_38.2.2.2, r_5.2.2.2.2)))
set_option maxHeartbeats 4000000 in
theorem met_X5_init_2_1 (l : Launch) (D : va_G) (cA : Nat → ClassId) (A : Nat → Prop) (r : Nat) (o : Nat) (o_b : Nat) (o_w : Nat) (o_s : Nat) (o_r : Nat) (o_v : Nat) (o_b_s : Nat) (o_b_a : Nat) (o_b_c : Nat) (o_b_g : Nat) (zs : Nat → Nat) (o1 : Int32) (o2 : Int32) (oN : Int32) (oR : Nat → Int32) (oV : Nat → Int32) (obB : Int64) (obS : Nat → Int64) (obA : Nat → Int64) (obC : Nat → Int32) (N : Nat) (x2 : Int32) (x3 : Int32)  (out : Int32 × Int32 × Int32 × (Nat → Int32) × (Nat → Int32) × (Nat → Int32) × (Nat → Int32) × Int64 × (Nat → Int64) × (Nat → Int64) × (Nat → Int32) × (Nat → Int64)) (h : F_X5_init_2_1 N o1 o2 oN oR oV obB obS obA obC x2 x3 = some out) : Met l yX5_init_2 (ws_ yX5_init_2 cX5_init_2 4 none) rm_X5_init_2_1 (ga_XR D cA zs A (ga_ro D [(o, .inr (5, [.int o1, .int o2, .ref o_b, .ref o_w, .int oN, .ref o_s, .ref o_r, .ref o_v])), (o_r, .inl (cA 0, 49, .inl oR)), (o_v, .inl (cA 0, 49, .inl oV)), (o_b, .inr (3, [.ref o_b_s, .ref o_b_a, .long obB, .ref o_b_c, .ref o_b_g])), (o_b_s, .inl (cA 1, 2, .inr (.inl obS))), (o_b_a, .inl (cA 1, 2, .inr (.inl obA))), (o_b_c, .inl (cA 0, 2, .inl obC))]) [(r, .inr (5, [.int 0, .int 0, .null, .null, .int 0, .null, .null, .null]))] [.ref r, .ref o, .int x2, .int x3]) (va_Qv (fun (u : (Int32 × Int32 × Int32 × (Nat → Int32) × (Nat → Int32) × (Nat → Int32) × (Nat → Int32) × Int64 × (Nat → Int64) × (Nat → Int64) × (Nat → Int32) × (Nat → Int64)) × (Nat → Nat)) => out = u.1) (fun (u : (Int32 × Int32 × Int32 × (Nat → Int32) × (Nat → Int32) × (Nat → Int32) × (Nat → Int32) × Int64 × (Nat → Int64) × (Nat → Int64) × (Nat → Int32) × (Nat → Int64)) × (Nat → Nat)) (t : State) => va_P D ga_cl [(r, .inr (5, [.int u.1.1, .int u.1.2.1, .ref (u.2 0), .ref (u.2 1), .int u.1.2.2.1, .ref (u.2 2), .ref (u.2 3), .ref (u.2 4)])), ((u.2 1), .inl (cA 0, 8, .inl u.1.2.2.2.1)), ((u.2 2), .inl (cA 0, 2, .inl u.1.2.2.2.2.1)), ((u.2 3), .inl (cA 0, 49, .inl u.1.2.2.2.2.2.1)), ((u.2 4), .inl (cA 0, 49, .inl u.1.2.2.2.2.2.2.1)), ((u.2 0), .inr (3, [.ref (u.2 5), .ref (u.2 6), .long u.1.2.2.2.2.2.2.2.1, .ref (u.2 7), .ref (u.2 8)])), ((u.2 5), .inl (cA 1, 2, .inr (.inl u.1.2.2.2.2.2.2.2.2.1))), ((u.2 6), .inl (cA 1, 2, .inr (.inl u.1.2.2.2.2.2.2.2.2.2.1))), ((u.2 7), .inl (cA 0, 2, .inl u.1.2.2.2.2.2.2.2.2.2.2.1)), ((u.2 8), .inl (cA 1, 2, .inr (.inl u.1.2.2.2.2.2.2.2.2.2.2.2)))] t.heap ∧ ga_K D cA t ∧ va_D A [(r, .inr (5, [.int u.1.1, .int u.1.2.1, .ref (u.2 0), .ref (u.2 1), .int u.1.2.2.1, .ref (u.2 2), .ref (u.2 3), .ref (u.2 4)])), ((u.2 1), .inl (cA 0, 8, .inl u.1.2.2.2.1)), ((u.2 2), .inl (cA 0, 2, .inl u.1.2.2.2.2.1)), ((u.2 3), .inl (cA 0, 49, .inl u.1.2.2.2.2.2.1)), ((u.2 4), .inl (cA 0, 49, .inl u.1.2.2.2.2.2.2.1)), ((u.2 0), .inr (3, [.ref (u.2 5), .ref (u.2 6), .long u.1.2.2.2.2.2.2.2.1, .ref (u.2 7), .ref (u.2 8)])), ((u.2 5), .inl (cA 1, 2, .inr (.inl u.1.2.2.2.2.2.2.2.2.1))), ((u.2 6), .inl (cA 1, 2, .inr (.inl u.1.2.2.2.2.2.2.2.2.2.1))), ((u.2 7), .inl (cA 0, 2, .inl u.1.2.2.2.2.2.2.2.2.2.2.1)), ((u.2 8), .inl (cA 1, 2, .inr (.inl u.1.2.2.2.2.2.2.2.2.2.2.2)))]) A) 9 121 A := by
  refine Met.ofW (cc := cX5_init_2) (maxL := 4) (ret := none) (by decide) rfl ?_
  intro p e s m args below meth c s₁ B hml hv
  obtain ⟨rfl, hP, hK, hD, hA, hST, hR⟩ := hv
  have hS : va_S A s.heap s.heap [] := va_S.rf
  have hin : meth.name = "<init>" := (name_of_methodNamed B.named B.method).1
  have C : ga_cx p m c meth s _ RX5 cX5_init_2 4 none := ga_cx_of B hml
  have C0 := C
  obtain ⟨hx, hb, hr, hlocks, hml, hown, hts⟩ := C0
  have hl := lv_entry ([.ref r, .ref o, .int x2, .int x3]) (n := 4) (Nat.le_of_ble_eq_true rfl)
  rw [lg_entry_eq]
  generalize (lg_sl ([.ref r, .ref o, .int x2, .int x3]) ++ List.replicate (4 - (lg_sl ([.ref r, .ref o, .int x2, .int x3])).length) Slot.unset).toArray = ls at hl ⊢
  have hl : lv_has ls 4 [(0, .ref r), (1, .ref o), (2, .int x2), (3, .int x3)] := hl
  rw [F_X5_init_2_1] at h
  refine lv_aload_n hx hb dX5_init_2_0 rfl (lv_at hl 0 rfl) ?_
  refine W.objInit hx hb hown (hts _ q216) (hts _ q113) (hts _ q114) rfl (by rw [hml]; exact hl.1) rfl dX5_init_2_1 (Nat.le_of_ble_eq_true rfl) (Nat.le_of_ble_eq_true rfl) ?_
  refine W.eq (g2 := F0 m 4 ls []) rfl ?_
  refine lv_aload_n hx hb dX5_init_2_4 rfl (lv_at hl 0 rfl) ?_
  refine va_new (ci := 3) (fs := [.null, .null, .long 0, .null, .null]) (C := RX3) (T := TX3) (N := 5) hx hb hts in_X3 tyX3 tyX3_ok hown (hts _ q217) (hts _ q149) (hts _ q72) hK.1 hP hD hS hA rfl nw_X3 (Nat.le_of_ble_eq_true rfl) (Nat.le_of_ble_eq_true rfl) dX5_init_2_5 (fun q_1 H_2 hP hD hS => ?_)
  have hP : va_P D ga_cl [(r, .inr (5, [.int 0, .int 0, .null, .null, .int 0, .null, .null, .null])), (q_1, .inr (3, [.null, .null, .long 0, .null, .null]))] H_2 := hP
  have hD : va_D A [(r, .inr (5, [.int 0, .int 0, .null, .null, .int 0, .null, .null, .null])), (q_1, .inr (3, [.null, .null, .long 0, .null, .null]))] := hD
  refine W.cs (cells' := 1) (slots' := 5) rfl rfl ?_
  refine lv_dup hx hb dX5_init_2_8 rfl ?_
  obtain ⟨r_5, e_6, h⟩ := ga_gb h
  have hFc := va_free (wc := [(q_1, .inr (3, [.null, .null, .long 0, .null, .null]))]) hD hS hA [1] rfl
  refine va_callv (va_runIN (As := []) (rest := [.ref q_1, .ref r]) ⟨hx, hb, hml, hown, hts⟩ (met_X3_init l D cA (va_A [(q_1, .inr (3, [.null, .null, .long 0, .null, .null]))] H_2.size) q_1 N r_5 e_6) (⟨va_cnB 0 hts (lw_meth q152) rfl rfl rfl (hK.2.1 _ q218 rfl) (hts _ q72) (by decide +kernel) ⟨Nat.le_of_ble_eq_true rfl, Nat.le_of_ble_eq_true rfl⟩, rfl, hts _ q151⟩) (ga_LS hK (hP.sub (ws' := [(q_1, .inr (3, [.null, .null, .long 0, .null, .null]))]) [1] rfl) (hD.sub (ws' := [(q_1, .inr (3, [.null, .null, .long 0, .null, .null]))]) [1] (by decide) rfl).self (fun _ hq => Or.inr hq)) rfl rfl hl.1 rfl (lv_room (Nat.le_of_ble_eq_true rfl)) dX5_init_2_9 ⟨Nat.le_of_ble_eq_true rfl, Nat.le_of_ble_eq_true rfl⟩) hS (fun q _ hq => hFc q hq) hFc (fun u_10 t H_9 locs ht _ w_8 hB _ hk hS => ?_)
  obtain ⟨hP1, -, hD1⟩ := hB
  rw [show u_10.1 = r_5 from w_8.symm] at hP1 hD1
  rw [ht] at hP1
  obtain ⟨hP, hD⟩ := va_join (wr := [(r, .inr (5, [.int 0, .int 0, .null, .null, .int 0, .null, .null, .null]))]) (w1 := [(q_1, .inr (3, [.ref (u_10.2 0), .ref (u_10.2 1), .long r_5.1, .ref (u_10.2 2), .ref (u_10.2 3)])), ((u_10.2 0), .inl (cA 1, 2, .inr (.inl r_5.2.1))), ((u_10.2 1), .inl (cA 1, 2, .inr (.inl r_5.2.2.1))), ((u_10.2 2), .inl (cA 0, 2, .inl r_5.2.2.2.1)), ((u_10.2 3), .inl (cA 1, 2, .inr (.inl r_5.2.2.2.2)))]) hP hD [1] [0] rfl rfl (by decide) (by decide) hk hFc hP1 hD1
  have hP : va_P D ga_cl [(r, .inr (5, [.int 0, .int 0, .null, .null, .int 0, .null, .null, .null])), (q_1, .inr (3, [.ref (u_10.2 0), .ref (u_10.2 1), .long r_5.1, .ref (u_10.2 2), .ref (u_10.2 3)])), ((u_10.2 0), .inl (cA 1, 2, .inr (.inl r_5.2.1))), ((u_10.2 1), .inl (cA 1, 2, .inr (.inl r_5.2.2.1))), ((u_10.2 2), .inl (cA 0, 2, .inl r_5.2.2.2.1)), ((u_10.2 3), .inl (cA 1, 2, .inr (.inl r_5.2.2.2.2)))] H_9 := hP
  have hD : va_D A [(r, .inr (5, [.int 0, .int 0, .null, .null, .int 0, .null, .null, .null])), (q_1, .inr (3, [.ref (u_10.2 0), .ref (u_10.2 1), .long r_5.1, .ref (u_10.2 2), .ref (u_10.2 3)])), ((u_10.2 0), .inl (cA 1, 2, .inr (.inl r_5.2.1))), ((u_10.2 1), .inl (cA 1, 2, .inr (.inl r_5.2.2.1))), ((u_10.2 2), .inl (cA 0, 2, .inl r_5.2.2.2.1)), ((u_10.2 3), .inl (cA 1, 2, .inr (.inl r_5.2.2.2.2)))] := hD
  refine W.cs (cells' := 5) (slots' := 13) rfl rfl ?_
  refine va_putF hx hb hts in_X5 tyX5 tyX5_ok nmX5 hown hK.1 hP hD hS 0 (fs := [.int 0, .int 0, .null, .null, .int 0, .null, .null, .null]) rfl rfl 2 (by decide) (hts _ q227) (fun _ hh => hh) rfl hin rfl (v := .ref q_1) rfl rfl rfl (show 2 < 8 by decide) dX5_init_2_12 (fun H_12 locs hP hD hS => ?_)
  have hP : va_P D ga_cl [(r, .inr (5, [.int 0, .int 0, .ref q_1, .null, .int 0, .null, .null, .null])), (q_1, .inr (3, [.ref (u_10.2 0), .ref (u_10.2 1), .long r_5.1, .ref (u_10.2 2), .ref (u_10.2 3)])), ((u_10.2 0), .inl (cA 1, 2, .inr (.inl r_5.2.1))), ((u_10.2 1), .inl (cA 1, 2, .inr (.inl r_5.2.2.1))), ((u_10.2 2), .inl (cA 0, 2, .inl r_5.2.2.2.1)), ((u_10.2 3), .inl (cA 1, 2, .inr (.inl r_5.2.2.2.2)))] H_12 := hP
  have hD : va_D A [(r, .inr (5, [.int 0, .int 0, .ref q_1, .null, .int 0, .null, .null, .null])), (q_1, .inr (3, [.ref (u_10.2 0), .ref (u_10.2 1), .long r_5.1, .ref (u_10.2 2), .ref (u_10.2 3)])), ((u_10.2 0), .inl (cA 1, 2, .inr (.inl r_5.2.1))), ((u_10.2 1), .inl (cA 1, 2, .inr (.inl r_5.2.2.1))), ((u_10.2 2), .inl (cA 0, 2, .inl r_5.2.2.2.1)), ((u_10.2 3), .inl (cA 1, 2, .inr (.inl r_5.2.2.2.2)))] := hD
  refine lv_aload_n hx hb dX5_init_2_15 rfl (lv_at hl 0 rfl) ?_
  refine lv_bipush (v := 8) hx hb dX5_init_2_16 (by decide) ?_
  refine va_newa (atype := .int) (a0 := (8, .inl (fun _ => 0))) hx hb (hts _ q176) rfl hK.1 hP hD hS hA (fun _ => rfl) (by decide) rfl (Nat.le_of_ble_eq_true rfl) (Nat.le_of_ble_eq_true rfl) (Nat.le_of_ble_eq_true rfl) dX5_init_2_18 (fun q_14 k_16 H_15 hK9 hP hD hS => ?_)
  obtain rfl := ga_tyqI hK9
  have hP : va_P D ga_cl [(r, .inr (5, [.int 0, .int 0, .ref q_1, .null, .int 0, .null, .null, .null])), (q_1, .inr (3, [.ref (u_10.2 0), .ref (u_10.2 1), .long r_5.1, .ref (u_10.2 2), .ref (u_10.2 3)])), ((u_10.2 0), .inl (cA 1, 2, .inr (.inl r_5.2.1))), ((u_10.2 1), .inl (cA 1, 2, .inr (.inl r_5.2.2.1))), ((u_10.2 2), .inl (cA 0, 2, .inl r_5.2.2.2.1)), ((u_10.2 3), .inl (cA 1, 2, .inr (.inl r_5.2.2.2.2))), (q_14, .inl (cA 0, 8, .inl (fun _ => 0)))] H_15 := hP
  have hD : va_D A [(r, .inr (5, [.int 0, .int 0, .ref q_1, .null, .int 0, .null, .null, .null])), (q_1, .inr (3, [.ref (u_10.2 0), .ref (u_10.2 1), .long r_5.1, .ref (u_10.2 2), .ref (u_10.2 3)])), ((u_10.2 0), .inl (cA 1, 2, .inr (.inl r_5.2.1))), ((u_10.2 1), .inl (cA 1, 2, .inr (.inl r_5.2.2.1))), ((u_10.2 2), .inl (cA 0, 2, .inl r_5.2.2.2.1)), ((u_10.2 3), .inl (cA 1, 2, .inr (.inl r_5.2.2.2.2))), (q_14, .inl (cA 0, 8, .inl (fun _ => 0)))] := hD
  refine W.cs (cells' := 6) (slots' := 21) rfl rfl ?_
  refine va_putF hx hb hts in_X5 tyX5 tyX5_ok nmX5 hown hK.1 hP hD hS 0 (fs := [.int 0, .int 0, .ref q_1, .null, .int 0, .null, .null, .null]) rfl rfl 3 (by decide) (hts _ q229) (fun _ hh => hh) rfl hin rfl (v := .ref q_14) rfl rfl rfl (show 3 < 8 by decide) dX5_init_2_20 (fun H_17 locs hP hD hS => ?_)
  have hP : va_P D ga_cl [(r, .inr (5, [.int 0, .int 0, .ref q_1, .ref q_14, .int 0, .null, .null, .null])), (q_1, .inr (3, [.ref (u_10.2 0), .ref (u_10.2 1), .long r_5.1, .ref (u_10.2 2), .ref (u_10.2 3)])), ((u_10.2 0), .inl (cA 1, 2, .inr (.inl r_5.2.1))), ((u_10.2 1), .inl (cA 1, 2, .inr (.inl r_5.2.2.1))), ((u_10.2 2), .inl (cA 0, 2, .inl r_5.2.2.2.1)), ((u_10.2 3), .inl (cA 1, 2, .inr (.inl r_5.2.2.2.2))), (q_14, .inl (cA 0, 8, .inl (fun _ => 0)))] H_17 := hP
  have hD : va_D A [(r, .inr (5, [.int 0, .int 0, .ref q_1, .ref q_14, .int 0, .null, .null, .null])), (q_1, .inr (3, [.ref (u_10.2 0), .ref (u_10.2 1), .long r_5.1, .ref (u_10.2 2), .ref (u_10.2 3)])), ((u_10.2 0), .inl (cA 1, 2, .inr (.inl r_5.2.1))), ((u_10.2 1), .inl (cA 1, 2, .inr (.inl r_5.2.2.1))), ((u_10.2 2), .inl (cA 0, 2, .inl r_5.2.2.2.1)), ((u_10.2 3), .inl (cA 1, 2, .inr (.inl r_5.2.2.2.2))), (q_14, .inl (cA 0, 8, .inl (fun _ => 0)))] := hD
  refine lv_aload_n hx hb dX5_init_2_23 rfl (lv_at hl 0 rfl) ?_
  refine lv_iconst (v := 2) hx hb dX5_init_2_24 (by decide) ?_
  refine va_newa (atype := .int) (a0 := (2, .inl (fun _ => 0))) hx hb (hts _ q176) rfl hK.1 hP hD hS hA (fun _ => rfl) (by decide) rfl (Nat.le_of_ble_eq_true rfl) (Nat.le_of_ble_eq_true rfl) (Nat.le_of_ble_eq_true rfl) dX5_init_2_25 (fun q_19 k_21 H_20 hK9 hP hD hS => ?_)
  obtain rfl := ga_tyqI hK9
  have hP : va_P D ga_cl [(r, .inr (5, [.int 0, .int 0, .ref q_1, .ref q_14, .int 0, .null, .null, .null])), (q_1, .inr (3, [.ref (u_10.2 0), .ref (u_10.2 1), .long r_5.1, .ref (u_10.2 2), .ref (u_10.2 3)])), ((u_10.2 0), .inl (cA 1, 2, .inr (.inl r_5.2.1))), ((u_10.2 1), .inl (cA 1, 2, .inr (.inl r_5.2.2.1))), ((u_10.2 2), .inl (cA 0, 2, .inl r_5.2.2.2.1)), ((u_10.2 3), .inl (cA 1, 2, .inr (.inl r_5.2.2.2.2))), (q_14, .inl (cA 0, 8, .inl (fun _ => 0))), (q_19, .inl (cA 0, 2, .inl (fun _ => 0)))] H_20 := hP
  have hD : va_D A [(r, .inr (5, [.int 0, .int 0, .ref q_1, .ref q_14, .int 0, .null, .null, .null])), (q_1, .inr (3, [.ref (u_10.2 0), .ref (u_10.2 1), .long r_5.1, .ref (u_10.2 2), .ref (u_10.2 3)])), ((u_10.2 0), .inl (cA 1, 2, .inr (.inl r_5.2.1))), ((u_10.2 1), .inl (cA 1, 2, .inr (.inl r_5.2.2.1))), ((u_10.2 2), .inl (cA 0, 2, .inl r_5.2.2.2.1)), ((u_10.2 3), .inl (cA 1, 2, .inr (.inl r_5.2.2.2.2))), (q_14, .inl (cA 0, 8, .inl (fun _ => 0))), (q_19, .inl (cA 0, 2, .inl (fun _ => 0)))] := hD
  refine W.cs (cells' := 7) (slots' := 23) rfl rfl ?_
  refine va_putF hx hb hts in_X5 tyX5 tyX5_ok nmX5 hown hK.1 hP hD hS 0 (fs := [.int 0, .int 0, .ref q_1, .ref q_14, .int 0, .null, .null, .null]) rfl rfl 5 (by decide) (hts _ q232) (fun _ hh => hh) rfl hin rfl (v := .ref q_19) rfl rfl rfl (show 5 < 8 by decide) dX5_init_2_27 (fun H_22 locs hP hD hS => ?_)
  have hP : va_P D ga_cl [(r, .inr (5, [.int 0, .int 0, .ref q_1, .ref q_14, .int 0, .ref q_19, .null, .null])), (q_1, .inr (3, [.ref (u_10.2 0), .ref (u_10.2 1), .long r_5.1, .ref (u_10.2 2), .ref (u_10.2 3)])), ((u_10.2 0), .inl (cA 1, 2, .inr (.inl r_5.2.1))), ((u_10.2 1), .inl (cA 1, 2, .inr (.inl r_5.2.2.1))), ((u_10.2 2), .inl (cA 0, 2, .inl r_5.2.2.2.1)), ((u_10.2 3), .inl (cA 1, 2, .inr (.inl r_5.2.2.2.2))), (q_14, .inl (cA 0, 8, .inl (fun _ => 0))), (q_19, .inl (cA 0, 2, .inl (fun _ => 0)))] H_22 := hP
  have hD : va_D A [(r, .inr (5, [.int 0, .int 0, .ref q_1, .ref q_14, .int 0, .ref q_19, .null, .null])), (q_1, .inr (3, [.ref (u_10.2 0), .ref (u_10.2 1), .long r_5.1, .ref (u_10.2 2), .ref (u_10.2 3)])), ((u_10.2 0), .inl (cA 1, 2, .inr (.inl r_5.2.1))), ((u_10.2 1), .inl (cA 1, 2, .inr (.inl r_5.2.2.1))), ((u_10.2 2), .inl (cA 0, 2, .inl r_5.2.2.2.1)), ((u_10.2 3), .inl (cA 1, 2, .inr (.inl r_5.2.2.2.2))), (q_14, .inl (cA 0, 8, .inl (fun _ => 0))), (q_19, .inl (cA 0, 2, .inl (fun _ => 0)))] := hD
  refine lv_aload_n hx hb dX5_init_2_30 rfl (lv_at hl 0 rfl) ?_
  refine lv_bipush (v := 49) hx hb dX5_init_2_31 (by decide) ?_
  refine va_newa (atype := .int) (a0 := (49, .inl (fun _ => 0))) hx hb (hts _ q176) rfl hK.1 hP hD hS hA (fun _ => rfl) (by decide) rfl (Nat.le_of_ble_eq_true rfl) (Nat.le_of_ble_eq_true rfl) (Nat.le_of_ble_eq_true rfl) dX5_init_2_33 (fun q_24 k_26 H_25 hK9 hP hD hS => ?_)
  obtain rfl := ga_tyqI hK9
  have hP : va_P D ga_cl [(r, .inr (5, [.int 0, .int 0, .ref q_1, .ref q_14, .int 0, .ref q_19, .null, .null])), (q_1, .inr (3, [.ref (u_10.2 0), .ref (u_10.2 1), .long r_5.1, .ref (u_10.2 2), .ref (u_10.2 3)])), ((u_10.2 0), .inl (cA 1, 2, .inr (.inl r_5.2.1))), ((u_10.2 1), .inl (cA 1, 2, .inr (.inl r_5.2.2.1))), ((u_10.2 2), .inl (cA 0, 2, .inl r_5.2.2.2.1)), ((u_10.2 3), .inl (cA 1, 2, .inr (.inl r_5.2.2.2.2))), (q_14, .inl (cA 0, 8, .inl (fun _ => 0))), (q_19, .inl (cA 0, 2, .inl (fun _ => 0))), (q_24, .inl (cA 0, 49, .inl (fun _ => 0)))] H_25 := hP
  have hD : va_D A [(r, .inr (5, [.int 0, .int 0, .ref q_1, .ref q_14, .int 0, .ref q_19, .null, .null])), (q_1, .inr (3, [.ref (u_10.2 0), .ref (u_10.2 1), .long r_5.1, .ref (u_10.2 2), .ref (u_10.2 3)])), ((u_10.2 0), .inl (cA 1, 2, .inr (.inl r_5.2.1))), ((u_10.2 1), .inl (cA 1, 2, .inr (.inl r_5.2.2.1))), ((u_10.2 2), .inl (cA 0, 2, .inl r_5.2.2.2.1)), ((u_10.2 3), .inl (cA 1, 2, .inr (.inl r_5.2.2.2.2))), (q_14, .inl (cA 0, 8, .inl (fun _ => 0))), (q_19, .inl (cA 0, 2, .inl (fun _ => 0))), (q_24, .inl (cA 0, 49, .inl (fun _ => 0)))] := hD
  refine W.cs (cells' := 8) (slots' := 72) rfl rfl ?_
  refine va_putF hx hb hts in_X5 tyX5 tyX5_ok nmX5 hown hK.1 hP hD hS 0 (fs := [.int 0, .int 0, .ref q_1, .ref q_14, .int 0, .ref q_19, .null, .null]) rfl rfl 6 (by decide) (hts _ q235) (fun _ hh => hh) rfl hin rfl (v := .ref q_24) rfl rfl rfl (show 6 < 8 by decide) dX5_init_2_35 (fun H_27 locs hP hD hS => ?_)
  have hP : va_P D ga_cl [(r, .inr (5, [.int 0, .int 0, .ref q_1, .ref q_14, .int 0, .ref q_19, .ref q_24, .null])), (q_1, .inr (3, [.ref (u_10.2 0), .ref (u_10.2 1), .long r_5.1, .ref (u_10.2 2), .ref (u_10.2 3)])), ((u_10.2 0), .inl (cA 1, 2, .inr (.inl r_5.2.1))), ((u_10.2 1), .inl (cA 1, 2, .inr (.inl r_5.2.2.1))), ((u_10.2 2), .inl (cA 0, 2, .inl r_5.2.2.2.1)), ((u_10.2 3), .inl (cA 1, 2, .inr (.inl r_5.2.2.2.2))), (q_14, .inl (cA 0, 8, .inl (fun _ => 0))), (q_19, .inl (cA 0, 2, .inl (fun _ => 0))), (q_24, .inl (cA 0, 49, .inl (fun _ => 0)))] H_27 := hP
  have hD : va_D A [(r, .inr (5, [.int 0, .int 0, .ref q_1, .ref q_14, .int 0, .ref q_19, .ref q_24, .null])), (q_1, .inr (3, [.ref (u_10.2 0), .ref (u_10.2 1), .long r_5.1, .ref (u_10.2 2), .ref (u_10.2 3)])), ((u_10.2 0), .inl (cA 1, 2, .inr (.inl r_5.2.1))), ((u_10.2 1), .inl (cA 1, 2, .inr (.inl r_5.2.2.1))), ((u_10.2 2), .inl (cA 0, 2, .inl r_5.2.2.2.1)), ((u_10.2 3), .inl (cA 1, 2, .inr (.inl r_5.2.2.2.2))), (q_14, .inl (cA 0, 8, .inl (fun _ => 0))), (q_19, .inl (cA 0, 2, .inl (fun _ => 0))), (q_24, .inl (cA 0, 49, .inl (fun _ => 0)))] := hD
  refine lv_aload_n hx hb dX5_init_2_38 rfl (lv_at hl 0 rfl) ?_
  refine lv_bipush (v := 49) hx hb dX5_init_2_39 (by decide) ?_
  refine va_newa (atype := .int) (a0 := (49, .inl (fun _ => 0))) hx hb (hts _ q176) rfl hK.1 hP hD hS hA (fun _ => rfl) (by decide) rfl (Nat.le_of_ble_eq_true rfl) (Nat.le_of_ble_eq_true rfl) (Nat.le_of_ble_eq_true rfl) dX5_init_2_41 (fun q_29 k_31 H_30 hK9 hP hD hS => ?_)
  obtain rfl := ga_tyqI hK9
  have hP : va_P D ga_cl [(r, .inr (5, [.int 0, .int 0, .ref q_1, .ref q_14, .int 0, .ref q_19, .ref q_24, .null])), (q_1, .inr (3, [.ref (u_10.2 0), .ref (u_10.2 1), .long r_5.1, .ref (u_10.2 2), .ref (u_10.2 3)])), ((u_10.2 0), .inl (cA 1, 2, .inr (.inl r_5.2.1))), ((u_10.2 1), .inl (cA 1, 2, .inr (.inl r_5.2.2.1))), ((u_10.2 2), .inl (cA 0, 2, .inl r_5.2.2.2.1)), ((u_10.2 3), .inl (cA 1, 2, .inr (.inl r_5.2.2.2.2))), (q_14, .inl (cA 0, 8, .inl (fun _ => 0))), (q_19, .inl (cA 0, 2, .inl (fun _ => 0))), (q_24, .inl (cA 0, 49, .inl (fun _ => 0))), (q_29, .inl (cA 0, 49, .inl (fun _ => 0)))] H_30 := hP
  have hD : va_D A [(r, .inr (5, [.int 0, .int 0, .ref q_1, .ref q_14, .int 0, .ref q_19, .ref q_24, .null])), (q_1, .inr (3, [.ref (u_10.2 0), .ref (u_10.2 1), .long r_5.1, .ref (u_10.2 2), .ref (u_10.2 3)])), ((u_10.2 0), .inl (cA 1, 2, .inr (.inl r_5.2.1))), ((u_10.2 1), .inl (cA 1, 2, .inr (.inl r_5.2.2.1))), ((u_10.2 2), .inl (cA 0, 2, .inl r_5.2.2.2.1)), ((u_10.2 3), .inl (cA 1, 2, .inr (.inl r_5.2.2.2.2))), (q_14, .inl (cA 0, 8, .inl (fun _ => 0))), (q_19, .inl (cA 0, 2, .inl (fun _ => 0))), (q_24, .inl (cA 0, 49, .inl (fun _ => 0))), (q_29, .inl (cA 0, 49, .inl (fun _ => 0)))] := hD
  refine W.cs (cells' := 9) (slots' := 121) rfl rfl ?_
  refine va_putF hx hb hts in_X5 tyX5 tyX5_ok nmX5 hown hK.1 hP hD hS 0 (fs := [.int 0, .int 0, .ref q_1, .ref q_14, .int 0, .ref q_19, .ref q_24, .null]) rfl rfl 7 (by decide) (hts _ q238) (fun _ hh => hh) rfl hin rfl (v := .ref q_29) rfl rfl rfl (show 7 < 8 by decide) dX5_init_2_43 (fun H_32 locs hP hD hS => ?_)
  have hP : va_P D ga_cl [(r, .inr (5, [.int 0, .int 0, .ref q_1, .ref q_14, .int 0, .ref q_19, .ref q_24, .ref q_29])), (q_1, .inr (3, [.ref (u_10.2 0), .ref (u_10.2 1), .long r_5.1, .ref (u_10.2 2), .ref (u_10.2 3)])), ((u_10.2 0), .inl (cA 1, 2, .inr (.inl r_5.2.1))), ((u_10.2 1), .inl (cA 1, 2, .inr (.inl r_5.2.2.1))), ((u_10.2 2), .inl (cA 0, 2, .inl r_5.2.2.2.1)), ((u_10.2 3), .inl (cA 1, 2, .inr (.inl r_5.2.2.2.2))), (q_14, .inl (cA 0, 8, .inl (fun _ => 0))), (q_19, .inl (cA 0, 2, .inl (fun _ => 0))), (q_24, .inl (cA 0, 49, .inl (fun _ => 0))), (q_29, .inl (cA 0, 49, .inl (fun _ => 0)))] H_32 := hP
  have hD : va_D A [(r, .inr (5, [.int 0, .int 0, .ref q_1, .ref q_14, .int 0, .ref q_19, .ref q_24, .ref q_29])), (q_1, .inr (3, [.ref (u_10.2 0), .ref (u_10.2 1), .long r_5.1, .ref (u_10.2 2), .ref (u_10.2 3)])), ((u_10.2 0), .inl (cA 1, 2, .inr (.inl r_5.2.1))), ((u_10.2 1), .inl (cA 1, 2, .inr (.inl r_5.2.2.1))), ((u_10.2 2), .inl (cA 0, 2, .inl r_5.2.2.2.1)), ((u_10.2 3), .inl (cA 1, 2, .inr (.inl r_5.2.2.2.2))), (q_14, .inl (cA 0, 8, .inl (fun _ => 0))), (q_19, .inl (cA 0, 2, .inl (fun _ => 0))), (q_24, .inl (cA 0, 49, .inl (fun _ => 0))), (q_29, .inl (cA 0, 49, .inl (fun _ => 0)))] := hD
  refine lv_aload_n hx hb dX5_init_2_46 rfl (lv_at hl 0 rfl) ?_
  refine lv_iload_n hx hb dX5_init_2_47 rfl (lv_at hl 2 rfl) ?_
  refine va_putF hx hb hts in_X5 tyX5 tyX5_ok nmX5 hown hK.1 hP hD hS 0 (fs := [.int 0, .int 0, .ref q_1, .ref q_14, .int 0, .ref q_19, .ref q_24, .ref q_29]) rfl rfl 0 (by decide) (hts _ q223) (fun _ hh => hh) rfl hin rfl (v := .int x2) rfl rfl rfl (show 0 < 8 by decide) dX5_init_2_48 (fun H_34 locs hP hD hS => ?_)
  have hP : va_P D ga_cl [(r, .inr (5, [.int x2, .int 0, .ref q_1, .ref q_14, .int 0, .ref q_19, .ref q_24, .ref q_29])), (q_1, .inr (3, [.ref (u_10.2 0), .ref (u_10.2 1), .long r_5.1, .ref (u_10.2 2), .ref (u_10.2 3)])), ((u_10.2 0), .inl (cA 1, 2, .inr (.inl r_5.2.1))), ((u_10.2 1), .inl (cA 1, 2, .inr (.inl r_5.2.2.1))), ((u_10.2 2), .inl (cA 0, 2, .inl r_5.2.2.2.1)), ((u_10.2 3), .inl (cA 1, 2, .inr (.inl r_5.2.2.2.2))), (q_14, .inl (cA 0, 8, .inl (fun _ => 0))), (q_19, .inl (cA 0, 2, .inl (fun _ => 0))), (q_24, .inl (cA 0, 49, .inl (fun _ => 0))), (q_29, .inl (cA 0, 49, .inl (fun _ => 0)))] H_34 := hP
  have hD : va_D A [(r, .inr (5, [.int x2, .int 0, .ref q_1, .ref q_14, .int 0, .ref q_19, .ref q_24, .ref q_29])), (q_1, .inr (3, [.ref (u_10.2 0), .ref (u_10.2 1), .long r_5.1, .ref (u_10.2 2), .ref (u_10.2 3)])), ((u_10.2 0), .inl (cA 1, 2, .inr (.inl r_5.2.1))), ((u_10.2 1), .inl (cA 1, 2, .inr (.inl r_5.2.2.1))), ((u_10.2 2), .inl (cA 0, 2, .inl r_5.2.2.2.1)), ((u_10.2 3), .inl (cA 1, 2, .inr (.inl r_5.2.2.2.2))), (q_14, .inl (cA 0, 8, .inl (fun _ => 0))), (q_19, .inl (cA 0, 2, .inl (fun _ => 0))), (q_24, .inl (cA 0, 49, .inl (fun _ => 0))), (q_29, .inl (cA 0, 49, .inl (fun _ => 0)))] := hD
  refine lv_aload_n hx hb dX5_init_2_51 rfl (lv_at hl 0 rfl) ?_
  refine lv_iload_n hx hb dX5_init_2_52 rfl (lv_at hl 3 rfl) ?_
  refine va_putF hx hb hts in_X5 tyX5 tyX5_ok nmX5 hown hK.1 hP hD hS 0 (fs := [.int x2, .int 0, .ref q_1, .ref q_14, .int 0, .ref q_19, .ref q_24, .ref q_29]) rfl rfl 1 (by decide) (hts _ q225) (fun _ hh => hh) rfl hin rfl (v := .int x3) rfl rfl rfl (show 1 < 8 by decide) dX5_init_2_53 (fun H_36 locs hP hD hS => ?_)
  have hP : va_P D ga_cl [(r, .inr (5, [.int x2, .int x3, .ref q_1, .ref q_14, .int 0, .ref q_19, .ref q_24, .ref q_29])), (q_1, .inr (3, [.ref (u_10.2 0), .ref (u_10.2 1), .long r_5.1, .ref (u_10.2 2), .ref (u_10.2 3)])), ((u_10.2 0), .inl (cA 1, 2, .inr (.inl r_5.2.1))), ((u_10.2 1), .inl (cA 1, 2, .inr (.inl r_5.2.2.1))), ((u_10.2 2), .inl (cA 0, 2, .inl r_5.2.2.2.1)), ((u_10.2 3), .inl (cA 1, 2, .inr (.inl r_5.2.2.2.2))), (q_14, .inl (cA 0, 8, .inl (fun _ => 0))), (q_19, .inl (cA 0, 2, .inl (fun _ => 0))), (q_24, .inl (cA 0, 49, .inl (fun _ => 0))), (q_29, .inl (cA 0, 49, .inl (fun _ => 0)))] H_36 := hP
  have hD : va_D A [(r, .inr (5, [.int x2, .int x3, .ref q_1, .ref q_14, .int 0, .ref q_19, .ref q_24, .ref q_29])), (q_1, .inr (3, [.ref (u_10.2 0), .ref (u_10.2 1), .long r_5.1, .ref (u_10.2 2), .ref (u_10.2 3)])), ((u_10.2 0), .inl (cA 1, 2, .inr (.inl r_5.2.1))), ((u_10.2 1), .inl (cA 1, 2, .inr (.inl r_5.2.2.1))), ((u_10.2 2), .inl (cA 0, 2, .inl r_5.2.2.2.1)), ((u_10.2 3), .inl (cA 1, 2, .inr (.inl r_5.2.2.2.2))), (q_14, .inl (cA 0, 8, .inl (fun _ => 0))), (q_19, .inl (cA 0, 2, .inl (fun _ => 0))), (q_24, .inl (cA 0, 49, .inl (fun _ => 0))), (q_29, .inl (cA 0, 49, .inl (fun _ => 0)))] := hD
  refine lv_aload_n hx hb dX5_init_2_56 rfl (lv_at hl 0 rfl) ?_
  refine va_get hx hb hts in_X5 hown hK.1 hP 0 (fs := [.int x2, .int x3, .ref q_1, .ref q_14, .int 0, .ref q_19, .ref q_24, .ref q_29]) rfl rfl 2 (by decide) (hts _ q227) (fun _ hh => hh) (v := .ref q_1) rfl dX5_init_2_57 ?_
  refine lv_aload_n hx hb dX5_init_2_60 rfl (lv_at hl 1 rfl) ?_
  have hP : va_P D ga_cl [(r, .inr (5, [.int x2, .int x3, .ref q_1, .ref q_14, .int 0, .ref q_19, .ref q_24, .ref q_29])), (q_1, .inr (3, [.ref (u_10.2 0), .ref (u_10.2 1), .long r_5.1, .ref (u_10.2 2), .ref (u_10.2 3)])), ((u_10.2 0), .inl (cA 1, 2, .inr (.inl r_5.2.1))), ((u_10.2 1), .inl (cA 1, 2, .inr (.inl r_5.2.2.1))), ((u_10.2 2), .inl (cA 0, 2, .inl r_5.2.2.2.1)), ((u_10.2 3), .inl (cA 1, 2, .inr (.inl r_5.2.2.2.2))), (q_14, .inl (cA 0, 8, .inl (fun _ => 0))), (q_19, .inl (cA 0, 2, .inl (fun _ => 0))), (q_24, .inl (cA 0, 49, .inl (fun _ => 0))), (q_29, .inl (cA 0, 49, .inl (fun _ => 0))), (o, .inr (5, [.int o1, .int o2, .ref o_b, .ref o_w, .int oN, .ref o_s, .ref o_r, .ref o_v])), (o_r, .inl (cA 0, 49, .inl oR)), (o_v, .inl (cA 0, 49, .inl oV)), (o_b, .inr (3, [.ref o_b_s, .ref o_b_a, .long obB, .ref o_b_c, .ref o_b_g])), (o_b_s, .inl (cA 1, 2, .inr (.inl obS))), (o_b_a, .inl (cA 1, 2, .inr (.inl obA))), (o_b_c, .inl (cA 0, 2, .inl obC))] H_36 := hP.app (ga_roK.at (B := A) hR hS (fun _ h => h)).1
  refine va_get hx hb hts in_X5 hown hK.1 hP 10 (fs := [.int o1, .int o2, .ref o_b, .ref o_w, .int oN, .ref o_s, .ref o_r, .ref o_v]) rfl rfl 2 (by decide) (hts _ q227) (fun _ hh => hh) (v := .ref o_b) rfl dX5_init_2_61 ?_
  replace hP := hP.sub (ws' := [(r, .inr (5, [.int x2, .int x3, .ref q_1, .ref q_14, .int 0, .ref q_19, .ref q_24, .ref q_29])), (q_1, .inr (3, [.ref (u_10.2 0), .ref (u_10.2 1), .long r_5.1, .ref (u_10.2 2), .ref (u_10.2 3)])), ((u_10.2 0), .inl (cA 1, 2, .inr (.inl r_5.2.1))), ((u_10.2 1), .inl (cA 1, 2, .inr (.inl r_5.2.2.1))), ((u_10.2 2), .inl (cA 0, 2, .inl r_5.2.2.2.1)), ((u_10.2 3), .inl (cA 1, 2, .inr (.inl r_5.2.2.2.2))), (q_14, .inl (cA 0, 8, .inl (fun _ => 0))), (q_19, .inl (cA 0, 2, .inl (fun _ => 0))), (q_24, .inl (cA 0, 49, .inl (fun _ => 0))), (q_29, .inl (cA 0, 49, .inl (fun _ => 0)))]) [0, 1, 2, 3, 4, 5, 6, 7, 8, 9] rfl
  obtain ⟨r_38, e_39, h⟩ := ga_gb h
  have hFc := va_free (wc := [(q_1, .inr (3, [.ref (u_10.2 0), .ref (u_10.2 1), .long r_5.1, .ref (u_10.2 2), .ref (u_10.2 3)])), ((u_10.2 0), .inl (cA 1, 2, .inr (.inl r_5.2.1))), ((u_10.2 1), .inl (cA 1, 2, .inr (.inl r_5.2.2.1))), ((u_10.2 2), .inl (cA 0, 2, .inl r_5.2.2.2.1))]) hD hS hA [1, 2, 3, 4] rfl
  refine va_callv (va_runV (As := [.ref o_b]) (rest := []) ⟨hx, hb, hml, hown, hts⟩ (met_X3_set l D cA (va_A [(q_1, .inr (3, [.ref (u_10.2 0), .ref (u_10.2 1), .long r_5.1, .ref (u_10.2 2), .ref (u_10.2 3)])), ((u_10.2 0), .inl (cA 1, 2, .inr (.inl r_5.2.1))), ((u_10.2 1), .inl (cA 1, 2, .inr (.inl r_5.2.2.1))), ((u_10.2 2), .inl (cA 0, 2, .inl r_5.2.2.2.1))] H_36.size) q_1 (u_10.2 0) (u_10.2 1) (u_10.2 2) (u_10.2 3) o_b o_b_s o_b_a o_b_c o_b_g zs r_5.1 r_5.2.1 r_5.2.2.1 r_5.2.2.2.1 obB obS obA obC N r_38 e_39) (cwV 1 hts (lw_V q794 q795 q796 q72 q797) rfl rfl rfl (by decide +kernel) ⟨Nat.le_of_ble_eq_true rfl, Nat.le_of_ble_eq_true rfl⟩) (ga_XRV ga_roK (ga_roS (ga_roK.at (B := A) hR hS (fun _ h => h)) [3, 4, 5, 6] rfl hFc) hK (hP.sub (ws' := [(q_1, .inr (3, [.ref (u_10.2 0), .ref (u_10.2 1), .long r_5.1, .ref (u_10.2 2), .ref (u_10.2 3)])), ((u_10.2 0), .inl (cA 1, 2, .inr (.inl r_5.2.1))), ((u_10.2 1), .inl (cA 1, 2, .inr (.inl r_5.2.2.1))), ((u_10.2 2), .inl (cA 0, 2, .inl r_5.2.2.2.1))]) [1, 2, 3, 4] rfl) (hD.sub (ws' := [(q_1, .inr (3, [.ref (u_10.2 0), .ref (u_10.2 1), .long r_5.1, .ref (u_10.2 2), .ref (u_10.2 3)])), ((u_10.2 0), .inl (cA 1, 2, .inr (.inl r_5.2.1))), ((u_10.2 1), .inl (cA 1, 2, .inr (.inl r_5.2.2.1))), ((u_10.2 2), .inl (cA 0, 2, .inl r_5.2.2.2.1))]) [1, 2, 3, 4] (by decide) rfl).self (fun _ hq => Or.inr hq) (hST.at hS hFc) (va_recv hK.1 hP (ci := 3) (q0 := 1) rfl rfl)) rfl rfl hl.1 rfl (lv_room (Nat.le_of_ble_eq_true rfl)) dX5_init_2_64 ⟨Nat.le_of_ble_eq_true rfl, Nat.le_of_ble_eq_true rfl⟩) hS (fun q _ hq => hFc q hq) hFc (fun u_43 t H_42 locs ht _ w_41 hB _ hk hS => ?_)
  obtain ⟨hP1, -, hD1⟩ := hB
  obtain rfl := w_41
  rw [ht] at hP1
  obtain ⟨hP, hD⟩ := va_join (wr := [(r, .inr (5, [.int x2, .int x3, .ref q_1, .ref q_14, .int 0, .ref q_19, .ref q_24, .ref q_29])), ((u_10.2 3), .inl (cA 1, 2, .inr (.inl r_5.2.2.2.2))), (q_14, .inl (cA 0, 8, .inl (fun _ => 0))), (q_19, .inl (cA 0, 2, .inl (fun _ => 0))), (q_24, .inl (cA 0, 49, .inl (fun _ => 0))), (q_29, .inl (cA 0, 49, .inl (fun _ => 0)))]) (w1 := [(q_1, .inr (3, [.ref (u_10.2 0), .ref (u_10.2 1), .long r_38.1, .ref (u_10.2 2), .ref (u_10.2 3)])), ((u_10.2 0), .inl (cA 1, 2, .inr (.inl r_38.2.1))), ((u_10.2 1), .inl (cA 1, 2, .inr (.inl r_38.2.2.1))), ((u_10.2 2), .inl (cA 0, 2, .inl r_38.2.2.2))]) hP hD [1, 2, 3, 4] [0, 5, 6, 7, 8, 9] rfl rfl (by decide) (by decide) hk hFc hP1 hD1
  have hP : va_P D ga_cl [(r, .inr (5, [.int x2, .int x3, .ref q_1, .ref q_14, .int 0, .ref q_19, .ref q_24, .ref q_29])), ((u_10.2 3), .inl (cA 1, 2, .inr (.inl r_5.2.2.2.2))), (q_14, .inl (cA 0, 8, .inl (fun _ => 0))), (q_19, .inl (cA 0, 2, .inl (fun _ => 0))), (q_24, .inl (cA 0, 49, .inl (fun _ => 0))), (q_29, .inl (cA 0, 49, .inl (fun _ => 0))), (q_1, .inr (3, [.ref (u_10.2 0), .ref (u_10.2 1), .long r_38.1, .ref (u_10.2 2), .ref (u_10.2 3)])), ((u_10.2 0), .inl (cA 1, 2, .inr (.inl r_38.2.1))), ((u_10.2 1), .inl (cA 1, 2, .inr (.inl r_38.2.2.1))), ((u_10.2 2), .inl (cA 0, 2, .inl r_38.2.2.2))] H_42 := hP
  have hD : va_D A [(r, .inr (5, [.int x2, .int x3, .ref q_1, .ref q_14, .int 0, .ref q_19, .ref q_24, .ref q_29])), ((u_10.2 3), .inl (cA 1, 2, .inr (.inl r_5.2.2.2.2))), (q_14, .inl (cA 0, 8, .inl (fun _ => 0))), (q_19, .inl (cA 0, 2, .inl (fun _ => 0))), (q_24, .inl (cA 0, 49, .inl (fun _ => 0))), (q_29, .inl (cA 0, 49, .inl (fun _ => 0))), (q_1, .inr (3, [.ref (u_10.2 0), .ref (u_10.2 1), .long r_38.1, .ref (u_10.2 2), .ref (u_10.2 3)])), ((u_10.2 0), .inl (cA 1, 2, .inr (.inl r_38.2.1))), ((u_10.2 1), .inl (cA 1, 2, .inr (.inl r_38.2.2.1))), ((u_10.2 2), .inl (cA 0, 2, .inl r_38.2.2.2))] := hD
  refine lv_aload_n hx hb dX5_init_2_67 rfl (lv_at hl 1 rfl) ?_
  have hP : va_P D ga_cl [(r, .inr (5, [.int x2, .int x3, .ref q_1, .ref q_14, .int 0, .ref q_19, .ref q_24, .ref q_29])), ((u_10.2 3), .inl (cA 1, 2, .inr (.inl r_5.2.2.2.2))), (q_14, .inl (cA 0, 8, .inl (fun _ => 0))), (q_19, .inl (cA 0, 2, .inl (fun _ => 0))), (q_24, .inl (cA 0, 49, .inl (fun _ => 0))), (q_29, .inl (cA 0, 49, .inl (fun _ => 0))), (q_1, .inr (3, [.ref (u_10.2 0), .ref (u_10.2 1), .long r_38.1, .ref (u_10.2 2), .ref (u_10.2 3)])), ((u_10.2 0), .inl (cA 1, 2, .inr (.inl r_38.2.1))), ((u_10.2 1), .inl (cA 1, 2, .inr (.inl r_38.2.2.1))), ((u_10.2 2), .inl (cA 0, 2, .inl r_38.2.2.2)), (o, .inr (5, [.int o1, .int o2, .ref o_b, .ref o_w, .int oN, .ref o_s, .ref o_r, .ref o_v])), (o_r, .inl (cA 0, 49, .inl oR)), (o_v, .inl (cA 0, 49, .inl oV)), (o_b, .inr (3, [.ref o_b_s, .ref o_b_a, .long obB, .ref o_b_c, .ref o_b_g])), (o_b_s, .inl (cA 1, 2, .inr (.inl obS))), (o_b_a, .inl (cA 1, 2, .inr (.inl obA))), (o_b_c, .inl (cA 0, 2, .inl obC))] H_42 := hP.app (ga_roK.at (B := A) hR hS (fun _ h => h)).1
  refine va_get hx hb hts in_X5 hown hK.1 hP 10 (fs := [.int o1, .int o2, .ref o_b, .ref o_w, .int oN, .ref o_s, .ref o_r, .ref o_v]) rfl rfl 6 (by decide) (hts _ q235) (fun _ hh => hh) (v := .ref o_r) rfl dX5_init_2_68 ?_
  refine lv_iconst (v := 0) hx hb dX5_init_2_71 (by decide) ?_
  refine lv_aload_n hx hb dX5_init_2_72 rfl (lv_at hl 0 rfl) ?_
  refine va_get hx hb hts in_X5 hown hK.1 hP 0 (fs := [.int x2, .int x3, .ref q_1, .ref q_14, .int 0, .ref q_19, .ref q_24, .ref q_29]) rfl rfl 6 (by decide) (hts _ q235) (fun _ hh => hh) (v := .ref q_24) rfl dX5_init_2_73 ?_
  refine lv_iconst (v := 0) hx hb dX5_init_2_76 (by decide) ?_
  refine lv_bipush (v := 49) hx hb dX5_init_2_77 (by decide) ?_
  replace hP := hP.sub (ws' := [(r, .inr (5, [.int x2, .int x3, .ref q_1, .ref q_14, .int 0, .ref q_19, .ref q_24, .ref q_29])), ((u_10.2 3), .inl (cA 1, 2, .inr (.inl r_5.2.2.2.2))), (q_14, .inl (cA 0, 8, .inl (fun _ => 0))), (q_19, .inl (cA 0, 2, .inl (fun _ => 0))), (q_24, .inl (cA 0, 49, .inl (fun _ => 0))), (q_29, .inl (cA 0, 49, .inl (fun _ => 0))), (q_1, .inr (3, [.ref (u_10.2 0), .ref (u_10.2 1), .long r_38.1, .ref (u_10.2 2), .ref (u_10.2 3)])), ((u_10.2 0), .inl (cA 1, 2, .inr (.inl r_38.2.1))), ((u_10.2 1), .inl (cA 1, 2, .inr (.inl r_38.2.2.1))), ((u_10.2 2), .inl (cA 0, 2, .inl r_38.2.2.2))]) [0, 1, 2, 3, 4, 5, 6, 7, 8, 9] rfl
  have hr_46 := ga_roK.at (B := A) hR hS (fun _ h => h)
  refine ga_copyRi hx hb (hml.trans hl.1.symm) hown (hts _ q799) (hts _ q324) (hts _ q323) (hts _ q78) hK.1 (f := oR) (g := (fun _ => 0)) (hr_46.1.sub [1] rfl) (hr_46.2 1 _ rfl) hP hD hS 4 0 0 rfl rfl rfl rfl (by decide) (by decide) (by decide) (by decide) (by decide) (fun _ _ => rfl) (Nat.le_of_ble_eq_true rfl) (by decide +kernel) dX5_init_2_79 (fun H_45 locs hP hD hS => ?_)
  have hP : va_P D ga_cl [(r, .inr (5, [.int x2, .int x3, .ref q_1, .ref q_14, .int 0, .ref q_19, .ref q_24, .ref q_29])), ((u_10.2 3), .inl (cA 1, 2, .inr (.inl r_5.2.2.2.2))), (q_14, .inl (cA 0, 8, .inl (fun _ => 0))), (q_19, .inl (cA 0, 2, .inl (fun _ => 0))), (q_24, .inl (cA 0, 49, .inl (va_cpy oR (fun _ => 0) (ix 0) (ix 0) (ix 49)))), (q_29, .inl (cA 0, 49, .inl (fun _ => 0))), (q_1, .inr (3, [.ref (u_10.2 0), .ref (u_10.2 1), .long r_38.1, .ref (u_10.2 2), .ref (u_10.2 3)])), ((u_10.2 0), .inl (cA 1, 2, .inr (.inl r_38.2.1))), ((u_10.2 1), .inl (cA 1, 2, .inr (.inl r_38.2.2.1))), ((u_10.2 2), .inl (cA 0, 2, .inl r_38.2.2.2))] H_45 := hP
  have hD : va_D A [(r, .inr (5, [.int x2, .int x3, .ref q_1, .ref q_14, .int 0, .ref q_19, .ref q_24, .ref q_29])), ((u_10.2 3), .inl (cA 1, 2, .inr (.inl r_5.2.2.2.2))), (q_14, .inl (cA 0, 8, .inl (fun _ => 0))), (q_19, .inl (cA 0, 2, .inl (fun _ => 0))), (q_24, .inl (cA 0, 49, .inl (va_cpy oR (fun _ => 0) (ix 0) (ix 0) (ix 49)))), (q_29, .inl (cA 0, 49, .inl (fun _ => 0))), (q_1, .inr (3, [.ref (u_10.2 0), .ref (u_10.2 1), .long r_38.1, .ref (u_10.2 2), .ref (u_10.2 3)])), ((u_10.2 0), .inl (cA 1, 2, .inr (.inl r_38.2.1))), ((u_10.2 1), .inl (cA 1, 2, .inr (.inl r_38.2.2.1))), ((u_10.2 2), .inl (cA 0, 2, .inl r_38.2.2.2))] := hD
  refine lv_aload_n hx hb dX5_init_2_82 rfl (lv_at hl 1 rfl) ?_
  have hP : va_P D ga_cl [(r, .inr (5, [.int x2, .int x3, .ref q_1, .ref q_14, .int 0, .ref q_19, .ref q_24, .ref q_29])), ((u_10.2 3), .inl (cA 1, 2, .inr (.inl r_5.2.2.2.2))), (q_14, .inl (cA 0, 8, .inl (fun _ => 0))), (q_19, .inl (cA 0, 2, .inl (fun _ => 0))), (q_24, .inl (cA 0, 49, .inl (va_cpy oR (fun _ => 0) (ix 0) (ix 0) (ix 49)))), (q_29, .inl (cA 0, 49, .inl (fun _ => 0))), (q_1, .inr (3, [.ref (u_10.2 0), .ref (u_10.2 1), .long r_38.1, .ref (u_10.2 2), .ref (u_10.2 3)])), ((u_10.2 0), .inl (cA 1, 2, .inr (.inl r_38.2.1))), ((u_10.2 1), .inl (cA 1, 2, .inr (.inl r_38.2.2.1))), ((u_10.2 2), .inl (cA 0, 2, .inl r_38.2.2.2)), (o, .inr (5, [.int o1, .int o2, .ref o_b, .ref o_w, .int oN, .ref o_s, .ref o_r, .ref o_v])), (o_r, .inl (cA 0, 49, .inl oR)), (o_v, .inl (cA 0, 49, .inl oV)), (o_b, .inr (3, [.ref o_b_s, .ref o_b_a, .long obB, .ref o_b_c, .ref o_b_g])), (o_b_s, .inl (cA 1, 2, .inr (.inl obS))), (o_b_a, .inl (cA 1, 2, .inr (.inl obA))), (o_b_c, .inl (cA 0, 2, .inl obC))] H_45 := hP.app (ga_roK.at (B := A) hR hS (fun _ h => h)).1
  refine va_get hx hb hts in_X5 hown hK.1 hP 10 (fs := [.int o1, .int o2, .ref o_b, .ref o_w, .int oN, .ref o_s, .ref o_r, .ref o_v]) rfl rfl 7 (by decide) (hts _ q238) (fun _ hh => hh) (v := .ref o_v) rfl dX5_init_2_83 ?_
  refine lv_iconst (v := 0) hx hb dX5_init_2_86 (by decide) ?_
  refine lv_aload_n hx hb dX5_init_2_87 rfl (lv_at hl 0 rfl) ?_
  refine va_get hx hb hts in_X5 hown hK.1 hP 0 (fs := [.int x2, .int x3, .ref q_1, .ref q_14, .int 0, .ref q_19, .ref q_24, .ref q_29]) rfl rfl 7 (by decide) (hts _ q238) (fun _ hh => hh) (v := .ref q_29) rfl dX5_init_2_88 ?_
  refine lv_iconst (v := 0) hx hb dX5_init_2_91 (by decide) ?_
  refine lv_bipush (v := 49) hx hb dX5_init_2_92 (by decide) ?_
  replace hP := hP.sub (ws' := [(r, .inr (5, [.int x2, .int x3, .ref q_1, .ref q_14, .int 0, .ref q_19, .ref q_24, .ref q_29])), ((u_10.2 3), .inl (cA 1, 2, .inr (.inl r_5.2.2.2.2))), (q_14, .inl (cA 0, 8, .inl (fun _ => 0))), (q_19, .inl (cA 0, 2, .inl (fun _ => 0))), (q_24, .inl (cA 0, 49, .inl (va_cpy oR (fun _ => 0) (ix 0) (ix 0) (ix 49)))), (q_29, .inl (cA 0, 49, .inl (fun _ => 0))), (q_1, .inr (3, [.ref (u_10.2 0), .ref (u_10.2 1), .long r_38.1, .ref (u_10.2 2), .ref (u_10.2 3)])), ((u_10.2 0), .inl (cA 1, 2, .inr (.inl r_38.2.1))), ((u_10.2 1), .inl (cA 1, 2, .inr (.inl r_38.2.2.1))), ((u_10.2 2), .inl (cA 0, 2, .inl r_38.2.2.2))]) [0, 1, 2, 3, 4, 5, 6, 7, 8, 9] rfl
  have hr_48 := ga_roK.at (B := A) hR hS (fun _ h => h)
  refine ga_copyRi hx hb (hml.trans hl.1.symm) hown (hts _ q799) (hts _ q324) (hts _ q323) (hts _ q78) hK.1 (f := oV) (g := (fun _ => 0)) (hr_48.1.sub [2] rfl) (hr_48.2 2 _ rfl) hP hD hS 5 0 0 rfl rfl rfl rfl (by decide) (by decide) (by decide) (by decide) (by decide) (fun _ _ => rfl) (Nat.le_of_ble_eq_true rfl) (by decide +kernel) dX5_init_2_94 (fun H_47 locs hP hD hS => ?_)
  have hP : va_P D ga_cl [(r, .inr (5, [.int x2, .int x3, .ref q_1, .ref q_14, .int 0, .ref q_19, .ref q_24, .ref q_29])), ((u_10.2 3), .inl (cA 1, 2, .inr (.inl r_5.2.2.2.2))), (q_14, .inl (cA 0, 8, .inl (fun _ => 0))), (q_19, .inl (cA 0, 2, .inl (fun _ => 0))), (q_24, .inl (cA 0, 49, .inl (va_cpy oR (fun _ => 0) (ix 0) (ix 0) (ix 49)))), (q_29, .inl (cA 0, 49, .inl (va_cpy oV (fun _ => 0) (ix 0) (ix 0) (ix 49)))), (q_1, .inr (3, [.ref (u_10.2 0), .ref (u_10.2 1), .long r_38.1, .ref (u_10.2 2), .ref (u_10.2 3)])), ((u_10.2 0), .inl (cA 1, 2, .inr (.inl r_38.2.1))), ((u_10.2 1), .inl (cA 1, 2, .inr (.inl r_38.2.2.1))), ((u_10.2 2), .inl (cA 0, 2, .inl r_38.2.2.2))] H_47 := hP
  have hD : va_D A [(r, .inr (5, [.int x2, .int x3, .ref q_1, .ref q_14, .int 0, .ref q_19, .ref q_24, .ref q_29])), ((u_10.2 3), .inl (cA 1, 2, .inr (.inl r_5.2.2.2.2))), (q_14, .inl (cA 0, 8, .inl (fun _ => 0))), (q_19, .inl (cA 0, 2, .inl (fun _ => 0))), (q_24, .inl (cA 0, 49, .inl (va_cpy oR (fun _ => 0) (ix 0) (ix 0) (ix 49)))), (q_29, .inl (cA 0, 49, .inl (va_cpy oV (fun _ => 0) (ix 0) (ix 0) (ix 49)))), (q_1, .inr (3, [.ref (u_10.2 0), .ref (u_10.2 1), .long r_38.1, .ref (u_10.2 2), .ref (u_10.2 3)])), ((u_10.2 0), .inl (cA 1, 2, .inr (.inl r_38.2.1))), ((u_10.2 1), .inl (cA 1, 2, .inr (.inl r_38.2.2.1))), ((u_10.2 2), .inl (cA 0, 2, .inl r_38.2.2.2))] := hD
  have hP9 := hP.sub (ws' := [(r, .inr (5, [.int x2, .int x3, .ref q_1, .ref q_14, .int 0, .ref q_19, .ref q_24, .ref q_29])), (q_14, .inl (cA 0, 8, .inl (fun _ => 0))), (q_19, .inl (cA 0, 2, .inl (fun _ => 0))), (q_24, .inl (cA 0, 49, .inl (va_cpy oR (fun _ => 0) (ix 0) (ix 0) (ix 49)))), (q_29, .inl (cA 0, 49, .inl (va_cpy oV (fun _ => 0) (ix 0) (ix 0) (ix 49)))), (q_1, .inr (3, [.ref (u_10.2 0), .ref (u_10.2 1), .long r_38.1, .ref (u_10.2 2), .ref (u_10.2 3)])), ((u_10.2 0), .inl (cA 1, 2, .inr (.inl r_38.2.1))), ((u_10.2 1), .inl (cA 1, 2, .inr (.inl r_38.2.2.1))), ((u_10.2 2), .inl (cA 0, 2, .inl r_38.2.2.2)), ((u_10.2 3), .inl (cA 1, 2, .inr (.inl r_5.2.2.2.2)))]) [0, 2, 3, 4, 5, 6, 7, 8, 9, 1] rfl
  have hD9 := hD.sub (ws' := [(r, .inr (5, [.int x2, .int x3, .ref q_1, .ref q_14, .int 0, .ref q_19, .ref q_24, .ref q_29])), (q_14, .inl (cA 0, 8, .inl (fun _ => 0))), (q_19, .inl (cA 0, 2, .inl (fun _ => 0))), (q_24, .inl (cA 0, 49, .inl (va_cpy oR (fun _ => 0) (ix 0) (ix 0) (ix 49)))), (q_29, .inl (cA 0, 49, .inl (va_cpy oV (fun _ => 0) (ix 0) (ix 0) (ix 49)))), (q_1, .inr (3, [.ref (u_10.2 0), .ref (u_10.2 1), .long r_38.1, .ref (u_10.2 2), .ref (u_10.2 3)])), ((u_10.2 0), .inl (cA 1, 2, .inr (.inl r_38.2.1))), ((u_10.2 1), .inl (cA 1, 2, .inr (.inl r_38.2.2.1))), ((u_10.2 2), .inl (cA 0, 2, .inl r_38.2.2.2)), ((u_10.2 3), .inl (cA 1, 2, .inr (.inl r_5.2.2.2.2)))]) [0, 2, 3, 4, 5, 6, 7, 8, 9, 1] (by decide) rfl
  obtain rfl := Option.some.inj h
  exact W.vret hx hb hr (fun t ht hW => ⟨⟨((x2, x3, 0, (fun _ => 0), (fun _ => 0), (va_cpy oR (fun _ => 0) (ix 0) (ix 0) (ix 49)), (va_cpy oV (fun _ => 0) (ix 0) (ix 0) (ix 49)), r_38.1, r_38.2.1, r_38.2.2.1, r_38.2.2.2, r_5.2.2.2.2), ga_ad [q_1, q_14, q_19, q_24, q_29, (u_10.2 0), (u_10.2 1), (u_10.2 2), (u_10.2 3)]), rfl, rfl, ⟨by rw [ht]; exact hP9, hK.warm hW, hD9⟩⟩, hS.F ht⟩) hS.2.2 dX5_init_2_97
