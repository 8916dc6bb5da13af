abbrev rm_J0_init : Room := { frames := 1, cells := 0, slots := 0, locals := 12 }
def F_J0_init (N : Nat)   : Option (Unit) :=
  some ()
set_option maxHeartbeats 4000000 in
theorem met_J0_init (l : Launch) (D : va_G) (cA : Nat → ClassId) (A : Nat → Prop) (al : Nat)  (N : Nat)   (out : Unit) (h : F_J0_init N = some out) : Met l yJ0_init (ws_ yJ0_init cJ0_init 1 none) rm_J0_init (ga_L D cA A [(al, .inr (6, [.int 0, .null, .int 0]))] [.ref al]) (va_Qv (fun (u : Unit) => out = u) (fun (u : Unit) (t : State) => va_P D ga_cl [(al, .inr (6, [.int 0, .null, .int 0]))] t.heap ∧ ga_K D cA t ∧ va_D A [(al, .inr (6, [.int 0, .null, .int 0]))]) A) 0 0 A := by
  refine Met.ofW (cc := cJ0_init) (maxL := 1) (ret := none) (by decide) rfl ?_
  intro p e s m args below meth c s₁ B hml hv
  obtain ⟨rfl, hP, hK, hD, hA⟩ := hv
  have hS : va_S A s.heap s.heap [] := va_S.rf
  have hin : meth.name = "<init>" := (name_of_methodNamed B.named B.method).1
  have C : ga_cx p m c meth s _ RJ0 cJ0_init 1 none := ga_cx_of B hml
  have C0 := C
  obtain ⟨hx, hb, hr, hlocks, hml, hown, hts⟩ := C0
  have hl := lv_entry ([.ref al]) (n := 1) (Nat.le_of_ble_eq_true rfl)
  rw [lg_entry_eq]
  generalize (lg_sl ([.ref al]) ++ List.replicate (1 - (lg_sl ([.ref al])).length) Slot.unset).toArray = ls at hl ⊢
  have hl : lv_has ls 1 [(0, .ref al)] := hl
  rw [F_J0_init] at h
  refine lv_aload_n hx hb dJ0_init_0 rfl (lv_at hl 0 rfl) ?_
  refine W.objInit hx hb hown (hts _ q132) (hts _ q113) (hts _ q114) rfl (by rw [hml]; exact hl.1) rfl dJ0_init_1 (Nat.le_of_ble_eq_true rfl) (Nat.le_of_ble_eq_true rfl) ?_
  refine W.eq (g2 := F0 m 4 ls []) rfl ?_
  have hP9 := hP.sub (ws' := [(al, .inr (6, [.int 0, .null, .int 0]))]) [0] rfl
  have hD9 := hD.sub (ws' := [(al, .inr (6, [.int 0, .null, .int 0]))]) [0] (by decide) rfl
  obtain rfl := Option.some.inj h
  exact W.vret hx hb hr (fun t ht hW => ⟨⟨(), rfl, rfl, ⟨by rw [ht]; exact hP9, hK.warm hW, hD9⟩⟩, hS.F ht⟩) hS.2.2 dJ0_init_4
abbrev rm_J1_init : Room := { frames := 2, cells := 0, slots := 0, locals := 32 }
def F_J1_init (N : Nat)   : Option (Unit) :=
  ((F_J0_init N).bind fun r_1 =>
  some ())
set_option maxHeartbeats 4000000 in
theorem met_J1_init (l : Launch) (D : va_G) (cA : Nat → ClassId) (A : Nat → Prop) (al : Nat)  (N : Nat)   (out : Unit) (h : F_J1_init N = some out) : Met l yJ1_init (ws_ yJ1_init cJ1_init 1 none) rm_J1_init (ga_L D cA A [(al, .inr (6, [.int 0, .null, .int 0]))] [.ref al]) (va_Qv (fun (u : Unit) => out = u) (fun (u : Unit) (t : State) => va_P D ga_cl [(al, .inr (6, [.int 0, .null, .int 0]))] t.heap ∧ ga_K D cA t ∧ va_D A [(al, .inr (6, [.int 0, .null, .int 0]))]) A) 0 0 A := by
  refine Met.ofW (cc := cJ1_init) (maxL := 1) (ret := none) (by decide) rfl ?_
  intro p e s m args below meth c s₁ B hml hv
  obtain ⟨rfl, hP, hK, hD, hA⟩ := hv
  have hS : va_S A s.heap s.heap [] := va_S.rf
  have hin : meth.name = "<init>" := (name_of_methodNamed B.named B.method).1
  have C : ga_cx p m c meth s _ RJ1 cJ1_init 1 none := ga_cx_of B hml
  have C0 := C
  obtain ⟨hx, hb, hr, hlocks, hml, hown, hts⟩ := C0
  have hl := lv_entry ([.ref al]) (n := 1) (Nat.le_of_ble_eq_true rfl)
  rw [lg_entry_eq]
  generalize (lg_sl ([.ref al]) ++ List.replicate (1 - (lg_sl ([.ref al])).length) Slot.unset).toArray = ls at hl ⊢
  have hl : lv_has ls 1 [(0, .ref al)] := hl
  rw [F_J1_init] at h
  refine lv_aload_n hx hb dJ1_init_0 rfl (lv_at hl 0 rfl) ?_
  obtain ⟨r_1, e_2, h⟩ := ga_gb h
  have hFc := va_free (wc := [(al, .inr (6, [.int 0, .null, .int 0]))]) hD hS hA [0] rfl
  refine va_callv (va_runI (As := []) (rest := []) ⟨hx, hb, hml, hown, hts⟩ (met_J0_init l D cA (va_A [(al, .inr (6, [.int 0, .null, .int 0]))] s.heap.size) al N r_1 e_2) (cwI 0 hts (lw_meth q131) rfl rfl rfl (hts _ q69) (hts _ q129) (hts _ q130) rfl (by decide +kernel) ⟨Nat.le_of_ble_eq_true rfl, Nat.le_of_ble_eq_true rfl⟩) (ga_LS hK (hP.sub (ws' := [(al, .inr (6, [.int 0, .null, .int 0]))]) [0] rfl) (hD.sub (ws' := [(al, .inr (6, [.int 0, .null, .int 0]))]) [0] (by decide) rfl).self (fun _ hq => Or.inr hq)) rfl rfl hl.1 rfl (lv_room (Nat.le_of_ble_eq_true rfl)) dJ1_init_1 ⟨Nat.le_of_ble_eq_true rfl, Nat.le_of_ble_eq_true rfl⟩) hS (fun q _ hq => hFc q hq) hFc (fun u_6 t H_5 locs ht _ w_4 hB _ hk hS => ?_)
  obtain ⟨hP1, -, hD1⟩ := hB
  obtain rfl := w_4
  rw [ht] at hP1
  obtain ⟨hP, hD⟩ := va_join (wr := []) (w1 := [(al, .inr (6, [.int 0, .null, .int 0]))]) hP hD [0] [] rfl rfl (by decide) (by decide) hk hFc hP1 hD1
  have hP : va_P D ga_cl [(al, .inr (6, [.int 0, .null, .int 0]))] H_5 := hP
  have hD : va_D A [(al, .inr (6, [.int 0, .null, .int 0]))] := hD
  refine lv_aload_n hx hb dJ1_init_4 rfl (lv_at hl 0 rfl) ?_
  refine lv_iconst (v := 0) hx hb dJ1_init_5 (by decide) ?_
  refine va_put hx hb hts in_J2 tyJ2 tyJ2_ok nmJ2 hown hK.1 hP hD hS 0 (fs := [.int 0, .null, .int 0]) rfl rfl 0 (by decide) (hts _ q137) (fun _ hh => hh) rfl (v := .int 0) rfl rfl rfl (show 0 < 3 by decide) dJ1_init_6 (fun H_8 locs hP hD hS => ?_)
  have hP : va_P D ga_cl [(al, .inr (6, [.int 0, .null, .int 0]))] H_8 := hP
  have hD : va_D A [(al, .inr (6, [.int 0, .null, .int 0]))] := hD
  have hP9 := hP.sub (ws' := [(al, .inr (6, [.int 0, .null, .int 0]))]) [0] rfl
  have hD9 := hD.sub (ws' := [(al, .inr (6, [.int 0, .null, .int 0]))]) [0] (by decide) rfl
  obtain rfl := Option.some.inj h
  exact W.vret hx hb hr (fun t ht hW => ⟨⟨(), rfl, rfl, ⟨by rw [ht]; exact hP9, hK.warm hW, hD9⟩⟩, hS.F ht⟩) hS.2.2 dJ1_init_9
abbrev rm_J2_init : Room := { frames := 3, cells := 0, slots := 0, locals := 52 }
def F_J2_init (N : Nat)   : Option (Unit) :=
  ((F_J1_init N).bind fun r_1 =>
  some ())
set_option maxHeartbeats 4000000 in
theorem met_J2_init (l : Launch) (D : va_G) (cA : Nat → ClassId) (A : Nat → Prop) (al : Nat) (zs : Nat → Nat)  (N : Nat)   (out : Unit) (h : F_J2_init N = some out) : Met l yJ2_init (ws_ yJ2_init cJ2_init 1 none) rm_J2_init (ga_X D cA zs A [(al, .inr (6, [.int 0, .null, .int 0]))] [.ref al]) (va_Qv (fun (u : Unit) => out = u) (fun (u : Unit) (t : State) => va_P D ga_cl [(al, .inr (6, [.int 0, .ref (zs 0), .int 0]))] t.heap ∧ ga_K D cA t ∧ va_D A [(al, .inr (6, [.int 0, .ref (zs 0), .int 0]))]) A) 0 0 A := by
  refine Met.ofW (cc := cJ2_init) (maxL := 1) (ret := none) (by decide) rfl ?_
  intro p e s m args below meth c s₁ B hml hv
  obtain ⟨rfl, hP, hK, hD, hA, hST⟩ := hv
  have hS : va_S A s.heap s.heap [] := va_S.rf
  have hin : meth.name = "<init>" := (name_of_methodNamed B.named B.method).1
  have C : ga_cx p m c meth s _ RJ2 cJ2_init 1 none := ga_cx_of B hml
  have C0 := C
  obtain ⟨hx, hb, hr, hlocks, hml, hown, hts⟩ := C0
  have hl := lv_entry ([.ref al]) (n := 1) (Nat.le_of_ble_eq_true rfl)
  rw [lg_entry_eq]
  generalize (lg_sl ([.ref al]) ++ List.replicate (1 - (lg_sl ([.ref al])).length) Slot.unset).toArray = ls at hl ⊢
  have hl : lv_has ls 1 [(0, .ref al)] := hl
  rw [F_J2_init] at h
  refine lv_aload_n hx hb dJ2_init_0 rfl (lv_at hl 0 rfl) ?_
  obtain ⟨r_1, e_2, h⟩ := ga_gb h
  have hFc := va_free (wc := [(al, .inr (6, [.int 0, .null, .int 0]))]) hD hS hA [0] rfl
  refine va_callv (va_runI (As := []) (rest := []) ⟨hx, hb, hml, hown, hts⟩ (met_J1_init l D cA (va_A [(al, .inr (6, [.int 0, .null, .int 0]))] s.heap.size) al N r_1 e_2) (cwI 0 hts (lw_meth q128) rfl rfl rfl (hts _ q70) (hts _ q126) (hts _ q127) rfl (by decide +kernel) ⟨Nat.le_of_ble_eq_true rfl, Nat.le_of_ble_eq_true rfl⟩) (ga_LS hK (hP.sub (ws' := [(al, .inr (6, [.int 0, .null, .int 0]))]) [0] rfl) (hD.sub (ws' := [(al, .inr (6, [.int 0, .null, .int 0]))]) [0] (by decide) rfl).self (fun _ hq => Or.inr hq)) rfl rfl hl.1 rfl (lv_room (Nat.le_of_ble_eq_true rfl)) dJ2_init_1 ⟨Nat.le_of_ble_eq_true rfl, Nat.le_of_ble_eq_true rfl⟩) hS (fun q _ hq => hFc q hq) hFc (fun u_6 t H_5 locs ht _ w_4 hB _ hk hS => ?_)
  obtain ⟨hP1, -, hD1⟩ := hB
  obtain rfl := w_4
  rw [ht] at hP1
  obtain ⟨hP, hD⟩ := va_join (wr := []) (w1 := [(al, .inr (6, [.int 0, .null, .int 0]))]) hP hD [0] [] rfl rfl (by decide) (by decide) hk hFc hP1 hD1
  have hP : va_P D ga_cl [(al, .inr (6, [.int 0, .null, .int 0]))] H_5 := hP
  have hD : va_D A [(al, .inr (6, [.int 0, .null, .int 0]))] := hD
  refine lv_aload_n hx hb dJ2_init_4 rfl (lv_at hl 0 rfl) ?_
  refine va_gets hx hb hST.2.2.1 hS hown (hts _ q133) (fun _ hh => hh) dJ2_init_5 ?_
  refine va_put hx hb hts in_J2 tyJ2 tyJ2_ok nmJ2 hown hK.1 hP hD hS 0 (fs := [.int 0, .null, .int 0]) rfl rfl 1 (by decide) (hts _ q135) (fun _ hh => hh) rfl (v := .ref (zs 0)) rfl rfl rfl (show 1 < 3 by decide) dJ2_init_8 (fun H_8 locs hP hD hS => ?_)
  have hP : va_P D ga_cl [(al, .inr (6, [.int 0, .ref (zs 0), .int 0]))] H_8 := hP
  have hD : va_D A [(al, .inr (6, [.int 0, .ref (zs 0), .int 0]))] := hD
  have hP9 := hP.sub (ws' := [(al, .inr (6, [.int 0, .ref (zs 0), .int 0]))]) [0] rfl
  have hD9 := hD.sub (ws' := [(al, .inr (6, [.int 0, .ref (zs 0), .int 0]))]) [0] (by decide) rfl
  obtain rfl := Option.some.inj h
  exact W.vret hx hb hr (fun t ht hW => ⟨⟨(), rfl, rfl, ⟨by rw [ht]; exact hP9, hK.warm hW, hD9⟩⟩, hS.F ht⟩) hS.2.2 dJ2_init_11
abbrev rm_J3_newLength : Room := { frames := 2, cells := 0, slots := 0, locals := 24 }
def F_J3_newLength (N : Nat)  (x0 : Int32) (x1 : Int32) (x2 : Int32) : Option (Int32) :=
  (if (x0 + (jimax x1 x2)) ≤ 0 then
  none
  else
  (if 2147483639 < (x0 + (jimax x1 x2)) then
  none
  else
  some (x0 + (jimax x1 x2))))
set_option maxHeartbeats 4000000 in
theorem met_J3_newLength (l : Launch) (D : va_G) (cA : Nat → ClassId)   (N : Nat) (x0 : Int32) (x1 : Int32) (x2 : Int32)  (out : Int32) (h : F_J3_newLength N x0 x1 x2 = some out) : Met l yJ3_newLength (ws_ yJ3_newLength cJ3_newLength 4 (some .int)) rm_J3_newLength (ga_P D cA [] [.int x0, .int x1, .int x2]) (vp_Si (fun r => out = r)) 0 0 ga_F := by
  refine Met.ofW (cc := cJ3_newLength) (maxL := 4) (ret := (some .int)) (by decide) rfl ?_
  intro p e s m args below meth c s₁ B hml hv
  obtain ⟨rfl, hP, hK⟩ := hv
  have C : ga_cx p m c meth s _ RJ3 cJ3_newLength 4 (some .int) := ga_cx_of B hml
  have C0 := C
  obtain ⟨hx, hb, hr, hlocks, hml, hown, hts⟩ := C0
  have hl := lv_entry ([.int x0, .int x1, .int x2]) (n := 4) (Nat.le_of_ble_eq_true rfl)
  rw [lg_entry_eq]
  generalize (lg_sl ([.int x0, .int x1, .int x2]) ++ List.replicate (4 - (lg_sl ([.int x0, .int x1, .int x2])).length) Slot.unset).toArray = ls at hl ⊢
  have hl : lv_has ls 4 [(0, .int x0), (1, .int x1), (2, .int x2)] := hl
  rw [F_J3_newLength] at h
  refine lv_iload_n hx hb dJ3_newLength_0 rfl (lv_at hl 0 rfl) ?_
  refine lv_iload_n hx hb dJ3_newLength_1 rfl (lv_at hl 1 rfl) ?_
  refine lv_iload_n hx hb dJ3_newLength_2 rfl (lv_at hl 2 rfl) ?_
  refine ga_mmax hx hb (hml.trans hl.1.symm) hown (hts _ q277) (hts _ q278) (hts _ q76) (hts _ q279) (Nat.le_of_ble_eq_true rfl) (Nat.le_of_ble_eq_true rfl) (Nat.le_of_ble_eq_true rfl) (Nat.le_of_ble_eq_true rfl) dJ3_newLength_3 ?_
  refine lv_iadd hx hb dJ3_newLength_6 ?_
  refine lv_istore_n (lv' := [(3, .int (x0 + (jimax x1 x2))), (0, .int x0), (1, .int x1), (2, .int x2)]) hx hb dJ3_newLength_7 rfl hl (by decide) rfl (fun ls hl => ?_)
  refine lv_iconst (v := 0) hx hb dJ3_newLength_8 (by decide) ?_
  refine lv_iload_n hx hb dJ3_newLength_9 rfl (lv_at hl 0 rfl) ?_
  refine lv_icmp_ge (tgt := 21) hx hb dJ3_newLength_10 (by decide) (fun c_1 => ?_) (fun c_1 => ?_)
  · replace h := ga_ift c_1 h
    cases h
  · replace h := ga_iff c_1 h
    refine lv_iload_n hx hb dJ3_newLength_13 rfl (lv_at hl 0 rfl) ?_
    refine lv_ldc hx hb hown (hts _ q280) dJ3_newLength_14 ?_
    refine lv_icmp_gt (tgt := 21) hx hb dJ3_newLength_16 (by decide) (fun c_2 => ?_) (fun c_2 => ?_)
    · replace h := ga_ift c_2 h
      cases h
    · replace h := ga_iff c_2 h
      refine lv_iload_n hx hb dJ3_newLength_19 rfl (lv_at hl 0 rfl) ?_
      obtain rfl := Option.some.inj h
      exact W.iret hx hb hr (fun t ht hW => ⟨_, rfl, rfl, ht⟩) (fun _ hq => by cases hq) dJ3_newLength_20
abbrev rm_J5_copyOf_2 : Room := { frames := 2, cells := 1, slots := 100, locals := 40 }
def F_J5_copyOf_2 (N : Nat) (ln : Nat) (x1 : Int32) : Option (Nat) :=
  (if ¬ x1 < 0 ∧ ix x1 ≤ 100 then
  (if ¬ (jimin (Int32.ofNat ln) x1) < 0 ∧ ix (jimin (Int32.ofNat ln) x1) ≤ ln ∧ ix (jimin (Int32.ofNat ln) x1) ≤ (ix x1) ∧ ln ≤ ix (jimin (Int32.ofNat ln) x1) then
  some (ix x1)
  else none)
  else none)
set_option maxHeartbeats 4000000 in
theorem met_J5_copyOf_2 (l : Launch) (D : va_G) (cA : Nat → ClassId) (A : Nat → Prop) (ed : Nat) (lf : Nat → Option Nat) (EC : String) (zs : Nat → Nat) (ln : Nat) (N : Nat) (x1 : Int32) (hca : Cond.castable EC "java/lang/Object" ∈ lw_tbl) (out : Nat) (h : F_J5_copyOf_2 N ln x1 = some out) : Met l yJ5_copyOf_2 (ws_ yJ5_copyOf_2 cJ5_copyOf_2 4 (Option.some (.array (.object "java/lang/Object")))) rm_J5_copyOf_2 (ga_XR D cA zs A (ga_el EC lf) [(ed, .inl (cA 5, ln, .inr (.inr (.inr (.inr lf)))))] [.ref ed, .int x1, .ref (zs 4)]) (va_Qr (fun (u : Nat × (Nat → Nat) × (Nat → Nat → Option Nat)) => out = u.1) (fun (u : Nat × (Nat → Nat) × (Nat → Nat → Option Nat)) (a : Nat) (t : State) => (u.2.1 0) = a ∧ (fun (u : Nat × (Nat → Nat) × (Nat → Nat → Option Nat)) (t : State) => va_P D ga_cl [(ed, .inl (cA 5, ln, .inr (.inr (.inr (.inr lf))))), ((u.2.1 0), .inl (cA 5, u.1, .inr (.inr (.inr (.inr (u.2.2 0))))))] t.heap ∧ ga_K D cA t ∧ va_D A [(ed, .inl (cA 5, ln, .inr (.inr (.inr (.inr lf))))), ((u.2.1 0), .inl (cA 5, u.1, .inr (.inr (.inr (.inr (u.2.2 0))))))] ∧ (∀ j : Nat, j < ln → (u.2.2 0) j = lf j) ∧ (∀ (j y : Nat), (u.2.2 0) j = some y → lf j = some y)) u t) A) 1 100 A := by
  refine Met.ofW (cc := cJ5_copyOf_2) (maxL := 4) (ret := (Option.some (.array (.object "java/lang/Object")))) (by decide) rfl ?_
  intro p e s m args below meth c s₁ B hml hv
  obtain ⟨rfl, hP, hK, hD, hA, hST, hR⟩ := hv
  have hS : va_S A s.heap s.heap [] := va_S.rf
  have C : ga_cx p m c meth s _ RJ5 cJ5_copyOf_2 4 (Option.some (.array (.object "java/lang/Object"))) := ga_cx_of B hml
  have C0 := C
  obtain ⟨hx, hb, hr, hlocks, hml, hown, hts⟩ := C0
  have hl := lv_entry ([.ref ed, .int x1, .ref (zs 4)]) (n := 4) (Nat.le_of_ble_eq_true rfl)
  rw [lg_entry_eq]
  generalize (lg_sl ([.ref ed, .int x1, .ref (zs 4)]) ++ List.replicate (4 - (lg_sl ([.ref ed, .int x1, .ref (zs 4)])).length) Slot.unset).toArray = ls at hl ⊢
  have hl : lv_has ls 4 [(0, .ref ed), (1, .int x1), (2, .ref (zs 4))] := hl
  rw [F_J5_copyOf_2] at h
  refine lv_aload_n hx hb dJ5_copyOf_2_0 rfl (lv_at hl 2 rfl) ?_
  refine va_ldcM hx hb hown (hts _ q316) hST.2.2.2.2.2.2.2.2.2.2.2.2.2.2.1 dJ5_copyOf_2_1 ?_
  refine lv_acmp_ne (rx := (some (zs 4))) (ry := (some (zs 4))) (tgt := 13) hx hb dJ5_copyOf_2_3 (by decide) (fun z => False.elim (z (rfl))) (fun _ => ?_)
  refine lv_iload_n hx hb dJ5_copyOf_2_6 rfl (lv_at hl 1 rfl) ?_
  obtain ⟨i_1, h⟩ := ga_gif h
  refine va_newq hx hb hown (hts _ q318) hK.2.2.1 hK.1 hP hD hS hA (N' := ix x1) i_1.1 rfl (by have := i_1.2; omega) (Nat.le_of_ble_eq_true rfl) (Nat.le_trans (Nat.add_le_add_left i_1.2 _) (Nat.le_of_ble_eq_true rfl)) dJ5_copyOf_2_7 (fun q_2 k_4 H_3 hK9 hP hD hS => ?_)
  obtain rfl := ga_tyqO hK9
  refine W.widen (k := 1) (n := 100) (by decide) (Nat.add_le_add_left i_1.2 _) ?_
  have hP : va_P D ga_cl [(ed, .inl (cA 5, ln, .inr (.inr (.inr (.inr lf))))), (q_2, .inl (cA 5, (ix x1), .inr (.inr (.inr (.inr (fun _ => none))))))] H_3 := hP
  have hD : va_D A [(ed, .inl (cA 5, ln, .inr (.inr (.inr (.inr lf))))), (q_2, .inl (cA 5, (ix x1), .inr (.inr (.inr (.inr (fun _ => none))))))] := hD
  refine lv_goto (tgt := 24) hx hb dJ5_copyOf_2_10 (by decide) ?_
  refine lv_astore_n (lv' := [(3, .ref q_2), (0, .ref ed), (1, .int x1), (2, .ref (zs 4))]) hx hb dJ5_copyOf_2_24 rfl hl (by decide) rfl (fun ls hl => ?_)
  refine lv_aload_n hx hb dJ5_copyOf_2_25 rfl (lv_at hl 1 rfl) ?_
  refine lv_iconst (v := 0) hx hb dJ5_copyOf_2_26 (by decide) ?_
  refine lv_aload_n hx hb dJ5_copyOf_2_27 rfl (lv_at hl 0 rfl) ?_
  refine lv_iconst (v := 0) hx hb dJ5_copyOf_2_28 (by decide) ?_
  refine lv_aload_n hx hb dJ5_copyOf_2_29 rfl (lv_at hl 1 rfl) ?_
  refine va_alen (v := (Int32.ofNat ln)) hx hb hK.1 hP 0 5 rfl rfl rfl dJ5_copyOf_2_30 ?_
  refine lv_iload_n hx hb dJ5_copyOf_2_31 rfl (lv_at hl 2 rfl) ?_
  refine ga_mmin hx hb (hml.trans hl.1.symm) hown (hts _ q319) (hts _ q320) (hts _ q76) (hts _ q321) (Nat.le_of_ble_eq_true rfl) (Nat.le_of_ble_eq_true rfl) (Nat.le_of_ble_eq_true rfl) (Nat.le_of_ble_eq_true rfl) dJ5_copyOf_2_32 ?_
  obtain ⟨i_5, h⟩ := ga_gif h
  refine va_copyq hx hb (hml.trans hl.1.symm) hown (hts _ q322) (hts _ q324) (hts _ q323) (hts _ q78) hK.1 hP hD hS 0 1 5 5 (f := lf) (g := (fun _ => none)) (E1 := "java/lang/Object") (C := EC) rfl rfl rfl rfl (by decide) (by decide) i_5.1 (by rw [ga_c0]; have := i_5.2.1; exact (Nat.zero_add _).symm ▸ this) (by rw [ga_c0]; have := i_5.2.2.1; exact (Nat.zero_add _).symm ▸ this) (fun _ _ y9 hy9 => ga_O3 ((ga_elK.at (B := A) hR hS (fun _ h => h)) _ y9 hy9)) (vb_asgC (hK.2.1 _ hca rfl)) (Nat.le_of_ble_eq_true rfl) (by decide +kernel) dJ5_copyOf_2_35 (fun H_7 locs hP hD hS => ?_)
  have f_6 : ∀ j : Nat, j < ln → (va_cpy lf (fun _ => none) (ix 0) (ix 0) (ix (jimin (Int32.ofNat ln) x1))) j = lf j := fun j hj => ga_cpy0 i_5.2.2.2 hj
  have f_8 : ∀ (j y : Nat), (va_cpy lf (fun _ => none) (ix 0) (ix 0) (ix (jimin (Int32.ofNat ln) x1))) j = some y → lf j = some y := fun j y hy => ga_cpyE hy
  have hP : va_P D ga_cl [(ed, .inl (cA 5, ln, .inr (.inr (.inr (.inr lf))))), (q_2, .inl (cA 5, (ix x1), .inr (.inr (.inr (.inr (va_cpy lf (fun _ => none) (ix 0) (ix 0) (ix (jimin (Int32.ofNat ln) x1))))))))] H_7 := hP
  have hD : va_D A [(ed, .inl (cA 5, ln, .inr (.inr (.inr (.inr lf))))), (q_2, .inl (cA 5, (ix x1), .inr (.inr (.inr (.inr (va_cpy lf (fun _ => none) (ix 0) (ix 0) (ix (jimin (Int32.ofNat ln) x1))))))))] := hD
  refine lv_aload_n hx hb dJ5_copyOf_2_38 rfl (lv_at hl 0 rfl) ?_
  have g_9 : ∀ j : Nat, j < ln → (va_cpy lf (fun _ => none) (ix 0) (ix 0) (ix (jimin (Int32.ofNat ln) x1))) j = lf j := by intro j hj; first | exact f_6 j hj | exact f_8 j hj
  have g_10 : ∀ (j y : Nat), (va_cpy lf (fun _ => none) (ix 0) (ix 0) (ix (jimin (Int32.ofNat ln) x1))) j = some y → lf j = some y := by intro j y hy; first | exact hy | exact f_6 j y ((va_up_ne _ _ hn).symm.trans hy) | exact f_6 j y hn hy | exact f_6 j y hy | exact f_8 j y ((va_up_ne _ _ hn).symm.trans hy) | exact f_8 j y hn hy | exact f_8 j y hy
  have hP9 := hP.sub (ws' := [(ed, .inl (cA 5, ln, .inr (.inr (.inr (.inr lf))))), (q_2, .inl (cA 5, (ix x1), .inr (.inr (.inr (.inr (va_cpy lf (fun _ => none) (ix 0) (ix 0) (ix (jimin (Int32.ofNat ln) x1))))))))]) [0, 1] rfl
  have hD9 := hD.sub (ws' := [(ed, .inl (cA 5, ln, .inr (.inr (.inr (.inr lf))))), (q_2, .inl (cA 5, (ix x1), .inr (.inr (.inr (.inr (va_cpy lf (fun _ => none) (ix 0) (ix 0) (ix (jimin (Int32.ofNat ln) x1))))))))]) [0, 1] (by decide) rfl
  obtain rfl := Option.some.inj h
  exact W.aret hx hb hr (Or.inr ⟨_, rfl⟩) (Or.inr ⟨_, rfl⟩) (fun t ht hW => ⟨⟨((ix x1), ga_ad [q_2], ga_fd [(va_cpy lf (fun _ => none) (ix 0) (ix 0) (ix (jimin (Int32.ofNat ln) x1)))]), _, rfl, rfl, rfl, ⟨by rw [ht]; exact hP9, hK.warm hW, hD9, g_9, g_10⟩⟩, hS.F ht⟩) hS.2.2 dJ5_copyOf_2_39
abbrev rm_J5_copyOf : Room := { frames := 3, cells := 1, slots := 100, locals := 63 }
def F_J5_copyOf (N : Nat) (ln : Nat) (x1 : Int32) : Option (Nat) :=
  ((F_J5_copyOf_2 N ln x1).bind fun r_1 =>
  some r_1)
set_option maxHeartbeats 4000000 in
theorem met_J5_copyOf (l : Launch) (D : va_G) (cA : Nat → ClassId) (A : Nat → Prop) (ed : Nat) (lf : Nat → Option Nat) (EC : String) (zs : Nat → Nat) (ln : Nat) (N : Nat) (x1 : Int32) (hca : Cond.castable EC "java/lang/Object" ∈ lw_tbl) (out : Nat) (h : F_J5_copyOf N ln x1 = some out) : Met l yJ5_copyOf (ws_ yJ5_copyOf cJ5_copyOf 2 (Option.some (.array (.object "java/lang/Object")))) rm_J5_copyOf (ga_XR D cA zs A (ga_el EC lf) [(ed, .inl (cA 5, ln, .inr (.inr (.inr (.inr lf)))))] [.ref ed, .int x1]) (va_Qr (fun (u : Nat × (Nat → Nat) × (Nat → Nat → Option Nat)) => out = u.1) (fun (u : Nat × (Nat → Nat) × (Nat → Nat → Option Nat)) (a : Nat) (t : State) => (u.2.1 0) = a ∧ (fun (u : Nat × (Nat → Nat) × (Nat → Nat → Option Nat)) (t : State) => va_P D ga_cl [(ed, .inl (cA 5, ln, .inr (.inr (.inr (.inr lf))))), ((u.2.1 0), .inl (cA 5, u.1, .inr (.inr (.inr (.inr (u.2.2 0))))))] t.heap ∧ ga_K D cA t ∧ va_D A [(ed, .inl (cA 5, ln, .inr (.inr (.inr (.inr lf))))), ((u.2.1 0), .inl (cA 5, u.1, .inr (.inr (.inr (.inr (u.2.2 0))))))] ∧ (∀ j : Nat, j < ln → (u.2.2 0) j = lf j) ∧ (∀ (j y : Nat), (u.2.2 0) j = some y → lf j = some y)) u t) A) 1 100 A := by
  refine Met.ofW (cc := cJ5_copyOf) (maxL := 2) (ret := (Option.some (.array (.object "java/lang/Object")))) (by decide) rfl ?_
  intro p e s m args below meth c s₁ B hml hv
  obtain ⟨rfl, hP, hK, hD, hA, hST, hR⟩ := hv
  have hS : va_S A s.heap s.heap [] := va_S.rf
  have C : ga_cx p m c meth s _ RJ5 cJ5_copyOf 2 (Option.some (.array (.object "java/lang/Object"))) := ga_cx_of B hml
  have C0 := C
  obtain ⟨hx, hb, hr, hlocks, hml, hown, hts⟩ := C0
  have hl := lv_entry ([.ref ed, .int x1]) (n := 2) (Nat.le_of_ble_eq_true rfl)
  rw [lg_entry_eq]
  generalize (lg_sl ([.ref ed, .int x1]) ++ List.replicate (2 - (lg_sl ([.ref ed, .int x1])).length) Slot.unset).toArray = ls at hl ⊢
  have hl : lv_has ls 2 [(0, .ref ed), (1, .int x1)] := hl
  rw [F_J5_copyOf] at h
  refine lv_aload_n hx hb dJ5_copyOf_0 rfl (lv_at hl 0 rfl) ?_
  refine lv_iload_n hx hb dJ5_copyOf_1 rfl (lv_at hl 1 rfl) ?_
  refine lv_aload_n hx hb dJ5_copyOf_2 rfl (lv_at hl 0 rfl) ?_
  refine va_getC hx hb (hml.trans hl.1.symm) (C := "[Ljava/lang/Object;") hown (hts _ q287) (ga_nu hK q1920 rfl) (hts _ q1919) (hts _ q288) (hts _ q312) hST.2.2.2.2.2.2.2.2.2.2.2.2.2.2.1 (ga_recvO (q0 := 0) hK hP rfl) (Nat.le_of_ble_eq_true rfl) (Nat.le_of_ble_eq_true rfl) dJ5_copyOf_3 ?_
  obtain ⟨r_1, e_2, h⟩ := ga_gb h
  have hFc := va_free (wc := [(ed, .inl (cA 5, ln, .inr (.inr (.inr (.inr lf)))))]) hD hS hA [0] rfl
  refine va_callr (va_runS (As := [.ref ed, .int x1, .ref (zs 4)]) (rest := []) ⟨hx, hb, hml, hown, hts⟩ (met_J5_copyOf_2 l D cA (va_A [(ed, .inl (cA 5, ln, .inr (.inr (.inr (.inr lf)))))] s.heap.size) ed lf EC zs ln N x1 hca r_1 e_2) (va_cwS 3 hts (lw_S q313 q314 q77 q315) rfl rfl rfl (by decide +kernel) ⟨Nat.le_of_ble_eq_true rfl, Nat.le_of_ble_eq_true rfl⟩) (ga_XRS ga_elK (ga_elK.at hR hS hFc) hK (hP.sub (ws' := [(ed, .inl (cA 5, ln, .inr (.inr (.inr (.inr lf)))))]) [0] rfl) (hD.sub (ws' := [(ed, .inl (cA 5, ln, .inr (.inr (.inr (.inr lf)))))]) [0] (by decide) rfl).self (fun _ hq => Or.inr hq) (hST.at hS hFc)) rfl rfl hl.1 rfl (lv_room (Nat.le_of_ble_eq_true rfl)) dJ5_copyOf_6 ⟨Nat.le_of_ble_eq_true rfl, Nat.le_of_ble_eq_true rfl⟩) hS (fun q _ hq => hFc q hq) hFc (fun u_6 a_9 t H_5 locs ht _ w_4 hB _ hk hS => ?_)
  obtain ⟨ea, hP1, -, hD1, f_7, f_8⟩ := hB
  subst ea
  rw [show u_6.1 = r_1 from w_4.symm] at hP1 hD1
  have f_10 : ∀ j : Nat, j < ln → (u_6.2.2 0) j = lf j := by first | exact f_7 | (rw [show u_6.1 = r_1 from w_4.symm] at f_7; exact f_7)
  have f_11 : ∀ (j y : Nat), (u_6.2.2 0) j = some y → lf j = some y := by first | exact f_8 | (rw [show u_6.1 = r_1 from w_4.symm] at f_8; exact f_8)
  rw [ht] at hP1
  obtain ⟨hP, hD⟩ := va_join (wr := []) (w1 := [(ed, .inl (cA 5, ln, .inr (.inr (.inr (.inr lf))))), ((u_6.2.1 0), .inl (cA 5, r_1, .inr (.inr (.inr (.inr (u_6.2.2 0))))))]) hP hD [0] [] rfl rfl (by decide) (by decide) hk hFc hP1 hD1
  have hP : va_P D ga_cl [(ed, .inl (cA 5, ln, .inr (.inr (.inr (.inr lf))))), ((u_6.2.1 0), .inl (cA 5, r_1, .inr (.inr (.inr (.inr (u_6.2.2 0))))))] H_5 := hP
  have hD : va_D A [(ed, .inl (cA 5, ln, .inr (.inr (.inr (.inr lf))))), ((u_6.2.1 0), .inl (cA 5, r_1, .inr (.inr (.inr (.inr (u_6.2.2 0))))))] := hD
  refine W.cs (cells' := 1) (slots' := 100) rfl rfl ?_
  have g_12 : ∀ j : Nat, j < ln → (u_6.2.2 0) j = lf j := by intro j hj; first | exact f_10 j hj | exact f_11 j hj
  have g_13 : ∀ (j y : Nat), (u_6.2.2 0) j = some y → lf j = some y := by intro j y hy; first | exact hy | exact f_10 j y ((va_up_ne _ _ hn).symm.trans hy) | exact f_10 j y hn hy | exact f_10 j y hy | exact f_11 j y ((va_up_ne _ _ hn).symm.trans hy) | exact f_11 j y hn hy | exact f_11 j y hy
  have hP9 := hP.sub (ws' := [(ed, .inl (cA 5, ln, .inr (.inr (.inr (.inr lf))))), ((u_6.2.1 0), .inl (cA 5, r_1, .inr (.inr (.inr (.inr (u_6.2.2 0))))))]) [0, 1] rfl
  have hD9 := hD.sub (ws' := [(ed, .inl (cA 5, ln, .inr (.inr (.inr (.inr lf))))), ((u_6.2.1 0), .inl (cA 5, r_1, .inr (.inr (.inr (.inr (u_6.2.2 0))))))]) [0, 1] (by decide) rfl
  obtain rfl := Option.some.inj h
  exact W.aret hx hb hr (Or.inr ⟨_, rfl⟩) (Or.inr ⟨_, rfl⟩) (fun t ht hW => ⟨⟨(r_1, ga_ad [(u_6.2.1 0)], ga_fd [(u_6.2.2 0)]), _, rfl, rfl, rfl, ⟨by rw [ht]; exact hP9, hK.warm hW, hD9, g_12, g_13⟩⟩, hS.F ht⟩) hS.2.2 dJ5_copyOf_9
abbrev rm_J2_grow_2 : Room := { frames := 4, cells := 1, slots := 100, locals := 84 }
def F_J2_grow_2 (N : Nat) (lm : Int32) (lz : Int32) (ln : Nat) (x1 : Int32) : Option (Nat) :=
  (if 0 < (Int32.ofNat ln) then
  ((F_J3_newLength N (Int32.ofNat ln) (x1 - (Int32.ofNat ln)) (jishr (Int32.ofNat ln) 1)).bind fun r_2 =>
  ((F_J5_copyOf N ln r_2).bind fun r_7 =>
  some r_7))
  else
  none)
set_option maxHeartbeats 4000000 in
theorem met_J2_grow_2 (l : Launch) (D : va_G) (cA : Nat → ClassId) (A : Nat → Prop) (al : Nat) (ed : Nat) (lf : Nat → Option Nat) (EC : String) (zs : Nat → Nat) (lm : Int32) (lz : Int32) (ln : Nat) (N : Nat) (x1 : Int32) (hca : Cond.castable EC "java/lang/Object" ∈ lw_tbl) (out : Nat) (h : F_J2_grow_2 N lm lz ln x1 = some out) : Met l yJ2_grow_2 (ws_ yJ2_grow_2 cJ2_grow_2 4 (Option.some (.array (.object "java/lang/Object")))) rm_J2_grow_2 (ga_XR D cA zs A (ga_el EC lf) [(al, .inr (6, [.int lm, .ref ed, .int lz])), (ed, .inl (cA 5, ln, .inr (.inr (.inr (.inr lf)))))] [.ref al, .int x1]) (va_Qr (fun (u : Nat × (Nat → Nat) × (Nat → Nat → Option Nat)) => out = u.1) (fun (u : Nat × (Nat → Nat) × (Nat → Nat → Option Nat)) (a : Nat) (t : State) => (u.2.1 0) = a ∧ (fun (u : Nat × (Nat → Nat) × (Nat → Nat → Option Nat)) (t : State) => va_P D ga_cl [(al, .inr (6, [.int lm, .ref (u.2.1 0), .int lz])), ((u.2.1 0), .inl (cA 5, u.1, .inr (.inr (.inr (.inr (u.2.2 0))))))] t.heap ∧ ga_K D cA t ∧ va_D A [(al, .inr (6, [.int lm, .ref (u.2.1 0), .int lz])), ((u.2.1 0), .inl (cA 5, u.1, .inr (.inr (.inr (.inr (u.2.2 0))))))] ∧ (∀ j : Nat, j < ln → (u.2.2 0) j = lf j) ∧ (∀ (j y : Nat), (u.2.2 0) j = some y → lf j = some y)) u t) A) 1 100 A := by
  refine Met.ofW (cc := cJ2_grow_2) (maxL := 4) (ret := (Option.some (.array (.object "java/lang/Object")))) (by decide) rfl ?_
  intro p e s m args below meth c s₁ B hml hv
  obtain ⟨rfl, hP, hK, hD, hA, hST, hR⟩ := hv
  have hS : va_S A s.heap s.heap [] := va_S.rf
  have C : ga_cx p m c meth s _ RJ2 cJ2_grow_2 4 (Option.some (.array (.object "java/lang/Object"))) := ga_cx_of B hml
  have C0 := C
  obtain ⟨hx, hb, hr, hlocks, hml, hown, hts⟩ := C0
  have hl := lv_entry ([.ref al, .int x1]) (n := 4) (Nat.le_of_ble_eq_true rfl)
  rw [lg_entry_eq]
  generalize (lg_sl ([.ref al, .int x1]) ++ List.replicate (4 - (lg_sl ([.ref al, .int x1])).length) Slot.unset).toArray = ls at hl ⊢
  have hl : lv_has ls 4 [(0, .ref al), (1, .int x1)] := hl
  rw [F_J2_grow_2] at h
  refine lv_aload_n hx hb dJ2_grow_2_0 rfl (lv_at hl 0 rfl) ?_
  refine va_get hx hb hts in_J2 hown hK.1 hP 0 (fs := [.int lm, .ref ed, .int lz]) rfl rfl 1 (by decide) (hts _ q135) (fun _ hh => hh) (v := .ref ed) rfl dJ2_grow_2_1 ?_
  refine va_alen (v := (Int32.ofNat ln)) hx hb hK.1 hP 1 5 rfl rfl rfl dJ2_grow_2_4 ?_
  refine lv_istore_n (lv' := [(2, .int (Int32.ofNat ln)), (0, .ref al), (1, .int x1)]) hx hb dJ2_grow_2_5 rfl hl (by decide) rfl (fun ls hl => ?_)
  refine lv_iload_n hx hb dJ2_grow_2_6 rfl (lv_at hl 0 rfl) ?_
  refine lv_if_gt (tgt := 20) hx hb dJ2_grow_2_7 (by decide) (fun c_1 => ?_) (fun c_1 => ?_)
  · replace h := ga_ift c_1 h
    refine lv_iload_n hx hb dJ2_grow_2_20 rfl (lv_at hl 0 rfl) ?_
    refine lv_iload_n hx hb dJ2_grow_2_21 rfl (lv_at hl 2 rfl) ?_
    refine lv_iload_n hx hb dJ2_grow_2_22 rfl (lv_at hl 0 rfl) ?_
    refine lv_isub hx hb dJ2_grow_2_23 ?_
    refine lv_iload_n hx hb dJ2_grow_2_24 rfl (lv_at hl 0 rfl) ?_
    refine lv_iconst (v := 1) hx hb dJ2_grow_2_25 (by decide) ?_
    refine ga_ishr hx hb dJ2_grow_2_26 ?_
    obtain ⟨r_2, e_3, h⟩ := ga_gb h
    refine vp_callSi (va_Run.run (va_runS (As := [.int (Int32.ofNat ln), .int (x1 - (Int32.ofNat ln)), .int (jishr (Int32.ofNat ln) 1)]) (rest := []) ⟨hx, hb, hml, hown, hts⟩ (met_J3_newLength l D cA N (Int32.ofNat ln) (x1 - (Int32.ofNat ln)) (jishr (Int32.ofNat ln) 1) r_2 e_3) (va_cwS 3 hts (lw_S q274 q275 q75 q276) rfl rfl rfl (by decide +kernel) ⟨Nat.le_of_ble_eq_true rfl, Nat.le_of_ble_eq_true rfl⟩) (ga_PS hK ga_P0) rfl rfl hl.1 rfl (lv_room (Nat.le_of_ble_eq_true rfl)) dJ2_grow_2_27 ⟨Nat.le_of_ble_eq_true rfl, Nat.le_of_ble_eq_true rfl⟩)) (fun z_4 w_5 => ?_)
    obtain rfl := w_5
    refine lv_istore_n (lv' := [(3, .int r_2), (2, .int (Int32.ofNat ln)), (0, .ref al), (1, .int x1)]) hx hb dJ2_grow_2_30 rfl hl (by decide) rfl (fun ls hl => ?_)
    refine lv_aload_n hx hb dJ2_grow_2_31 rfl (lv_at hl 2 rfl) ?_
    refine lv_aload_n hx hb dJ2_grow_2_32 rfl (lv_at hl 2 rfl) ?_
    refine va_get hx hb hts in_J2 hown hK.1 hP 0 (fs := [.int lm, .ref ed, .int lz]) rfl rfl 1 (by decide) (hts _ q135) (fun _ hh => hh) (v := .ref ed) rfl dJ2_grow_2_33 ?_
    refine lv_iload_n hx hb dJ2_grow_2_36 rfl (lv_at hl 0 rfl) ?_
    obtain ⟨r_7, e_8, h⟩ := ga_gb h
    have hFc := va_free (wc := [(ed, .inl (cA 5, ln, .inr (.inr (.inr (.inr lf)))))]) hD hS hA [1] rfl
    refine va_callr (va_runS (As := [.ref ed, .int r_2]) (rest := [.ref al]) ⟨hx, hb, hml, hown, hts⟩ (met_J5_copyOf l D cA (va_A [(ed, .inl (cA 5, ln, .inr (.inr (.inr (.inr lf)))))] s.heap.size) ed lf EC zs ln N r_2 hca r_7 e_8) (va_cwS 2 hts (lw_S q284 q285 q77 q286) rfl rfl rfl (by decide +kernel) ⟨Nat.le_of_ble_eq_true rfl, Nat.le_of_ble_eq_true rfl⟩) (ga_XRS ga_elK (ga_elK.at hR hS hFc) hK (hP.sub (ws' := [(ed, .inl (cA 5, ln, .inr (.inr (.inr (.inr lf)))))]) [1] rfl) (hD.sub (ws' := [(ed, .inl (cA 5, ln, .inr (.inr (.inr (.inr lf)))))]) [1] (by decide) rfl).self (fun _ hq => Or.inr hq) (hST.at hS hFc)) rfl rfl hl.1 rfl (lv_room (Nat.le_of_ble_eq_true rfl)) dJ2_grow_2_37 ⟨Nat.le_of_ble_eq_true rfl, Nat.le_of_ble_eq_true rfl⟩) hS (fun q _ hq => hFc q hq) hFc (fun u_12 a_15 t H_11 locs ht _ w_10 hB _ hk hS => ?_)
    obtain ⟨ea, hP1, -, hD1, f_13, f_14⟩ := hB
    subst ea
    rw [show u_12.1 = r_7 from w_10.symm] at hP1 hD1
    have f_16 : ∀ j : Nat, j < ln → (u_12.2.2 0) j = lf j := by first | exact f_13 | (rw [show u_12.1 = r_7 from w_10.symm] at f_13; exact f_13)
    have f_17 : ∀ (j y : Nat), (u_12.2.2 0) j = some y → lf j = some y := by first | exact f_14 | (rw [show u_12.1 = r_7 from w_10.symm] at f_14; exact f_14)
    rw [ht] at hP1
    obtain ⟨hP, hD⟩ := va_join (wr := [(al, .inr (6, [.int lm, .ref ed, .int lz]))]) (w1 := [(ed, .inl (cA 5, ln, .inr (.inr (.inr (.inr lf))))), ((u_12.2.1 0), .inl (cA 5, r_7, .inr (.inr (.inr (.inr (u_12.2.2 0))))))]) hP hD [1] [0] rfl rfl (by decide) (by decide) hk hFc hP1 hD1
    have hP : va_P D ga_cl [(al, .inr (6, [.int lm, .ref ed, .int lz])), (ed, .inl (cA 5, ln, .inr (.inr (.inr (.inr lf))))), ((u_12.2.1 0), .inl (cA 5, r_7, .inr (.inr (.inr (.inr (u_12.2.2 0))))))] H_11 := hP
    have hD : va_D A [(al, .inr (6, [.int lm, .ref ed, .int lz])), (ed, .inl (cA 5, ln, .inr (.inr (.inr (.inr lf))))), ((u_12.2.1 0), .inl (cA 5, r_7, .inr (.inr (.inr (.inr (u_12.2.2 0))))))] := hD
    refine W.cs (cells' := 1) (slots' := 100) rfl rfl ?_
    refine lv_dup_x1 hx hb dJ2_grow_2_40 rfl rfl ?_
    refine va_put hx hb hts in_J2 tyJ2 tyJ2_ok nmJ2 hown hK.1 hP hD hS 0 (fs := [.int lm, .ref ed, .int lz]) rfl rfl 1 (by decide) (hts _ q135) (fun _ hh => hh) rfl (v := .ref (u_12.2.1 0)) rfl rfl rfl (show 1 < 3 by decide) dJ2_grow_2_41 (fun H_18 locs hP hD hS => ?_)
    have hP : va_P D ga_cl [(al, .inr (6, [.int lm, .ref (u_12.2.1 0), .int lz])), (ed, .inl (cA 5, ln, .inr (.inr (.inr (.inr lf))))), ((u_12.2.1 0), .inl (cA 5, r_7, .inr (.inr (.inr (.inr (u_12.2.2 0))))))] H_18 := hP
    have hD : va_D A [(al, .inr (6, [.int lm, .ref (u_12.2.1 0), .int lz])), (ed, .inl (cA 5, ln, .inr (.inr (.inr (.inr lf))))), ((u_12.2.1 0), .inl (cA 5, r_7, .inr (.inr (.inr (.inr (u_12.2.2 0))))))] := hD
    have g_20 : ∀ j : Nat, j < ln → (u_12.2.2 0) j = lf j := by intro j hj; first | exact f_16 j hj | exact f_17 j hj
    have g_21 : ∀ (j y : Nat), (u_12.2.2 0) j = some y → lf j = some y := by intro j y hy; first | exact hy | exact f_16 j y ((va_up_ne _ _ hn).symm.trans hy) | exact f_16 j y hn hy | exact f_16 j y hy | exact f_17 j y ((va_up_ne _ _ hn).symm.trans hy) | exact f_17 j y hn hy | exact f_17 j y hy
    have hP9 := hP.sub (ws' := [(al, .inr (6, [.int lm, .ref (u_12.2.1 0), .int lz])), ((u_12.2.1 0), .inl (cA 5, r_7, .inr (.inr (.inr (.inr (u_12.2.2 0))))))]) [0, 2] rfl
    have hD9 := hD.sub (ws' := [(al, .inr (6, [.int lm, .ref (u_12.2.1 0), .int lz])), ((u_12.2.1 0), .inl (cA 5, r_7, .inr (.inr (.inr (.inr (u_12.2.2 0))))))]) [0, 2] (by decide) rfl
    obtain rfl := Option.some.inj h
    exact W.aret hx hb hr (Or.inr ⟨_, rfl⟩) (Or.inr ⟨_, rfl⟩) (fun t ht hW => ⟨⟨(r_7, ga_ad [(u_12.2.1 0)], ga_fd [(u_12.2.2 0)]), _, rfl, rfl, rfl, ⟨by rw [ht]; exact hP9, hK.warm hW, hD9, g_20, g_21⟩⟩, hS.F ht⟩) hS.2.2 dJ2_grow_2_44
  · cases ga_iff c_1 h
abbrev rm_J2_grow : Room := { frames := 5, cells := 1, slots := 100, locals := 107 }
def F_J2_grow (N : Nat) (lm : Int32) (lz : Int32) (ln : Nat)  : Option (Nat) :=
  ((F_J2_grow_2 N lm lz ln (lz + 1)).bind fun r_1 =>
  some r_1)
set_option maxHeartbeats 4000000 in
theorem met_J2_grow (l : Launch) (D : va_G) (cA : Nat → ClassId) (A : Nat → Prop) (al : Nat) (ed : Nat) (lf : Nat → Option Nat) (EC : String) (zs : Nat → Nat) (lm : Int32) (lz : Int32) (ln : Nat) (N : Nat)  (hca : Cond.castable EC "java/lang/Object" ∈ lw_tbl) (out : Nat) (h : F_J2_grow N lm lz ln = some out) : Met l yJ2_grow (ws_ yJ2_grow cJ2_grow 1 (Option.some (.array (.object "java/lang/Object")))) rm_J2_grow (ga_XR D cA zs A (ga_el EC lf) [(al, .inr (6, [.int lm, .ref ed, .int lz])), (ed, .inl (cA 5, ln, .inr (.inr (.inr (.inr lf)))))] [.ref al]) (va_Qr (fun (u : Nat × (Nat → Nat) × (Nat → Nat → Option Nat)) => out = u.1) (fun (u : Nat × (Nat → Nat) × (Nat → Nat → Option Nat)) (a : Nat) (t : State) => (u.2.1 0) = a ∧ (fun (u : Nat × (Nat → Nat) × (Nat → Nat → Option Nat)) (t : State) => va_P D ga_cl [(al, .inr (6, [.int lm, .ref (u.2.1 0), .int lz])), ((u.2.1 0), .inl (cA 5, u.1, .inr (.inr (.inr (.inr (u.2.2 0))))))] t.heap ∧ ga_K D cA t ∧ va_D A [(al, .inr (6, [.int lm, .ref (u.2.1 0), .int lz])), ((u.2.1 0), .inl (cA 5, u.1, .inr (.inr (.inr (.inr (u.2.2 0))))))] ∧ (∀ j : Nat, j < ln → (u.2.2 0) j = lf j) ∧ (∀ (j y : Nat), (u.2.2 0) j = some y → lf j = some y)) u t) A) 1 100 A := by
  refine Met.ofW (cc := cJ2_grow) (maxL := 1) (ret := (Option.some (.array (.object "java/lang/Object")))) (by decide) rfl ?_
  intro p e s m args below meth c s₁ B hml hv
  obtain ⟨rfl, hP, hK, hD, hA, hST, hR⟩ := hv
  have hS : va_S A s.heap s.heap [] := va_S.rf
  have C : ga_cx p m c meth s _ RJ2 cJ2_grow 1 (Option.some (.array (.object "java/lang/Object"))) := ga_cx_of B hml
  have C0 := C
  obtain ⟨hx, hb, hr, hlocks, hml, hown, hts⟩ := C0
  have hl := lv_entry ([.ref al]) (n := 1) (Nat.le_of_ble_eq_true rfl)
  rw [lg_entry_eq]
  generalize (lg_sl ([.ref al]) ++ List.replicate (1 - (lg_sl ([.ref al])).length) Slot.unset).toArray = ls at hl ⊢
  have hl : lv_has ls 1 [(0, .ref al)] := hl
  rw [F_J2_grow] at h
  refine lv_aload_n hx hb dJ2_grow_0 rfl (lv_at hl 0 rfl) ?_
  refine lv_aload_n hx hb dJ2_grow_1 rfl (lv_at hl 0 rfl) ?_
  refine va_get hx hb hts in_J2 hown hK.1 hP 0 (fs := [.int lm, .ref ed, .int lz]) rfl rfl 2 (by decide) (hts _ q136) (fun _ hh => hh) (v := .int lz) rfl dJ2_grow_2 ?_
  refine lv_iconst (v := 1) hx hb dJ2_grow_5 (by decide) ?_
  refine lv_iadd hx hb dJ2_grow_6 ?_
  obtain ⟨r_1, e_2, h⟩ := ga_gb h
  have hFc := va_free (wc := [(al, .inr (6, [.int lm, .ref ed, .int lz])), (ed, .inl (cA 5, ln, .inr (.inr (.inr (.inr lf)))))]) hD hS hA [0, 1] rfl
  refine va_callr (va_runV (As := [.int (lz + 1)]) (rest := []) ⟨hx, hb, hml, hown, hts⟩ (met_J2_grow_2 l D cA (va_A [(al, .inr (6, [.int lm, .ref ed, .int lz])), (ed, .inl (cA 5, ln, .inr (.inr (.inr (.inr lf)))))] s.heap.size) al ed lf EC zs lm lz ln N (lz + 1) hca r_1 e_2) (cwV 1 hts (lw_V q270 q272 qs2 q71 q273) rfl rfl rfl (by decide +kernel) ⟨Nat.le_of_ble_eq_true rfl, Nat.le_of_ble_eq_true rfl⟩) (ga_XRV ga_elK (ga_elK.at hR hS hFc) hK (hP.sub (ws' := [(al, .inr (6, [.int lm, .ref ed, .int lz])), (ed, .inl (cA 5, ln, .inr (.inr (.inr (.inr lf)))))]) [0, 1] rfl) (hD.sub (ws' := [(al, .inr (6, [.int lm, .ref ed, .int lz])), (ed, .inl (cA 5, ln, .inr (.inr (.inr (.inr lf)))))]) [0, 1] (by decide) rfl).self (fun _ hq => Or.inr hq) (hST.at hS hFc) (va_recv hK.1 hP (ci := 6) (q0 := 0) rfl rfl)) rfl rfl hl.1 rfl (lv_room (Nat.le_of_ble_eq_true rfl)) dJ2_grow_7 ⟨Nat.le_of_ble_eq_true rfl, Nat.le_of_ble_eq_true rfl⟩) hS (fun q _ hq => hFc q hq) hFc (fun u_6 a_9 t H_5 locs ht _ w_4 hB _ hk hS => ?_)
  obtain ⟨ea, hP1, -, hD1, f_7, f_8⟩ := hB
  subst ea
  rw [show u_6.1 = r_1 from w_4.symm] at hP1 hD1
  have f_10 : ∀ j : Nat, j < ln → (u_6.2.2 0) j = lf j := by first | exact f_7 | (rw [show u_6.1 = r_1 from w_4.symm] at f_7; exact f_7)
  have f_11 : ∀ (j y : Nat), (u_6.2.2 0) j = some y → lf j = some y := by first | exact f_8 | (rw [show u_6.1 = r_1 from w_4.symm] at f_8; exact f_8)
  rw [ht] at hP1
  obtain ⟨hP, hD⟩ := va_join (wr := []) (w1 := [(al, .inr (6, [.int lm, .ref (u_6.2.1 0), .int lz])), ((u_6.2.1 0), .inl (cA 5, r_1, .inr (.inr (.inr (.inr (u_6.2.2 0))))))]) hP hD [0, 1] [] rfl rfl (by decide) (by decide) hk hFc hP1 hD1
  have hP : va_P D ga_cl [(al, .inr (6, [.int lm, .ref (u_6.2.1 0), .int lz])), ((u_6.2.1 0), .inl (cA 5, r_1, .inr (.inr (.inr (.inr (u_6.2.2 0))))))] H_5 := hP
  have hD : va_D A [(al, .inr (6, [.int lm, .ref (u_6.2.1 0), .int lz])), ((u_6.2.1 0), .inl (cA 5, r_1, .inr (.inr (.inr (.inr (u_6.2.2 0))))))] := hD
  refine W.cs (cells' := 1) (slots' := 100) rfl rfl ?_
  have g_12 : ∀ j : Nat, j < ln → (u_6.2.2 0) j = lf j := by intro j hj; first | exact f_10 j hj | exact f_11 j hj
  have g_13 : ∀ (j y : Nat), (u_6.2.2 0) j = some y → lf j = some y := by intro j y hy; first | exact hy | exact f_10 j y ((va_up_ne _ _ hn).symm.trans hy) | exact f_10 j y hn hy | exact f_10 j y hy | exact f_11 j y ((va_up_ne _ _ hn).symm.trans hy) | exact f_11 j y hn hy | exact f_11 j y hy
  have hP9 := hP.sub (ws' := [(al, .inr (6, [.int lm, .ref (u_6.2.1 0), .int lz])), ((u_6.2.1 0), .inl (cA 5, r_1, .inr (.inr (.inr (.inr (u_6.2.2 0))))))]) [0, 1] rfl
  have hD9 := hD.sub (ws' := [(al, .inr (6, [.int lm, .ref (u_6.2.1 0), .int lz])), ((u_6.2.1 0), .inl (cA 5, r_1, .inr (.inr (.inr (.inr (u_6.2.2 0))))))]) [0, 1] (by decide) rfl
  obtain rfl := Option.some.inj h
  exact W.aret hx hb hr (Or.inr ⟨_, rfl⟩) (Or.inr ⟨_, rfl⟩) (fun t ht hW => ⟨⟨(r_1, ga_ad [(u_6.2.1 0)], ga_fd [(u_6.2.2 0)]), _, rfl, rfl, rfl, ⟨by rw [ht]; exact hP9, hK.warm hW, hD9, g_12, g_13⟩⟩, hS.F ht⟩) hS.2.2 dJ2_grow_10
abbrev rm_J2_add_2 : Room := { frames := 6, cells := 1, slots := 100, locals := 127 }
def F_J2_add_2 (N : Nat) (lm : Int32) (lz : Int32) (ln : Nat) (x3 : Int32) : Option (Int32 × Nat) :=
  (if x3 = (Int32.ofNat ln) then
  ((F_J2_grow N lm lz ln).bind fun r_10 =>
  (if inb x3 r_10 = true then
  some ((x3 + 1), r_10)
  else none))
  else
  (if inb x3 ln = true then
  some ((x3 + 1), ln)
  else none))
set_option maxHeartbeats 4000000 in
theorem met_J2_add_2 (l : Launch) (D : va_G) (cA : Nat → ClassId) (A : Nat → Prop) (al : Nat) (ed : Nat) (lf : Nat → Option Nat) (EC : String) (rr : Nat) (zs : Nat → Nat) (lm : Int32) (lz : Int32) (ln : Nat) (N : Nat) (x3 : Int32) (hca : Cond.castable EC "java/lang/Object" ∈ lw_tbl) (out : Int32 × Nat) (h : F_J2_add_2 N lm lz ln x3 = some out) : Met l yJ2_add_2 (ws_ yJ2_add_2 cJ2_add_2 4 none) rm_J2_add_2 (ga_XR D cA zs A (ga_ea EC lf rr) [(al, .inr (6, [.int lm, .ref ed, .int lz])), (ed, .inl (cA 5, ln, .inr (.inr (.inr (.inr lf)))))] [.ref al, .ref rr, .ref ed, .int x3]) (va_Qv (fun (u : (Int32 × Nat) × (Nat → Nat) × (Nat → Nat → Option Nat)) => out = u.1) (fun (u : (Int32 × Nat) × (Nat → Nat) × (Nat → Nat → Option Nat)) (t : State) => va_P D ga_cl [(al, .inr (6, [.int lm, .ref (u.2.1 0), .int u.1.1])), ((u.2.1 0), .inl (cA 5, u.1.2, .inr (.inr (.inr (.inr (u.2.2 0))))))] t.heap ∧ ga_K D cA t ∧ va_D A [(al, .inr (6, [.int lm, .ref (u.2.1 0), .int u.1.1])), ((u.2.1 0), .inl (cA 5, u.1.2, .inr (.inr (.inr (.inr (u.2.2 0))))))] ∧ ((u.2.2 0) (ix x3) = some rr) ∧ (∀ j : Nat, j < ln → j ≠ ix x3 → (u.2.2 0) j = lf j) ∧ (∀ (j y : Nat), j ≠ ix x3 → (u.2.2 0) j = some y → lf j = some y)) A) 1 100 A := by
  refine Met.ofW (cc := cJ2_add_2) (maxL := 4) (ret := none) (by decide) rfl ?_
  intro p e s m args below meth c s₁ B hml hv
  obtain ⟨rfl, hP, hK, hD, hA, hST, hR⟩ := hv
  have hS : va_S A s.heap s.heap [] := va_S.rf
  have C : ga_cx p m c meth s _ RJ2 cJ2_add_2 4 none := ga_cx_of B hml
  have C0 := C
  obtain ⟨hx, hb, hr, hlocks, hml, hown, hts⟩ := C0
  have hl := lv_entry ([.ref al, .ref rr, .ref ed, .int x3]) (n := 4) (Nat.le_of_ble_eq_true rfl)
  rw [lg_entry_eq]
  generalize (lg_sl ([.ref al, .ref rr, .ref ed, .int x3]) ++ List.replicate (4 - (lg_sl ([.ref al, .ref rr, .ref ed, .int x3])).length) Slot.unset).toArray = ls at hl ⊢
  have hl : lv_has ls 4 [(0, .ref al), (1, .ref rr), (2, .ref ed), (3, .int x3)] := hl
  rw [F_J2_add_2] at h
  refine lv_iload_n hx hb dJ2_add_2_0 rfl (lv_at hl 3 rfl) ?_
  refine lv_aload_n hx hb dJ2_add_2_1 rfl (lv_at hl 2 rfl) ?_
  refine va_alen (v := (Int32.ofNat ln)) hx hb hK.1 hP 1 5 rfl rfl rfl dJ2_add_2_2 ?_
  refine lv_icmp_ne (tgt := 11) hx hb dJ2_add_2_3 (by decide) (fun c_1 => ?_) (fun c_1 => ?_)
  · replace h := ga_iff c_1 h
    refine lv_aload_n hx hb dJ2_add_2_11 rfl (lv_at hl 2 rfl) ?_
    refine lv_iload_n hx hb dJ2_add_2_12 rfl (lv_at hl 3 rfl) ?_
    refine lv_aload_n hx hb dJ2_add_2_13 rfl (lv_at hl 1 rfl) ?_
    obtain ⟨i_2, h⟩ := ga_gif h
    refine vb_astq hx hb hK.1 hP hD hS 1 5 (E := "java/lang/Object") (C := EC) (f := lf) rfl rfl (ga_O3 (ga_eaK.at (B := A) hR hS (fun _ h => h)).2) (vb_asgC (hK.2.1 _ hca rfl)) (ga_in i_2) dJ2_add_2_14 (fun H_4 locs hP hD hS => ?_)
    have hP : va_P D ga_cl [(al, .inr (6, [.int lm, .ref ed, .int lz])), (ed, .inl (cA 5, ln, .inr (.inr (.inr (.inr (va_up lf (ix x3) (some rr)))))))] H_4 := hP
    have hD : va_D A [(al, .inr (6, [.int lm, .ref ed, .int lz])), (ed, .inl (cA 5, ln, .inr (.inr (.inr (.inr (va_up lf (ix x3) (some rr)))))))] := hD
    refine lv_aload_n hx hb dJ2_add_2_15 rfl (lv_at hl 0 rfl) ?_
    refine lv_iload_n hx hb dJ2_add_2_16 rfl (lv_at hl 3 rfl) ?_
    refine lv_iconst (v := 1) hx hb dJ2_add_2_17 (by decide) ?_
    refine lv_iadd hx hb dJ2_add_2_18 ?_
    refine va_put hx hb hts in_J2 tyJ2 tyJ2_ok nmJ2 hown hK.1 hP hD hS 0 (fs := [.int lm, .ref ed, .int lz]) rfl rfl 2 (by decide) (hts _ q136) (fun _ hh => hh) rfl (v := .int (x3 + 1)) rfl rfl rfl (show 2 < 3 by decide) dJ2_add_2_19 (fun H_5 locs hP hD hS => ?_)
    have hP : va_P D ga_cl [(al, .inr (6, [.int lm, .ref ed, .int (x3 + 1)])), (ed, .inl (cA 5, ln, .inr (.inr (.inr (.inr (va_up lf (ix x3) (some rr)))))))] H_5 := hP
    have hD : va_D A [(al, .inr (6, [.int lm, .ref ed, .int (x3 + 1)])), (ed, .inl (cA 5, ln, .inr (.inr (.inr (.inr (va_up lf (ix x3) (some rr)))))))] := hD
    have g_7 : (va_up lf (ix x3) (some rr)) (ix x3) = some rr := by first | exact va_up_self _ _ _ | fail
    have g_8 : ∀ j : Nat, j < ln → j ≠ ix x3 → (va_up lf (ix x3) (some rr)) j = lf j := by intro j hj hn; first | exact va_up_ne _ _ hn | fail
    have g_9 : ∀ (j y : Nat), j ≠ ix x3 → (va_up lf (ix x3) (some rr)) j = some y → lf j = some y := by intro j y hn hy; first | exact (va_up_ne _ _ hn).symm.trans hy | fail
    have hP9 := hP.sub (ws' := [(al, .inr (6, [.int lm, .ref ed, .int (x3 + 1)])), (ed, .inl (cA 5, ln, .inr (.inr (.inr (.inr (va_up lf (ix x3) (some rr)))))))]) [0, 1] rfl
    have hD9 := hD.sub (ws' := [(al, .inr (6, [.int lm, .ref ed, .int (x3 + 1)])), (ed, .inl (cA 5, ln, .inr (.inr (.inr (.inr (va_up lf (ix x3) (some rr)))))))]) [0, 1] (by decide) rfl
    obtain rfl := Option.some.inj h
    refine W.widen (k := 1) (n := 100) (by decide) (by decide) ?_
    exact W.vret hx hb hr (fun t ht hW => ⟨⟨(((x3 + 1), ln), ga_ad [ed], ga_fd [(va_up lf (ix x3) (some rr))]), rfl, rfl, ⟨by rw [ht]; exact hP9, hK.warm hW, hD9, g_7, g_8, g_9⟩⟩, hS.F ht⟩) hS.2.2 dJ2_add_2_22
  · replace h := ga_ift c_1 h
    refine lv_aload_n hx hb dJ2_add_2_6 rfl (lv_at hl 0 rfl) ?_
    obtain ⟨r_10, e_11, h⟩ := ga_gb h
    have hFc := va_free (wc := [(al, .inr (6, [.int lm, .ref ed, .int lz])), (ed, .inl (cA 5, ln, .inr (.inr (.inr (.inr lf)))))]) hD hS hA [0, 1] rfl
    refine va_callr (va_runV (As := []) (rest := []) ⟨hx, hb, hml, hown, hts⟩ (met_J2_grow l D cA (va_A [(al, .inr (6, [.int lm, .ref ed, .int lz])), (ed, .inl (cA 5, ln, .inr (.inr (.inr (.inr lf)))))] s.heap.size) al ed lf EC zs lm lz ln N hca r_10 e_11) (cwV 0 hts (lw_V q266 q268 qs1 q71 q269) rfl rfl rfl (by decide +kernel) ⟨Nat.le_of_ble_eq_true rfl, Nat.le_of_ble_eq_true rfl⟩) (ga_XRV ga_elK (ga_elK.at hR.1 hS hFc) hK (hP.sub (ws' := [(al, .inr (6, [.int lm, .ref ed, .int lz])), (ed, .inl (cA 5, ln, .inr (.inr (.inr (.inr lf)))))]) [0, 1] rfl) (hD.sub (ws' := [(al, .inr (6, [.int lm, .ref ed, .int lz])), (ed, .inl (cA 5, ln, .inr (.inr (.inr (.inr lf)))))]) [0, 1] (by decide) rfl).self (fun _ hq => Or.inr hq) (hST.at hS hFc) (va_recv hK.1 hP (ci := 6) (q0 := 0) rfl rfl)) rfl rfl hl.1 rfl (lv_room (Nat.le_of_ble_eq_true rfl)) dJ2_add_2_7 ⟨Nat.le_of_ble_eq_true rfl, Nat.le_of_ble_eq_true rfl⟩) hS (fun q _ hq => hFc q hq) hFc (fun u_15 a_18 t H_14 locs ht _ w_13 hB _ hk hS => ?_)
    obtain ⟨ea, hP1, -, hD1, f_16, f_17⟩ := hB
    subst ea
    rw [show u_15.1 = r_10 from w_13.symm] at hP1 hD1
    have f_19 : ∀ j : Nat, j < ln → (u_15.2.2 0) j = lf j := by first | exact f_16 | (rw [show u_15.1 = r_10 from w_13.symm] at f_16; exact f_16)
    have f_20 : ∀ (j y : Nat), (u_15.2.2 0) j = some y → lf j = some y := by first | exact f_17 | (rw [show u_15.1 = r_10 from w_13.symm] at f_17; exact f_17)
    rw [ht] at hP1
    obtain ⟨hP, hD⟩ := va_join (wr := []) (w1 := [(al, .inr (6, [.int lm, .ref (u_15.2.1 0), .int lz])), ((u_15.2.1 0), .inl (cA 5, r_10, .inr (.inr (.inr (.inr (u_15.2.2 0))))))]) hP hD [0, 1] [] rfl rfl (by decide) (by decide) hk hFc hP1 hD1
    have hP : va_P D ga_cl [(al, .inr (6, [.int lm, .ref (u_15.2.1 0), .int lz])), ((u_15.2.1 0), .inl (cA 5, r_10, .inr (.inr (.inr (.inr (u_15.2.2 0))))))] H_14 := hP
    have hD : va_D A [(al, .inr (6, [.int lm, .ref (u_15.2.1 0), .int lz])), ((u_15.2.1 0), .inl (cA 5, r_10, .inr (.inr (.inr (.inr (u_15.2.2 0))))))] := hD
    refine W.cs (cells' := 1) (slots' := 100) rfl rfl ?_
    refine lv_astore_n (lv' := [(2, .ref (u_15.2.1 0)), (0, .ref al), (1, .ref rr), (3, .int x3)]) hx hb dJ2_add_2_10 rfl hl (by decide) rfl (fun ls hl => ?_)
    refine lv_aload_n hx hb dJ2_add_2_11 rfl (lv_at hl 0 rfl) ?_
    refine lv_iload_n hx hb dJ2_add_2_12 rfl (lv_at hl 3 rfl) ?_
    refine lv_aload_n hx hb dJ2_add_2_13 rfl (lv_at hl 2 rfl) ?_
    obtain ⟨i_21, h⟩ := ga_gif h
    refine vb_astq hx hb hK.1 hP hD hS 1 5 (E := "java/lang/Object") (C := EC) (f := (u_15.2.2 0)) rfl rfl (ga_O3 (ga_eaK.at (B := A) hR hS (fun _ h => h)).2) (vb_asgC (hK.2.1 _ hca rfl)) (ga_in i_21) dJ2_add_2_14 (fun H_23 locs hP hD hS => ?_)
    have hP : va_P D ga_cl [(al, .inr (6, [.int lm, .ref (u_15.2.1 0), .int lz])), ((u_15.2.1 0), .inl (cA 5, r_10, .inr (.inr (.inr (.inr (va_up (u_15.2.2 0) (ix x3) (some rr)))))))] H_23 := hP
    have hD : va_D A [(al, .inr (6, [.int lm, .ref (u_15.2.1 0), .int lz])), ((u_15.2.1 0), .inl (cA 5, r_10, .inr (.inr (.inr (.inr (va_up (u_15.2.2 0) (ix x3) (some rr)))))))] := hD
    refine lv_aload_n hx hb dJ2_add_2_15 rfl (lv_at hl 1 rfl) ?_
    refine lv_iload_n hx hb dJ2_add_2_16 rfl (lv_at hl 3 rfl) ?_
    refine lv_iconst (v := 1) hx hb dJ2_add_2_17 (by decide) ?_
    refine lv_iadd hx hb dJ2_add_2_18 ?_
    refine va_put hx hb hts in_J2 tyJ2 tyJ2_ok nmJ2 hown hK.1 hP hD hS 0 (fs := [.int lm, .ref (u_15.2.1 0), .int lz]) rfl rfl 2 (by decide) (hts _ q136) (fun _ hh => hh) rfl (v := .int (x3 + 1)) rfl rfl rfl (show 2 < 3 by decide) dJ2_add_2_19 (fun H_24 locs hP hD hS => ?_)
    have hP : va_P D ga_cl [(al, .inr (6, [.int lm, .ref (u_15.2.1 0), .int (x3 + 1)])), ((u_15.2.1 0), .inl (cA 5, r_10, .inr (.inr (.inr (.inr (va_up (u_15.2.2 0) (ix x3) (some rr)))))))] H_24 := hP
    have hD : va_D A [(al, .inr (6, [.int lm, .ref (u_15.2.1 0), .int (x3 + 1)])), ((u_15.2.1 0), .inl (cA 5, r_10, .inr (.inr (.inr (.inr (va_up (u_15.2.2 0) (ix x3) (some rr)))))))] := hD
    have g_26 : (va_up (u_15.2.2 0) (ix x3) (some rr)) (ix x3) = some rr := by first | exact va_up_self _ _ _ | exact f_19 | exact f_20
    have g_27 : ∀ j : Nat, j < ln → j ≠ ix x3 → (va_up (u_15.2.2 0) (ix x3) (some rr)) j = lf j := by intro j hj hn; first | exact va_up_ne _ _ hn | exact (va_up_ne _ _ hn).trans (f_19 j hj) | exact f_19 j hj hn | exact (va_up_ne _ _ hn).trans (f_20 j hj) | exact f_20 j hj hn
    have g_28 : ∀ (j y : Nat), j ≠ ix x3 → (va_up (u_15.2.2 0) (ix x3) (some rr)) j = some y → lf j = some y := by intro j y hn hy; first | exact (va_up_ne _ _ hn).symm.trans hy | exact f_19 j y ((va_up_ne _ _ hn).symm.trans hy) | exact f_19 j y hn hy | exact f_19 j y hy | exact f_20 j y ((va_up_ne _ _ hn).symm.trans hy) | exact f_20 j y hn hy | exact f_20 j y hy
    have hP9 := hP.sub (ws' := [(al, .inr (6, [.int lm, .ref (u_15.2.1 0), .int (x3 + 1)])), ((u_15.2.1 0), .inl (cA 5, r_10, .inr (.inr (.inr (.inr (va_up (u_15.2.2 0) (ix x3) (some rr)))))))]) [0, 1] rfl
    have hD9 := hD.sub (ws' := [(al, .inr (6, [.int lm, .ref (u_15.2.1 0), .int (x3 + 1)])), ((u_15.2.1 0), .inl (cA 5, r_10, .inr (.inr (.inr (.inr (va_up (u_15.2.2 0) (ix x3) (some rr)))))))]) [0, 1] (by decide) rfl
    obtain rfl := Option.some.inj h
    exact W.vret hx hb hr (fun t ht hW => ⟨⟨(((x3 + 1), r_10), ga_ad [(u_15.2.1 0)], ga_fd [(va_up (u_15.2.2 0) (ix x3) (some rr))]), rfl, rfl, ⟨by rw [ht]; exact hP9, hK.warm hW, hD9, g_26, g_27, g_28⟩⟩, hS.F ht⟩) hS.2.2 dJ2_add_2_22
abbrev rm_J2_add : Room := { frames := 7, cells := 1, slots := 100, locals := 150 }
def F_J2_add (N : Nat) (lm : Int32) (lz : Int32) (ln : Nat)  : Option (Int32 × (Int32 × Int32 × Nat)) :=
  ((F_J2_add_2 N (lm + 1) lz ln lz).bind fun r_3 =>
  some (1, ((lm + 1), r_3.1, r_3.2)))
set_option maxHeartbeats 4000000 in
theorem met_J2_add (l : Launch) (D : va_G) (cA : Nat → ClassId) (A : Nat → Prop) (al : Nat) (ed : Nat) (lf : Nat → Option Nat) (EC : String) (rr : Nat) (zs : Nat → Nat) (lm : Int32) (lz : Int32) (ln : Nat) (N : Nat)  (hca : Cond.castable EC "java/lang/Object" ∈ lw_tbl) (out : Int32 × (Int32 × Int32 × Nat)) (h : F_J2_add N lm lz ln = some out) : Met l yJ2_add (ws_ yJ2_add cJ2_add 2 (some .boolean)) rm_J2_add (ga_XR D cA zs A (ga_ea EC lf rr) [(al, .inr (6, [.int lm, .ref ed, .int lz])), (ed, .inl (cA 5, ln, .inr (.inr (.inr (.inr lf)))))] [.ref al, .ref rr]) (va_Qi (fun (r : Int32) (u : (Int32 × Int32 × Nat) × (Nat → Nat) × (Nat → Nat → Option Nat)) => (out.1 = r ∧ ga_B r) ∧ out.2 = u.1) (fun (u : (Int32 × Int32 × Nat) × (Nat → Nat) × (Nat → Nat → Option Nat)) (t : State) => va_P D ga_cl [(al, .inr (6, [.int u.1.1, .ref (u.2.1 0), .int u.1.2.1])), ((u.2.1 0), .inl (cA 5, u.1.2.2, .inr (.inr (.inr (.inr (u.2.2 0))))))] t.heap ∧ ga_K D cA t ∧ va_D A [(al, .inr (6, [.int u.1.1, .ref (u.2.1 0), .int u.1.2.1])), ((u.2.1 0), .inl (cA 5, u.1.2.2, .inr (.inr (.inr (.inr (u.2.2 0))))))] ∧ ((u.2.2 0) (ix lz) = some rr) ∧ (∀ j : Nat, j < ln → j ≠ ix lz → (u.2.2 0) j = lf j) ∧ (∀ (j y : Nat), j ≠ ix lz → (u.2.2 0) j = some y → lf j = some y)) A) 1 100 A := by
  refine Met.ofW (cc := cJ2_add) (maxL := 2) (ret := (some .boolean)) (by decide) rfl ?_
  intro p e s m args below meth c s₁ B hml hv
  obtain ⟨rfl, hP, hK, hD, hA, hST, hR⟩ := hv
  have hS : va_S A s.heap s.heap [] := va_S.rf
  have C : ga_cx p m c meth s _ RJ2 cJ2_add 2 (some .boolean) := ga_cx_of B hml
  have C0 := C
  obtain ⟨hx, hb, hr, hlocks, hml, hown, hts⟩ := C0
  have hl := lv_entry ([.ref al, .ref rr]) (n := 2) (Nat.le_of_ble_eq_true rfl)
  rw [lg_entry_eq]
  generalize (lg_sl ([.ref al, .ref rr]) ++ List.replicate (2 - (lg_sl ([.ref al, .ref rr])).length) Slot.unset).toArray = ls at hl ⊢
  have hl : lv_has ls 2 [(0, .ref al), (1, .ref rr)] := hl
  rw [F_J2_add] at h
  refine lv_aload_n hx hb dJ2_add_0 rfl (lv_at hl 0 rfl) ?_
  refine lv_dup hx hb dJ2_add_1 rfl ?_
  refine va_get hx hb hts in_J2 hown hK.1 hP 0 (fs := [.int lm, .ref ed, .int lz]) rfl rfl 0 (by decide) (hts _ q138) (u_same (hts _ q139)) (v := .int lm) rfl dJ2_add_2 ?_
  refine lv_iconst (v := 1) hx hb dJ2_add_5 (by decide) ?_
  refine lv_iadd hx hb dJ2_add_6 ?_
  refine va_put hx hb hts in_J2 tyJ2 tyJ2_ok nmJ2 hown hK.1 hP hD hS 0 (fs := [.int lm, .ref ed, .int lz]) rfl rfl 0 (by decide) (hts _ q138) (u_same (hts _ q139)) rfl (v := .int (lm + 1)) rfl rfl rfl (show 0 < 3 by decide) dJ2_add_7 (fun H_1 locs hP hD hS => ?_)
  have hP : va_P D ga_cl [(al, .inr (6, [.int (lm + 1), .ref ed, .int lz])), (ed, .inl (cA 5, ln, .inr (.inr (.inr (.inr lf)))))] H_1 := hP
  have hD : va_D A [(al, .inr (6, [.int (lm + 1), .ref ed, .int lz])), (ed, .inl (cA 5, ln, .inr (.inr (.inr (.inr lf)))))] := hD
  refine lv_aload_n hx hb dJ2_add_10 rfl (lv_at hl 0 rfl) ?_
  refine lv_aload_n hx hb dJ2_add_11 rfl (lv_at hl 1 rfl) ?_
  refine lv_aload_n hx hb dJ2_add_12 rfl (lv_at hl 0 rfl) ?_
  refine va_get hx hb hts in_J2 hown hK.1 hP 0 (fs := [.int (lm + 1), .ref ed, .int lz]) rfl rfl 1 (by decide) (hts _ q135) (fun _ hh => hh) (v := .ref ed) rfl dJ2_add_13 ?_
  refine lv_aload_n hx hb dJ2_add_16 rfl (lv_at hl 0 rfl) ?_
  refine va_get hx hb hts in_J2 hown hK.1 hP 0 (fs := [.int (lm + 1), .ref ed, .int lz]) rfl rfl 2 (by decide) (hts _ q136) (fun _ hh => hh) (v := .int lz) rfl dJ2_add_17 ?_
  obtain ⟨r_3, e_4, h⟩ := ga_gb h
  have hFc := va_free (wc := [(al, .inr (6, [.int (lm + 1), .ref ed, .int lz])), (ed, .inl (cA 5, ln, .inr (.inr (.inr (.inr lf)))))]) hD hS hA [0, 1] rfl
  refine va_callv (va_runV (As := [.ref rr, .ref ed, .int lz]) (rest := []) ⟨hx, hb, hml, hown, hts⟩ (met_J2_add_2 l D cA (va_A [(al, .inr (6, [.int (lm + 1), .ref ed, .int lz])), (ed, .inl (cA 5, ln, .inr (.inr (.inr (.inr lf)))))] H_1.size) al ed lf EC rr zs (lm + 1) lz ln N lz hca r_3 e_4) (cwV 3 hts (lw_V q262 q264 qs0 q71 q265) rfl rfl rfl (by decide +kernel) ⟨Nat.le_of_ble_eq_true rfl, Nat.le_of_ble_eq_true rfl⟩) (ga_XRV ga_eaK (ga_eaK.at hR hS hFc) hK (hP.sub (ws' := [(al, .inr (6, [.int (lm + 1), .ref ed, .int lz])), (ed, .inl (cA 5, ln, .inr (.inr (.inr (.inr lf)))))]) [0, 1] rfl) (hD.sub (ws' := [(al, .inr (6, [.int (lm + 1), .ref ed, .int lz])), (ed, .inl (cA 5, ln, .inr (.inr (.inr (.inr lf)))))]) [0, 1] (by decide) rfl).self (fun _ hq => Or.inr hq) (hST.at hS hFc) (va_recv hK.1 hP (ci := 6) (q0 := 0) rfl rfl)) rfl rfl hl.1 rfl (lv_room (Nat.le_of_ble_eq_true rfl)) dJ2_add_20 ⟨Nat.le_of_ble_eq_true rfl, Nat.le_of_ble_eq_true rfl⟩) hS (fun q _ hq => hFc q hq) hFc (fun u_8 t H_7 locs ht _ w_6 hB _ hk hS => ?_)
  obtain ⟨hP1, -, hD1, f_9, f_10, f_11⟩ := hB
  rw [show u_8.1 = r_3 from w_6.symm] at hP1 hD1
  have f_13 : (u_8.2.2 0) (ix lz) = some rr := by first | exact f_9 | (rw [show u_8.1 = r_3 from w_6.symm] at f_9; exact f_9)
  have f_14 : ∀ j : Nat, j < ln → j ≠ ix lz → (u_8.2.2 0) j = lf j := by first | exact f_10 | (rw [show u_8.1 = r_3 from w_6.symm] at f_10; exact f_10)
  have f_15 : ∀ (j y : Nat), j ≠ ix lz → (u_8.2.2 0) j = some y → lf j = some y := by first | exact f_11 | (rw [show u_8.1 = r_3 from w_6.symm] at f_11; exact f_11)
  rw [ht] at hP1
  obtain ⟨hP, hD⟩ := va_join (wr := []) (w1 := [(al, .inr (6, [.int (lm + 1), .ref (u_8.2.1 0), .int r_3.1])), ((u_8.2.1 0), .inl (cA 5, r_3.2, .inr (.inr (.inr (.inr (u_8.2.2 0))))))]) hP hD [0, 1] [] rfl rfl (by decide) (by decide) hk hFc hP1 hD1
  have hP : va_P D ga_cl [(al, .inr (6, [.int (lm + 1), .ref (u_8.2.1 0), .int r_3.1])), ((u_8.2.1 0), .inl (cA 5, r_3.2, .inr (.inr (.inr (.inr (u_8.2.2 0))))))] H_7 := hP
  have hD : va_D A [(al, .inr (6, [.int (lm + 1), .ref (u_8.2.1 0), .int r_3.1])), ((u_8.2.1 0), .inl (cA 5, r_3.2, .inr (.inr (.inr (.inr (u_8.2.2 0))))))] := hD
  refine W.cs (cells' := 1) (slots' := 100) rfl rfl ?_
  refine lv_iconst (v := 1) hx hb dJ2_add_23 (by decide) ?_
  have g_16 : (u_8.2.2 0) (ix lz) = some rr := by first | exact va_up_self _ _ _ | exact f_13 | exact f_14 | exact f_15
  have g_17 : ∀ j : Nat, j < ln → j ≠ ix lz → (u_8.2.2 0) j = lf j := by intro j hj hn; first | exact va_up_ne _ _ hn | exact (va_up_ne _ _ hn).trans (f_13 j hj) | exact f_13 j hj hn | exact (va_up_ne _ _ hn).trans (f_14 j hj) | exact f_14 j hj hn | exact (va_up_ne _ _ hn).trans (f_15 j hj) | exact f_15 j hj hn
  have g_18 : ∀ (j y : Nat), j ≠ ix lz → (u_8.2.2 0) j = some y → lf j = some y := by intro j y hn hy; first | exact (va_up_ne _ _ hn).symm.trans hy | exact f_13 j y ((va_up_ne _ _ hn).symm.trans hy) | exact f_13 j y hn hy | exact f_13 j y hy | exact f_14 j y ((va_up_ne _ _ hn).symm.trans hy) | exact f_14 j y hn hy | exact f_14 j y hy | exact f_15 j y ((va_up_ne _ _ hn).symm.trans hy) | exact f_15 j y hn hy | exact f_15 j y hy
  have hP9 := hP.sub (ws' := [(al, .inr (6, [.int (lm + 1), .ref (u_8.2.1 0), .int r_3.1])), ((u_8.2.1 0), .inl (cA 5, r_3.2, .inr (.inr (.inr (.inr (u_8.2.2 0))))))]) [0, 1] rfl
  have hD9 := hD.sub (ws' := [(al, .inr (6, [.int (lm + 1), .ref (u_8.2.1 0), .int r_3.1])), ((u_8.2.1 0), .inl (cA 5, r_3.2, .inr (.inr (.inr (.inr (u_8.2.2 0))))))]) [0, 1] (by decide) rfl
  obtain rfl := Option.some.inj h
  exact W.zret hx hb hr (ga_nb (Or.inr rfl)) (fun t ht hW => ⟨⟨_, (((lm + 1), r_3.1, r_3.2), ga_ad [(u_8.2.1 0)], ga_fd [(u_8.2.2 0)]), rfl, ⟨⟨rfl, Or.inr rfl⟩, rfl⟩, ⟨by rw [ht]; exact hP9, hK.warm hW, hD9, g_16, g_17, g_18⟩⟩, hS.F ht⟩) hS.2.2 dJ2_add_24
abbrev rm_J2_grow_2_e : Room := { frames := 2, cells := 1, slots := 100, locals := 24 }
def F_J2_grow_2_e (N : Nat) (lm : Int32) (x1 : Int32) : Option (Nat) :=
  (if ¬ (jimax 10 x1) < 0 ∧ ix (jimax 10 x1) ≤ 100 then
  some (ix (jimax 10 x1))
  else none)
set_option maxHeartbeats 4000000 in
theorem met_J2_grow_2_e (l : Launch) (D : va_G) (cA : Nat → ClassId) (A : Nat → Prop) (al : Nat) (zs : Nat → Nat) (lm : Int32) (N : Nat) (x1 : Int32)  (out : Nat) (h : F_J2_grow_2_e N lm x1 = some out) : Met l yJ2_grow_2 (ws_ yJ2_grow_2 cJ2_grow_2 4 (Option.some (.array (.object "java/lang/Object")))) rm_J2_grow_2_e (ga_X D cA zs A [(al, .inr (6, [.int lm, .ref (zs 0), .int 0]))] [.ref al, .int x1]) (va_Qr (fun (u : Nat × (Nat → Nat) × (Nat → Nat → Option Nat)) => out = u.1) (fun (u : Nat × (Nat → Nat) × (Nat → Nat → Option Nat)) (a : Nat) (t : State) => (u.2.1 0) = a ∧ (fun (u : Nat × (Nat → Nat) × (Nat → Nat → Option Nat)) (t : State) => va_P D ga_cl [(al, .inr (6, [.int lm, .ref (u.2.1 0), .int 0])), ((u.2.1 0), .inl (cA 5, u.1, .inr (.inr (.inr (.inr (u.2.2 0))))))] t.heap ∧ ga_K D cA t ∧ va_D A [(al, .inr (6, [.int lm, .ref (u.2.1 0), .int 0])), ((u.2.1 0), .inl (cA 5, u.1, .inr (.inr (.inr (.inr (u.2.2 0))))))] ∧ (∀ (j y : Nat), ¬ (u.2.2 0) j = some y)) u t) A) 1 100 A := by
  refine Met.ofW (cc := cJ2_grow_2) (maxL := 4) (ret := (Option.some (.array (.object "java/lang/Object")))) (by decide) rfl ?_
  intro p e s m args below meth c s₁ B hml hv
  obtain ⟨rfl, hP, hK, hD, hA, hST⟩ := hv
  have hS : va_S A s.heap s.heap [] := va_S.rf
  have C : ga_cx p m c meth s _ RJ2 cJ2_grow_2 4 (Option.some (.array (.object "java/lang/Object"))) := ga_cx_of B hml
  have C0 := C
  obtain ⟨hx, hb, hr, hlocks, hml, hown, hts⟩ := C0
  have hl := lv_entry ([.ref al, .int x1]) (n := 4) (Nat.le_of_ble_eq_true rfl)
  rw [lg_entry_eq]
  generalize (lg_sl ([.ref al, .int x1]) ++ List.replicate (4 - (lg_sl ([.ref al, .int x1])).length) Slot.unset).toArray = ls at hl ⊢
  have hl : lv_has ls 4 [(0, .ref al), (1, .int x1)] := hl
  rw [F_J2_grow_2_e] at h
  refine lv_aload_n hx hb dJ2_grow_2_0 rfl (lv_at hl 0 rfl) ?_
  refine va_get hx hb hts in_J2 hown hK.1 hP 0 (fs := [.int lm, .ref (zs 0), .int 0]) rfl rfl 1 (by decide) (hts _ q135) (fun _ hh => hh) (v := .ref (zs 0)) rfl dJ2_grow_2_1 ?_
  refine va_tlen hx hb hST.2.2.2.1 hS (v := 0) rfl dJ2_grow_2_4 ?_
  refine lv_istore_n (lv' := [(2, .int 0), (0, .ref al), (1, .int x1)]) hx hb dJ2_grow_2_5 rfl hl (by decide) rfl (fun ls hl => ?_)
  refine lv_iload_n hx hb dJ2_grow_2_6 rfl (lv_at hl 0 rfl) ?_
  refine lv_if_gt (tgt := 20) hx hb dJ2_grow_2_7 (by decide) (fun c_1 => absurd c_1 (by decide)) (fun _ => ?_)
  refine lv_aload_n hx hb dJ2_grow_2_10 rfl (lv_at hl 1 rfl) ?_
  refine va_get hx hb hts in_J2 hown hK.1 hP 0 (fs := [.int lm, .ref (zs 0), .int 0]) rfl rfl 1 (by decide) (hts _ q135) (fun _ hh => hh) (v := .ref (zs 0)) rfl dJ2_grow_2_11 ?_
  refine va_gets hx hb hST.2.2.1 hS hown (hts _ q133) (fun _ hh => hh) dJ2_grow_2_14 ?_
  refine lv_acmp_eq (rx := (some (zs 0))) (ry := (some (zs 0))) (tgt := 45) hx hb dJ2_grow_2_17 (by decide) (fun _ => ?_) (fun z => False.elim (z (rfl)))
  refine lv_aload_n hx hb dJ2_grow_2_45 rfl (lv_at hl 1 rfl) ?_
  refine lv_bipush (v := 10) hx hb dJ2_grow_2_46 (by decide) ?_
  refine lv_iload_n hx hb dJ2_grow_2_48 rfl (lv_at hl 2 rfl) ?_
  refine ga_mmax hx hb (hml.trans hl.1.symm) hown (hts _ q325) (hts _ q278) (hts _ q76) (hts _ q279) (Nat.le_of_ble_eq_true rfl) (Nat.le_of_ble_eq_true rfl) (Nat.le_of_ble_eq_true rfl) (Nat.le_of_ble_eq_true rfl) dJ2_grow_2_49 ?_
  obtain ⟨i_2, h⟩ := ga_gif h
  refine va_newq hx hb hown (hts _ q326) hK.2.2.1 hK.1 hP hD hS hA (N' := ix (jimax 10 x1)) i_2.1 rfl (by have := i_2.2; omega) (Nat.le_of_ble_eq_true rfl) (Nat.le_trans (Nat.add_le_add_left i_2.2 _) (Nat.le_of_ble_eq_true rfl)) dJ2_grow_2_52 (fun q_3 k_5 H_4 hK9 hP hD hS => ?_)
  obtain rfl := ga_tyqO hK9
  refine W.widen (k := 1) (n := 100) (by decide) (Nat.add_le_add_left i_2.2 _) ?_
  have hP : va_P D ga_cl [(al, .inr (6, [.int lm, .ref (zs 0), .int 0])), (q_3, .inl (cA 5, (ix (jimax 10 x1)), .inr (.inr (.inr (.inr (fun _ => none))))))] H_4 := hP
  have hD : va_D A [(al, .inr (6, [.int lm, .ref (zs 0), .int 0])), (q_3, .inl (cA 5, (ix (jimax 10 x1)), .inr (.inr (.inr (.inr (fun _ => none))))))] := hD
  refine lv_dup_x1 hx hb dJ2_grow_2_55 rfl rfl ?_
  refine va_put hx hb hts in_J2 tyJ2 tyJ2_ok nmJ2 hown hK.1 hP hD hS 0 (fs := [.int lm, .ref (zs 0), .int 0]) rfl rfl 1 (by decide) (hts _ q135) (fun _ hh => hh) rfl (v := .ref q_3) rfl rfl rfl (show 1 < 3 by decide) dJ2_grow_2_56 (fun H_6 locs hP hD hS => ?_)
  have hP : va_P D ga_cl [(al, .inr (6, [.int lm, .ref q_3, .int 0])), (q_3, .inl (cA 5, (ix (jimax 10 x1)), .inr (.inr (.inr (.inr (fun _ => none))))))] H_6 := hP
  have hD : va_D A [(al, .inr (6, [.int lm, .ref q_3, .int 0])), (q_3, .inl (cA 5, (ix (jimax 10 x1)), .inr (.inr (.inr (.inr (fun _ => none))))))] := hD
  have g_8 : ∀ (j y : Nat), ¬ (fun _ => none) j = some y := by intro j y hy; first | exact nomatch (show (none : Option Nat) = some y from hy) | fail
  have hP9 := hP.sub (ws' := [(al, .inr (6, [.int lm, .ref q_3, .int 0])), (q_3, .inl (cA 5, (ix (jimax 10 x1)), .inr (.inr (.inr (.inr (fun _ => none))))))]) [0, 1] rfl
  have hD9 := hD.sub (ws' := [(al, .inr (6, [.int lm, .ref q_3, .int 0])), (q_3, .inl (cA 5, (ix (jimax 10 x1)), .inr (.inr (.inr (.inr (fun _ => none))))))]) [0, 1] (by decide) rfl
  obtain rfl := Option.some.inj h
  exact W.aret hx hb hr (Or.inr ⟨_, rfl⟩) (Or.inr ⟨_, rfl⟩) (fun t ht hW => ⟨⟨((ix (jimax 10 x1)), ga_ad [q_3], ga_fd [(fun _ => none)]), _, rfl, rfl, rfl, ⟨by rw [ht]; exact hP9, hK.warm hW, hD9, g_8⟩⟩, hS.F ht⟩) hS.2.2 dJ2_grow_2_59
abbrev rm_J2_grow_e : Room := { frames := 3, cells := 1, slots := 100, locals := 47 }
def F_J2_grow_e (N : Nat) (lm : Int32)  : Option (Nat) :=
  ((F_J2_grow_2_e N lm 1).bind fun r_1 =>
  some r_1)
set_option maxHeartbeats 4000000 in
theorem met_J2_grow_e (l : Launch) (D : va_G) (cA : Nat → ClassId) (A : Nat → Prop) (al : Nat) (zs : Nat → Nat) (lm : Int32) (N : Nat)   (out : Nat) (h : F_J2_grow_e N lm = some out) : Met l yJ2_grow (ws_ yJ2_grow cJ2_grow 1 (Option.some (.array (.object "java/lang/Object")))) rm_J2_grow_e (ga_X D cA zs A [(al, .inr (6, [.int lm, .ref (zs 0), .int 0]))] [.ref al]) (va_Qr (fun (u : Nat × (Nat → Nat) × (Nat → Nat → Option Nat)) => out = u.1) (fun (u : Nat × (Nat → Nat) × (Nat → Nat → Option Nat)) (a : Nat) (t : State) => (u.2.1 0) = a ∧ (fun (u : Nat × (Nat → Nat) × (Nat → Nat → Option Nat)) (t : State) => va_P D ga_cl [(al, .inr (6, [.int lm, .ref (u.2.1 0), .int 0])), ((u.2.1 0), .inl (cA 5, u.1, .inr (.inr (.inr (.inr (u.2.2 0))))))] t.heap ∧ ga_K D cA t ∧ va_D A [(al, .inr (6, [.int lm, .ref (u.2.1 0), .int 0])), ((u.2.1 0), .inl (cA 5, u.1, .inr (.inr (.inr (.inr (u.2.2 0))))))] ∧ (∀ (j y : Nat), ¬ (u.2.2 0) j = some y)) u t) A) 1 100 A := by
  refine Met.ofW (cc := cJ2_grow) (maxL := 1) (ret := (Option.some (.array (.object "java/lang/Object")))) (by decide) rfl ?_
  intro p e s m args below meth c s₁ B hml hv
  obtain ⟨rfl, hP, hK, hD, hA, hST⟩ := hv
  have hS : va_S A s.heap s.heap [] := va_S.rf
  have C : ga_cx p m c meth s _ RJ2 cJ2_grow 1 (Option.some (.array (.object "java/lang/Object"))) := ga_cx_of B hml
  have C0 := C
  obtain ⟨hx, hb, hr, hlocks, hml, hown, hts⟩ := C0
  have hl := lv_entry ([.ref al]) (n := 1) (Nat.le_of_ble_eq_true rfl)
  rw [lg_entry_eq]
  generalize (lg_sl ([.ref al]) ++ List.replicate (1 - (lg_sl ([.ref al])).length) Slot.unset).toArray = ls at hl ⊢
  have hl : lv_has ls 1 [(0, .ref al)] := hl
  rw [F_J2_grow_e] at h
  refine lv_aload_n hx hb dJ2_grow_0 rfl (lv_at hl 0 rfl) ?_
  refine lv_aload_n hx hb dJ2_grow_1 rfl (lv_at hl 0 rfl) ?_
  refine va_get hx hb hts in_J2 hown hK.1 hP 0 (fs := [.int lm, .ref (zs 0), .int 0]) rfl rfl 2 (by decide) (hts _ q136) (fun _ hh => hh) (v := .int 0) rfl dJ2_grow_2 ?_
  refine lv_iconst (v := 1) hx hb dJ2_grow_5 (by decide) ?_
  refine lv_iadd hx hb dJ2_grow_6 ?_
  refine W.eq (g2 := F0 m 7 ls [.int 1, .ref al]) rfl ?_
  obtain ⟨r_1, e_2, h⟩ := ga_gb h
  have hFc := va_free (wc := [(al, .inr (6, [.int lm, .ref (zs 0), .int 0]))]) hD hS hA [0] rfl
  refine va_callr (va_runV (As := [.int 1]) (rest := []) ⟨hx, hb, hml, hown, hts⟩ (met_J2_grow_2_e l D cA (va_A [(al, .inr (6, [.int lm, .ref (zs 0), .int 0]))] s.heap.size) al zs lm N 1 r_1 e_2) (cwV 1 hts (lw_V q270 q272 qs2 q71 q273) rfl rfl rfl (by decide +kernel) ⟨Nat.le_of_ble_eq_true rfl, Nat.le_of_ble_eq_true rfl⟩) (ga_XV hK (hP.sub (ws' := [(al, .inr (6, [.int lm, .ref (zs 0), .int 0]))]) [0] rfl) (hD.sub (ws' := [(al, .inr (6, [.int lm, .ref (zs 0), .int 0]))]) [0] (by decide) rfl).self (fun _ hq => Or.inr hq) (hST.at hS hFc) (va_recv hK.1 hP (ci := 6) (q0 := 0) rfl rfl)) rfl rfl hl.1 rfl (lv_room (Nat.le_of_ble_eq_true rfl)) dJ2_grow_7 ⟨Nat.le_of_ble_eq_true rfl, Nat.le_of_ble_eq_true rfl⟩) hS (fun q _ hq => hFc q hq) hFc (fun u_6 a_8 t H_5 locs ht _ w_4 hB _ hk hS => ?_)
  obtain ⟨ea, hP1, -, hD1, f_7⟩ := hB
  subst ea
  rw [show u_6.1 = r_1 from w_4.symm] at hP1 hD1
  have f_9 : ∀ (j y : Nat), ¬ (u_6.2.2 0) j = some y := by first | exact f_7 | (rw [show u_6.1 = r_1 from w_4.symm] at f_7; exact f_7)
  rw [ht] at hP1
  obtain ⟨hP, hD⟩ := va_join (wr := []) (w1 := [(al, .inr (6, [.int lm, .ref (u_6.2.1 0), .int 0])), ((u_6.2.1 0), .inl (cA 5, r_1, .inr (.inr (.inr (.inr (u_6.2.2 0))))))]) hP hD [0] [] rfl rfl (by decide) (by decide) hk hFc hP1 hD1
  have hP : va_P D ga_cl [(al, .inr (6, [.int lm, .ref (u_6.2.1 0), .int 0])), ((u_6.2.1 0), .inl (cA 5, r_1, .inr (.inr (.inr (.inr (u_6.2.2 0))))))] H_5 := hP
  have hD : va_D A [(al, .inr (6, [.int lm, .ref (u_6.2.1 0), .int 0])), ((u_6.2.1 0), .inl (cA 5, r_1, .inr (.inr (.inr (.inr (u_6.2.2 0))))))] := hD
  refine W.cs (cells' := 1) (slots' := 100) rfl rfl ?_
  have g_10 : ∀ (j y : Nat), ¬ (u_6.2.2 0) j = some y := by intro j y hy; first | exact nomatch (show (none : Option Nat) = some y from hy) | exact f_9 j y ((va_up_ne _ _ hn).symm.trans hy) | exact f_9 j y hn hy | exact f_9 j y hy
  have hP9 := hP.sub (ws' := [(al, .inr (6, [.int lm, .ref (u_6.2.1 0), .int 0])), ((u_6.2.1 0), .inl (cA 5, r_1, .inr (.inr (.inr (.inr (u_6.2.2 0))))))]) [0, 1] rfl
  have hD9 := hD.sub (ws' := [(al, .inr (6, [.int lm, .ref (u_6.2.1 0), .int 0])), ((u_6.2.1 0), .inl (cA 5, r_1, .inr (.inr (.inr (.inr (u_6.2.2 0))))))]) [0, 1] (by decide) rfl
  obtain rfl := Option.some.inj h
  exact W.aret hx hb hr (Or.inr ⟨_, rfl⟩) (Or.inr ⟨_, rfl⟩) (fun t ht hW => ⟨⟨(r_1, ga_ad [(u_6.2.1 0)], ga_fd [(u_6.2.2 0)]), _, rfl, rfl, rfl, ⟨by rw [ht]; exact hP9, hK.warm hW, hD9, g_10⟩⟩, hS.F ht⟩) hS.2.2 dJ2_grow_10
abbrev rm_J2_add_2_e : Room := { frames := 4, cells := 1, slots := 100, locals := 67 }
def F_J2_add_2_e (N : Nat) (lm : Int32)  : Option (Int32 × Nat) :=
  ((F_J2_grow_e N lm).bind fun r_2 =>
  (if inb 0 r_2 = true then
  some (1, r_2)
  else none))
set_option maxHeartbeats 4000000 in
theorem met_J2_add_2_e (l : Launch) (D : va_G) (cA : Nat → ClassId) (A : Nat → Prop) (al : Nat) (EC : String) (rr : Nat) (zs : Nat → Nat) (lm : Int32) (N : Nat)  (hca : Cond.castable EC "java/lang/Object" ∈ lw_tbl) (out : Int32 × Nat) (h : F_J2_add_2_e N lm = some out) : Met l yJ2_add_2 (ws_ yJ2_add_2 cJ2_add_2 4 none) rm_J2_add_2_e (ga_XR D cA zs A (ga_e1 EC rr) [(al, .inr (6, [.int lm, .ref (zs 0), .int 0]))] [.ref al, .ref rr, .ref (zs 0), .int 0]) (va_Qv (fun (u : (Int32 × Nat) × (Nat → Nat) × (Nat → Nat → Option Nat)) => out = u.1) (fun (u : (Int32 × Nat) × (Nat → Nat) × (Nat → Nat → Option Nat)) (t : State) => va_P D ga_cl [(al, .inr (6, [.int lm, .ref (u.2.1 0), .int u.1.1])), ((u.2.1 0), .inl (cA 5, u.1.2, .inr (.inr (.inr (.inr (u.2.2 0))))))] t.heap ∧ ga_K D cA t ∧ va_D A [(al, .inr (6, [.int lm, .ref (u.2.1 0), .int u.1.1])), ((u.2.1 0), .inl (cA 5, u.1.2, .inr (.inr (.inr (.inr (u.2.2 0))))))] ∧ ((u.2.2 0) (ix 0) = some rr) ∧ (∀ (j y : Nat), j ≠ ix 0 → ¬ (u.2.2 0) j = some y)) A) 1 100 A := by
  refine Met.ofW (cc := cJ2_add_2) (maxL := 4) (ret := none) (by decide) rfl ?_
  intro p e s m args below meth c s₁ B hml hv
  obtain ⟨rfl, hP, hK, hD, hA, hST, hR⟩ := hv
  have hS : va_S A s.heap s.heap [] := va_S.rf
  have C : ga_cx p m c meth s _ RJ2 cJ2_add_2 4 none := ga_cx_of B hml
  have C0 := C
  obtain ⟨hx, hb, hr, hlocks, hml, hown, hts⟩ := C0
  have hl := lv_entry ([.ref al, .ref rr, .ref (zs 0), .int 0]) (n := 4) (Nat.le_of_ble_eq_true rfl)
  rw [lg_entry_eq]
  generalize (lg_sl ([.ref al, .ref rr, .ref (zs 0), .int 0]) ++ List.replicate (4 - (lg_sl ([.ref al, .ref rr, .ref (zs 0), .int 0])).length) Slot.unset).toArray = ls at hl ⊢
  have hl : lv_has ls 4 [(0, .ref al), (1, .ref rr), (2, .ref (zs 0)), (3, .int 0)] := hl
  rw [F_J2_add_2_e] at h
  refine lv_iload_n hx hb dJ2_add_2_0 rfl (lv_at hl 3 rfl) ?_
  refine lv_aload_n hx hb dJ2_add_2_1 rfl (lv_at hl 2 rfl) ?_
  refine va_tlen hx hb hST.2.2.2.1 hS (v := 0) rfl dJ2_add_2_2 ?_
  refine lv_icmp_ne (tgt := 11) hx hb dJ2_add_2_3 (by decide) (fun c_1 => absurd (by decide) c_1) (fun _ => ?_)
  refine lv_aload_n hx hb dJ2_add_2_6 rfl (lv_at hl 0 rfl) ?_
  obtain ⟨r_2, e_3, h⟩ := ga_gb h
  have hFc := va_free (wc := [(al, .inr (6, [.int lm, .ref (zs 0), .int 0]))]) hD hS hA [0] rfl
  refine va_callr (va_runV (As := []) (rest := []) ⟨hx, hb, hml, hown, hts⟩ (met_J2_grow_e l D cA (va_A [(al, .inr (6, [.int lm, .ref (zs 0), .int 0]))] s.heap.size) al zs lm N r_2 e_3) (cwV 0 hts (lw_V q266 q268 qs1 q71 q269) rfl rfl rfl (by decide +kernel) ⟨Nat.le_of_ble_eq_true rfl, Nat.le_of_ble_eq_true rfl⟩) (ga_XV hK (hP.sub (ws' := [(al, .inr (6, [.int lm, .ref (zs 0), .int 0]))]) [0] rfl) (hD.sub (ws' := [(al, .inr (6, [.int lm, .ref (zs 0), .int 0]))]) [0] (by decide) rfl).self (fun _ hq => Or.inr hq) (hST.at hS hFc) (va_recv hK.1 hP (ci := 6) (q0 := 0) rfl rfl)) rfl rfl hl.1 rfl (lv_room (Nat.le_of_ble_eq_true rfl)) dJ2_add_2_7 ⟨Nat.le_of_ble_eq_true rfl, Nat.le_of_ble_eq_true rfl⟩) hS (fun q _ hq => hFc q hq) hFc (fun u_7 a_9 t H_6 locs ht _ w_5 hB _ hk hS => ?_)
  obtain ⟨ea, hP1, -, hD1, f_8⟩ := hB
  subst ea
  rw [show u_7.1 = r_2 from w_5.symm] at hP1 hD1
  have f_10 : ∀ (j y : Nat), ¬ (u_7.2.2 0) j = some y := by first | exact f_8 | (rw [show u_7.1 = r_2 from w_5.symm] at f_8; exact f_8)
  rw [ht] at hP1
  obtain ⟨hP, hD⟩ := va_join (wr := []) (w1 := [(al, .inr (6, [.int lm, .ref (u_7.2.1 0), .int 0])), ((u_7.2.1 0), .inl (cA 5, r_2, .inr (.inr (.inr (.inr (u_7.2.2 0))))))]) hP hD [0] [] rfl rfl (by decide) (by decide) hk hFc hP1 hD1
  have hP : va_P D ga_cl [(al, .inr (6, [.int lm, .ref (u_7.2.1 0), .int 0])), ((u_7.2.1 0), .inl (cA 5, r_2, .inr (.inr (.inr (.inr (u_7.2.2 0))))))] H_6 := hP
  have hD : va_D A [(al, .inr (6, [.int lm, .ref (u_7.2.1 0), .int 0])), ((u_7.2.1 0), .inl (cA 5, r_2, .inr (.inr (.inr (.inr (u_7.2.2 0))))))] := hD
  refine W.cs (cells' := 1) (slots' := 100) rfl rfl ?_
  refine lv_astore_n (lv' := [(2, .ref (u_7.2.1 0)), (0, .ref al), (1, .ref rr), (3, .int 0)]) hx hb dJ2_add_2_10 rfl hl (by decide) rfl (fun ls hl => ?_)
  refine lv_aload_n hx hb dJ2_add_2_11 rfl (lv_at hl 0 rfl) ?_
  refine lv_iload_n hx hb dJ2_add_2_12 rfl (lv_at hl 3 rfl) ?_
  refine lv_aload_n hx hb dJ2_add_2_13 rfl (lv_at hl 2 rfl) ?_
  obtain ⟨i_11, h⟩ := ga_gif h
  refine vb_astq hx hb hK.1 hP hD hS 1 5 (E := "java/lang/Object") (C := EC) (f := (u_7.2.2 0)) rfl rfl (ga_O3 (ga_e1K.at (B := A) hR hS (fun _ h => h))) (vb_asgC (hK.2.1 _ hca rfl)) (ga_in i_11) dJ2_add_2_14 (fun H_13 locs hP hD hS => ?_)
  have hP : va_P D ga_cl [(al, .inr (6, [.int lm, .ref (u_7.2.1 0), .int 0])), ((u_7.2.1 0), .inl (cA 5, r_2, .inr (.inr (.inr (.inr (va_up (u_7.2.2 0) (ix 0) (some rr)))))))] H_13 := hP
  have hD : va_D A [(al, .inr (6, [.int lm, .ref (u_7.2.1 0), .int 0])), ((u_7.2.1 0), .inl (cA 5, r_2, .inr (.inr (.inr (.inr (va_up (u_7.2.2 0) (ix 0) (some rr)))))))] := hD
  refine lv_aload_n hx hb dJ2_add_2_15 rfl (lv_at hl 1 rfl) ?_
  refine lv_iload_n hx hb dJ2_add_2_16 rfl (lv_at hl 3 rfl) ?_
  refine lv_iconst (v := 1) hx hb dJ2_add_2_17 (by decide) ?_
  refine lv_iadd hx hb dJ2_add_2_18 ?_
  refine W.eq (g2 := F0 m 19 ls [.int 1, .ref al]) rfl ?_
  refine va_put hx hb hts in_J2 tyJ2 tyJ2_ok nmJ2 hown hK.1 hP hD hS 0 (fs := [.int lm, .ref (u_7.2.1 0), .int 0]) rfl rfl 2 (by decide) (hts _ q136) (fun _ hh => hh) rfl (v := .int 1) rfl rfl rfl (show 2 < 3 by decide) dJ2_add_2_19 (fun H_14 locs hP hD hS => ?_)
  have hP : va_P D ga_cl [(al, .inr (6, [.int lm, .ref (u_7.2.1 0), .int 1])), ((u_7.2.1 0), .inl (cA 5, r_2, .inr (.inr (.inr (.inr (va_up (u_7.2.2 0) (ix 0) (some rr)))))))] H_14 := hP
  have hD : va_D A [(al, .inr (6, [.int lm, .ref (u_7.2.1 0), .int 1])), ((u_7.2.1 0), .inl (cA 5, r_2, .inr (.inr (.inr (.inr (va_up (u_7.2.2 0) (ix 0) (some rr)))))))] := hD
  have g_16 : (va_up (u_7.2.2 0) (ix 0) (some rr)) (ix 0) = some rr := by first | exact va_up_self _ _ _ | exact f_10
  have g_17 : ∀ (j y : Nat), j ≠ ix 0 → ¬ (va_up (u_7.2.2 0) (ix 0) (some rr)) j = some y := by intro j y hn hy; first | exact f_10 j y ((va_up_ne _ _ hn).symm.trans hy) | exact f_10 j y hn hy | exact f_10 j y hy
  have hP9 := hP.sub (ws' := [(al, .inr (6, [.int lm, .ref (u_7.2.1 0), .int 1])), ((u_7.2.1 0), .inl (cA 5, r_2, .inr (.inr (.inr (.inr (va_up (u_7.2.2 0) (ix 0) (some rr)))))))]) [0, 1] rfl
  have hD9 := hD.sub (ws' := [(al, .inr (6, [.int lm, .ref (u_7.2.1 0), .int 1])), ((u_7.2.1 0), .inl (cA 5, r_2, .inr (.inr (.inr (.inr (va_up (u_7.2.2 0) (ix 0) (some rr)))))))]) [0, 1] (by decide) rfl
  obtain rfl := Option.some.inj h
  exact W.vret hx hb hr (fun t ht hW => ⟨⟨((1, r_2), ga_ad [(u_7.2.1 0)], ga_fd [(va_up (u_7.2.2 0) (ix 0) (some rr))]), rfl, rfl, ⟨by rw [ht]; exact hP9, hK.warm hW, hD9, g_16, g_17⟩⟩, hS.F ht⟩) hS.2.2 dJ2_add_2_22
abbrev rm_J2_add_e : Room := { frames := 5, cells := 1, slots := 100, locals := 90 }
def F_J2_add_e (N : Nat) (lm : Int32)  : Option (Int32 × (Int32 × Int32 × Nat)) :=
  ((F_J2_add_2_e N (lm + 1)).bind fun r_3 =>
  some (1, ((lm + 1), r_3.1, r_3.2)))
set_option maxHeartbeats 4000000 in
theorem met_J2_add_e (l : Launch) (D : va_G) (cA : Nat → ClassId) (A : Nat → Prop) (al : Nat) (EC : String) (rr : Nat) (zs : Nat → Nat) (lm : Int32) (N : Nat)  (hca : Cond.castable EC "java/lang/Object" ∈ lw_tbl) (out : Int32 × (Int32 × Int32 × Nat)) (h : F_J2_add_e N lm = some out) : Met l yJ2_add (ws_ yJ2_add cJ2_add 2 (some .boolean)) rm_J2_add_e (ga_XR D cA zs A (ga_e1 EC rr) [(al, .inr (6, [.int lm, .ref (zs 0), .int 0]))] [.ref al, .ref rr]) (va_Qi (fun (r : Int32) (u : (Int32 × Int32 × Nat) × (Nat → Nat) × (Nat → Nat → Option Nat)) => (out.1 = r ∧ ga_B r) ∧ out.2 = u.1) (fun (u : (Int32 × Int32 × Nat) × (Nat → Nat) × (Nat → Nat → Option Nat)) (t : State) => va_P D ga_cl [(al, .inr (6, [.int u.1.1, .ref (u.2.1 0), .int u.1.2.1])), ((u.2.1 0), .inl (cA 5, u.1.2.2, .inr (.inr (.inr (.inr (u.2.2 0))))))] t.heap ∧ ga_K D cA t ∧ va_D A [(al, .inr (6, [.int u.1.1, .ref (u.2.1 0), .int u.1.2.1])), ((u.2.1 0), .inl (cA 5, u.1.2.2, .inr (.inr (.inr (.inr (u.2.2 0))))))] ∧ ((u.2.2 0) (ix 0) = some rr) ∧ (∀ (j y : Nat), j ≠ ix 0 → ¬ (u.2.2 0) j = some y)) A) 1 100 A := by
  refine Met.ofW (cc := cJ2_add) (maxL := 2) (ret := (some .boolean)) (by decide) rfl ?_
  intro p e s m args below meth c s₁ B hml hv
  obtain ⟨rfl, hP, hK, hD, hA, hST, hR⟩ := hv
  have hS : va_S A s.heap s.heap [] := va_S.rf
  have C : ga_cx p m c meth s _ RJ2 cJ2_add 2 (some .boolean) := ga_cx_of B hml
  have C0 := C
  obtain ⟨hx, hb, hr, hlocks, hml, hown, hts⟩ := C0
  have hl := lv_entry ([.ref al, .ref rr]) (n := 2) (Nat.le_of_ble_eq_true rfl)
  rw [lg_entry_eq]
  generalize (lg_sl ([.ref al, .ref rr]) ++ List.replicate (2 - (lg_sl ([.ref al, .ref rr])).length) Slot.unset).toArray = ls at hl ⊢
  have hl : lv_has ls 2 [(0, .ref al), (1, .ref rr)] := hl
  rw [F_J2_add_e] at h
  refine lv_aload_n hx hb dJ2_add_0 rfl (lv_at hl 0 rfl) ?_
  refine lv_dup hx hb dJ2_add_1 rfl ?_
  refine va_get hx hb hts in_J2 hown hK.1 hP 0 (fs := [.int lm, .ref (zs 0), .int 0]) rfl rfl 0 (by decide) (hts _ q138) (u_same (hts _ q139)) (v := .int lm) rfl dJ2_add_2 ?_
  refine lv_iconst (v := 1) hx hb dJ2_add_5 (by decide) ?_
  refine lv_iadd hx hb dJ2_add_6 ?_
  refine va_put hx hb hts in_J2 tyJ2 tyJ2_ok nmJ2 hown hK.1 hP hD hS 0 (fs := [.int lm, .ref (zs 0), .int 0]) rfl rfl 0 (by decide) (hts _ q138) (u_same (hts _ q139)) rfl (v := .int (lm + 1)) rfl rfl rfl (show 0 < 3 by decide) dJ2_add_7 (fun H_1 locs hP hD hS => ?_)
  have hP : va_P D ga_cl [(al, .inr (6, [.int (lm + 1), .ref (zs 0), .int 0]))] H_1 := hP
  have hD : va_D A [(al, .inr (6, [.int (lm + 1), .ref (zs 0), .int 0]))] := hD
  refine lv_aload_n hx hb dJ2_add_10 rfl (lv_at hl 0 rfl) ?_
  refine lv_aload_n hx hb dJ2_add_11 rfl (lv_at hl 1 rfl) ?_
  refine lv_aload_n hx hb dJ2_add_12 rfl (lv_at hl 0 rfl) ?_
  refine va_get hx hb hts in_J2 hown hK.1 hP 0 (fs := [.int (lm + 1), .ref (zs 0), .int 0]) rfl rfl 1 (by decide) (hts _ q135) (fun _ hh => hh) (v := .ref (zs 0)) rfl dJ2_add_13 ?_
  refine lv_aload_n hx hb dJ2_add_16 rfl (lv_at hl 0 rfl) ?_
  refine va_get hx hb hts in_J2 hown hK.1 hP 0 (fs := [.int (lm + 1), .ref (zs 0), .int 0]) rfl rfl 2 (by decide) (hts _ q136) (fun _ hh => hh) (v := .int 0) rfl dJ2_add_17 ?_
  obtain ⟨r_3, e_4, h⟩ := ga_gb h
  have hFc := va_free (wc := [(al, .inr (6, [.int (lm + 1), .ref (zs 0), .int 0]))]) hD hS hA [0] rfl
  refine va_callv (va_runV (As := [.ref rr, .ref (zs 0), .int 0]) (rest := []) ⟨hx, hb, hml, hown, hts⟩ (met_J2_add_2_e l D cA (va_A [(al, .inr (6, [.int (lm + 1), .ref (zs 0), .int 0]))] H_1.size) al EC rr zs (lm + 1) N hca r_3 e_4) (cwV 3 hts (lw_V q262 q264 qs0 q71 q265) rfl rfl rfl (by decide +kernel) ⟨Nat.le_of_ble_eq_true rfl, Nat.le_of_ble_eq_true rfl⟩) (ga_XRV ga_e1K (ga_e1K.at hR hS hFc) hK (hP.sub (ws' := [(al, .inr (6, [.int (lm + 1), .ref (zs 0), .int 0]))]) [0] rfl) (hD.sub (ws' := [(al, .inr (6, [.int (lm + 1), .ref (zs 0), .int 0]))]) [0] (by decide) rfl).self (fun _ hq => Or.inr hq) (hST.at hS hFc) (va_recv hK.1 hP (ci := 6) (q0 := 0) rfl rfl)) rfl rfl hl.1 rfl (lv_room (Nat.le_of_ble_eq_true rfl)) dJ2_add_20 ⟨Nat.le_of_ble_eq_true rfl, Nat.le_of_ble_eq_true rfl⟩) hS (fun q _ hq => hFc q hq) hFc (fun u_8 t H_7 locs ht _ w_6 hB _ hk hS => ?_)
  obtain ⟨hP1, -, hD1, f_9, f_10⟩ := hB
  rw [show u_8.1 = r_3 from w_6.symm] at hP1 hD1
  have f_12 : (u_8.2.2 0) (ix 0) = some rr := by first | exact f_9 | (rw [show u_8.1 = r_3 from w_6.symm] at f_9; exact f_9)
  have f_13 : ∀ (j y : Nat), j ≠ ix 0 → ¬ (u_8.2.2 0) j = some y := by first | exact f_10 | (rw [show u_8.1 = r_3 from w_6.symm] at f_10; exact f_10)
  rw [ht] at hP1
  obtain ⟨hP, hD⟩ := va_join (wr := []) (w1 := [(al, .inr (6, [.int (lm + 1), .ref (u_8.2.1 0), .int r_3.1])), ((u_8.2.1 0), .inl (cA 5, r_3.2, .inr (.inr (.inr (.inr (u_8.2.2 0))))))]) hP hD [0] [] rfl rfl (by decide) (by decide) hk hFc hP1 hD1
  have hP : va_P D ga_cl [(al, .inr (6, [.int (lm + 1), .ref (u_8.2.1 0), .int r_3.1])), ((u_8.2.1 0), .inl (cA 5, r_3.2, .inr (.inr (.inr (.inr (u_8.2.2 0))))))] H_7 := hP
  have hD : va_D A [(al, .inr (6, [.int (lm + 1), .ref (u_8.2.1 0), .int r_3.1])), ((u_8.2.1 0), .inl (cA 5, r_3.2, .inr (.inr (.inr (.inr (u_8.2.2 0))))))] := hD
  refine W.cs (cells' := 1) (slots' := 100) rfl rfl ?_
  refine lv_iconst (v := 1) hx hb dJ2_add_23 (by decide) ?_
  have g_14 : (u_8.2.2 0) (ix 0) = some rr := by first | exact va_up_self _ _ _ | exact f_12 | exact f_13
  have g_15 : ∀ (j y : Nat), j ≠ ix 0 → ¬ (u_8.2.2 0) j = some y := by intro j y hn hy; first | exact f_12 j y ((va_up_ne _ _ hn).symm.trans hy) | exact f_12 j y hn hy | exact f_12 j y hy | exact f_13 j y ((va_up_ne _ _ hn).symm.trans hy) | exact f_13 j y hn hy | exact f_13 j y hy
  have hP9 := hP.sub (ws' := [(al, .inr (6, [.int (lm + 1), .ref (u_8.2.1 0), .int r_3.1])), ((u_8.2.1 0), .inl (cA 5, r_3.2, .inr (.inr (.inr (.inr (u_8.2.2 0))))))]) [0, 1] rfl
  have hD9 := hD.sub (ws' := [(al, .inr (6, [.int (lm + 1), .ref (u_8.2.1 0), .int r_3.1])), ((u_8.2.1 0), .inl (cA 5, r_3.2, .inr (.inr (.inr (.inr (u_8.2.2 0))))))]) [0, 1] (by decide) rfl
  obtain rfl := Option.some.inj h
  exact W.zret hx hb hr (ga_nb (Or.inr rfl)) (fun t ht hW => ⟨⟨_, (((lm + 1), r_3.1, r_3.2), ga_ad [(u_8.2.1 0)], ga_fd [(u_8.2.2 0)]), rfl, ⟨⟨rfl, Or.inr rfl⟩, rfl⟩, ⟨by rw [ht]; exact hP9, hK.warm hW, hD9, g_14, g_15⟩⟩, hS.F ht⟩) hS.2.2 dJ2_add_24
