abbrev rm_X3_set : Room := { frames := 2, cells := 0, slots := 0, locals := 40 }
def F_X3_set (N : Nat) (bB : Int64) (bS : Nat → Int64) (bA : Nat → Int64) (bC : Nat → Int32) (oB : Int64) (oS : Nat → Int64) (oA : Nat → Int64) (oC : Nat → Int32)  : Option (Int64 × (Nat → Int64) × (Nat → Int64) × (Nat → Int32)) :=
  some (oB, (va_cpy oS bS (ix 0) (ix 0) (ix 2)), (va_cpy oA bA (ix 0) (ix 0) (ix 2)), (va_cpy oC bC (ix 0) (ix 0) (ix 2)))
set_option maxHeartbeats 4000000 in
theorem met_X3_set (l : Launch) (D : va_G) (cA : Nat → ClassId) (A : Nat → Prop) (b : Nat) (b_s : Nat) (b_a : Nat) (b_c : Nat) (b_g : Nat) (o : Nat) (o_s : Nat) (o_a : Nat) (o_c : Nat) (o_g : Nat) (zs : Nat → Nat) (bB : Int64) (bS : Nat → Int64) (bA : Nat → Int64) (bC : Nat → Int32) (oB : Int64) (oS : Nat → Int64) (oA : Nat → Int64) (oC : Nat → Int32) (N : Nat)   (out : Int64 × (Nat → Int64) × (Nat → Int64) × (Nat → Int32)) (h : F_X3_set N bB bS bA bC oB oS oA oC = some out) : Met l yX3_set (ws_ yX3_set cX3_set 2 none) rm_X3_set (ga_XR D cA zs A (ga_ro D [(o, .inr (3, [.ref o_s, .ref o_a, .long oB, .ref o_c, .ref o_g])), (o_s, .inl (cA 1, 2, .inr (.inl oS))), (o_a, .inl (cA 1, 2, .inr (.inl oA))), (o_c, .inl (cA 0, 2, .inl oC))]) [(b, .inr (3, [.ref b_s, .ref b_a, .long bB, .ref b_c, .ref b_g])), (b_s, .inl (cA 1, 2, .inr (.inl bS))), (b_a, .inl (cA 1, 2, .inr (.inl bA))), (b_c, .inl (cA 0, 2, .inl bC))] [.ref b, .ref o]) (va_Qv (fun (u : Int64 × (Nat → Int64) × (Nat → Int64) × (Nat → Int32)) => out = u) (fun (u : Int64 × (Nat → Int64) × (Nat → Int64) × (Nat → Int32)) (t : State) => va_P D ga_cl [(b, .inr (3, [.ref b_s, .ref b_a, .long u.1, .ref b_c, .ref b_g])), (b_s, .inl (cA 1, 2, .inr (.inl u.2.1))), (b_a, .inl (cA 1, 2, .inr (.inl u.2.2.1))), (b_c, .inl (cA 0, 2, .inl u.2.2.2))] t.heap ∧ ga_K D cA t ∧ va_D A [(b, .inr (3, [.ref b_s, .ref b_a, .long u.1, .ref b_c, .ref b_g])), (b_s, .inl (cA 1, 2, .inr (.inl u.2.1))), (b_a, .inl (cA 1, 2, .inr (.inl u.2.2.1))), (b_c, .inl (cA 0, 2, .inl u.2.2.2))]) A) 0 0 A := by
  refine Met.ofW (cc := cX3_set) (maxL := 2) (ret := none) (by decide) rfl ?_
  intro p e s m args below meth c s₁ B hml hv
  obtain ⟨rfl, hP, hK, hD, hA, hST, hR⟩ := hv
  have hS : va_S A s.heap s.heap [] := va_S.rf
  have C : ga_cx p m c meth s _ RX3 cX3_set 2 none := ga_cx_of B hml
  have C0 := C
  obtain ⟨hx, hb, hr, hlocks, hml, hown, hts⟩ := C0
  have hl := lv_entry ([.ref b, .ref o]) (n := 2) (Nat.le_of_ble_eq_true rfl)
  rw [lg_entry_eq]
  generalize (lg_sl ([.ref b, .ref o]) ++ List.replicate (2 - (lg_sl ([.ref b, .ref o])).length) Slot.unset).toArray = ls at hl ⊢
  have hl : lv_has ls 2 [(0, .ref b), (1, .ref o)] := hl
  rw [F_X3_set] at h
  refine lv_aload_n hx hb dX3_set_0 rfl (lv_at hl 1 rfl) ?_
  have hP : va_P D ga_cl [(b, .inr (3, [.ref b_s, .ref b_a, .long bB, .ref b_c, .ref b_g])), (b_s, .inl (cA 1, 2, .inr (.inl bS))), (b_a, .inl (cA 1, 2, .inr (.inl bA))), (b_c, .inl (cA 0, 2, .inl bC)), (o, .inr (3, [.ref o_s, .ref o_a, .long oB, .ref o_c, .ref o_g])), (o_s, .inl (cA 1, 2, .inr (.inl oS))), (o_a, .inl (cA 1, 2, .inr (.inl oA))), (o_c, .inl (cA 0, 2, .inl oC))] s.heap := hP.app (ga_roK.at (B := A) hR hS (fun _ h => h)).1
  refine va_get hx hb hts in_X3 hown hK.1 hP 4 (fs := [.ref o_s, .ref o_a, .long oB, .ref o_c, .ref o_g]) rfl rfl 0 (by decide) (hts _ q154) (fun _ hh => hh) (v := .ref o_s) rfl dX3_set_1 ?_
  refine lv_iconst (v := 0) hx hb dX3_set_4 (by decide) ?_
  refine lv_aload_n hx hb dX3_set_5 rfl (lv_at hl 0 rfl) ?_
  refine va_get hx hb hts in_X3 hown hK.1 hP 0 (fs := [.ref b_s, .ref b_a, .long bB, .ref b_c, .ref b_g]) rfl rfl 0 (by decide) (hts _ q154) (fun _ hh => hh) (v := .ref b_s) rfl dX3_set_6 ?_
  refine lv_iconst (v := 0) hx hb dX3_set_9 (by decide) ?_
  refine lv_iconst (v := 2) hx hb dX3_set_10 (by decide) ?_
  replace hP := hP.sub (ws' := [(b, .inr (3, [.ref b_s, .ref b_a, .long bB, .ref b_c, .ref b_g])), (b_s, .inl (cA 1, 2, .inr (.inl bS))), (b_a, .inl (cA 1, 2, .inr (.inl bA))), (b_c, .inl (cA 0, 2, .inl bC))]) [0, 1, 2, 3] rfl
  have hr_2 := ga_roK.at (B := A) hR hS (fun _ h => h)
  refine ga_copyRl hx hb (hml.trans hl.1.symm) hown (hts _ q798) (hts _ q324) (hts _ q323) (hts _ q78) hK.1 (f := oS) (g := bS) (hr_2.1.sub [1] rfl) (hr_2.2 1 _ rfl) hP hD hS 1 1 1 rfl rfl rfl rfl (by decide) (by decide) (by decide) (by decide) (by decide) (fun _ _ => rfl) (Nat.le_of_ble_eq_true rfl) (by decide +kernel) dX3_set_11 (fun H_1 locs hP hD hS => ?_)
  have hP : va_P D ga_cl [(b, .inr (3, [.ref b_s, .ref b_a, .long bB, .ref b_c, .ref b_g])), (b_s, .inl (cA 1, 2, .inr (.inl (va_cpy oS bS (ix 0) (ix 0) (ix 2))))), (b_a, .inl (cA 1, 2, .inr (.inl bA))), (b_c, .inl (cA 0, 2, .inl bC))] H_1 := hP
  have hD : va_D A [(b, .inr (3, [.ref b_s, .ref b_a, .long bB, .ref b_c, .ref b_g])), (b_s, .inl (cA 1, 2, .inr (.inl (va_cpy oS bS (ix 0) (ix 0) (ix 2))))), (b_a, .inl (cA 1, 2, .inr (.inl bA))), (b_c, .inl (cA 0, 2, .inl bC))] := hD
  refine lv_aload_n hx hb dX3_set_14 rfl (lv_at hl 1 rfl) ?_
  have hP : va_P D ga_cl [(b, .inr (3, [.ref b_s, .ref b_a, .long bB, .ref b_c, .ref b_g])), (b_s, .inl (cA 1, 2, .inr (.inl (va_cpy oS bS (ix 0) (ix 0) (ix 2))))), (b_a, .inl (cA 1, 2, .inr (.inl bA))), (b_c, .inl (cA 0, 2, .inl bC)), (o, .inr (3, [.ref o_s, .ref o_a, .long oB, .ref o_c, .ref o_g])), (o_s, .inl (cA 1, 2, .inr (.inl oS))), (o_a, .inl (cA 1, 2, .inr (.inl oA))), (o_c, .inl (cA 0, 2, .inl oC))] H_1 := hP.app (ga_roK.at (B := A) hR hS (fun _ h => h)).1
  refine va_get hx hb hts in_X3 hown hK.1 hP 4 (fs := [.ref o_s, .ref o_a, .long oB, .ref o_c, .ref o_g]) rfl rfl 1 (by decide) (hts _ q157) (fun _ hh => hh) (v := .ref o_a) rfl dX3_set_15 ?_
  refine lv_iconst (v := 0) hx hb dX3_set_18 (by decide) ?_
  refine lv_aload_n hx hb dX3_set_19 rfl (lv_at hl 0 rfl) ?_
  refine va_get hx hb hts in_X3 hown hK.1 hP 0 (fs := [.ref b_s, .ref b_a, .long bB, .ref b_c, .ref b_g]) rfl rfl 1 (by decide) (hts _ q157) (fun _ hh => hh) (v := .ref b_a) rfl dX3_set_20 ?_
  refine lv_iconst (v := 0) hx hb dX3_set_23 (by decide) ?_
  refine lv_iconst (v := 2) hx hb dX3_set_24 (by decide) ?_
  replace hP := hP.sub (ws' := [(b, .inr (3, [.ref b_s, .ref b_a, .long bB, .ref b_c, .ref b_g])), (b_s, .inl (cA 1, 2, .inr (.inl (va_cpy oS bS (ix 0) (ix 0) (ix 2))))), (b_a, .inl (cA 1, 2, .inr (.inl bA))), (b_c, .inl (cA 0, 2, .inl bC))]) [0, 1, 2, 3] rfl
  have hr_4 := ga_roK.at (B := A) hR hS (fun _ h => h)
  refine ga_copyRl hx hb (hml.trans hl.1.symm) hown (hts _ q798) (hts _ q324) (hts _ q323) (hts _ q78) hK.1 (f := oA) (g := bA) (hr_4.1.sub [2] rfl) (hr_4.2 2 _ rfl) hP hD hS 2 1 1 rfl rfl rfl rfl (by decide) (by decide) (by decide) (by decide) (by decide) (fun _ _ => rfl) (Nat.le_of_ble_eq_true rfl) (by decide +kernel) dX3_set_25 (fun H_3 locs hP hD hS => ?_)
  have hP : va_P D ga_cl [(b, .inr (3, [.ref b_s, .ref b_a, .long bB, .ref b_c, .ref b_g])), (b_s, .inl (cA 1, 2, .inr (.inl (va_cpy oS bS (ix 0) (ix 0) (ix 2))))), (b_a, .inl (cA 1, 2, .inr (.inl (va_cpy oA bA (ix 0) (ix 0) (ix 2))))), (b_c, .inl (cA 0, 2, .inl bC))] H_3 := hP
  have hD : va_D A [(b, .inr (3, [.ref b_s, .ref b_a, .long bB, .ref b_c, .ref b_g])), (b_s, .inl (cA 1, 2, .inr (.inl (va_cpy oS bS (ix 0) (ix 0) (ix 2))))), (b_a, .inl (cA 1, 2, .inr (.inl (va_cpy oA bA (ix 0) (ix 0) (ix 2))))), (b_c, .inl (cA 0, 2, .inl bC))] := hD
  refine lv_aload_n hx hb dX3_set_28 rfl (lv_at hl 1 rfl) ?_
  have hP : va_P D ga_cl [(b, .inr (3, [.ref b_s, .ref b_a, .long bB, .ref b_c, .ref b_g])), (b_s, .inl (cA 1, 2, .inr (.inl (va_cpy oS bS (ix 0) (ix 0) (ix 2))))), (b_a, .inl (cA 1, 2, .inr (.inl (va_cpy oA bA (ix 0) (ix 0) (ix 2))))), (b_c, .inl (cA 0, 2, .inl bC)), (o, .inr (3, [.ref o_s, .ref o_a, .long oB, .ref o_c, .ref o_g])), (o_s, .inl (cA 1, 2, .inr (.inl oS))), (o_a, .inl (cA 1, 2, .inr (.inl oA))), (o_c, .inl (cA 0, 2, .inl oC))] H_3 := hP.app (ga_roK.at (B := A) hR hS (fun _ h => h)).1
  refine va_get hx hb hts in_X3 hown hK.1 hP 4 (fs := [.ref o_s, .ref o_a, .long oB, .ref o_c, .ref o_g]) rfl rfl 3 (by decide) (hts _ q161) (fun _ hh => hh) (v := .ref o_c) rfl dX3_set_29 ?_
  refine lv_iconst (v := 0) hx hb dX3_set_32 (by decide) ?_
  refine lv_aload_n hx hb dX3_set_33 rfl (lv_at hl 0 rfl) ?_
  refine va_get hx hb hts in_X3 hown hK.1 hP 0 (fs := [.ref b_s, .ref b_a, .long bB, .ref b_c, .ref b_g]) rfl rfl 3 (by decide) (hts _ q161) (fun _ hh => hh) (v := .ref b_c) rfl dX3_set_34 ?_
  refine lv_iconst (v := 0) hx hb dX3_set_37 (by decide) ?_
  refine lv_iconst (v := 2) hx hb dX3_set_38 (by decide) ?_
  replace hP := hP.sub (ws' := [(b, .inr (3, [.ref b_s, .ref b_a, .long bB, .ref b_c, .ref b_g])), (b_s, .inl (cA 1, 2, .inr (.inl (va_cpy oS bS (ix 0) (ix 0) (ix 2))))), (b_a, .inl (cA 1, 2, .inr (.inl (va_cpy oA bA (ix 0) (ix 0) (ix 2))))), (b_c, .inl (cA 0, 2, .inl bC))]) [0, 1, 2, 3] rfl
  have hr_6 := ga_roK.at (B := A) hR hS (fun _ h => h)
  refine ga_copyRi hx hb (hml.trans hl.1.symm) hown (hts _ q798) (hts _ q324) (hts _ q323) (hts _ q78) hK.1 (f := oC) (g := bC) (hr_6.1.sub [3] rfl) (hr_6.2 3 _ rfl) hP hD hS 3 0 0 rfl rfl rfl rfl (by decide) (by decide) (by decide) (by decide) (by decide) (fun _ _ => rfl) (Nat.le_of_ble_eq_true rfl) (by decide +kernel) dX3_set_39 (fun H_5 locs hP hD hS => ?_)
  have hP : va_P D ga_cl [(b, .inr (3, [.ref b_s, .ref b_a, .long bB, .ref b_c, .ref b_g])), (b_s, .inl (cA 1, 2, .inr (.inl (va_cpy oS bS (ix 0) (ix 0) (ix 2))))), (b_a, .inl (cA 1, 2, .inr (.inl (va_cpy oA bA (ix 0) (ix 0) (ix 2))))), (b_c, .inl (cA 0, 2, .inl (va_cpy oC bC (ix 0) (ix 0) (ix 2))))] H_5 := hP
  have hD : va_D A [(b, .inr (3, [.ref b_s, .ref b_a, .long bB, .ref b_c, .ref b_g])), (b_s, .inl (cA 1, 2, .inr (.inl (va_cpy oS bS (ix 0) (ix 0) (ix 2))))), (b_a, .inl (cA 1, 2, .inr (.inl (va_cpy oA bA (ix 0) (ix 0) (ix 2))))), (b_c, .inl (cA 0, 2, .inl (va_cpy oC bC (ix 0) (ix 0) (ix 2))))] := hD
  refine lv_aload_n hx hb dX3_set_42 rfl (lv_at hl 0 rfl) ?_
  refine lv_aload_n hx hb dX3_set_43 rfl (lv_at hl 1 rfl) ?_
  have hP : va_P D ga_cl [(b, .inr (3, [.ref b_s, .ref b_a, .long bB, .ref b_c, .ref b_g])), (b_s, .inl (cA 1, 2, .inr (.inl (va_cpy oS bS (ix 0) (ix 0) (ix 2))))), (b_a, .inl (cA 1, 2, .inr (.inl (va_cpy oA bA (ix 0) (ix 0) (ix 2))))), (b_c, .inl (cA 0, 2, .inl (va_cpy oC bC (ix 0) (ix 0) (ix 2)))), (o, .inr (3, [.ref o_s, .ref o_a, .long oB, .ref o_c, .ref o_g])), (o_s, .inl (cA 1, 2, .inr (.inl oS))), (o_a, .inl (cA 1, 2, .inr (.inl oA))), (o_c, .inl (cA 0, 2, .inl oC))] H_5 := hP.app (ga_roK.at (B := A) hR hS (fun _ h => h)).1
  refine va_get hx hb hts in_X3 hown hK.1 hP 4 (fs := [.ref o_s, .ref o_a, .long oB, .ref o_c, .ref o_g]) rfl rfl 2 (by decide) (hts _ q159) (fun _ hh => hh) (v := .long oB) rfl dX3_set_44 ?_
  replace hP := hP.sub (ws' := [(b, .inr (3, [.ref b_s, .ref b_a, .long bB, .ref b_c, .ref b_g])), (b_s, .inl (cA 1, 2, .inr (.inl (va_cpy oS bS (ix 0) (ix 0) (ix 2))))), (b_a, .inl (cA 1, 2, .inr (.inl (va_cpy oA bA (ix 0) (ix 0) (ix 2))))), (b_c, .inl (cA 0, 2, .inl (va_cpy oC bC (ix 0) (ix 0) (ix 2))))]) [0, 1, 2, 3] rfl
  refine va_put hx hb hts in_X3 tyX3 tyX3_ok nmX3 hown hK.1 hP hD hS 0 (fs := [.ref b_s, .ref b_a, .long bB, .ref b_c, .ref b_g]) rfl rfl 2 (by decide) (hts _ q159) (fun _ hh => hh) rfl (v := .long oB) rfl rfl rfl (show 2 < 5 by decide) dX3_set_47 (fun H_7 locs hP hD hS => ?_)
  have hP : va_P D ga_cl [(b, .inr (3, [.ref b_s, .ref b_a, .long oB, .ref b_c, .ref b_g])), (b_s, .inl (cA 1, 2, .inr (.inl (va_cpy oS bS (ix 0) (ix 0) (ix 2))))), (b_a, .inl (cA 1, 2, .inr (.inl (va_cpy oA bA (ix 0) (ix 0) (ix 2))))), (b_c, .inl (cA 0, 2, .inl (va_cpy oC bC (ix 0) (ix 0) (ix 2))))] H_7 := hP
  have hD : va_D A [(b, .inr (3, [.ref b_s, .ref b_a, .long oB, .ref b_c, .ref b_g])), (b_s, .inl (cA 1, 2, .inr (.inl (va_cpy oS bS (ix 0) (ix 0) (ix 2))))), (b_a, .inl (cA 1, 2, .inr (.inl (va_cpy oA bA (ix 0) (ix 0) (ix 2))))), (b_c, .inl (cA 0, 2, .inl (va_cpy oC bC (ix 0) (ix 0) (ix 2))))] := hD
  have hP9 := hP.sub (ws' := [(b, .inr (3, [.ref b_s, .ref b_a, .long oB, .ref b_c, .ref b_g])), (b_s, .inl (cA 1, 2, .inr (.inl (va_cpy oS bS (ix 0) (ix 0) (ix 2))))), (b_a, .inl (cA 1, 2, .inr (.inl (va_cpy oA bA (ix 0) (ix 0) (ix 2))))), (b_c, .inl (cA 0, 2, .inl (va_cpy oC bC (ix 0) (ix 0) (ix 2))))]) [0, 1, 2, 3] rfl
  have hD9 := hD.sub (ws' := [(b, .inr (3, [.ref b_s, .ref b_a, .long oB, .ref b_c, .ref b_g])), (b_s, .inl (cA 1, 2, .inr (.inl (va_cpy oS bS (ix 0) (ix 0) (ix 2))))), (b_a, .inl (cA 1, 2, .inr (.inl (va_cpy oA bA (ix 0) (ix 0) (ix 2))))), (b_c, .inl (cA 0, 2, .inl (va_cpy oC bC (ix 0) (ix 0) (ix 2))))]) [0, 1, 2, 3] (by decide) rfl
  obtain rfl := Option.some.inj h
  exact W.vret hx hb hr (fun t ht hW => ⟨⟨(oB, (va_cpy oS bS (ix 0) (ix 0) (ix 2)), (va_cpy oA bA (ix 0) (ix 0) (ix 2)), (va_cpy oC bC (ix 0) (ix 0) (ix 2))), rfl, rfl, ⟨by rw [ht]; exact hP9, hK.warm hW, hD9⟩⟩, hS.F ht⟩) hS.2.2 dX3_set_50
abbrev rm_X3_wave : Room := { frames := 4, cells := 0, slots := 0, locals := 88 }
def lp_X3_wave_133 (N : Nat) (bB : Int64) (zw : Int32) (zh : Int32) (zA : Int64) (zL : Int64) (zR : Int64) (zE : Int64) : Nat → (Nat → Int64) → (Nat → Int64) → (Nat → Int32) → (Nat → Int64) → (Int32) → Option (Int32 × ((Nat → Int64) × (Nat → Int64) × (Nat → Int32) × (Nat → Int64)))
  | 0, _, _, _, _, _ => none
  | n+1, bS, bA, bC, bG, x2 =>
    (if 2 ≤ x2 then
    some (((V_J13_bitCount (bG (ix 0))) + (V_J13_bitCount (bG (ix 1)))), (bS, bA, bC, bG))
    else
    (if inb x2 2 = true then
    (if inb x2 2 = true then
    (if inb (1 - x2) 2 = true then
    (if inb x2 2 = true then
    (if inb (1 - x2) 2 = true then
    (if inb x2 2 = true then
    (if inb (1 - x2) 2 = true then
    (if inb (1 - x2) 2 = true then
    (if inb x2 2 = true then
    (if inb (1 - x2) 2 = true then
    (if inb x2 2 = true then
    (if inb x2 2 = true then
    (if inb x2 2 = true then
    lp_X3_wave_133 N bB zw zh zA zL zR zE n (vp_updL bS (ix (1 - x2)) ((bS (ix (1 - x2))) &&& ((bG (ix x2)) ^^^ (-1)))) (vp_updL (vp_updL bA (ix (1 - x2)) ((bA (ix (1 - x2))) &&& ((bG (ix x2)) ^^^ (-1)))) (ix x2) (((vp_updL bA (ix (1 - x2)) ((bA (ix (1 - x2))) &&& ((bG (ix x2)) ^^^ (-1)))) (ix x2)) ||| (bG (ix x2)))) (upd bC (ix x2) ((bC (ix x2)) + (V_J13_bitCount ((bG (ix x2)) &&& (bS (ix (1 - x2))))))) bG (x2 + 1)
    else none)
    else none)
    else none)
    else none)
    else none)
    else none)
    else none)
    else none)
    else none)
    else none)
    else none)
    else none)
    else none))
set_option maxHeartbeats 4000000 in
theorem w_X3_wave_133 {p : Program} {l : Launch} {e : Env} {s : State} {m : MethodId} {args : Array Value} {below : List Frame} {meth : Method} {c : Code} {D : va_G} {cA : Nat → ClassId} {A : Nat → Prop} {b : Nat} {b_s : Nat} {b_a : Nat} {b_c : Nat} {b_g : Nat} {sh : Nat} {N : Nat} {bB : Int64} {zw : Int32} {zh : Int32} {zA : Int64} {zL : Int64} {zR : Int64} {zE : Int64}  (C : ga_cx p m c meth s args RX3 cX3_wave 5 (some .int)) (hK : ga_K D cA s) (hA : ∀ q : Nat, s.heap.size ≤ q → A q) {out : Int32 × ((Nat → Int64) × (Nat → Int64) × (Nat → Int32) × (Nat → Int64))} : ∀ n : Nat, ∀ (bS : Nat → Int64) (bA : Nat → Int64) (bC : Nat → Int32) (bG : Nat → Int64) (x2 : Int32), lp_X3_wave_133 N bB zw zh zA zL zR zE n bS bA bC bG x2 = some out → ∀ (H : Heap) (locs : List Loc), va_P D ga_cl [(b, .inr (3, [.ref b_s, .ref b_a, .long bB, .ref b_c, .ref b_g])), (b_s, .inl (cA 1, 2, .inr (.inl bS))), (b_a, .inl (cA 1, 2, .inr (.inl bA))), (b_c, .inl (cA 0, 2, .inl bC)), (b_g, .inl (cA 1, 2, .inr (.inl bG))), (sh, .inr (4, [.int zw, .int zh, .long zA, .long zL, .long zR, .long zE]))] H → va_D A [(b, .inr (3, [.ref b_s, .ref b_a, .long bB, .ref b_c, .ref b_g])), (b_s, .inl (cA 1, 2, .inr (.inl bS))), (b_a, .inl (cA 1, 2, .inr (.inl bA))), (b_c, .inl (cA 0, 2, .inl bC)), (b_g, .inl (cA 1, 2, .inr (.inl bG))), (sh, .inr (4, [.int zw, .int zh, .long zA, .long zL, .long zR, .long zE]))] → va_S A s.heap H locs → ∀ ls : Array Slot, lv_has ls 5 [(0, .ref b), (2, .int x2)] → W p l e (headSpec (ws_ yX3_wave cX3_wave 5 (some .int)) rm_X3_wave).room s m args below meth c H locs 0 0 (MQ below (va_Qi (fun (r : Int32) (u : (Nat → Int64) × (Nat → Int64) × (Nat → Int32) × (Nat → Int64)) => (out.1 = r) ∧ out.2 = u) (fun (u : (Nat → Int64) × (Nat → Int64) × (Nat → Int32) × (Nat → Int64)) (t : State) => va_P D ga_cl [(b, .inr (3, [.ref b_s, .ref b_a, .long bB, .ref b_c, .ref b_g])), (b_s, .inl (cA 1, 2, .inr (.inl u.1))), (b_a, .inl (cA 1, 2, .inr (.inl u.2.1))), (b_c, .inl (cA 0, 2, .inl u.2.2.1)), (b_g, .inl (cA 1, 2, .inr (.inl u.2.2.2))), (sh, .inr (4, [.int zw, .int zh, .long zA, .long zL, .long zR, .long zE]))] t.heap ∧ ga_K D cA t ∧ va_D A [(b, .inr (3, [.ref b_s, .ref b_a, .long bB, .ref b_c, .ref b_g])), (b_s, .inl (cA 1, 2, .inr (.inl u.1))), (b_a, .inl (cA 1, 2, .inr (.inl u.2.1))), (b_c, .inl (cA 0, 2, .inl u.2.2.1)), (b_g, .inl (cA 1, 2, .inr (.inl u.2.2.2))), (sh, .inr (4, [.int zw, .int zh, .long zA, .long zL, .long zR, .long zE]))]) A) args s 0 0 A) (F0 m 133 ls []) := by
  have C0 := C
  obtain ⟨hx, hb, hr, hlocks, hml, hown, hts⟩ := C0
  intro n
  induction n with
  | zero =>
    intro bS bA bC bG x2 h
    rw [lp_X3_wave_133.eq_1] at h
    cases h
  | succ n ih =>
    intro bS bA bC bG x2 h H locs hP hD hS ls hl
    rw [lp_X3_wave_133.eq_2] at h
    refine lv_iload_n hx hb dX3_wave_133 rfl (lv_at hl 1 rfl) ?_
    refine lv_iconst (v := 2) hx hb dX3_wave_134 (by decide) ?_
    refine lv_icmp_ge (tgt := 226) hx hb dX3_wave_135 (by decide) (fun c_58 => ?_) (fun c_58 => ?_)
    · replace h := ga_ift c_58 h
      refine lv_aload_n hx hb dX3_wave_226 rfl (lv_at hl 0 rfl) ?_
      refine va_get hx hb hts in_X3 hown hK.1 hP 0 (fs := [.ref b_s, .ref b_a, .long bB, .ref b_c, .ref b_g]) rfl rfl 4 (by decide) (hts _ q163) (fun _ hh => hh) (v := .ref b_g) rfl dX3_wave_227 ?_
      refine lv_iconst (v := 0) hx hb dX3_wave_230 (by decide) ?_
      refine va_lald hx hb hK.1 hP 4 1 (f := bG) rfl rfl (ga_in (by decide)) dX3_wave_231 ?_
      refine vp_callSi (va_Run.run (va_runSN (As := [.long (bG (ix 0))]) (rest := []) ⟨hx, hb, hml, hown, hts⟩ (met_X1_size l D cA N (bG (ix 0)) (V_J13_bitCount (bG (ix 0))) rfl) (⟨va_cnB 1 hts (lw_meth q569) rfl rfl rfl (hK.2.1 _ q812 rfl) (hts _ q67) (by decide +kernel) ⟨Nat.le_of_ble_eq_true rfl, Nat.le_of_ble_eq_true rfl⟩, hts _ q568, trivial⟩) (ga_PS hK ga_P0) rfl rfl hl.1 rfl (lv_room (Nat.le_of_ble_eq_true rfl)) dX3_wave_232 ⟨Nat.le_of_ble_eq_true rfl, Nat.le_of_ble_eq_true rfl⟩)) (fun z_61 w_62 => ?_)
      obtain rfl := w_62
      refine lv_aload_n hx hb dX3_wave_235 rfl (lv_at hl 0 rfl) ?_
      refine va_get hx hb hts in_X3 hown hK.1 hP 0 (fs := [.ref b_s, .ref b_a, .long bB, .ref b_c, .ref b_g]) rfl rfl 4 (by decide) (hts _ q163) (fun _ hh => hh) (v := .ref b_g) rfl dX3_wave_236 ?_
      refine lv_iconst (v := 1) hx hb dX3_wave_239 (by decide) ?_
      refine va_lald hx hb hK.1 hP 4 1 (f := bG) rfl rfl (ga_in (by decide)) dX3_wave_240 ?_
      refine vp_callSi (va_Run.run (va_runSN (As := [.long (bG (ix 1))]) (rest := [.int (V_J13_bitCount (bG (ix 0)))]) ⟨hx, hb, hml, hown, hts⟩ (met_X1_size l D cA N (bG (ix 1)) (V_J13_bitCount (bG (ix 1))) rfl) (⟨va_cnB 1 hts (lw_meth q569) rfl rfl rfl (hK.2.1 _ q812 rfl) (hts _ q67) (by decide +kernel) ⟨Nat.le_of_ble_eq_true rfl, Nat.le_of_ble_eq_true rfl⟩, hts _ q568, trivial⟩) (ga_PS hK ga_P0) rfl rfl hl.1 rfl (lv_room (Nat.le_of_ble_eq_true rfl)) dX3_wave_241 ⟨Nat.le_of_ble_eq_true rfl, Nat.le_of_ble_eq_true rfl⟩)) (fun z_66 w_67 => ?_)
      obtain rfl := w_67
      refine lv_iadd hx hb dX3_wave_244 ?_
      have hP9 := hP.sub (ws' := [(b, .inr (3, [.ref b_s, .ref b_a, .long bB, .ref b_c, .ref b_g])), (b_s, .inl (cA 1, 2, .inr (.inl bS))), (b_a, .inl (cA 1, 2, .inr (.inl bA))), (b_c, .inl (cA 0, 2, .inl bC)), (b_g, .inl (cA 1, 2, .inr (.inl bG))), (sh, .inr (4, [.int zw, .int zh, .long zA, .long zL, .long zR, .long zE]))]) [0, 1, 2, 3, 4, 5] rfl
      have hD9 := hD.sub (ws' := [(b, .inr (3, [.ref b_s, .ref b_a, .long bB, .ref b_c, .ref b_g])), (b_s, .inl (cA 1, 2, .inr (.inl bS))), (b_a, .inl (cA 1, 2, .inr (.inl bA))), (b_c, .inl (cA 0, 2, .inl bC)), (b_g, .inl (cA 1, 2, .inr (.inl bG))), (sh, .inr (4, [.int zw, .int zh, .long zA, .long zL, .long zR, .long zE]))]) [0, 1, 2, 3, 4, 5] (by decide) rfl
      obtain rfl := Option.some.inj h
      exact W.iret hx hb hr (fun t ht hW => ⟨⟨_, (bS, bA, bC, bG), rfl, ⟨rfl, rfl⟩, ⟨by rw [ht]; exact hP9, hK.warm hW, hD9⟩⟩, hS.F ht⟩) hS.2.2 dX3_wave_245
    · replace h := ga_iff c_58 h
      refine lv_iconst (v := 1) hx hb dX3_wave_138 (by decide) ?_
      refine lv_iload_n hx hb dX3_wave_139 rfl (lv_at hl 1 rfl) ?_
      refine lv_isub hx hb dX3_wave_140 ?_
      refine lv_istore_n (lv' := [(3, .int (1 - x2)), (0, .ref b), (2, .int x2)]) hx hb dX3_wave_141 rfl hl (by decide) rfl (fun ls hl => ?_)
      refine lv_aload_n hx hb dX3_wave_142 rfl (lv_at hl 1 rfl) ?_
      refine va_get hx hb hts in_X3 hown hK.1 hP 0 (fs := [.ref b_s, .ref b_a, .long bB, .ref b_c, .ref b_g]) rfl rfl 3 (by decide) (hts _ q161) (fun _ hh => hh) (v := .ref b_c) rfl dX3_wave_143 ?_
      refine lv_iload_n hx hb dX3_wave_146 rfl (lv_at hl 2 rfl) ?_
      refine lv_dup2_11 hx hb dX3_wave_147 rfl rfl ?_
      obtain ⟨i_69, h⟩ := ga_gif h
      refine va_iald hx hb hK.1 hP 3 0 (f := bC) rfl rfl (ga_in i_69) dX3_wave_148 ?_
      refine lv_aload_n hx hb dX3_wave_149 rfl (lv_at hl 1 rfl) ?_
      refine va_get hx hb hts in_X3 hown hK.1 hP 0 (fs := [.ref b_s, .ref b_a, .long bB, .ref b_c, .ref b_g]) rfl rfl 4 (by decide) (hts _ q163) (fun _ hh => hh) (v := .ref b_g) rfl dX3_wave_150 ?_
      refine lv_iload_n hx hb dX3_wave_153 rfl (lv_at hl 2 rfl) ?_
      obtain ⟨i_70, h⟩ := ga_gif h
      refine va_lald hx hb hK.1 hP 4 1 (f := bG) rfl rfl (ga_in i_70) dX3_wave_154 ?_
      refine lv_aload_n hx hb dX3_wave_155 rfl (lv_at hl 1 rfl) ?_
      refine va_get hx hb hts in_X3 hown hK.1 hP 0 (fs := [.ref b_s, .ref b_a, .long bB, .ref b_c, .ref b_g]) rfl rfl 0 (by decide) (hts _ q154) (fun _ hh => hh) (v := .ref b_s) rfl dX3_wave_156 ?_
      refine lv_iload_n hx hb dX3_wave_159 rfl (lv_at hl 0 rfl) ?_
      obtain ⟨i_71, h⟩ := ga_gif h
      refine va_lald hx hb hK.1 hP 1 1 (f := bS) rfl rfl (ga_in i_71) dX3_wave_160 ?_
      refine lv_land hx hb dX3_wave_161 ?_
      refine vp_callSi (va_Run.run (va_runSN (As := [.long ((bG (ix x2)) &&& (bS (ix (1 - x2))))]) (rest := [.int (bC (ix x2)), .int x2, .ref b_c]) ⟨hx, hb, hml, hown, hts⟩ (met_X1_size l D cA N ((bG (ix x2)) &&& (bS (ix (1 - x2)))) (V_J13_bitCount ((bG (ix x2)) &&& (bS (ix (1 - x2))))) rfl) (⟨va_cnB 1 hts (lw_meth q569) rfl rfl rfl (hK.2.1 _ q812 rfl) (hts _ q67) (by decide +kernel) ⟨Nat.le_of_ble_eq_true rfl, Nat.le_of_ble_eq_true rfl⟩, hts _ q568, trivial⟩) (ga_PS hK ga_P0) rfl rfl hl.1 rfl (lv_room (Nat.le_of_ble_eq_true rfl)) dX3_wave_162 ⟨Nat.le_of_ble_eq_true rfl, Nat.le_of_ble_eq_true rfl⟩)) (fun z_74 w_75 => ?_)
      obtain rfl := w_75
      refine lv_iadd hx hb dX3_wave_165 ?_
      obtain ⟨i_77, h⟩ := ga_gif h
      refine va_iast hx hb hK.1 hP hD hS 3 0 (f := bC) rfl rfl (ga_in i_77) dX3_wave_166 (fun H_78 locs hP hD hS => ?_)
      have hP : va_P D ga_cl [(b, .inr (3, [.ref b_s, .ref b_a, .long bB, .ref b_c, .ref b_g])), (b_s, .inl (cA 1, 2, .inr (.inl bS))), (b_a, .inl (cA 1, 2, .inr (.inl bA))), (b_c, .inl (cA 0, 2, .inl (upd bC (ix x2) ((bC (ix x2)) + (V_J13_bitCount ((bG (ix x2)) &&& (bS (ix (1 - x2))))))))), (b_g, .inl (cA 1, 2, .inr (.inl bG))), (sh, .inr (4, [.int zw, .int zh, .long zA, .long zL, .long zR, .long zE]))] H_78 := hP
      have hD : va_D A [(b, .inr (3, [.ref b_s, .ref b_a, .long bB, .ref b_c, .ref b_g])), (b_s, .inl (cA 1, 2, .inr (.inl bS))), (b_a, .inl (cA 1, 2, .inr (.inl bA))), (b_c, .inl (cA 0, 2, .inl (upd bC (ix x2) ((bC (ix x2)) + (V_J13_bitCount ((bG (ix x2)) &&& (bS (ix (1 - x2))))))))), (b_g, .inl (cA 1, 2, .inr (.inl bG))), (sh, .inr (4, [.int zw, .int zh, .long zA, .long zL, .long zR, .long zE]))] := hD
      refine lv_aload_n hx hb dX3_wave_167 rfl (lv_at hl 1 rfl) ?_
      refine va_get hx hb hts in_X3 hown hK.1 hP 0 (fs := [.ref b_s, .ref b_a, .long bB, .ref b_c, .ref b_g]) rfl rfl 0 (by decide) (hts _ q154) (fun _ hh => hh) (v := .ref b_s) rfl dX3_wave_168 ?_
      refine lv_iload_n hx hb dX3_wave_171 rfl (lv_at hl 0 rfl) ?_
      refine lv_dup2_11 hx hb dX3_wave_172 rfl rfl ?_
      obtain ⟨i_79, h⟩ := ga_gif h
      refine va_lald hx hb hK.1 hP 1 1 (f := bS) rfl rfl (ga_in i_79) dX3_wave_173 ?_
      refine lv_aload_n hx hb dX3_wave_174 rfl (lv_at hl 1 rfl) ?_
      refine va_get hx hb hts in_X3 hown hK.1 hP 0 (fs := [.ref b_s, .ref b_a, .long bB, .ref b_c, .ref b_g]) rfl rfl 4 (by decide) (hts _ q163) (fun _ hh => hh) (v := .ref b_g) rfl dX3_wave_175 ?_
      refine lv_iload_n hx hb dX3_wave_178 rfl (lv_at hl 2 rfl) ?_
      obtain ⟨i_80, h⟩ := ga_gif h
      refine va_lald hx hb hK.1 hP 4 1 (f := bG) rfl rfl (ga_in i_80) dX3_wave_179 ?_
      refine lv_ldc2 hx hb hown (hts _ q430) dX3_wave_180 ?_
      refine lv_lxor hx hb dX3_wave_183 ?_
      refine lv_land hx hb dX3_wave_184 ?_
      obtain ⟨i_81, h⟩ := ga_gif h
      refine va_last hx hb hK.1 hP hD hS 1 1 (f := bS) rfl rfl (ga_in i_81) dX3_wave_185 (fun H_82 locs hP hD hS => ?_)
      have hP : va_P D ga_cl [(b, .inr (3, [.ref b_s, .ref b_a, .long bB, .ref b_c, .ref b_g])), (b_s, .inl (cA 1, 2, .inr (.inl (vp_updL bS (ix (1 - x2)) ((bS (ix (1 - x2))) &&& ((bG (ix x2)) ^^^ (-1))))))), (b_a, .inl (cA 1, 2, .inr (.inl bA))), (b_c, .inl (cA 0, 2, .inl (upd bC (ix x2) ((bC (ix x2)) + (V_J13_bitCount ((bG (ix x2)) &&& (bS (ix (1 - x2))))))))), (b_g, .inl (cA 1, 2, .inr (.inl bG))), (sh, .inr (4, [.int zw, .int zh, .long zA, .long zL, .long zR, .long zE]))] H_82 := hP
      have hD : va_D A [(b, .inr (3, [.ref b_s, .ref b_a, .long bB, .ref b_c, .ref b_g])), (b_s, .inl (cA 1, 2, .inr (.inl (vp_updL bS (ix (1 - x2)) ((bS (ix (1 - x2))) &&& ((bG (ix x2)) ^^^ (-1))))))), (b_a, .inl (cA 1, 2, .inr (.inl bA))), (b_c, .inl (cA 0, 2, .inl (upd bC (ix x2) ((bC (ix x2)) + (V_J13_bitCount ((bG (ix x2)) &&& (bS (ix (1 - x2))))))))), (b_g, .inl (cA 1, 2, .inr (.inl bG))), (sh, .inr (4, [.int zw, .int zh, .long zA, .long zL, .long zR, .long zE]))] := hD
      refine lv_aload_n hx hb dX3_wave_186 rfl (lv_at hl 1 rfl) ?_
      refine va_get hx hb hts in_X3 hown hK.1 hP 0 (fs := [.ref b_s, .ref b_a, .long bB, .ref b_c, .ref b_g]) rfl rfl 1 (by decide) (hts _ q157) (fun _ hh => hh) (v := .ref b_a) rfl dX3_wave_187 ?_
      refine lv_iload_n hx hb dX3_wave_190 rfl (lv_at hl 0 rfl) ?_
      refine lv_dup2_11 hx hb dX3_wave_191 rfl rfl ?_
      obtain ⟨i_83, h⟩ := ga_gif h
      refine va_lald hx hb hK.1 hP 2 1 (f := bA) rfl rfl (ga_in i_83) dX3_wave_192 ?_
      refine lv_aload_n hx hb dX3_wave_193 rfl (lv_at hl 1 rfl) ?_
      refine va_get hx hb hts in_X3 hown hK.1 hP 0 (fs := [.ref b_s, .ref b_a, .long bB, .ref b_c, .ref b_g]) rfl rfl 4 (by decide) (hts _ q163) (fun _ hh => hh) (v := .ref b_g) rfl dX3_wave_194 ?_
      refine lv_iload_n hx hb dX3_wave_197 rfl (lv_at hl 2 rfl) ?_
      obtain ⟨i_84, h⟩ := ga_gif h
      refine va_lald hx hb hK.1 hP 4 1 (f := bG) rfl rfl (ga_in i_84) dX3_wave_198 ?_
      refine lv_ldc2 hx hb hown (hts _ q430) dX3_wave_199 ?_
      refine lv_lxor hx hb dX3_wave_202 ?_
      refine lv_land hx hb dX3_wave_203 ?_
      obtain ⟨i_85, h⟩ := ga_gif h
      refine va_last hx hb hK.1 hP hD hS 2 1 (f := bA) rfl rfl (ga_in i_85) dX3_wave_204 (fun H_86 locs hP hD hS => ?_)
      have hP : va_P D ga_cl [(b, .inr (3, [.ref b_s, .ref b_a, .long bB, .ref b_c, .ref b_g])), (b_s, .inl (cA 1, 2, .inr (.inl (vp_updL bS (ix (1 - x2)) ((bS (ix (1 - x2))) &&& ((bG (ix x2)) ^^^ (-1))))))), (b_a, .inl (cA 1, 2, .inr (.inl (vp_updL bA (ix (1 - x2)) ((bA (ix (1 - x2))) &&& ((bG (ix x2)) ^^^ (-1))))))), (b_c, .inl (cA 0, 2, .inl (upd bC (ix x2) ((bC (ix x2)) + (V_J13_bitCount ((bG (ix x2)) &&& (bS (ix (1 - x2))))))))), (b_g, .inl (cA 1, 2, .inr (.inl bG))), (sh, .inr (4, [.int zw, .int zh, .long zA, .long zL, .long zR, .long zE]))] H_86 := hP
      have hD : va_D A [(b, .inr (3, [.ref b_s, .ref b_a, .long bB, .ref b_c, .ref b_g])), (b_s, .inl (cA 1, 2, .inr (.inl (vp_updL bS (ix (1 - x2)) ((bS (ix (1 - x2))) &&& ((bG (ix x2)) ^^^ (-1))))))), (b_a, .inl (cA 1, 2, .inr (.inl (vp_updL bA (ix (1 - x2)) ((bA (ix (1 - x2))) &&& ((bG (ix x2)) ^^^ (-1))))))), (b_c, .inl (cA 0, 2, .inl (upd bC (ix x2) ((bC (ix x2)) + (V_J13_bitCount ((bG (ix x2)) &&& (bS (ix (1 - x2))))))))), (b_g, .inl (cA 1, 2, .inr (.inl bG))), (sh, .inr (4, [.int zw, .int zh, .long zA, .long zL, .long zR, .long zE]))] := hD
      refine lv_aload_n hx hb dX3_wave_205 rfl (lv_at hl 1 rfl) ?_
      refine va_get hx hb hts in_X3 hown hK.1 hP 0 (fs := [.ref b_s, .ref b_a, .long bB, .ref b_c, .ref b_g]) rfl rfl 1 (by decide) (hts _ q157) (fun _ hh => hh) (v := .ref b_a) rfl dX3_wave_206 ?_
      refine lv_iload_n hx hb dX3_wave_209 rfl (lv_at hl 2 rfl) ?_
      refine lv_dup2_11 hx hb dX3_wave_210 rfl rfl ?_
      obtain ⟨i_87, h⟩ := ga_gif h
      refine va_lald hx hb hK.1 hP 2 1 (f := (vp_updL bA (ix (1 - x2)) ((bA (ix (1 - x2))) &&& ((bG (ix x2)) ^^^ (-1))))) rfl rfl (ga_in i_87) dX3_wave_211 ?_
      refine lv_aload_n hx hb dX3_wave_212 rfl (lv_at hl 1 rfl) ?_
      refine va_get hx hb hts in_X3 hown hK.1 hP 0 (fs := [.ref b_s, .ref b_a, .long bB, .ref b_c, .ref b_g]) rfl rfl 4 (by decide) (hts _ q163) (fun _ hh => hh) (v := .ref b_g) rfl dX3_wave_213 ?_
      refine lv_iload_n hx hb dX3_wave_216 rfl (lv_at hl 2 rfl) ?_
      obtain ⟨i_88, h⟩ := ga_gif h
      refine va_lald hx hb hK.1 hP 4 1 (f := bG) rfl rfl (ga_in i_88) dX3_wave_217 ?_
      refine lv_lor hx hb dX3_wave_218 ?_
      obtain ⟨i_89, h⟩ := ga_gif h
      refine va_last hx hb hK.1 hP hD hS 2 1 (f := (vp_updL bA (ix (1 - x2)) ((bA (ix (1 - x2))) &&& ((bG (ix x2)) ^^^ (-1))))) rfl rfl (ga_in i_89) dX3_wave_219 (fun H_90 locs hP hD hS => ?_)
      have hP : va_P D ga_cl [(b, .inr (3, [.ref b_s, .ref b_a, .long bB, .ref b_c, .ref b_g])), (b_s, .inl (cA 1, 2, .inr (.inl (vp_updL bS (ix (1 - x2)) ((bS (ix (1 - x2))) &&& ((bG (ix x2)) ^^^ (-1))))))), (b_a, .inl (cA 1, 2, .inr (.inl (vp_updL (vp_updL bA (ix (1 - x2)) ((bA (ix (1 - x2))) &&& ((bG (ix x2)) ^^^ (-1)))) (ix x2) (((vp_updL bA (ix (1 - x2)) ((bA (ix (1 - x2))) &&& ((bG (ix x2)) ^^^ (-1)))) (ix x2)) ||| (bG (ix x2))))))), (b_c, .inl (cA 0, 2, .inl (upd bC (ix x2) ((bC (ix x2)) + (V_J13_bitCount ((bG (ix x2)) &&& (bS (ix (1 - x2))))))))), (b_g, .inl (cA 1, 2, .inr (.inl bG))), (sh, .inr (4, [.int zw, .int zh, .long zA, .long zL, .long zR, .long zE]))] H_90 := hP
      have hD : va_D A [(b, .inr (3, [.ref b_s, .ref b_a, .long bB, .ref b_c, .ref b_g])), (b_s, .inl (cA 1, 2, .inr (.inl (vp_updL bS (ix (1 - x2)) ((bS (ix (1 - x2))) &&& ((bG (ix x2)) ^^^ (-1))))))), (b_a, .inl (cA 1, 2, .inr (.inl (vp_updL (vp_updL bA (ix (1 - x2)) ((bA (ix (1 - x2))) &&& ((bG (ix x2)) ^^^ (-1)))) (ix x2) (((vp_updL bA (ix (1 - x2)) ((bA (ix (1 - x2))) &&& ((bG (ix x2)) ^^^ (-1)))) (ix x2)) ||| (bG (ix x2))))))), (b_c, .inl (cA 0, 2, .inl (upd bC (ix x2) ((bC (ix x2)) + (V_J13_bitCount ((bG (ix x2)) &&& (bS (ix (1 - x2))))))))), (b_g, .inl (cA 1, 2, .inr (.inl bG))), (sh, .inr (4, [.int zw, .int zh, .long zA, .long zL, .long zR, .long zE]))] := hD
      refine lv_iinc (v := (x2 + 1)) (lv' := [(2, .int (x2 + 1)), (3, .int (1 - x2)), (0, .ref b)]) hx hb dX3_wave_220 hl (k := 2) rfl rfl (by decide) rfl (fun ls hl => ?_)
      refine lv_goto (tgt := 133) hx hb dX3_wave_223 (by decide) ?_
      exact ih (vp_updL bS (ix (1 - x2)) ((bS (ix (1 - x2))) &&& ((bG (ix x2)) ^^^ (-1)))) (vp_updL (vp_updL bA (ix (1 - x2)) ((bA (ix (1 - x2))) &&& ((bG (ix x2)) ^^^ (-1)))) (ix x2) (((vp_updL bA (ix (1 - x2)) ((bA (ix (1 - x2))) &&& ((bG (ix x2)) ^^^ (-1)))) (ix x2)) ||| (bG (ix x2)))) (upd bC (ix x2) ((bC (ix x2)) + (V_J13_bitCount ((bG (ix x2)) &&& (bS (ix (1 - x2))))))) bG (x2 + 1) h _ _ (hP.sub [0, 1, 2, 3, 4, 5] rfl) (hD.sub [0, 1, 2, 3, 4, 5] (by decide) rfl) hS _ (lv_sub hl [2, 0] rfl)
def lp_X3_wave_101 (N : Nat) (bB : Int64) (zw : Int32) (zh : Int32) (zA : Int64) (zL : Int64) (zR : Int64) (zE : Int64) : Nat → (Nat → Int64) → (Nat → Int64) → (Nat → Int32) → (Nat → Int64) → (Int32) → Option (Int32 × ((Nat → Int64) × (Nat → Int64) × (Nat → Int32) × (Nat → Int64)))
  | 0, _, _, _, _, _ => none
  | n+1, bS, bA, bC, bG, x2 =>
    (if 2 ≤ x2 then
    lp_X3_wave_133 N bB zw zh zA zL zR zE N bS bA bC bG 0
    else
    (if inb x2 2 = true then
    (if inb x2 2 = true then
    (if inb x2 2 = true then
    lp_X3_wave_101 N bB zw zh zA zL zR zE n bS bA bC (vp_updL bG (ix x2) ((bG (ix x2)) &&& ((bA (ix x2)) ^^^ (-1)))) (x2 + 1)
    else none)
    else none)
    else none))
set_option maxHeartbeats 4000000 in
theorem w_X3_wave_101 {p : Program} {l : Launch} {e : Env} {s : State} {m : MethodId} {args : Array Value} {below : List Frame} {meth : Method} {c : Code} {D : va_G} {cA : Nat → ClassId} {A : Nat → Prop} {b : Nat} {b_s : Nat} {b_a : Nat} {b_c : Nat} {b_g : Nat} {sh : Nat} {N : Nat} {bB : Int64} {zw : Int32} {zh : Int32} {zA : Int64} {zL : Int64} {zR : Int64} {zE : Int64}  (C : ga_cx p m c meth s args RX3 cX3_wave 5 (some .int)) (hK : ga_K D cA s) (hA : ∀ q : Nat, s.heap.size ≤ q → A q) {out : Int32 × ((Nat → Int64) × (Nat → Int64) × (Nat → Int32) × (Nat → Int64))} : ∀ n : Nat, ∀ (bS : Nat → Int64) (bA : Nat → Int64) (bC : Nat → Int32) (bG : Nat → Int64) (x2 : Int32), lp_X3_wave_101 N bB zw zh zA zL zR zE n bS bA bC bG x2 = some out → ∀ (H : Heap) (locs : List Loc), va_P D ga_cl [(b, .inr (3, [.ref b_s, .ref b_a, .long bB, .ref b_c, .ref b_g])), (b_s, .inl (cA 1, 2, .inr (.inl bS))), (b_a, .inl (cA 1, 2, .inr (.inl bA))), (b_c, .inl (cA 0, 2, .inl bC)), (b_g, .inl (cA 1, 2, .inr (.inl bG))), (sh, .inr (4, [.int zw, .int zh, .long zA, .long zL, .long zR, .long zE]))] H → va_D A [(b, .inr (3, [.ref b_s, .ref b_a, .long bB, .ref b_c, .ref b_g])), (b_s, .inl (cA 1, 2, .inr (.inl bS))), (b_a, .inl (cA 1, 2, .inr (.inl bA))), (b_c, .inl (cA 0, 2, .inl bC)), (b_g, .inl (cA 1, 2, .inr (.inl bG))), (sh, .inr (4, [.int zw, .int zh, .long zA, .long zL, .long zR, .long zE]))] → va_S A s.heap H locs → ∀ ls : Array Slot, lv_has ls 5 [(0, .ref b), (2, .int x2)] → W p l e (headSpec (ws_ yX3_wave cX3_wave 5 (some .int)) rm_X3_wave).room s m args below meth c H locs 0 0 (MQ below (va_Qi (fun (r : Int32) (u : (Nat → Int64) × (Nat → Int64) × (Nat → Int32) × (Nat → Int64)) => (out.1 = r) ∧ out.2 = u) (fun (u : (Nat → Int64) × (Nat → Int64) × (Nat → Int32) × (Nat → Int64)) (t : State) => va_P D ga_cl [(b, .inr (3, [.ref b_s, .ref b_a, .long bB, .ref b_c, .ref b_g])), (b_s, .inl (cA 1, 2, .inr (.inl u.1))), (b_a, .inl (cA 1, 2, .inr (.inl u.2.1))), (b_c, .inl (cA 0, 2, .inl u.2.2.1)), (b_g, .inl (cA 1, 2, .inr (.inl u.2.2.2))), (sh, .inr (4, [.int zw, .int zh, .long zA, .long zL, .long zR, .long zE]))] t.heap ∧ ga_K D cA t ∧ va_D A [(b, .inr (3, [.ref b_s, .ref b_a, .long bB, .ref b_c, .ref b_g])), (b_s, .inl (cA 1, 2, .inr (.inl u.1))), (b_a, .inl (cA 1, 2, .inr (.inl u.2.1))), (b_c, .inl (cA 0, 2, .inl u.2.2.1)), (b_g, .inl (cA 1, 2, .inr (.inl u.2.2.2))), (sh, .inr (4, [.int zw, .int zh, .long zA, .long zL, .long zR, .long zE]))]) A) args s 0 0 A) (F0 m 101 ls []) := by
  have C0 := C
  obtain ⟨hx, hb, hr, hlocks, hml, hown, hts⟩ := C0
  intro n
  induction n with
  | zero =>
    intro bS bA bC bG x2 h
    rw [lp_X3_wave_101.eq_1] at h
    cases h
  | succ n ih =>
    intro bS bA bC bG x2 h H locs hP hD hS ls hl
    rw [lp_X3_wave_101.eq_2] at h
    refine lv_iload_n hx hb dX3_wave_101 rfl (lv_at hl 1 rfl) ?_
    refine lv_iconst (v := 2) hx hb dX3_wave_102 (by decide) ?_
    refine lv_icmp_ge (tgt := 131) hx hb dX3_wave_103 (by decide) (fun c_53 => ?_) (fun c_53 => ?_)
    · replace h := ga_ift c_53 h
      refine lv_iconst (v := 0) hx hb dX3_wave_131 (by decide) ?_
      refine lv_istore_n (lv' := [(2, .int 0), (0, .ref b)]) hx hb dX3_wave_132 rfl hl (by decide) rfl (fun ls hl => ?_)
      exact w_X3_wave_133 C hK hA N bS bA bC bG 0 h _ _ (hP.sub [0, 1, 2, 3, 4, 5] rfl) (hD.sub [0, 1, 2, 3, 4, 5] (by decide) rfl) hS _ (lv_sub hl [1, 0] rfl)
    · replace h := ga_iff c_53 h
      refine lv_aload_n hx hb dX3_wave_106 rfl (lv_at hl 0 rfl) ?_
      refine va_get hx hb hts in_X3 hown hK.1 hP 0 (fs := [.ref b_s, .ref b_a, .long bB, .ref b_c, .ref b_g]) rfl rfl 4 (by decide) (hts _ q163) (fun _ hh => hh) (v := .ref b_g) rfl dX3_wave_107 ?_
      refine lv_iload_n hx hb dX3_wave_110 rfl (lv_at hl 1 rfl) ?_
      refine lv_dup2_11 hx hb dX3_wave_111 rfl rfl ?_
      obtain ⟨i_54, h⟩ := ga_gif h
      refine va_lald hx hb hK.1 hP 4 1 (f := bG) rfl rfl (ga_in i_54) dX3_wave_112 ?_
      refine lv_aload_n hx hb dX3_wave_113 rfl (lv_at hl 0 rfl) ?_
      refine va_get hx hb hts in_X3 hown hK.1 hP 0 (fs := [.ref b_s, .ref b_a, .long bB, .ref b_c, .ref b_g]) rfl rfl 1 (by decide) (hts _ q157) (fun _ hh => hh) (v := .ref b_a) rfl dX3_wave_114 ?_
      refine lv_iload_n hx hb dX3_wave_117 rfl (lv_at hl 1 rfl) ?_
      obtain ⟨i_55, h⟩ := ga_gif h
      refine va_lald hx hb hK.1 hP 2 1 (f := bA) rfl rfl (ga_in i_55) dX3_wave_118 ?_
      refine lv_ldc2 hx hb hown (hts _ q430) dX3_wave_119 ?_
      refine lv_lxor hx hb dX3_wave_122 ?_
      refine lv_land hx hb dX3_wave_123 ?_
      obtain ⟨i_56, h⟩ := ga_gif h
      refine va_last hx hb hK.1 hP hD hS 4 1 (f := bG) rfl rfl (ga_in i_56) dX3_wave_124 (fun H_57 locs hP hD hS => ?_)
      have hP : va_P D ga_cl [(b, .inr (3, [.ref b_s, .ref b_a, .long bB, .ref b_c, .ref b_g])), (b_s, .inl (cA 1, 2, .inr (.inl bS))), (b_a, .inl (cA 1, 2, .inr (.inl bA))), (b_c, .inl (cA 0, 2, .inl bC)), (b_g, .inl (cA 1, 2, .inr (.inl (vp_updL bG (ix x2) ((bG (ix x2)) &&& ((bA (ix x2)) ^^^ (-1))))))), (sh, .inr (4, [.int zw, .int zh, .long zA, .long zL, .long zR, .long zE]))] H_57 := hP
      have hD : va_D A [(b, .inr (3, [.ref b_s, .ref b_a, .long bB, .ref b_c, .ref b_g])), (b_s, .inl (cA 1, 2, .inr (.inl bS))), (b_a, .inl (cA 1, 2, .inr (.inl bA))), (b_c, .inl (cA 0, 2, .inl bC)), (b_g, .inl (cA 1, 2, .inr (.inl (vp_updL bG (ix x2) ((bG (ix x2)) &&& ((bA (ix x2)) ^^^ (-1))))))), (sh, .inr (4, [.int zw, .int zh, .long zA, .long zL, .long zR, .long zE]))] := hD
      refine lv_iinc (v := (x2 + 1)) (lv' := [(2, .int (x2 + 1)), (0, .ref b)]) hx hb dX3_wave_125 hl (k := 1) rfl rfl (by decide) rfl (fun ls hl => ?_)
      refine lv_goto (tgt := 101) hx hb dX3_wave_128 (by decide) ?_
      exact ih bS bA bC (vp_updL bG (ix x2) ((bG (ix x2)) &&& ((bA (ix x2)) ^^^ (-1)))) (x2 + 1) h _ _ (hP.sub [0, 1, 2, 3, 4, 5] rfl) (hD.sub [0, 1, 2, 3, 4, 5] (by decide) rfl) hS _ (lv_sub hl [1, 0] rfl)
def lp_X3_wave_16 (N : Nat) (bB : Int64) (zw : Int32) (zh : Int32) (zA : Int64) (zL : Int64) (zR : Int64) (zE : Int64) : Nat → (Nat → Int64) → (Nat → Int64) → (Nat → Int32) → (Nat → Int64) → (Int32) → Option (Int32 × ((Nat → Int64) × (Nat → Int64) × (Nat → Int32) × (Nat → Int64)))
  | 0, _, _, _, _, _ => none
  | n+1, bS, bA, bC, bG, x2 =>
    (if (zw * zh) ≤ x2 then
    lp_X3_wave_101 N bB zw zh zA zL zR zE N bS bA bC bG 0
    else
    ((F_X3_enclosed N bB bS bA zw zh zA zL zR zE 0 x2).bind fun r_9 =>
    ((F_X3_enclosed N bB bS bA zw zh zA zL zR zE 1 x2).bind fun r_19 =>
    (if (V_J13_bitCount r_9) ≤ (V_J13_bitCount r_19) then
    (if (V_J13_bitCount r_19) ≤ (V_J13_bitCount r_9) then
    lp_X3_wave_16 N bB zw zh zA zL zR zE n bS bA bC (vp_updL (vp_updL bG (ix 0) ((bG (ix 0)) ||| 0)) (ix 1) (((vp_updL bG (ix 0) ((bG (ix 0)) ||| 0)) (ix 1)) ||| 0)) (x2 + 1)
    else
    lp_X3_wave_16 N bB zw zh zA zL zR zE n bS bA bC (vp_updL (vp_updL bG (ix 0) ((bG (ix 0)) ||| 0)) (ix 1) (((vp_updL bG (ix 0) ((bG (ix 0)) ||| 0)) (ix 1)) ||| (jlshl 1 x2))) (x2 + 1))
    else
    (if (V_J13_bitCount r_19) ≤ (V_J13_bitCount r_9) then
    lp_X3_wave_16 N bB zw zh zA zL zR zE n bS bA bC (vp_updL (vp_updL bG (ix 0) ((bG (ix 0)) ||| (jlshl 1 x2))) (ix 1) (((vp_updL bG (ix 0) ((bG (ix 0)) ||| (jlshl 1 x2))) (ix 1)) ||| 0)) (x2 + 1)
    else
    lp_X3_wave_16 N bB zw zh zA zL zR zE n bS bA bC (vp_updL (vp_updL bG (ix 0) ((bG (ix 0)) ||| (jlshl 1 x2))) (ix 1) (((vp_updL bG (ix 0) ((bG (ix 0)) ||| (jlshl 1 x2))) (ix 1)) ||| (jlshl 1 x2))) (x2 + 1))))))
set_option maxHeartbeats 4000000 in
theorem w_X3_wave_16 {p : Program} {l : Launch} {e : Env} {s : State} {m : MethodId} {args : Array Value} {below : List Frame} {meth : Method} {c : Code} {D : va_G} {cA : Nat → ClassId} {A : Nat → Prop} {b : Nat} {b_s : Nat} {b_a : Nat} {b_c : Nat} {b_g : Nat} {sh : Nat} {N : Nat} {bB : Int64} {zw : Int32} {zh : Int32} {zA : Int64} {zL : Int64} {zR : Int64} {zE : Int64}  (C : ga_cx p m c meth s args RX3 cX3_wave 5 (some .int)) (hK : ga_K D cA s) (hA : ∀ q : Nat, s.heap.size ≤ q → A q) {out : Int32 × ((Nat → Int64) × (Nat → Int64) × (Nat → Int32) × (Nat → Int64))} : ∀ n : Nat, ∀ (bS : Nat → Int64) (bA : Nat → Int64) (bC : Nat → Int32) (bG : Nat → Int64) (x2 : Int32), lp_X3_wave_16 N bB zw zh zA zL zR zE n bS bA bC bG x2 = some out → ∀ (H : Heap) (locs : List Loc), va_P D ga_cl [(b, .inr (3, [.ref b_s, .ref b_a, .long bB, .ref b_c, .ref b_g])), (b_s, .inl (cA 1, 2, .inr (.inl bS))), (b_a, .inl (cA 1, 2, .inr (.inl bA))), (b_c, .inl (cA 0, 2, .inl bC)), (b_g, .inl (cA 1, 2, .inr (.inl bG))), (sh, .inr (4, [.int zw, .int zh, .long zA, .long zL, .long zR, .long zE]))] H → va_D A [(b, .inr (3, [.ref b_s, .ref b_a, .long bB, .ref b_c, .ref b_g])), (b_s, .inl (cA 1, 2, .inr (.inl bS))), (b_a, .inl (cA 1, 2, .inr (.inl bA))), (b_c, .inl (cA 0, 2, .inl bC)), (b_g, .inl (cA 1, 2, .inr (.inl bG))), (sh, .inr (4, [.int zw, .int zh, .long zA, .long zL, .long zR, .long zE]))] → va_S A s.heap H locs → ∀ ls : Array Slot, lv_has ls 5 [(0, .ref b), (1, .ref sh), (2, .int x2)] → W p l e (headSpec (ws_ yX3_wave cX3_wave 5 (some .int)) rm_X3_wave).room s m args below meth c H locs 0 0 (MQ below (va_Qi (fun (r : Int32) (u : (Nat → Int64) × (Nat → Int64) × (Nat → Int32) × (Nat → Int64)) => (out.1 = r) ∧ out.2 = u) (fun (u : (Nat → Int64) × (Nat → Int64) × (Nat → Int32) × (Nat → Int64)) (t : State) => va_P D ga_cl [(b, .inr (3, [.ref b_s, .ref b_a, .long bB, .ref b_c, .ref b_g])), (b_s, .inl (cA 1, 2, .inr (.inl u.1))), (b_a, .inl (cA 1, 2, .inr (.inl u.2.1))), (b_c, .inl (cA 0, 2, .inl u.2.2.1)), (b_g, .inl (cA 1, 2, .inr (.inl u.2.2.2))), (sh, .inr (4, [.int zw, .int zh, .long zA, .long zL, .long zR, .long zE]))] t.heap ∧ ga_K D cA t ∧ va_D A [(b, .inr (3, [.ref b_s, .ref b_a, .long bB, .ref b_c, .ref b_g])), (b_s, .inl (cA 1, 2, .inr (.inl u.1))), (b_a, .inl (cA 1, 2, .inr (.inl u.2.1))), (b_c, .inl (cA 0, 2, .inl u.2.2.1)), (b_g, .inl (cA 1, 2, .inr (.inl u.2.2.2))), (sh, .inr (4, [.int zw, .int zh, .long zA, .long zL, .long zR, .long zE]))]) A) args s 0 0 A) (F0 m 16 ls []) := by
  have C0 := C
  obtain ⟨hx, hb, hr, hlocks, hml, hown, hts⟩ := C0
  intro n
  induction n with
  | zero =>
    intro bS bA bC bG x2 h
    rw [lp_X3_wave_16.eq_1] at h
    cases h
  | succ n ih =>
    intro bS bA bC bG x2 h H locs hP hD hS ls hl
    rw [lp_X3_wave_16.eq_2] at h
    refine lv_iload_n hx hb dX3_wave_16 rfl (lv_at hl 2 rfl) ?_
    refine lv_aload_n hx hb dX3_wave_17 rfl (lv_at hl 1 rfl) ?_
    refine vp_callSi (va_Run.run (va_runV (As := []) (rest := [.int x2]) ⟨hx, hb, hml, hown, hts⟩ (met_X4_cells l D cA sh zw zh zA zL zR zE N (zw * zh) rfl) (cwV 0 hts (lw_V q833 q662 q663 q73 q664) rfl rfl rfl (by decide +kernel) ⟨Nat.le_of_ble_eq_true rfl, Nat.le_of_ble_eq_true rfl⟩) (ga_PV hK (hP.sub (ws' := [(sh, .inr (4, [.int zw, .int zh, .long zA, .long zL, .long zR, .long zE]))]) [5] rfl) (va_recv hK.1 hP (ci := 4) (q0 := 5) rfl rfl)) rfl rfl hl.1 rfl (lv_room (Nat.le_of_ble_eq_true rfl)) dX3_wave_18 ⟨Nat.le_of_ble_eq_true rfl, Nat.le_of_ble_eq_true rfl⟩)) (fun z_5 w_6 => ?_)
    obtain rfl := w_6
    refine lv_icmp_ge (tgt := 99) hx hb dX3_wave_21 (by decide) (fun c_8 => ?_) (fun c_8 => ?_)
    · replace h := ga_ift c_8 h
      refine lv_iconst (v := 0) hx hb dX3_wave_99 (by decide) ?_
      refine lv_istore_n (lv' := [(2, .int 0), (0, .ref b), (1, .ref sh)]) hx hb dX3_wave_100 rfl hl (by decide) rfl (fun ls hl => ?_)
      exact w_X3_wave_101 C hK hA N bS bA bC bG 0 h _ _ (hP.sub [0, 1, 2, 3, 4, 5] rfl) (hD.sub [0, 1, 2, 3, 4, 5] (by decide) rfl) hS _ (lv_sub hl [1, 0] rfl)
    · replace h := ga_iff c_8 h
      refine lv_aload_n hx hb dX3_wave_24 rfl (lv_at hl 0 rfl) ?_
      refine lv_aload_n hx hb dX3_wave_25 rfl (lv_at hl 1 rfl) ?_
      refine lv_iconst (v := 0) hx hb dX3_wave_26 (by decide) ?_
      refine lv_iload_n hx hb dX3_wave_27 rfl (lv_at hl 2 rfl) ?_
      obtain ⟨r_9, e_10, h⟩ := ga_gb h
      refine vp_callSl (va_Run.run (va_runV (As := [.ref sh, .int 0, .int x2]) (rest := []) ⟨hx, hb, hml, hown, hts⟩ (met_X3_enclosed l D cA b b_s b_a b_c b_g sh bB bS bA zw zh zA zL zR zE N 0 x2 r_9 e_10) (cwV 3 hts (lw_V q834 q836 qs10 q72 q837) rfl rfl rfl (by decide +kernel) ⟨Nat.le_of_ble_eq_true rfl, Nat.le_of_ble_eq_true rfl⟩) (ga_PV hK (hP.sub (ws' := [(b, .inr (3, [.ref b_s, .ref b_a, .long bB, .ref b_c, .ref b_g])), (b_s, .inl (cA 1, 2, .inr (.inl bS))), (b_a, .inl (cA 1, 2, .inr (.inl bA))), (sh, .inr (4, [.int zw, .int zh, .long zA, .long zL, .long zR, .long zE]))]) [0, 1, 2, 5] rfl) (va_recv hK.1 hP (ci := 3) (q0 := 0) rfl rfl)) rfl rfl hl.1 rfl (lv_room (Nat.le_of_ble_eq_true rfl)) dX3_wave_28 ⟨Nat.le_of_ble_eq_true rfl, Nat.le_of_ble_eq_true rfl⟩)) (fun z_11 w_12 => ?_)
      obtain rfl := w_12
      refine vp_callSi (va_Run.run (va_runSN (As := [.long r_9]) (rest := []) ⟨hx, hb, hml, hown, hts⟩ (met_X1_size l D cA N r_9 (V_J13_bitCount r_9) rfl) (⟨va_cnB 1 hts (lw_meth q569) rfl rfl rfl (hK.2.1 _ q812 rfl) (hts _ q67) (by decide +kernel) ⟨Nat.le_of_ble_eq_true rfl, Nat.le_of_ble_eq_true rfl⟩, hts _ q568, trivial⟩) (ga_PS hK ga_P0) rfl rfl hl.1 rfl (lv_room (Nat.le_of_ble_eq_true rfl)) dX3_wave_31 ⟨Nat.le_of_ble_eq_true rfl, Nat.le_of_ble_eq_true rfl⟩)) (fun z_16 w_17 => ?_)
      obtain rfl := w_17
      refine lv_istore_n (lv' := [(3, .int (V_J13_bitCount r_9)), (0, .ref b), (1, .ref sh), (2, .int x2)]) hx hb dX3_wave_34 rfl hl (by decide) rfl (fun ls hl => ?_)
      refine lv_aload_n hx hb dX3_wave_35 rfl (lv_at hl 1 rfl) ?_
      refine lv_aload_n hx hb dX3_wave_36 rfl (lv_at hl 2 rfl) ?_
      refine lv_iconst (v := 1) hx hb dX3_wave_37 (by decide) ?_
      refine lv_iload_n hx hb dX3_wave_38 rfl (lv_at hl 3 rfl) ?_
      obtain ⟨r_19, e_20, h⟩ := ga_gb h
      refine vp_callSl (va_Run.run (va_runV (As := [.ref sh, .int 1, .int x2]) (rest := []) ⟨hx, hb, hml, hown, hts⟩ (met_X3_enclosed l D cA b b_s b_a b_c b_g sh bB bS bA zw zh zA zL zR zE N 1 x2 r_19 e_20) (cwV 3 hts (lw_V q834 q836 qs10 q72 q837) rfl rfl rfl (by decide +kernel) ⟨Nat.le_of_ble_eq_true rfl, Nat.le_of_ble_eq_true rfl⟩) (ga_PV hK (hP.sub (ws' := [(b, .inr (3, [.ref b_s, .ref b_a, .long bB, .ref b_c, .ref b_g])), (b_s, .inl (cA 1, 2, .inr (.inl bS))), (b_a, .inl (cA 1, 2, .inr (.inl bA))), (sh, .inr (4, [.int zw, .int zh, .long zA, .long zL, .long zR, .long zE]))]) [0, 1, 2, 5] rfl) (va_recv hK.1 hP (ci := 3) (q0 := 0) rfl rfl)) rfl rfl hl.1 rfl (lv_room (Nat.le_of_ble_eq_true rfl)) dX3_wave_39 ⟨Nat.le_of_ble_eq_true rfl, Nat.le_of_ble_eq_true rfl⟩)) (fun z_21 w_22 => ?_)
      obtain rfl := w_22
      refine vp_callSi (va_Run.run (va_runSN (As := [.long r_19]) (rest := []) ⟨hx, hb, hml, hown, hts⟩ (met_X1_size l D cA N r_19 (V_J13_bitCount r_19) rfl) (⟨va_cnB 1 hts (lw_meth q569) rfl rfl rfl (hK.2.1 _ q812 rfl) (hts _ q67) (by decide +kernel) ⟨Nat.le_of_ble_eq_true rfl, Nat.le_of_ble_eq_true rfl⟩, hts _ q568, trivial⟩) (ga_PS hK ga_P0) rfl rfl hl.1 rfl (lv_room (Nat.le_of_ble_eq_true rfl)) dX3_wave_42 ⟨Nat.le_of_ble_eq_true rfl, Nat.le_of_ble_eq_true rfl⟩)) (fun z_26 w_27 => ?_)
      obtain rfl := w_27
      refine lv_istore (lv' := [(4, .int (V_J13_bitCount r_19)), (3, .int (V_J13_bitCount r_9)), (0, .ref b), (1, .ref sh), (2, .int x2)]) hx hb dX3_wave_45 hl (by decide) rfl (fun ls hl => ?_)
      refine lv_aload_n hx hb dX3_wave_47 rfl (lv_at hl 2 rfl) ?_
      refine va_get hx hb hts in_X3 hown hK.1 hP 0 (fs := [.ref b_s, .ref b_a, .long bB, .ref b_c, .ref b_g]) rfl rfl 4 (by decide) (hts _ q163) (fun _ hh => hh) (v := .ref b_g) rfl dX3_wave_48 ?_
      refine lv_iconst (v := 0) hx hb dX3_wave_51 (by decide) ?_
      refine lv_dup2_11 hx hb dX3_wave_52 rfl rfl ?_
      refine va_lald hx hb hK.1 hP 4 1 (f := bG) rfl rfl (ga_in (by decide)) dX3_wave_53 ?_
      refine lv_iload_n hx hb dX3_wave_54 rfl (lv_at hl 1 rfl) ?_
      refine lv_iload hx hb dX3_wave_55 (lv_at hl 0 rfl) ?_
      refine lv_icmp_le (tgt := 67) hx hb dX3_wave_57 (by decide) (fun c_29 => ?_) (fun c_29 => ?_)
      · replace h := ga_ift c_29 h
        refine lv_lconst (v := 0) hx hb dX3_wave_67 (by decide) ?_
        refine lv_lor hx hb dX3_wave_68 ?_
        refine va_last hx hb hK.1 hP hD hS 4 1 (f := bG) rfl rfl (ga_in (by decide)) dX3_wave_69 (fun H_30 locs hP hD hS => ?_)
        have hP : va_P D ga_cl [(b, .inr (3, [.ref b_s, .ref b_a, .long bB, .ref b_c, .ref b_g])), (b_s, .inl (cA 1, 2, .inr (.inl bS))), (b_a, .inl (cA 1, 2, .inr (.inl bA))), (b_c, .inl (cA 0, 2, .inl bC)), (b_g, .inl (cA 1, 2, .inr (.inl (vp_updL bG (ix 0) ((bG (ix 0)) ||| 0))))), (sh, .inr (4, [.int zw, .int zh, .long zA, .long zL, .long zR, .long zE]))] H_30 := hP
        have hD : va_D A [(b, .inr (3, [.ref b_s, .ref b_a, .long bB, .ref b_c, .ref b_g])), (b_s, .inl (cA 1, 2, .inr (.inl bS))), (b_a, .inl (cA 1, 2, .inr (.inl bA))), (b_c, .inl (cA 0, 2, .inl bC)), (b_g, .inl (cA 1, 2, .inr (.inl (vp_updL bG (ix 0) ((bG (ix 0)) ||| 0))))), (sh, .inr (4, [.int zw, .int zh, .long zA, .long zL, .long zR, .long zE]))] := hD
        refine lv_aload_n hx hb dX3_wave_70 rfl (lv_at hl 2 rfl) ?_
        refine va_get hx hb hts in_X3 hown hK.1 hP 0 (fs := [.ref b_s, .ref b_a, .long bB, .ref b_c, .ref b_g]) rfl rfl 4 (by decide) (hts _ q163) (fun _ hh => hh) (v := .ref b_g) rfl dX3_wave_71 ?_
        refine lv_iconst (v := 1) hx hb dX3_wave_74 (by decide) ?_
        refine lv_dup2_11 hx hb dX3_wave_75 rfl rfl ?_
        refine va_lald hx hb hK.1 hP 4 1 (f := (vp_updL bG (ix 0) ((bG (ix 0)) ||| 0))) rfl rfl (ga_in (by decide)) dX3_wave_76 ?_
        refine lv_iload hx hb dX3_wave_77 (lv_at hl 0 rfl) ?_
        refine lv_iload_n hx hb dX3_wave_79 rfl (lv_at hl 1 rfl) ?_
        refine lv_icmp_le (tgt := 90) hx hb dX3_wave_80 (by decide) (fun c_31 => ?_) (fun c_31 => ?_)
        · replace h := ga_ift c_31 h
          refine lv_lconst (v := 0) hx hb dX3_wave_90 (by decide) ?_
          refine lv_lor hx hb dX3_wave_91 ?_
          refine va_last hx hb hK.1 hP hD hS 4 1 (f := (vp_updL bG (ix 0) ((bG (ix 0)) ||| 0))) rfl rfl (ga_in (by decide)) dX3_wave_92 (fun H_32 locs hP hD hS => ?_)
          have hP : va_P D ga_cl [(b, .inr (3, [.ref b_s, .ref b_a, .long bB, .ref b_c, .ref b_g])), (b_s, .inl (cA 1, 2, .inr (.inl bS))), (b_a, .inl (cA 1, 2, .inr (.inl bA))), (b_c, .inl (cA 0, 2, .inl bC)), (b_g, .inl (cA 1, 2, .inr (.inl (vp_updL (vp_updL bG (ix 0) ((bG (ix 0)) ||| 0)) (ix 1) (((vp_updL bG (ix 0) ((bG (ix 0)) ||| 0)) (ix 1)) ||| 0))))), (sh, .inr (4, [.int zw, .int zh, .long zA, .long zL, .long zR, .long zE]))] H_32 := hP
          have hD : va_D A [(b, .inr (3, [.ref b_s, .ref b_a, .long bB, .ref b_c, .ref b_g])), (b_s, .inl (cA 1, 2, .inr (.inl bS))), (b_a, .inl (cA 1, 2, .inr (.inl bA))), (b_c, .inl (cA 0, 2, .inl bC)), (b_g, .inl (cA 1, 2, .inr (.inl (vp_updL (vp_updL bG (ix 0) ((bG (ix 0)) ||| 0)) (ix 1) (((vp_updL bG (ix 0) ((bG (ix 0)) ||| 0)) (ix 1)) ||| 0))))), (sh, .inr (4, [.int zw, .int zh, .long zA, .long zL, .long zR, .long zE]))] := hD
          refine lv_iinc (v := (x2 + 1)) (lv' := [(2, .int (x2 + 1)), (4, .int (V_J13_bitCount r_19)), (3, .int (V_J13_bitCount r_9)), (0, .ref b), (1, .ref sh)]) hx hb dX3_wave_93 hl (k := 4) rfl rfl (by decide) rfl (fun ls hl => ?_)
          refine lv_goto (tgt := 16) hx hb dX3_wave_96 (by decide) ?_
          exact ih bS bA bC (vp_updL (vp_updL bG (ix 0) ((bG (ix 0)) ||| 0)) (ix 1) (((vp_updL bG (ix 0) ((bG (ix 0)) ||| 0)) (ix 1)) ||| 0)) (x2 + 1) h _ _ (hP.sub [0, 1, 2, 3, 4, 5] rfl) (hD.sub [0, 1, 2, 3, 4, 5] (by decide) rfl) hS _ (lv_sub hl [3, 4, 0] rfl)
        · replace h := ga_iff c_31 h
          refine lv_iload_n hx hb dX3_wave_83 rfl (lv_at hl 4 rfl) ?_
          refine vp_callSl (va_Run.run (va_runSN (As := [.int x2]) (rest := [.long ((vp_updL bG (ix 0) ((bG (ix 0)) ||| 0)) (ix 1)), .int 1, .ref b_g]) ⟨hx, hb, hml, hown, hts⟩ (met_X1_bit l D cA N x2 (jlshl 1 x2) rfl) (⟨va_cnB 1 hts (lw_meth q186) rfl rfl rfl (hK.2.1 _ q822 rfl) (hts _ q67) (by decide +kernel) ⟨Nat.le_of_ble_eq_true rfl, Nat.le_of_ble_eq_true rfl⟩, hts _ q185, trivial⟩) (ga_PS hK ga_P0) rfl rfl hl.1 rfl (lv_room (Nat.le_of_ble_eq_true rfl)) dX3_wave_84 ⟨Nat.le_of_ble_eq_true rfl, Nat.le_of_ble_eq_true rfl⟩)) (fun z_35 w_36 => ?_)
          obtain rfl := w_36
          refine lv_goto (tgt := 91) hx hb dX3_wave_87 (by decide) ?_
          refine lv_lor hx hb dX3_wave_91 ?_
          refine va_last hx hb hK.1 hP hD hS 4 1 (f := (vp_updL bG (ix 0) ((bG (ix 0)) ||| 0))) rfl rfl (ga_in (by decide)) dX3_wave_92 (fun H_38 locs hP hD hS => ?_)
          have hP : va_P D ga_cl [(b, .inr (3, [.ref b_s, .ref b_a, .long bB, .ref b_c, .ref b_g])), (b_s, .inl (cA 1, 2, .inr (.inl bS))), (b_a, .inl (cA 1, 2, .inr (.inl bA))), (b_c, .inl (cA 0, 2, .inl bC)), (b_g, .inl (cA 1, 2, .inr (.inl (vp_updL (vp_updL bG (ix 0) ((bG (ix 0)) ||| 0)) (ix 1) (((vp_updL bG (ix 0) ((bG (ix 0)) ||| 0)) (ix 1)) ||| (jlshl 1 x2)))))), (sh, .inr (4, [.int zw, .int zh, .long zA, .long zL, .long zR, .long zE]))] H_38 := hP
          have hD : va_D A [(b, .inr (3, [.ref b_s, .ref b_a, .long bB, .ref b_c, .ref b_g])), (b_s, .inl (cA 1, 2, .inr (.inl bS))), (b_a, .inl (cA 1, 2, .inr (.inl bA))), (b_c, .inl (cA 0, 2, .inl bC)), (b_g, .inl (cA 1, 2, .inr (.inl (vp_updL (vp_updL bG (ix 0) ((bG (ix 0)) ||| 0)) (ix 1) (((vp_updL bG (ix 0) ((bG (ix 0)) ||| 0)) (ix 1)) ||| (jlshl 1 x2)))))), (sh, .inr (4, [.int zw, .int zh, .long zA, .long zL, .long zR, .long zE]))] := hD
          refine lv_iinc (v := (x2 + 1)) (lv' := [(2, .int (x2 + 1)), (4, .int (V_J13_bitCount r_19)), (3, .int (V_J13_bitCount r_9)), (0, .ref b), (1, .ref sh)]) hx hb dX3_wave_93 hl (k := 4) rfl rfl (by decide) rfl (fun ls hl => ?_)
          refine lv_goto (tgt := 16) hx hb dX3_wave_96 (by decide) ?_
          exact ih bS bA bC (vp_updL (vp_updL bG (ix 0) ((bG (ix 0)) ||| 0)) (ix 1) (((vp_updL bG (ix 0) ((bG (ix 0)) ||| 0)) (ix 1)) ||| (jlshl 1 x2))) (x2 + 1) h _ _ (hP.sub [0, 1, 2, 3, 4, 5] rfl) (hD.sub [0, 1, 2, 3, 4, 5] (by decide) rfl) hS _ (lv_sub hl [3, 4, 0] rfl)
      · replace h := ga_iff c_29 h
        refine lv_iload_n hx hb dX3_wave_60 rfl (lv_at hl 4 rfl) ?_
        refine vp_callSl (va_Run.run (va_runSN (As := [.int x2]) (rest := [.long (bG (ix 0)), .int 0, .ref b_g]) ⟨hx, hb, hml, hown, hts⟩ (met_X1_bit l D cA N x2 (jlshl 1 x2) rfl) (⟨va_cnB 1 hts (lw_meth q186) rfl rfl rfl (hK.2.1 _ q822 rfl) (hts _ q67) (by decide +kernel) ⟨Nat.le_of_ble_eq_true rfl, Nat.le_of_ble_eq_true rfl⟩, hts _ q185, trivial⟩) (ga_PS hK ga_P0) rfl rfl hl.1 rfl (lv_room (Nat.le_of_ble_eq_true rfl)) dX3_wave_61 ⟨Nat.le_of_ble_eq_true rfl, Nat.le_of_ble_eq_true rfl⟩)) (fun z_41 w_42 => ?_)
        obtain rfl := w_42
        refine lv_goto (tgt := 68) hx hb dX3_wave_64 (by decide) ?_
        refine lv_lor hx hb dX3_wave_68 ?_
        refine va_last hx hb hK.1 hP hD hS 4 1 (f := bG) rfl rfl (ga_in (by decide)) dX3_wave_69 (fun H_44 locs hP hD hS => ?_)
        have hP : va_P D ga_cl [(b, .inr (3, [.ref b_s, .ref b_a, .long bB, .ref b_c, .ref b_g])), (b_s, .inl (cA 1, 2, .inr (.inl bS))), (b_a, .inl (cA 1, 2, .inr (.inl bA))), (b_c, .inl (cA 0, 2, .inl bC)), (b_g, .inl (cA 1, 2, .inr (.inl (vp_updL bG (ix 0) ((bG (ix 0)) ||| (jlshl 1 x2)))))), (sh, .inr (4, [.int zw, .int zh, .long zA, .long zL, .long zR, .long zE]))] H_44 := hP
        have hD : va_D A [(b, .inr (3, [.ref b_s, .ref b_a, .long bB, .ref b_c, .ref b_g])), (b_s, .inl (cA 1, 2, .inr (.inl bS))), (b_a, .inl (cA 1, 2, .inr (.inl bA))), (b_c, .inl (cA 0, 2, .inl bC)), (b_g, .inl (cA 1, 2, .inr (.inl (vp_updL bG (ix 0) ((bG (ix 0)) ||| (jlshl 1 x2)))))), (sh, .inr (4, [.int zw, .int zh, .long zA, .long zL, .long zR, .long zE]))] := hD
        refine lv_aload_n hx hb dX3_wave_70 rfl (lv_at hl 2 rfl) ?_
        refine va_get hx hb hts in_X3 hown hK.1 hP 0 (fs := [.ref b_s, .ref b_a, .long bB, .ref b_c, .ref b_g]) rfl rfl 4 (by decide) (hts _ q163) (fun _ hh => hh) (v := .ref b_g) rfl dX3_wave_71 ?_
        refine lv_iconst (v := 1) hx hb dX3_wave_74 (by decide) ?_
        refine lv_dup2_11 hx hb dX3_wave_75 rfl rfl ?_
        refine va_lald hx hb hK.1 hP 4 1 (f := (vp_updL bG (ix 0) ((bG (ix 0)) ||| (jlshl 1 x2)))) rfl rfl (ga_in (by decide)) dX3_wave_76 ?_
        refine lv_iload hx hb dX3_wave_77 (lv_at hl 0 rfl) ?_
        refine lv_iload_n hx hb dX3_wave_79 rfl (lv_at hl 1 rfl) ?_
        refine lv_icmp_le (tgt := 90) hx hb dX3_wave_80 (by decide) (fun c_45 => ?_) (fun c_45 => ?_)
        · replace h := ga_ift c_45 h
          refine lv_lconst (v := 0) hx hb dX3_wave_90 (by decide) ?_
          refine lv_lor hx hb dX3_wave_91 ?_
          refine va_last hx hb hK.1 hP hD hS 4 1 (f := (vp_updL bG (ix 0) ((bG (ix 0)) ||| (jlshl 1 x2)))) rfl rfl (ga_in (by decide)) dX3_wave_92 (fun H_46 locs hP hD hS => ?_)
          have hP : va_P D ga_cl [(b, .inr (3, [.ref b_s, .ref b_a, .long bB, .ref b_c, .ref b_g])), (b_s, .inl (cA 1, 2, .inr (.inl bS))), (b_a, .inl (cA 1, 2, .inr (.inl bA))), (b_c, .inl (cA 0, 2, .inl bC)), (b_g, .inl (cA 1, 2, .inr (.inl (vp_updL (vp_updL bG (ix 0) ((bG (ix 0)) ||| (jlshl 1 x2))) (ix 1) (((vp_updL bG (ix 0) ((bG (ix 0)) ||| (jlshl 1 x2))) (ix 1)) ||| 0))))), (sh, .inr (4, [.int zw, .int zh, .long zA, .long zL, .long zR, .long zE]))] H_46 := hP
          have hD : va_D A [(b, .inr (3, [.ref b_s, .ref b_a, .long bB, .ref b_c, .ref b_g])), (b_s, .inl (cA 1, 2, .inr (.inl bS))), (b_a, .inl (cA 1, 2, .inr (.inl bA))), (b_c, .inl (cA 0, 2, .inl bC)), (b_g, .inl (cA 1, 2, .inr (.inl (vp_updL (vp_updL bG (ix 0) ((bG (ix 0)) ||| (jlshl 1 x2))) (ix 1) (((vp_updL bG (ix 0) ((bG (ix 0)) ||| (jlshl 1 x2))) (ix 1)) ||| 0))))), (sh, .inr (4, [.int zw, .int zh, .long zA, .long zL, .long zR, .long zE]))] := hD
          refine lv_iinc (v := (x2 + 1)) (lv' := [(2, .int (x2 + 1)), (4, .int (V_J13_bitCount r_19)), (3, .int (V_J13_bitCount r_9)), (0, .ref b), (1, .ref sh)]) hx hb dX3_wave_93 hl (k := 4) rfl rfl (by decide) rfl (fun ls hl => ?_)
          refine lv_goto (tgt := 16) hx hb dX3_wave_96 (by decide) ?_
          exact ih bS bA bC (vp_updL (vp_updL bG (ix 0) ((bG (ix 0)) ||| (jlshl 1 x2))) (ix 1) (((vp_updL bG (ix 0) ((bG (ix 0)) ||| (jlshl 1 x2))) (ix 1)) ||| 0)) (x2 + 1) h _ _ (hP.sub [0, 1, 2, 3, 4, 5] rfl) (hD.sub [0, 1, 2, 3, 4, 5] (by decide) rfl) hS _ (lv_sub hl [3, 4, 0] rfl)
        · replace h := ga_iff c_45 h
          refine lv_iload_n hx hb dX3_wave_83 rfl (lv_at hl 4 rfl) ?_
          refine vp_callSl (va_Run.run (va_runSN (As := [.int x2]) (rest := [.long ((vp_updL bG (ix 0) ((bG (ix 0)) ||| (jlshl 1 x2))) (ix 1)), .int 1, .ref b_g]) ⟨hx, hb, hml, hown, hts⟩ (met_X1_bit l D cA N x2 (jlshl 1 x2) rfl) (⟨va_cnB 1 hts (lw_meth q186) rfl rfl rfl (hK.2.1 _ q822 rfl) (hts _ q67) (by decide +kernel) ⟨Nat.le_of_ble_eq_true rfl, Nat.le_of_ble_eq_true rfl⟩, hts _ q185, trivial⟩) (ga_PS hK ga_P0) rfl rfl hl.1 rfl (lv_room (Nat.le_of_ble_eq_true rfl)) dX3_wave_84 ⟨Nat.le_of_ble_eq_true rfl, Nat.le_of_ble_eq_true rfl⟩)) (fun z_49 w_50 => ?_)
          obtain rfl := w_50
          refine lv_goto (tgt := 91) hx hb dX3_wave_87 (by decide) ?_
          refine lv_lor hx hb dX3_wave_91 ?_
          refine va_last hx hb hK.1 hP hD hS 4 1 (f := (vp_updL bG (ix 0) ((bG (ix 0)) ||| (jlshl 1 x2)))) rfl rfl (ga_in (by decide)) dX3_wave_92 (fun H_52 locs hP hD hS => ?_)
          have hP : va_P D ga_cl [(b, .inr (3, [.ref b_s, .ref b_a, .long bB, .ref b_c, .ref b_g])), (b_s, .inl (cA 1, 2, .inr (.inl bS))), (b_a, .inl (cA 1, 2, .inr (.inl bA))), (b_c, .inl (cA 0, 2, .inl bC)), (b_g, .inl (cA 1, 2, .inr (.inl (vp_updL (vp_updL bG (ix 0) ((bG (ix 0)) ||| (jlshl 1 x2))) (ix 1) (((vp_updL bG (ix 0) ((bG (ix 0)) ||| (jlshl 1 x2))) (ix 1)) ||| (jlshl 1 x2)))))), (sh, .inr (4, [.int zw, .int zh, .long zA, .long zL, .long zR, .long zE]))] H_52 := hP
          have hD : va_D A [(b, .inr (3, [.ref b_s, .ref b_a, .long bB, .ref b_c, .ref b_g])), (b_s, .inl (cA 1, 2, .inr (.inl bS))), (b_a, .inl (cA 1, 2, .inr (.inl bA))), (b_c, .inl (cA 0, 2, .inl bC)), (b_g, .inl (cA 1, 2, .inr (.inl (vp_updL (vp_updL bG (ix 0) ((bG (ix 0)) ||| (jlshl 1 x2))) (ix 1) (((vp_updL bG (ix 0) ((bG (ix 0)) ||| (jlshl 1 x2))) (ix 1)) ||| (jlshl 1 x2)))))), (sh, .inr (4, [.int zw, .int zh, .long zA, .long zL, .long zR, .long zE]))] := hD
          refine lv_iinc (v := (x2 + 1)) (lv' := [(2, .int (x2 + 1)), (4, .int (V_J13_bitCount r_19)), (3, .int (V_J13_bitCount r_9)), (0, .ref b), (1, .ref sh)]) hx hb dX3_wave_93 hl (k := 4) rfl rfl (by decide) rfl (fun ls hl => ?_)
          refine lv_goto (tgt := 16) hx hb dX3_wave_96 (by decide) ?_
          exact ih bS bA bC (vp_updL (vp_updL bG (ix 0) ((bG (ix 0)) ||| (jlshl 1 x2))) (ix 1) (((vp_updL bG (ix 0) ((bG (ix 0)) ||| (jlshl 1 x2))) (ix 1)) ||| (jlshl 1 x2))) (x2 + 1) h _ _ (hP.sub [0, 1, 2, 3, 4, 5] rfl) (hD.sub [0, 1, 2, 3, 4, 5] (by decide) rfl) hS _ (lv_sub hl [3, 4, 0] rfl)
def F_X3_wave (N : Nat) (bB : Int64) (bS : Nat → Int64) (bA : Nat → Int64) (bC : Nat → Int32) (bG : Nat → Int64) (zw : Int32) (zh : Int32) (zA : Int64) (zL : Int64) (zR : Int64) (zE : Int64)  : Option (Int32 × ((Nat → Int64) × (Nat → Int64) × (Nat → Int32) × (Nat → Int64))) :=
  lp_X3_wave_16 N bB zw zh zA zL zR zE N bS bA bC (vp_updL (vp_updL bG (ix 0) 0) (ix 1) 0) 0
set_option maxHeartbeats 4000000 in
theorem met_X3_wave (l : Launch) (D : va_G) (cA : Nat → ClassId) (A : Nat → Prop) (b : Nat) (b_s : Nat) (b_a : Nat) (b_c : Nat) (b_g : Nat) (sh : Nat) (bB : Int64) (bS : Nat → Int64) (bA : Nat → Int64) (bC : Nat → Int32) (bG : Nat → Int64) (zw : Int32) (zh : Int32) (zA : Int64) (zL : Int64) (zR : Int64) (zE : Int64) (N : Nat)   (out : Int32 × ((Nat → Int64) × (Nat → Int64) × (Nat → Int32) × (Nat → Int64))) (h : F_X3_wave N bB bS bA bC bG zw zh zA zL zR zE = some out) : Met l yX3_wave (ws_ yX3_wave cX3_wave 5 (some .int)) rm_X3_wave (ga_L D cA A [(b, .inr (3, [.ref b_s, .ref b_a, .long bB, .ref b_c, .ref b_g])), (b_s, .inl (cA 1, 2, .inr (.inl bS))), (b_a, .inl (cA 1, 2, .inr (.inl bA))), (b_c, .inl (cA 0, 2, .inl bC)), (b_g, .inl (cA 1, 2, .inr (.inl bG))), (sh, .inr (4, [.int zw, .int zh, .long zA, .long zL, .long zR, .long zE]))] [.ref b, .ref sh]) (va_Qi (fun (r : Int32) (u : (Nat → Int64) × (Nat → Int64) × (Nat → Int32) × (Nat → Int64)) => (out.1 = r) ∧ out.2 = u) (fun (u : (Nat → Int64) × (Nat → Int64) × (Nat → Int32) × (Nat → Int64)) (t : State) => va_P D ga_cl [(b, .inr (3, [.ref b_s, .ref b_a, .long bB, .ref b_c, .ref b_g])), (b_s, .inl (cA 1, 2, .inr (.inl u.1))), (b_a, .inl (cA 1, 2, .inr (.inl u.2.1))), (b_c, .inl (cA 0, 2, .inl u.2.2.1)), (b_g, .inl (cA 1, 2, .inr (.inl u.2.2.2))), (sh, .inr (4, [.int zw, .int zh, .long zA, .long zL, .long zR, .long zE]))] t.heap ∧ ga_K D cA t ∧ va_D A [(b, .inr (3, [.ref b_s, .ref b_a, .long bB, .ref b_c, .ref b_g])), (b_s, .inl (cA 1, 2, .inr (.inl u.1))), (b_a, .inl (cA 1, 2, .inr (.inl u.2.1))), (b_c, .inl (cA 0, 2, .inl u.2.2.1)), (b_g, .inl (cA 1, 2, .inr (.inl u.2.2.2))), (sh, .inr (4, [.int zw, .int zh, .long zA, .long zL, .long zR, .long zE]))]) A) 0 0 A := by
  refine Met.ofW (cc := cX3_wave) (maxL := 5) (ret := (some .int)) (by decide) rfl ?_
  intro p e s m args below meth c s₁ B hml hv
  obtain ⟨rfl, hP, hK, hD, hA⟩ := hv
  have hS : va_S A s.heap s.heap [] := va_S.rf
  have C : ga_cx p m c meth s _ RX3 cX3_wave 5 (some .int) := ga_cx_of B hml
  have C0 := C
  obtain ⟨hx, hb, hr, hlocks, hml, hown, hts⟩ := C0
  have hl := lv_entry ([.ref b, .ref sh]) (n := 5) (Nat.le_of_ble_eq_true rfl)
  rw [lg_entry_eq]
  generalize (lg_sl ([.ref b, .ref sh]) ++ List.replicate (5 - (lg_sl ([.ref b, .ref sh])).length) Slot.unset).toArray = ls at hl ⊢
  have hl : lv_has ls 5 [(0, .ref b), (1, .ref sh)] := hl
  rw [F_X3_wave] at h
  refine lv_aload_n hx hb dX3_wave_0 rfl (lv_at hl 0 rfl) ?_
  refine va_get hx hb hts in_X3 hown hK.1 hP 0 (fs := [.ref b_s, .ref b_a, .long bB, .ref b_c, .ref b_g]) rfl rfl 4 (by decide) (hts _ q163) (fun _ hh => hh) (v := .ref b_g) rfl dX3_wave_1 ?_
  refine lv_iconst (v := 0) hx hb dX3_wave_4 (by decide) ?_
  refine lv_lconst (v := 0) hx hb dX3_wave_5 (by decide) ?_
  refine va_last hx hb hK.1 hP hD hS 4 1 (f := bG) rfl rfl (ga_in (by decide)) dX3_wave_6 (fun H_1 locs hP hD hS => ?_)
  have hP : va_P D ga_cl [(b, .inr (3, [.ref b_s, .ref b_a, .long bB, .ref b_c, .ref b_g])), (b_s, .inl (cA 1, 2, .inr (.inl bS))), (b_a, .inl (cA 1, 2, .inr (.inl bA))), (b_c, .inl (cA 0, 2, .inl bC)), (b_g, .inl (cA 1, 2, .inr (.inl (vp_updL bG (ix 0) 0)))), (sh, .inr (4, [.int zw, .int zh, .long zA, .long zL, .long zR, .long zE]))] H_1 := hP
  have hD : va_D A [(b, .inr (3, [.ref b_s, .ref b_a, .long bB, .ref b_c, .ref b_g])), (b_s, .inl (cA 1, 2, .inr (.inl bS))), (b_a, .inl (cA 1, 2, .inr (.inl bA))), (b_c, .inl (cA 0, 2, .inl bC)), (b_g, .inl (cA 1, 2, .inr (.inl (vp_updL bG (ix 0) 0)))), (sh, .inr (4, [.int zw, .int zh, .long zA, .long zL, .long zR, .long zE]))] := hD
  refine lv_aload_n hx hb dX3_wave_7 rfl (lv_at hl 0 rfl) ?_
  refine va_get hx hb hts in_X3 hown hK.1 hP 0 (fs := [.ref b_s, .ref b_a, .long bB, .ref b_c, .ref b_g]) rfl rfl 4 (by decide) (hts _ q163) (fun _ hh => hh) (v := .ref b_g) rfl dX3_wave_8 ?_
  refine lv_iconst (v := 1) hx hb dX3_wave_11 (by decide) ?_
  refine lv_lconst (v := 0) hx hb dX3_wave_12 (by decide) ?_
  refine va_last hx hb hK.1 hP hD hS 4 1 (f := (vp_updL bG (ix 0) 0)) rfl rfl (ga_in (by decide)) dX3_wave_13 (fun H_2 locs hP hD hS => ?_)
  have hP : va_P D ga_cl [(b, .inr (3, [.ref b_s, .ref b_a, .long bB, .ref b_c, .ref b_g])), (b_s, .inl (cA 1, 2, .inr (.inl bS))), (b_a, .inl (cA 1, 2, .inr (.inl bA))), (b_c, .inl (cA 0, 2, .inl bC)), (b_g, .inl (cA 1, 2, .inr (.inl (vp_updL (vp_updL bG (ix 0) 0) (ix 1) 0)))), (sh, .inr (4, [.int zw, .int zh, .long zA, .long zL, .long zR, .long zE]))] H_2 := hP
  have hD : va_D A [(b, .inr (3, [.ref b_s, .ref b_a, .long bB, .ref b_c, .ref b_g])), (b_s, .inl (cA 1, 2, .inr (.inl bS))), (b_a, .inl (cA 1, 2, .inr (.inl bA))), (b_c, .inl (cA 0, 2, .inl bC)), (b_g, .inl (cA 1, 2, .inr (.inl (vp_updL (vp_updL bG (ix 0) 0) (ix 1) 0)))), (sh, .inr (4, [.int zw, .int zh, .long zA, .long zL, .long zR, .long zE]))] := hD
  refine lv_iconst (v := 0) hx hb dX3_wave_14 (by decide) ?_
  refine lv_istore_n (lv' := [(2, .int 0), (0, .ref b), (1, .ref sh)]) hx hb dX3_wave_15 rfl hl (by decide) rfl (fun ls hl => ?_)
  exact w_X3_wave_16 C hK hA N bS bA bC (vp_updL (vp_updL bG (ix 0) 0) (ix 1) 0) 0 h _ _ (hP.sub [0, 1, 2, 3, 4, 5] rfl) (hD.sub [0, 1, 2, 3, 4, 5] (by decide) rfl) hS _ (lv_sub hl [1, 2, 0] rfl)
abbrev rm_X3_place : Room := { frames := 2, cells := 0, slots := 0, locals := 32 }
def F_X3_place (N : Nat) (bB : Int64) (bS : Nat → Int64) (x1 : Int32) (x2 : Int32) (x3 : Int32) : Option (Int64 × (Nat → Int64)) :=
  (if x1 = x2 then
  (if x1 = (-1) then
  some (bB, bS)
  else
  (if x3 = 5 then
  (if x3 = 1 then
  (if x3 = 2 then
  some ((bB ||| (jlshl 1 x1)), (vp_updL (vp_updL bS (ix 0) ((bS (ix 0)) ||| (jlshl 1 x1))) (ix 1) (((vp_updL bS (ix 0) ((bS (ix 0)) ||| (jlshl 1 x1))) (ix 1)) ||| (jlshl 1 x1))))
  else
  some ((bB ||| (jlshl 1 x1)), (vp_updL (vp_updL bS (ix 0) ((bS (ix 0)) ||| (jlshl 1 x1))) (ix 1) (((vp_updL bS (ix 0) ((bS (ix 0)) ||| (jlshl 1 x1))) (ix 1)) ||| 0))))
  else
  (if x3 = 2 then
  some ((bB ||| (jlshl 1 x1)), (vp_updL (vp_updL bS (ix 0) ((bS (ix 0)) ||| 0)) (ix 1) (((vp_updL bS (ix 0) ((bS (ix 0)) ||| 0)) (ix 1)) ||| (jlshl 1 x1))))
  else
  some ((bB ||| (jlshl 1 x1)), (vp_updL (vp_updL bS (ix 0) ((bS (ix 0)) ||| 0)) (ix 1) (((vp_updL bS (ix 0) ((bS (ix 0)) ||| 0)) (ix 1)) ||| 0)))))
  else
  (if x3 = 1 then
  (if x3 = 2 then
  some ((bB ||| 0), (vp_updL (vp_updL bS (ix 0) ((bS (ix 0)) ||| (jlshl 1 x1))) (ix 1) (((vp_updL bS (ix 0) ((bS (ix 0)) ||| (jlshl 1 x1))) (ix 1)) ||| (jlshl 1 x1))))
  else
  some ((bB ||| 0), (vp_updL (vp_updL bS (ix 0) ((bS (ix 0)) ||| (jlshl 1 x1))) (ix 1) (((vp_updL bS (ix 0) ((bS (ix 0)) ||| (jlshl 1 x1))) (ix 1)) ||| 0))))
  else
  (if x3 = 2 then
  some ((bB ||| 0), (vp_updL (vp_updL bS (ix 0) ((bS (ix 0)) ||| 0)) (ix 1) (((vp_updL bS (ix 0) ((bS (ix 0)) ||| 0)) (ix 1)) ||| (jlshl 1 x1))))
  else
  some ((bB ||| 0), (vp_updL (vp_updL bS (ix 0) ((bS (ix 0)) ||| 0)) (ix 1) (((vp_updL bS (ix 0) ((bS (ix 0)) ||| 0)) (ix 1)) ||| 0)))))))
  else
  (if x1 = (-1) then
  (if x2 = (-1) then
  some (bB, (vp_updL (vp_updL bS (ix 0) ((bS (ix 0)) ||| 0)) (ix 1) (((vp_updL bS (ix 0) ((bS (ix 0)) ||| 0)) (ix 1)) ||| 0)))
  else
  some (bB, (vp_updL (vp_updL bS (ix 0) ((bS (ix 0)) ||| 0)) (ix 1) (((vp_updL bS (ix 0) ((bS (ix 0)) ||| 0)) (ix 1)) ||| (jlshl 1 x2)))))
  else
  (if x2 = (-1) then
  some (bB, (vp_updL (vp_updL bS (ix 0) ((bS (ix 0)) ||| (jlshl 1 x1))) (ix 1) (((vp_updL bS (ix 0) ((bS (ix 0)) ||| (jlshl 1 x1))) (ix 1)) ||| 0)))
  else
  some (bB, (vp_updL (vp_updL bS (ix 0) ((bS (ix 0)) ||| (jlshl 1 x1))) (ix 1) (((vp_updL bS (ix 0) ((bS (ix 0)) ||| (jlshl 1 x1))) (ix 1)) ||| (jlshl 1 x2)))))))
set_option maxHeartbeats 4000000 in
theorem met_X3_place (l : Launch) (D : va_G) (cA : Nat → ClassId) (A : Nat → Prop) (b : Nat) (b_s : Nat) (b_a : Nat) (b_c : Nat) (b_g : Nat) (bB : Int64) (bS : Nat → Int64) (N : Nat) (x1 : Int32) (x2 : Int32) (x3 : Int32)  (out : Int64 × (Nat → Int64)) (h : F_X3_place N bB bS x1 x2 x3 = some out) : Met l yX3_place (ws_ yX3_place cX3_place 4 none) rm_X3_place (ga_L D cA A [(b, .inr (3, [.ref b_s, .ref b_a, .long bB, .ref b_c, .ref b_g])), (b_s, .inl (cA 1, 2, .inr (.inl bS)))] [.ref b, .int x1, .int x2, .int x3]) (va_Qv (fun (u : Int64 × (Nat → Int64)) => out = u) (fun (u : Int64 × (Nat → Int64)) (t : State) => va_P D ga_cl [(b, .inr (3, [.ref b_s, .ref b_a, .long u.1, .ref b_c, .ref b_g])), (b_s, .inl (cA 1, 2, .inr (.inl u.2)))] t.heap ∧ ga_K D cA t ∧ va_D A [(b, .inr (3, [.ref b_s, .ref b_a, .long u.1, .ref b_c, .ref b_g])), (b_s, .inl (cA 1, 2, .inr (.inl u.2)))]) A) 0 0 A := by
  refine Met.ofW (cc := cX3_place) (maxL := 4) (ret := none) (by decide) rfl ?_
  intro p e s m args below meth c s₁ B hml hv
  obtain ⟨rfl, hP, hK, hD, hA⟩ := hv
  have hS : va_S A s.heap s.heap [] := va_S.rf
  have C : ga_cx p m c meth s _ RX3 cX3_place 4 none := ga_cx_of B hml
  have C0 := C
  obtain ⟨hx, hb, hr, hlocks, hml, hown, hts⟩ := C0
  have hl := lv_entry ([.ref b, .int x1, .int x2, .int x3]) (n := 4) (Nat.le_of_ble_eq_true rfl)
  rw [lg_entry_eq]
  generalize (lg_sl ([.ref b, .int x1, .int x2, .int x3]) ++ List.replicate (4 - (lg_sl ([.ref b, .int x1, .int x2, .int x3])).length) Slot.unset).toArray = ls at hl ⊢
  have hl : lv_has ls 4 [(0, .ref b), (1, .int x1), (2, .int x2), (3, .int x3)] := hl
  rw [F_X3_place] at h
  refine lv_iload_n hx hb dX3_place_0 rfl (lv_at hl 1 rfl) ?_
  refine lv_iload_n hx hb dX3_place_1 rfl (lv_at hl 2 rfl) ?_
  refine lv_icmp_eq (tgt := 52) hx hb dX3_place_2 (by decide) (fun c_1 => ?_) (fun c_1 => ?_)
  · replace h := ga_ift c_1 h
    refine lv_iload_n hx hb dX3_place_52 rfl (lv_at hl 1 rfl) ?_
    refine lv_iconst (v := (-1)) hx hb dX3_place_53 (by decide) ?_
    refine lv_icmp_eq (tgt := 123) hx hb dX3_place_54 (by decide) (fun c_2 => ?_) (fun c_2 => ?_)
    · replace h := ga_ift c_2 h
      have hP9 := hP.sub (ws' := [(b, .inr (3, [.ref b_s, .ref b_a, .long bB, .ref b_c, .ref b_g])), (b_s, .inl (cA 1, 2, .inr (.inl bS)))]) [0, 1] rfl
      have hD9 := hD.sub (ws' := [(b, .inr (3, [.ref b_s, .ref b_a, .long bB, .ref b_c, .ref b_g])), (b_s, .inl (cA 1, 2, .inr (.inl bS)))]) [0, 1] (by decide) rfl
      obtain rfl := Option.some.inj h
      exact W.vret hx hb hr (fun t ht hW => ⟨⟨(bB, bS), rfl, rfl, ⟨by rw [ht]; exact hP9, hK.warm hW, hD9⟩⟩, hS.F ht⟩) hS.2.2 dX3_place_123
    · replace h := ga_iff c_2 h
      refine lv_aload_n hx hb dX3_place_57 rfl (lv_at hl 0 rfl) ?_
      refine lv_dup hx hb dX3_place_58 rfl ?_
      refine va_get hx hb hts in_X3 hown hK.1 hP 0 (fs := [.ref b_s, .ref b_a, .long bB, .ref b_c, .ref b_g]) rfl rfl 2 (by decide) (hts _ q159) (fun _ hh => hh) (v := .long bB) rfl dX3_place_59 ?_
      refine lv_iload_n hx hb dX3_place_62 rfl (lv_at hl 3 rfl) ?_
      refine lv_iconst (v := 5) hx hb dX3_place_63 (by decide) ?_
      refine lv_icmp_ne (tgt := 74) hx hb dX3_place_64 (by decide) (fun c_3 => ?_) (fun c_3 => ?_)
      · replace h := ga_iff c_3 h
        refine lv_lconst (v := 0) hx hb dX3_place_74 (by decide) ?_
        refine lv_lor hx hb dX3_place_75 ?_
        refine va_put hx hb hts in_X3 tyX3 tyX3_ok nmX3 hown hK.1 hP hD hS 0 (fs := [.ref b_s, .ref b_a, .long bB, .ref b_c, .ref b_g]) rfl rfl 2 (by decide) (hts _ q159) (fun _ hh => hh) rfl (v := .long (bB ||| 0)) rfl rfl rfl (show 2 < 5 by decide) dX3_place_76 (fun H_4 locs hP hD hS => ?_)
        have hP : va_P D ga_cl [(b, .inr (3, [.ref b_s, .ref b_a, .long (bB ||| 0), .ref b_c, .ref b_g])), (b_s, .inl (cA 1, 2, .inr (.inl bS)))] H_4 := hP
        have hD : va_D A [(b, .inr (3, [.ref b_s, .ref b_a, .long (bB ||| 0), .ref b_c, .ref b_g])), (b_s, .inl (cA 1, 2, .inr (.inl bS)))] := hD
        refine lv_aload_n hx hb dX3_place_79 rfl (lv_at hl 0 rfl) ?_
        refine va_get hx hb hts in_X3 hown hK.1 hP 0 (fs := [.ref b_s, .ref b_a, .long (bB ||| 0), .ref b_c, .ref b_g]) rfl rfl 0 (by decide) (hts _ q154) (fun _ hh => hh) (v := .ref b_s) rfl dX3_place_80 ?_
        refine lv_iconst (v := 0) hx hb dX3_place_83 (by decide) ?_
        refine lv_dup2_11 hx hb dX3_place_84 rfl rfl ?_
        refine va_lald hx hb hK.1 hP 1 1 (f := bS) rfl rfl (ga_in (by decide)) dX3_place_85 ?_
        refine lv_iload_n hx hb dX3_place_86 rfl (lv_at hl 3 rfl) ?_
        refine lv_iconst (v := 1) hx hb dX3_place_87 (by decide) ?_
        refine lv_icmp_ne (tgt := 98) hx hb dX3_place_88 (by decide) (fun c_6 => ?_) (fun c_6 => ?_)
        · replace h := ga_iff c_6 h
          refine lv_lconst (v := 0) hx hb dX3_place_98 (by decide) ?_
          refine lv_lor hx hb dX3_place_99 ?_
          refine va_last hx hb hK.1 hP hD hS 1 1 (f := bS) rfl rfl (ga_in (by decide)) dX3_place_100 (fun H_7 locs hP hD hS => ?_)
          have hP : va_P D ga_cl [(b, .inr (3, [.ref b_s, .ref b_a, .long (bB ||| 0), .ref b_c, .ref b_g])), (b_s, .inl (cA 1, 2, .inr (.inl (vp_updL bS (ix 0) ((bS (ix 0)) ||| 0)))))] H_7 := hP
          have hD : va_D A [(b, .inr (3, [.ref b_s, .ref b_a, .long (bB ||| 0), .ref b_c, .ref b_g])), (b_s, .inl (cA 1, 2, .inr (.inl (vp_updL bS (ix 0) ((bS (ix 0)) ||| 0)))))] := hD
          refine lv_aload_n hx hb dX3_place_101 rfl (lv_at hl 0 rfl) ?_
          refine va_get hx hb hts in_X3 hown hK.1 hP 0 (fs := [.ref b_s, .ref b_a, .long (bB ||| 0), .ref b_c, .ref b_g]) rfl rfl 0 (by decide) (hts _ q154) (fun _ hh => hh) (v := .ref b_s) rfl dX3_place_102 ?_
          refine lv_iconst (v := 1) hx hb dX3_place_105 (by decide) ?_
          refine lv_dup2_11 hx hb dX3_place_106 rfl rfl ?_
          refine va_lald hx hb hK.1 hP 1 1 (f := (vp_updL bS (ix 0) ((bS (ix 0)) ||| 0))) rfl rfl (ga_in (by decide)) dX3_place_107 ?_
          refine lv_iload_n hx hb dX3_place_108 rfl (lv_at hl 3 rfl) ?_
          refine lv_iconst (v := 2) hx hb dX3_place_109 (by decide) ?_
          refine lv_icmp_ne (tgt := 120) hx hb dX3_place_110 (by decide) (fun c_8 => ?_) (fun c_8 => ?_)
          · replace h := ga_iff c_8 h
            refine lv_lconst (v := 0) hx hb dX3_place_120 (by decide) ?_
            refine lv_lor hx hb dX3_place_121 ?_
            refine va_last hx hb hK.1 hP hD hS 1 1 (f := (vp_updL bS (ix 0) ((bS (ix 0)) ||| 0))) rfl rfl (ga_in (by decide)) dX3_place_122 (fun H_9 locs hP hD hS => ?_)
            have hP : va_P D ga_cl [(b, .inr (3, [.ref b_s, .ref b_a, .long (bB ||| 0), .ref b_c, .ref b_g])), (b_s, .inl (cA 1, 2, .inr (.inl (vp_updL (vp_updL bS (ix 0) ((bS (ix 0)) ||| 0)) (ix 1) (((vp_updL bS (ix 0) ((bS (ix 0)) ||| 0)) (ix 1)) ||| 0)))))] H_9 := hP
            have hD : va_D A [(b, .inr (3, [.ref b_s, .ref b_a, .long (bB ||| 0), .ref b_c, .ref b_g])), (b_s, .inl (cA 1, 2, .inr (.inl (vp_updL (vp_updL bS (ix 0) ((bS (ix 0)) ||| 0)) (ix 1) (((vp_updL bS (ix 0) ((bS (ix 0)) ||| 0)) (ix 1)) ||| 0)))))] := hD
            have hP9 := hP.sub (ws' := [(b, .inr (3, [.ref b_s, .ref b_a, .long (bB ||| 0), .ref b_c, .ref b_g])), (b_s, .inl (cA 1, 2, .inr (.inl (vp_updL (vp_updL bS (ix 0) ((bS (ix 0)) ||| 0)) (ix 1) (((vp_updL bS (ix 0) ((bS (ix 0)) ||| 0)) (ix 1)) ||| 0)))))]) [0, 1] rfl
            have hD9 := hD.sub (ws' := [(b, .inr (3, [.ref b_s, .ref b_a, .long (bB ||| 0), .ref b_c, .ref b_g])), (b_s, .inl (cA 1, 2, .inr (.inl (vp_updL (vp_updL bS (ix 0) ((bS (ix 0)) ||| 0)) (ix 1) (((vp_updL bS (ix 0) ((bS (ix 0)) ||| 0)) (ix 1)) ||| 0)))))]) [0, 1] (by decide) rfl
            obtain rfl := Option.some.inj h
            exact W.vret hx hb hr (fun t ht hW => ⟨⟨((bB ||| 0), (vp_updL (vp_updL bS (ix 0) ((bS (ix 0)) ||| 0)) (ix 1) (((vp_updL bS (ix 0) ((bS (ix 0)) ||| 0)) (ix 1)) ||| 0))), rfl, rfl, ⟨by rw [ht]; exact hP9, hK.warm hW, hD9⟩⟩, hS.F ht⟩) hS.2.2 dX3_place_123
          · replace h := ga_ift c_8 h
            refine lv_iload_n hx hb dX3_place_113 rfl (lv_at hl 1 rfl) ?_
            refine vp_callSl (va_Run.run (va_runSN (As := [.int x1]) (rest := [.long ((vp_updL bS (ix 0) ((bS (ix 0)) ||| 0)) (ix 1)), .int 1, .ref b_s]) ⟨hx, hb, hml, hown, hts⟩ (met_X1_bit l D cA N x1 (jlshl 1 x1) rfl) (⟨va_cnB 1 hts (lw_meth q186) rfl rfl rfl (hK.2.1 _ q822 rfl) (hts _ q67) (by decide +kernel) ⟨Nat.le_of_ble_eq_true rfl, Nat.le_of_ble_eq_true rfl⟩, hts _ q185, trivial⟩) (ga_PS hK ga_P0) rfl rfl hl.1 rfl (lv_room (Nat.le_of_ble_eq_true rfl)) dX3_place_114 ⟨Nat.le_of_ble_eq_true rfl, Nat.le_of_ble_eq_true rfl⟩)) (fun z_12 w_13 => ?_)
            obtain rfl := w_13
            refine lv_goto (tgt := 121) hx hb dX3_place_117 (by decide) ?_
            refine lv_lor hx hb dX3_place_121 ?_
            refine va_last hx hb hK.1 hP hD hS 1 1 (f := (vp_updL bS (ix 0) ((bS (ix 0)) ||| 0))) rfl rfl (ga_in (by decide)) dX3_place_122 (fun H_15 locs hP hD hS => ?_)
            have hP : va_P D ga_cl [(b, .inr (3, [.ref b_s, .ref b_a, .long (bB ||| 0), .ref b_c, .ref b_g])), (b_s, .inl (cA 1, 2, .inr (.inl (vp_updL (vp_updL bS (ix 0) ((bS (ix 0)) ||| 0)) (ix 1) (((vp_updL bS (ix 0) ((bS (ix 0)) ||| 0)) (ix 1)) ||| (jlshl 1 x1))))))] H_15 := hP
            have hD : va_D A [(b, .inr (3, [.ref b_s, .ref b_a, .long (bB ||| 0), .ref b_c, .ref b_g])), (b_s, .inl (cA 1, 2, .inr (.inl (vp_updL (vp_updL bS (ix 0) ((bS (ix 0)) ||| 0)) (ix 1) (((vp_updL bS (ix 0) ((bS (ix 0)) ||| 0)) (ix 1)) ||| (jlshl 1 x1))))))] := hD
            have hP9 := hP.sub (ws' := [(b, .inr (3, [.ref b_s, .ref b_a, .long (bB ||| 0), .ref b_c, .ref b_g])), (b_s, .inl (cA 1, 2, .inr (.inl (vp_updL (vp_updL bS (ix 0) ((bS (ix 0)) ||| 0)) (ix 1) (((vp_updL bS (ix 0) ((bS (ix 0)) ||| 0)) (ix 1)) ||| (jlshl 1 x1))))))]) [0, 1] rfl
            have hD9 := hD.sub (ws' := [(b, .inr (3, [.ref b_s, .ref b_a, .long (bB ||| 0), .ref b_c, .ref b_g])), (b_s, .inl (cA 1, 2, .inr (.inl (vp_updL (vp_updL bS (ix 0) ((bS (ix 0)) ||| 0)) (ix 1) (((vp_updL bS (ix 0) ((bS (ix 0)) ||| 0)) (ix 1)) ||| (jlshl 1 x1))))))]) [0, 1] (by decide) rfl
            obtain rfl := Option.some.inj h
            exact W.vret hx hb hr (fun t ht hW => ⟨⟨((bB ||| 0), (vp_updL (vp_updL bS (ix 0) ((bS (ix 0)) ||| 0)) (ix 1) (((vp_updL bS (ix 0) ((bS (ix 0)) ||| 0)) (ix 1)) ||| (jlshl 1 x1)))), rfl, rfl, ⟨by rw [ht]; exact hP9, hK.warm hW, hD9⟩⟩, hS.F ht⟩) hS.2.2 dX3_place_123
        · replace h := ga_ift c_6 h
          refine lv_iload_n hx hb dX3_place_91 rfl (lv_at hl 1 rfl) ?_
          refine vp_callSl (va_Run.run (va_runSN (As := [.int x1]) (rest := [.long (bS (ix 0)), .int 0, .ref b_s]) ⟨hx, hb, hml, hown, hts⟩ (met_X1_bit l D cA N x1 (jlshl 1 x1) rfl) (⟨va_cnB 1 hts (lw_meth q186) rfl rfl rfl (hK.2.1 _ q822 rfl) (hts _ q67) (by decide +kernel) ⟨Nat.le_of_ble_eq_true rfl, Nat.le_of_ble_eq_true rfl⟩, hts _ q185, trivial⟩) (ga_PS hK ga_P0) rfl rfl hl.1 rfl (lv_room (Nat.le_of_ble_eq_true rfl)) dX3_place_92 ⟨Nat.le_of_ble_eq_true rfl, Nat.le_of_ble_eq_true rfl⟩)) (fun z_18 w_19 => ?_)
          obtain rfl := w_19
          refine lv_goto (tgt := 99) hx hb dX3_place_95 (by decide) ?_
          refine lv_lor hx hb dX3_place_99 ?_
          refine va_last hx hb hK.1 hP hD hS 1 1 (f := bS) rfl rfl (ga_in (by decide)) dX3_place_100 (fun H_21 locs hP hD hS => ?_)
          have hP : va_P D ga_cl [(b, .inr (3, [.ref b_s, .ref b_a, .long (bB ||| 0), .ref b_c, .ref b_g])), (b_s, .inl (cA 1, 2, .inr (.inl (vp_updL bS (ix 0) ((bS (ix 0)) ||| (jlshl 1 x1))))))] H_21 := hP
          have hD : va_D A [(b, .inr (3, [.ref b_s, .ref b_a, .long (bB ||| 0), .ref b_c, .ref b_g])), (b_s, .inl (cA 1, 2, .inr (.inl (vp_updL bS (ix 0) ((bS (ix 0)) ||| (jlshl 1 x1))))))] := hD
          refine lv_aload_n hx hb dX3_place_101 rfl (lv_at hl 0 rfl) ?_
          refine va_get hx hb hts in_X3 hown hK.1 hP 0 (fs := [.ref b_s, .ref b_a, .long (bB ||| 0), .ref b_c, .ref b_g]) rfl rfl 0 (by decide) (hts _ q154) (fun _ hh => hh) (v := .ref b_s) rfl dX3_place_102 ?_
          refine lv_iconst (v := 1) hx hb dX3_place_105 (by decide) ?_
          refine lv_dup2_11 hx hb dX3_place_106 rfl rfl ?_
          refine va_lald hx hb hK.1 hP 1 1 (f := (vp_updL bS (ix 0) ((bS (ix 0)) ||| (jlshl 1 x1)))) rfl rfl (ga_in (by decide)) dX3_place_107 ?_
          refine lv_iload_n hx hb dX3_place_108 rfl (lv_at hl 3 rfl) ?_
          refine lv_iconst (v := 2) hx hb dX3_place_109 (by decide) ?_
          refine lv_icmp_ne (tgt := 120) hx hb dX3_place_110 (by decide) (fun c_22 => ?_) (fun c_22 => ?_)
          · replace h := ga_iff c_22 h
            refine lv_lconst (v := 0) hx hb dX3_place_120 (by decide) ?_
            refine lv_lor hx hb dX3_place_121 ?_
            refine va_last hx hb hK.1 hP hD hS 1 1 (f := (vp_updL bS (ix 0) ((bS (ix 0)) ||| (jlshl 1 x1)))) rfl rfl (ga_in (by decide)) dX3_place_122 (fun H_23 locs hP hD hS => ?_)
            have hP : va_P D ga_cl [(b, .inr (3, [.ref b_s, .ref b_a, .long (bB ||| 0), .ref b_c, .ref b_g])), (b_s, .inl (cA 1, 2, .inr (.inl (vp_updL (vp_updL bS (ix 0) ((bS (ix 0)) ||| (jlshl 1 x1))) (ix 1) (((vp_updL bS (ix 0) ((bS (ix 0)) ||| (jlshl 1 x1))) (ix 1)) ||| 0)))))] H_23 := hP
            have hD : va_D A [(b, .inr (3, [.ref b_s, .ref b_a, .long (bB ||| 0), .ref b_c, .ref b_g])), (b_s, .inl (cA 1, 2, .inr (.inl (vp_updL (vp_updL bS (ix 0) ((bS (ix 0)) ||| (jlshl 1 x1))) (ix 1) (((vp_updL bS (ix 0) ((bS (ix 0)) ||| (jlshl 1 x1))) (ix 1)) ||| 0)))))] := hD
            have hP9 := hP.sub (ws' := [(b, .inr (3, [.ref b_s, .ref b_a, .long (bB ||| 0), .ref b_c, .ref b_g])), (b_s, .inl (cA 1, 2, .inr (.inl (vp_updL (vp_updL bS (ix 0) ((bS (ix 0)) ||| (jlshl 1 x1))) (ix 1) (((vp_updL bS (ix 0) ((bS (ix 0)) ||| (jlshl 1 x1))) (ix 1)) ||| 0)))))]) [0, 1] rfl
            have hD9 := hD.sub (ws' := [(b, .inr (3, [.ref b_s, .ref b_a, .long (bB ||| 0), .ref b_c, .ref b_g])), (b_s, .inl (cA 1, 2, .inr (.inl (vp_updL (vp_updL bS (ix 0) ((bS (ix 0)) ||| (jlshl 1 x1))) (ix 1) (((vp_updL bS (ix 0) ((bS (ix 0)) ||| (jlshl 1 x1))) (ix 1)) ||| 0)))))]) [0, 1] (by decide) rfl
            obtain rfl := Option.some.inj h
            exact W.vret hx hb hr (fun t ht hW => ⟨⟨((bB ||| 0), (vp_updL (vp_updL bS (ix 0) ((bS (ix 0)) ||| (jlshl 1 x1))) (ix 1) (((vp_updL bS (ix 0) ((bS (ix 0)) ||| (jlshl 1 x1))) (ix 1)) ||| 0))), rfl, rfl, ⟨by rw [ht]; exact hP9, hK.warm hW, hD9⟩⟩, hS.F ht⟩) hS.2.2 dX3_place_123
          · replace h := ga_ift c_22 h
            refine lv_iload_n hx hb dX3_place_113 rfl (lv_at hl 1 rfl) ?_
            refine vp_callSl (va_Run.run (va_runSN (As := [.int x1]) (rest := [.long ((vp_updL bS (ix 0) ((bS (ix 0)) ||| (jlshl 1 x1))) (ix 1)), .int 1, .ref b_s]) ⟨hx, hb, hml, hown, hts⟩ (met_X1_bit l D cA N x1 (jlshl 1 x1) rfl) (⟨va_cnB 1 hts (lw_meth q186) rfl rfl rfl (hK.2.1 _ q822 rfl) (hts _ q67) (by decide +kernel) ⟨Nat.le_of_ble_eq_true rfl, Nat.le_of_ble_eq_true rfl⟩, hts _ q185, trivial⟩) (ga_PS hK ga_P0) rfl rfl hl.1 rfl (lv_room (Nat.le_of_ble_eq_true rfl)) dX3_place_114 ⟨Nat.le_of_ble_eq_true rfl, Nat.le_of_ble_eq_true rfl⟩)) (fun z_26 w_27 => ?_)
            obtain rfl := w_27
            refine lv_goto (tgt := 121) hx hb dX3_place_117 (by decide) ?_
            refine lv_lor hx hb dX3_place_121 ?_
            refine va_last hx hb hK.1 hP hD hS 1 1 (f := (vp_updL bS (ix 0) ((bS (ix 0)) ||| (jlshl 1 x1)))) rfl rfl (ga_in (by decide)) dX3_place_122 (fun H_29 locs hP hD hS => ?_)
            have hP : va_P D ga_cl [(b, .inr (3, [.ref b_s, .ref b_a, .long (bB ||| 0), .ref b_c, .ref b_g])), (b_s, .inl (cA 1, 2, .inr (.inl (vp_updL (vp_updL bS (ix 0) ((bS (ix 0)) ||| (jlshl 1 x1))) (ix 1) (((vp_updL bS (ix 0) ((bS (ix 0)) ||| (jlshl 1 x1))) (ix 1)) ||| (jlshl 1 x1))))))] H_29 := hP
            have hD : va_D A [(b, .inr (3, [.ref b_s, .ref b_a, .long (bB ||| 0), .ref b_c, .ref b_g])), (b_s, .inl (cA 1, 2, .inr (.inl (vp_updL (vp_updL bS (ix 0) ((bS (ix 0)) ||| (jlshl 1 x1))) (ix 1) (((vp_updL bS (ix 0) ((bS (ix 0)) ||| (jlshl 1 x1))) (ix 1)) ||| (jlshl 1 x1))))))] := hD
            have hP9 := hP.sub (ws' := [(b, .inr (3, [.ref b_s, .ref b_a, .long (bB ||| 0), .ref b_c, .ref b_g])), (b_s, .inl (cA 1, 2, .inr (.inl (vp_updL (vp_updL bS (ix 0) ((bS (ix 0)) ||| (jlshl 1 x1))) (ix 1) (((vp_updL bS (ix 0) ((bS (ix 0)) ||| (jlshl 1 x1))) (ix 1)) ||| (jlshl 1 x1))))))]) [0, 1] rfl
            have hD9 := hD.sub (ws' := [(b, .inr (3, [.ref b_s, .ref b_a, .long (bB ||| 0), .ref b_c, .ref b_g])), (b_s, .inl (cA 1, 2, .inr (.inl (vp_updL (vp_updL bS (ix 0) ((bS (ix 0)) ||| (jlshl 1 x1))) (ix 1) (((vp_updL bS (ix 0) ((bS (ix 0)) ||| (jlshl 1 x1))) (ix 1)) ||| (jlshl 1 x1))))))]) [0, 1] (by decide) rfl
            obtain rfl := Option.some.inj h
            exact W.vret hx hb hr (fun t ht hW => ⟨⟨((bB ||| 0), (vp_updL (vp_updL bS (ix 0) ((bS (ix 0)) ||| (jlshl 1 x1))) (ix 1) (((vp_updL bS (ix 0) ((bS (ix 0)) ||| (jlshl 1 x1))) (ix 1)) ||| (jlshl 1 x1)))), rfl, rfl, ⟨by rw [ht]; exact hP9, hK.warm hW, hD9⟩⟩, hS.F ht⟩) hS.2.2 dX3_place_123
      · replace h := ga_ift c_3 h
        refine lv_iload_n hx hb dX3_place_67 rfl (lv_at hl 1 rfl) ?_
        refine vp_callSl (va_Run.run (va_runSN (As := [.int x1]) (rest := [.long bB, .ref b]) ⟨hx, hb, hml, hown, hts⟩ (met_X1_bit l D cA N x1 (jlshl 1 x1) rfl) (⟨va_cnB 1 hts (lw_meth q186) rfl rfl rfl (hK.2.1 _ q822 rfl) (hts _ q67) (by decide +kernel) ⟨Nat.le_of_ble_eq_true rfl, Nat.le_of_ble_eq_true rfl⟩, hts _ q185, trivial⟩) (ga_PS hK ga_P0) rfl rfl hl.1 rfl (lv_room (Nat.le_of_ble_eq_true rfl)) dX3_place_68 ⟨Nat.le_of_ble_eq_true rfl, Nat.le_of_ble_eq_true rfl⟩)) (fun z_32 w_33 => ?_)
        obtain rfl := w_33
        refine lv_goto (tgt := 75) hx hb dX3_place_71 (by decide) ?_
        refine lv_lor hx hb dX3_place_75 ?_
        refine va_put hx hb hts in_X3 tyX3 tyX3_ok nmX3 hown hK.1 hP hD hS 0 (fs := [.ref b_s, .ref b_a, .long bB, .ref b_c, .ref b_g]) rfl rfl 2 (by decide) (hts _ q159) (fun _ hh => hh) rfl (v := .long (bB ||| (jlshl 1 x1))) rfl rfl rfl (show 2 < 5 by decide) dX3_place_76 (fun H_35 locs hP hD hS => ?_)
        have hP : va_P D ga_cl [(b, .inr (3, [.ref b_s, .ref b_a, .long (bB ||| (jlshl 1 x1)), .ref b_c, .ref b_g])), (b_s, .inl (cA 1, 2, .inr (.inl bS)))] H_35 := hP
        have hD : va_D A [(b, .inr (3, [.ref b_s, .ref b_a, .long (bB ||| (jlshl 1 x1)), .ref b_c, .ref b_g])), (b_s, .inl (cA 1, 2, .inr (.inl bS)))] := hD
        refine lv_aload_n hx hb dX3_place_79 rfl (lv_at hl 0 rfl) ?_
        refine va_get hx hb hts in_X3 hown hK.1 hP 0 (fs := [.ref b_s, .ref b_a, .long (bB ||| (jlshl 1 x1)), .ref b_c, .ref b_g]) rfl rfl 0 (by decide) (hts _ q154) (fun _ hh => hh) (v := .ref b_s) rfl dX3_place_80 ?_
        refine lv_iconst (v := 0) hx hb dX3_place_83 (by decide) ?_
        refine lv_dup2_11 hx hb dX3_place_84 rfl rfl ?_
        refine va_lald hx hb hK.1 hP 1 1 (f := bS) rfl rfl (ga_in (by decide)) dX3_place_85 ?_
        refine lv_iload_n hx hb dX3_place_86 rfl (lv_at hl 3 rfl) ?_
        refine lv_iconst (v := 1) hx hb dX3_place_87 (by decide) ?_
        refine lv_icmp_ne (tgt := 98) hx hb dX3_place_88 (by decide) (fun c_37 => ?_) (fun c_37 => ?_)
        · replace h := ga_iff c_37 h
          refine lv_lconst (v := 0) hx hb dX3_place_98 (by decide) ?_
          refine lv_lor hx hb dX3_place_99 ?_
          refine va_last hx hb hK.1 hP hD hS 1 1 (f := bS) rfl rfl (ga_in (by decide)) dX3_place_100 (fun H_38 locs hP hD hS => ?_)
          have hP : va_P D ga_cl [(b, .inr (3, [.ref b_s, .ref b_a, .long (bB ||| (jlshl 1 x1)), .ref b_c, .ref b_g])), (b_s, .inl (cA 1, 2, .inr (.inl (vp_updL bS (ix 0) ((bS (ix 0)) ||| 0)))))] H_38 := hP
          have hD : va_D A [(b, .inr (3, [.ref b_s, .ref b_a, .long (bB ||| (jlshl 1 x1)), .ref b_c, .ref b_g])), (b_s, .inl (cA 1, 2, .inr (.inl (vp_updL bS (ix 0) ((bS (ix 0)) ||| 0)))))] := hD
          refine lv_aload_n hx hb dX3_place_101 rfl (lv_at hl 0 rfl) ?_
          refine va_get hx hb hts in_X3 hown hK.1 hP 0 (fs := [.ref b_s, .ref b_a, .long (bB ||| (jlshl 1 x1)), .ref b_c, .ref b_g]) rfl rfl 0 (by decide) (hts _ q154) (fun _ hh => hh) (v := .ref b_s) rfl dX3_place_102 ?_
          refine lv_iconst (v := 1) hx hb dX3_place_105 (by decide) ?_
          refine lv_dup2_11 hx hb dX3_place_106 rfl rfl ?_
          refine va_lald hx hb hK.1 hP 1 1 (f := (vp_updL bS (ix 0) ((bS (ix 0)) ||| 0))) rfl rfl (ga_in (by decide)) dX3_place_107 ?_
          refine lv_iload_n hx hb dX3_place_108 rfl (lv_at hl 3 rfl) ?_
          refine lv_iconst (v := 2) hx hb dX3_place_109 (by decide) ?_
          refine lv_icmp_ne (tgt := 120) hx hb dX3_place_110 (by decide) (fun c_39 => ?_) (fun c_39 => ?_)
          · replace h := ga_iff c_39 h
            refine lv_lconst (v := 0) hx hb dX3_place_120 (by decide) ?_
            refine lv_lor hx hb dX3_place_121 ?_
            refine va_last hx hb hK.1 hP hD hS 1 1 (f := (vp_updL bS (ix 0) ((bS (ix 0)) ||| 0))) rfl rfl (ga_in (by decide)) dX3_place_122 (fun H_40 locs hP hD hS => ?_)
            have hP : va_P D ga_cl [(b, .inr (3, [.ref b_s, .ref b_a, .long (bB ||| (jlshl 1 x1)), .ref b_c, .ref b_g])), (b_s, .inl (cA 1, 2, .inr (.inl (vp_updL (vp_updL bS (ix 0) ((bS (ix 0)) ||| 0)) (ix 1) (((vp_updL bS (ix 0) ((bS (ix 0)) ||| 0)) (ix 1)) ||| 0)))))] H_40 := hP
            have hD : va_D A [(b, .inr (3, [.ref b_s, .ref b_a, .long (bB ||| (jlshl 1 x1)), .ref b_c, .ref b_g])), (b_s, .inl (cA 1, 2, .inr (.inl (vp_updL (vp_updL bS (ix 0) ((bS (ix 0)) ||| 0)) (ix 1) (((vp_updL bS (ix 0) ((bS (ix 0)) ||| 0)) (ix 1)) ||| 0)))))] := hD
            have hP9 := hP.sub (ws' := [(b, .inr (3, [.ref b_s, .ref b_a, .long (bB ||| (jlshl 1 x1)), .ref b_c, .ref b_g])), (b_s, .inl (cA 1, 2, .inr (.inl (vp_updL (vp_updL bS (ix 0) ((bS (ix 0)) ||| 0)) (ix 1) (((vp_updL bS (ix 0) ((bS (ix 0)) ||| 0)) (ix 1)) ||| 0)))))]) [0, 1] rfl
            have hD9 := hD.sub (ws' := [(b, .inr (3, [.ref b_s, .ref b_a, .long (bB ||| (jlshl 1 x1)), .ref b_c, .ref b_g])), (b_s, .inl (cA 1, 2, .inr (.inl (vp_updL (vp_updL bS (ix 0) ((bS (ix 0)) ||| 0)) (ix 1) (((vp_updL bS (ix 0) ((bS (ix 0)) ||| 0)) (ix 1)) ||| 0)))))]) [0, 1] (by decide) rfl
            obtain rfl := Option.some.inj h
            exact W.vret hx hb hr (fun t ht hW => ⟨⟨((bB ||| (jlshl 1 x1)), (vp_updL (vp_updL bS (ix 0) ((bS (ix 0)) ||| 0)) (ix 1) (((vp_updL bS (ix 0) ((bS (ix 0)) ||| 0)) (ix 1)) ||| 0))), rfl, rfl, ⟨by rw [ht]; exact hP9, hK.warm hW, hD9⟩⟩, hS.F ht⟩) hS.2.2 dX3_place_123
          · replace h := ga_ift c_39 h
            refine lv_iload_n hx hb dX3_place_113 rfl (lv_at hl 1 rfl) ?_
            refine vp_callSl (va_Run.run (va_runSN (As := [.int x1]) (rest := [.long ((vp_updL bS (ix 0) ((bS (ix 0)) ||| 0)) (ix 1)), .int 1, .ref b_s]) ⟨hx, hb, hml, hown, hts⟩ (met_X1_bit l D cA N x1 (jlshl 1 x1) rfl) (⟨va_cnB 1 hts (lw_meth q186) rfl rfl rfl (hK.2.1 _ q822 rfl) (hts _ q67) (by decide +kernel) ⟨Nat.le_of_ble_eq_true rfl, Nat.le_of_ble_eq_true rfl⟩, hts _ q185, trivial⟩) (ga_PS hK ga_P0) rfl rfl hl.1 rfl (lv_room (Nat.le_of_ble_eq_true rfl)) dX3_place_114 ⟨Nat.le_of_ble_eq_true rfl, Nat.le_of_ble_eq_true rfl⟩)) (fun z_43 w_44 => ?_)
            obtain rfl := w_44
            refine lv_goto (tgt := 121) hx hb dX3_place_117 (by decide) ?_
            refine lv_lor hx hb dX3_place_121 ?_
            refine va_last hx hb hK.1 hP hD hS 1 1 (f := (vp_updL bS (ix 0) ((bS (ix 0)) ||| 0))) rfl rfl (ga_in (by decide)) dX3_place_122 (fun H_46 locs hP hD hS => ?_)
            have hP : va_P D ga_cl [(b, .inr (3, [.ref b_s, .ref b_a, .long (bB ||| (jlshl 1 x1)), .ref b_c, .ref b_g])), (b_s, .inl (cA 1, 2, .inr (.inl (vp_updL (vp_updL bS (ix 0) ((bS (ix 0)) ||| 0)) (ix 1) (((vp_updL bS (ix 0) ((bS (ix 0)) ||| 0)) (ix 1)) ||| (jlshl 1 x1))))))] H_46 := hP
            have hD : va_D A [(b, .inr (3, [.ref b_s, .ref b_a, .long (bB ||| (jlshl 1 x1)), .ref b_c, .ref b_g])), (b_s, .inl (cA 1, 2, .inr (.inl (vp_updL (vp_updL bS (ix 0) ((bS (ix 0)) ||| 0)) (ix 1) (((vp_updL bS (ix 0) ((bS (ix 0)) ||| 0)) (ix 1)) ||| (jlshl 1 x1))))))] := hD
            have hP9 := hP.sub (ws' := [(b, .inr (3, [.ref b_s, .ref b_a, .long (bB ||| (jlshl 1 x1)), .ref b_c, .ref b_g])), (b_s, .inl (cA 1, 2, .inr (.inl (vp_updL (vp_updL bS (ix 0) ((bS (ix 0)) ||| 0)) (ix 1) (((vp_updL bS (ix 0) ((bS (ix 0)) ||| 0)) (ix 1)) ||| (jlshl 1 x1))))))]) [0, 1] rfl
            have hD9 := hD.sub (ws' := [(b, .inr (3, [.ref b_s, .ref b_a, .long (bB ||| (jlshl 1 x1)), .ref b_c, .ref b_g])), (b_s, .inl (cA 1, 2, .inr (.inl (vp_updL (vp_updL bS (ix 0) ((bS (ix 0)) ||| 0)) (ix 1) (((vp_updL bS (ix 0) ((bS (ix 0)) ||| 0)) (ix 1)) ||| (jlshl 1 x1))))))]) [0, 1] (by decide) rfl
            obtain rfl := Option.some.inj h
            exact W.vret hx hb hr (fun t ht hW => ⟨⟨((bB ||| (jlshl 1 x1)), (vp_updL (vp_updL bS (ix 0) ((bS (ix 0)) ||| 0)) (ix 1) (((vp_updL bS (ix 0) ((bS (ix 0)) ||| 0)) (ix 1)) ||| (jlshl 1 x1)))), rfl, rfl, ⟨by rw [ht]; exact hP9, hK.warm hW, hD9⟩⟩, hS.F ht⟩) hS.2.2 dX3_place_123
        · replace h := ga_ift c_37 h
          refine lv_iload_n hx hb dX3_place_91 rfl (lv_at hl 1 rfl) ?_
          refine vp_callSl (va_Run.run (va_runSN (As := [.int x1]) (rest := [.long (bS (ix 0)), .int 0, .ref b_s]) ⟨hx, hb, hml, hown, hts⟩ (met_X1_bit l D cA N x1 (jlshl 1 x1) rfl) (⟨va_cnB 1 hts (lw_meth q186) rfl rfl rfl (hK.2.1 _ q822 rfl) (hts _ q67) (by decide +kernel) ⟨Nat.le_of_ble_eq_true rfl, Nat.le_of_ble_eq_true rfl⟩, hts _ q185, trivial⟩) (ga_PS hK ga_P0) rfl rfl hl.1 rfl (lv_room (Nat.le_of_ble_eq_true rfl)) dX3_place_92 ⟨Nat.le_of_ble_eq_true rfl, Nat.le_of_ble_eq_true rfl⟩)) (fun z_49 w_50 => ?_)
          obtain rfl := w_50
          refine lv_goto (tgt := 99) hx hb dX3_place_95 (by decide) ?_
          refine lv_lor hx hb dX3_place_99 ?_
          refine va_last hx hb hK.1 hP hD hS 1 1 (f := bS) rfl rfl (ga_in (by decide)) dX3_place_100 (fun H_52 locs hP hD hS => ?_)
          have hP : va_P D ga_cl [(b, .inr (3, [.ref b_s, .ref b_a, .long (bB ||| (jlshl 1 x1)), .ref b_c, .ref b_g])), (b_s, .inl (cA 1, 2, .inr (.inl (vp_updL bS (ix 0) ((bS (ix 0)) ||| (jlshl 1 x1))))))] H_52 := hP
          have hD : va_D A [(b, .inr (3, [.ref b_s, .ref b_a, .long (bB ||| (jlshl 1 x1)), .ref b_c, .ref b_g])), (b_s, .inl (cA 1, 2, .inr (.inl (vp_updL bS (ix 0) ((bS (ix 0)) ||| (jlshl 1 x1))))))] := hD
          refine lv_aload_n hx hb dX3_place_101 rfl (lv_at hl 0 rfl) ?_
          refine va_get hx hb hts in_X3 hown hK.1 hP 0 (fs := [.ref b_s, .ref b_a, .long (bB ||| (jlshl 1 x1)), .ref b_c, .ref b_g]) rfl rfl 0 (by decide) (hts _ q154) (fun _ hh => hh) (v := .ref b_s) rfl dX3_place_102 ?_
          refine lv_iconst (v := 1) hx hb dX3_place_105 (by decide) ?_
          refine lv_dup2_11 hx hb dX3_place_106 rfl rfl ?_
          refine va_lald hx hb hK.1 hP 1 1 (f := (vp_updL bS (ix 0) ((bS (ix 0)) ||| (jlshl 1 x1)))) rfl rfl (ga_in (by decide)) dX3_place_107 ?_
          refine lv_iload_n hx hb dX3_place_108 rfl (lv_at hl 3 rfl) ?_
          refine lv_iconst (v := 2) hx hb dX3_place_109 (by decide) ?_
          refine lv_icmp_ne (tgt := 120) hx hb dX3_place_110 (by decide) (fun c_53 => ?_) (fun c_53 => ?_)
          · replace h := ga_iff c_53 h
            refine lv_lconst (v := 0) hx hb dX3_place_120 (by decide) ?_
            refine lv_lor hx hb dX3_place_121 ?_
            refine va_last hx hb hK.1 hP hD hS 1 1 (f := (vp_updL bS (ix 0) ((bS (ix 0)) ||| (jlshl 1 x1)))) rfl rfl (ga_in (by decide)) dX3_place_122 (fun H_54 locs hP hD hS => ?_)
            have hP : va_P D ga_cl [(b, .inr (3, [.ref b_s, .ref b_a, .long (bB ||| (jlshl 1 x1)), .ref b_c, .ref b_g])), (b_s, .inl (cA 1, 2, .inr (.inl (vp_updL (vp_updL bS (ix 0) ((bS (ix 0)) ||| (jlshl 1 x1))) (ix 1) (((vp_updL bS (ix 0) ((bS (ix 0)) ||| (jlshl 1 x1))) (ix 1)) ||| 0)))))] H_54 := hP
            have hD : va_D A [(b, .inr (3, [.ref b_s, .ref b_a, .long (bB ||| (jlshl 1 x1)), .ref b_c, .ref b_g])), (b_s, .inl (cA 1, 2, .inr (.inl (vp_updL (vp_updL bS (ix 0) ((bS (ix 0)) ||| (jlshl 1 x1))) (ix 1) (((vp_updL bS (ix 0) ((bS (ix 0)) ||| (jlshl 1 x1))) (ix 1)) ||| 0)))))] := hD
            have hP9 := hP.sub (ws' := [(b, .inr (3, [.ref b_s, .ref b_a, .long (bB ||| (jlshl 1 x1)), .ref b_c, .ref b_g])), (b_s, .inl (cA 1, 2, .inr (.inl (vp_updL (vp_updL bS (ix 0) ((bS (ix 0)) ||| (jlshl 1 x1))) (ix 1) (((vp_updL bS (ix 0) ((bS (ix 0)) ||| (jlshl 1 x1))) (ix 1)) ||| 0)))))]) [0, 1] rfl
            have hD9 := hD.sub (ws' := [(b, .inr (3, [.ref b_s, .ref b_a, .long (bB ||| (jlshl 1 x1)), .ref b_c, .ref b_g])), (b_s, .inl (cA 1, 2, .inr (.inl (vp_updL (vp_updL bS (ix 0) ((bS (ix 0)) ||| (jlshl 1 x1))) (ix 1) (((vp_updL bS (ix 0) ((bS (ix 0)) ||| (jlshl 1 x1))) (ix 1)) ||| 0)))))]) [0, 1] (by decide) rfl
            obtain rfl := Option.some.inj h
            exact W.vret hx hb hr (fun t ht hW => ⟨⟨((bB ||| (jlshl 1 x1)), (vp_updL (vp_updL bS (ix 0) ((bS (ix 0)) ||| (jlshl 1 x1))) (ix 1) (((vp_updL bS (ix 0) ((bS (ix 0)) ||| (jlshl 1 x1))) (ix 1)) ||| 0))), rfl, rfl, ⟨by rw [ht]; exact hP9, hK.warm hW, hD9⟩⟩, hS.F ht⟩) hS.2.2 dX3_place_123
          · replace h := ga_ift c_53 h
            refine lv_iload_n hx hb dX3_place_113 rfl (lv_at hl 1 rfl) ?_
            refine vp_callSl (va_Run.run (va_runSN (As := [.int x1]) (rest := [.long ((vp_updL bS (ix 0) ((bS (ix 0)) ||| (jlshl 1 x1))) (ix 1)), .int 1, .ref b_s]) ⟨hx, hb, hml, hown, hts⟩ (met_X1_bit l D cA N x1 (jlshl 1 x1) rfl) (⟨va_cnB 1 hts (lw_meth q186) rfl rfl rfl (hK.2.1 _ q822 rfl) (hts _ q67) (by decide +kernel) ⟨Nat.le_of_ble_eq_true rfl, Nat.le_of_ble_eq_true rfl⟩, hts _ q185, trivial⟩) (ga_PS hK ga_P0) rfl rfl hl.1 rfl (lv_room (Nat.le_of_ble_eq_true rfl)) dX3_place_114 ⟨Nat.le_of_ble_eq_true rfl, Nat.le_of_ble_eq_true rfl⟩)) (fun z_57 w_58 => ?_)
            obtain rfl := w_58
            refine lv_goto (tgt := 121) hx hb dX3_place_117 (by decide) ?_
            refine lv_lor hx hb dX3_place_121 ?_
            refine va_last hx hb hK.1 hP hD hS 1 1 (f := (vp_updL bS (ix 0) ((bS (ix 0)) ||| (jlshl 1 x1)))) rfl rfl (ga_in (by decide)) dX3_place_122 (fun H_60 locs hP hD hS => ?_)
            have hP : va_P D ga_cl [(b, .inr (3, [.ref b_s, .ref b_a, .long (bB ||| (jlshl 1 x1)), .ref b_c, .ref b_g])), (b_s, .inl (cA 1, 2, .inr (.inl (vp_updL (vp_updL bS (ix 0) ((bS (ix 0)) ||| (jlshl 1 x1))) (ix 1) (((vp_updL bS (ix 0) ((bS (ix 0)) ||| (jlshl 1 x1))) (ix 1)) ||| (jlshl 1 x1))))))] H_60 := hP
            have hD : va_D A [(b, .inr (3, [.ref b_s, .ref b_a, .long (bB ||| (jlshl 1 x1)), .ref b_c, .ref b_g])), (b_s, .inl (cA 1, 2, .inr (.inl (vp_updL (vp_updL bS (ix 0) ((bS (ix 0)) ||| (jlshl 1 x1))) (ix 1) (((vp_updL bS (ix 0) ((bS (ix 0)) ||| (jlshl 1 x1))) (ix 1)) ||| (jlshl 1 x1))))))] := hD
            have hP9 := hP.sub (ws' := [(b, .inr (3, [.ref b_s, .ref b_a, .long (bB ||| (jlshl 1 x1)), .ref b_c, .ref b_g])), (b_s, .inl (cA 1, 2, .inr (.inl (vp_updL (vp_updL bS (ix 0) ((bS (ix 0)) ||| (jlshl 1 x1))) (ix 1) (((vp_updL bS (ix 0) ((bS (ix 0)) ||| (jlshl 1 x1))) (ix 1)) ||| (jlshl 1 x1))))))]) [0, 1] rfl
            have hD9 := hD.sub (ws' := [(b, .inr (3, [.ref b_s, .ref b_a, .long (bB ||| (jlshl 1 x1)), .ref b_c, .ref b_g])), (b_s, .inl (cA 1, 2, .inr (.inl (vp_updL (vp_updL bS (ix 0) ((bS (ix 0)) ||| (jlshl 1 x1))) (ix 1) (((vp_updL bS (ix 0) ((bS (ix 0)) ||| (jlshl 1 x1))) (ix 1)) ||| (jlshl 1 x1))))))]) [0, 1] (by decide) rfl
            obtain rfl := Option.some.inj h
            exact W.vret hx hb hr (fun t ht hW => ⟨⟨((bB ||| (jlshl 1 x1)), (vp_updL (vp_updL bS (ix 0) ((bS (ix 0)) ||| (jlshl 1 x1))) (ix 1) (((vp_updL bS (ix 0) ((bS (ix 0)) ||| (jlshl 1 x1))) (ix 1)) ||| (jlshl 1 x1)))), rfl, rfl, ⟨by rw [ht]; exact hP9, hK.warm hW, hD9⟩⟩, hS.F ht⟩) hS.2.2 dX3_place_123
  · replace h := ga_iff c_1 h
    refine lv_aload_n hx hb dX3_place_5 rfl (lv_at hl 0 rfl) ?_
    refine va_get hx hb hts in_X3 hown hK.1 hP 0 (fs := [.ref b_s, .ref b_a, .long bB, .ref b_c, .ref b_g]) rfl rfl 0 (by decide) (hts _ q154) (fun _ hh => hh) (v := .ref b_s) rfl dX3_place_6 ?_
    refine lv_iconst (v := 0) hx hb dX3_place_9 (by decide) ?_
    refine lv_dup2_11 hx hb dX3_place_10 rfl rfl ?_
    refine va_lald hx hb hK.1 hP 1 1 (f := bS) rfl rfl (ga_in (by decide)) dX3_place_11 ?_
    refine lv_iload_n hx hb dX3_place_12 rfl (lv_at hl 1 rfl) ?_
    refine lv_iconst (v := (-1)) hx hb dX3_place_13 (by decide) ?_
    refine lv_icmp_ne (tgt := 21) hx hb dX3_place_14 (by decide) (fun c_61 => ?_) (fun c_61 => ?_)
    · replace h := ga_iff c_61 h
      refine lv_iload_n hx hb dX3_place_21 rfl (lv_at hl 1 rfl) ?_
      refine vp_callSl (va_Run.run (va_runSN (As := [.int x1]) (rest := [.long (bS (ix 0)), .int 0, .ref b_s]) ⟨hx, hb, hml, hown, hts⟩ (met_X1_bit l D cA N x1 (jlshl 1 x1) rfl) (⟨va_cnB 1 hts (lw_meth q186) rfl rfl rfl (hK.2.1 _ q822 rfl) (hts _ q67) (by decide +kernel) ⟨Nat.le_of_ble_eq_true rfl, Nat.le_of_ble_eq_true rfl⟩, hts _ q185, trivial⟩) (ga_PS hK ga_P0) rfl rfl hl.1 rfl (lv_room (Nat.le_of_ble_eq_true rfl)) dX3_place_22 ⟨Nat.le_of_ble_eq_true rfl, Nat.le_of_ble_eq_true rfl⟩)) (fun z_64 w_65 => ?_)
      obtain rfl := w_65
      refine lv_lor hx hb dX3_place_25 ?_
      refine va_last hx hb hK.1 hP hD hS 1 1 (f := bS) rfl rfl (ga_in (by decide)) dX3_place_26 (fun H_67 locs hP hD hS => ?_)
      have hP : va_P D ga_cl [(b, .inr (3, [.ref b_s, .ref b_a, .long bB, .ref b_c, .ref b_g])), (b_s, .inl (cA 1, 2, .inr (.inl (vp_updL bS (ix 0) ((bS (ix 0)) ||| (jlshl 1 x1))))))] H_67 := hP
      have hD : va_D A [(b, .inr (3, [.ref b_s, .ref b_a, .long bB, .ref b_c, .ref b_g])), (b_s, .inl (cA 1, 2, .inr (.inl (vp_updL bS (ix 0) ((bS (ix 0)) ||| (jlshl 1 x1))))))] := hD
      refine lv_aload_n hx hb dX3_place_27 rfl (lv_at hl 0 rfl) ?_
      refine va_get hx hb hts in_X3 hown hK.1 hP 0 (fs := [.ref b_s, .ref b_a, .long bB, .ref b_c, .ref b_g]) rfl rfl 0 (by decide) (hts _ q154) (fun _ hh => hh) (v := .ref b_s) rfl dX3_place_28 ?_
      refine lv_iconst (v := 1) hx hb dX3_place_31 (by decide) ?_
      refine lv_dup2_11 hx hb dX3_place_32 rfl rfl ?_
      refine va_lald hx hb hK.1 hP 1 1 (f := (vp_updL bS (ix 0) ((bS (ix 0)) ||| (jlshl 1 x1)))) rfl rfl (ga_in (by decide)) dX3_place_33 ?_
      refine lv_iload_n hx hb dX3_place_34 rfl (lv_at hl 2 rfl) ?_
      refine lv_iconst (v := (-1)) hx hb dX3_place_35 (by decide) ?_
      refine lv_icmp_ne (tgt := 43) hx hb dX3_place_36 (by decide) (fun c_68 => ?_) (fun c_68 => ?_)
      · replace h := ga_iff c_68 h
        refine lv_iload_n hx hb dX3_place_43 rfl (lv_at hl 2 rfl) ?_
        refine vp_callSl (va_Run.run (va_runSN (As := [.int x2]) (rest := [.long ((vp_updL bS (ix 0) ((bS (ix 0)) ||| (jlshl 1 x1))) (ix 1)), .int 1, .ref b_s]) ⟨hx, hb, hml, hown, hts⟩ (met_X1_bit l D cA N x2 (jlshl 1 x2) rfl) (⟨va_cnB 1 hts (lw_meth q186) rfl rfl rfl (hK.2.1 _ q822 rfl) (hts _ q67) (by decide +kernel) ⟨Nat.le_of_ble_eq_true rfl, Nat.le_of_ble_eq_true rfl⟩, hts _ q185, trivial⟩) (ga_PS hK ga_P0) rfl rfl hl.1 rfl (lv_room (Nat.le_of_ble_eq_true rfl)) dX3_place_44 ⟨Nat.le_of_ble_eq_true rfl, Nat.le_of_ble_eq_true rfl⟩)) (fun z_71 w_72 => ?_)
        obtain rfl := w_72
        refine lv_lor hx hb dX3_place_47 ?_
        refine va_last hx hb hK.1 hP hD hS 1 1 (f := (vp_updL bS (ix 0) ((bS (ix 0)) ||| (jlshl 1 x1)))) rfl rfl (ga_in (by decide)) dX3_place_48 (fun H_74 locs hP hD hS => ?_)
        have hP : va_P D ga_cl [(b, .inr (3, [.ref b_s, .ref b_a, .long bB, .ref b_c, .ref b_g])), (b_s, .inl (cA 1, 2, .inr (.inl (vp_updL (vp_updL bS (ix 0) ((bS (ix 0)) ||| (jlshl 1 x1))) (ix 1) (((vp_updL bS (ix 0) ((bS (ix 0)) ||| (jlshl 1 x1))) (ix 1)) ||| (jlshl 1 x2))))))] H_74 := hP
        have hD : va_D A [(b, .inr (3, [.ref b_s, .ref b_a, .long bB, .ref b_c, .ref b_g])), (b_s, .inl (cA 1, 2, .inr (.inl (vp_updL (vp_updL bS (ix 0) ((bS (ix 0)) ||| (jlshl 1 x1))) (ix 1) (((vp_updL bS (ix 0) ((bS (ix 0)) ||| (jlshl 1 x1))) (ix 1)) ||| (jlshl 1 x2))))))] := hD
        refine lv_goto (tgt := 123) hx hb dX3_place_49 (by decide) ?_
        have hP9 := hP.sub (ws' := [(b, .inr (3, [.ref b_s, .ref b_a, .long bB, .ref b_c, .ref b_g])), (b_s, .inl (cA 1, 2, .inr (.inl (vp_updL (vp_updL bS (ix 0) ((bS (ix 0)) ||| (jlshl 1 x1))) (ix 1) (((vp_updL bS (ix 0) ((bS (ix 0)) ||| (jlshl 1 x1))) (ix 1)) ||| (jlshl 1 x2))))))]) [0, 1] rfl
        have hD9 := hD.sub (ws' := [(b, .inr (3, [.ref b_s, .ref b_a, .long bB, .ref b_c, .ref b_g])), (b_s, .inl (cA 1, 2, .inr (.inl (vp_updL (vp_updL bS (ix 0) ((bS (ix 0)) ||| (jlshl 1 x1))) (ix 1) (((vp_updL bS (ix 0) ((bS (ix 0)) ||| (jlshl 1 x1))) (ix 1)) ||| (jlshl 1 x2))))))]) [0, 1] (by decide) rfl
        obtain rfl := Option.some.inj h
        exact W.vret hx hb hr (fun t ht hW => ⟨⟨(bB, (vp_updL (vp_updL bS (ix 0) ((bS (ix 0)) ||| (jlshl 1 x1))) (ix 1) (((vp_updL bS (ix 0) ((bS (ix 0)) ||| (jlshl 1 x1))) (ix 1)) ||| (jlshl 1 x2)))), rfl, rfl, ⟨by rw [ht]; exact hP9, hK.warm hW, hD9⟩⟩, hS.F ht⟩) hS.2.2 dX3_place_123
      · replace h := ga_ift c_68 h
        refine lv_lconst (v := 0) hx hb dX3_place_39 (by decide) ?_
        refine lv_goto (tgt := 47) hx hb dX3_place_40 (by decide) ?_
        refine lv_lor hx hb dX3_place_47 ?_
        refine va_last hx hb hK.1 hP hD hS 1 1 (f := (vp_updL bS (ix 0) ((bS (ix 0)) ||| (jlshl 1 x1)))) rfl rfl (ga_in (by decide)) dX3_place_48 (fun H_75 locs hP hD hS => ?_)
        have hP : va_P D ga_cl [(b, .inr (3, [.ref b_s, .ref b_a, .long bB, .ref b_c, .ref b_g])), (b_s, .inl (cA 1, 2, .inr (.inl (vp_updL (vp_updL bS (ix 0) ((bS (ix 0)) ||| (jlshl 1 x1))) (ix 1) (((vp_updL bS (ix 0) ((bS (ix 0)) ||| (jlshl 1 x1))) (ix 1)) ||| 0)))))] H_75 := hP
        have hD : va_D A [(b, .inr (3, [.ref b_s, .ref b_a, .long bB, .ref b_c, .ref b_g])), (b_s, .inl (cA 1, 2, .inr (.inl (vp_updL (vp_updL bS (ix 0) ((bS (ix 0)) ||| (jlshl 1 x1))) (ix 1) (((vp_updL bS (ix 0) ((bS (ix 0)) ||| (jlshl 1 x1))) (ix 1)) ||| 0)))))] := hD
        refine lv_goto (tgt := 123) hx hb dX3_place_49 (by decide) ?_
        have hP9 := hP.sub (ws' := [(b, .inr (3, [.ref b_s, .ref b_a, .long bB, .ref b_c, .ref b_g])), (b_s, .inl (cA 1, 2, .inr (.inl (vp_updL (vp_updL bS (ix 0) ((bS (ix 0)) ||| (jlshl 1 x1))) (ix 1) (((vp_updL bS (ix 0) ((bS (ix 0)) ||| (jlshl 1 x1))) (ix 1)) ||| 0)))))]) [0, 1] rfl
        have hD9 := hD.sub (ws' := [(b, .inr (3, [.ref b_s, .ref b_a, .long bB, .ref b_c, .ref b_g])), (b_s, .inl (cA 1, 2, .inr (.inl (vp_updL (vp_updL bS (ix 0) ((bS (ix 0)) ||| (jlshl 1 x1))) (ix 1) (((vp_updL bS (ix 0) ((bS (ix 0)) ||| (jlshl 1 x1))) (ix 1)) ||| 0)))))]) [0, 1] (by decide) rfl
        obtain rfl := Option.some.inj h
        exact W.vret hx hb hr (fun t ht hW => ⟨⟨(bB, (vp_updL (vp_updL bS (ix 0) ((bS (ix 0)) ||| (jlshl 1 x1))) (ix 1) (((vp_updL bS (ix 0) ((bS (ix 0)) ||| (jlshl 1 x1))) (ix 1)) ||| 0))), rfl, rfl, ⟨by rw [ht]; exact hP9, hK.warm hW, hD9⟩⟩, hS.F ht⟩) hS.2.2 dX3_place_123
    · replace h := ga_ift c_61 h
      refine lv_lconst (v := 0) hx hb dX3_place_17 (by decide) ?_
      refine lv_goto (tgt := 25) hx hb dX3_place_18 (by decide) ?_
      refine lv_lor hx hb dX3_place_25 ?_
      refine va_last hx hb hK.1 hP hD hS 1 1 (f := bS) rfl rfl (ga_in (by decide)) dX3_place_26 (fun H_76 locs hP hD hS => ?_)
      have hP : va_P D ga_cl [(b, .inr (3, [.ref b_s, .ref b_a, .long bB, .ref b_c, .ref b_g])), (b_s, .inl (cA 1, 2, .inr (.inl (vp_updL bS (ix 0) ((bS (ix 0)) ||| 0)))))] H_76 := hP
      have hD : va_D A [(b, .inr (3, [.ref b_s, .ref b_a, .long bB, .ref b_c, .ref b_g])), (b_s, .inl (cA 1, 2, .inr (.inl (vp_updL bS (ix 0) ((bS (ix 0)) ||| 0)))))] := hD
      refine lv_aload_n hx hb dX3_place_27 rfl (lv_at hl 0 rfl) ?_
      refine va_get hx hb hts in_X3 hown hK.1 hP 0 (fs := [.ref b_s, .ref b_a, .long bB, .ref b_c, .ref b_g]) rfl rfl 0 (by decide) (hts _ q154) (fun _ hh => hh) (v := .ref b_s) rfl dX3_place_28 ?_
      refine lv_iconst (v := 1) hx hb dX3_place_31 (by decide) ?_
      refine lv_dup2_11 hx hb dX3_place_32 rfl rfl ?_
      refine va_lald hx hb hK.1 hP 1 1 (f := (vp_updL bS (ix 0) ((bS (ix 0)) ||| 0))) rfl rfl (ga_in (by decide)) dX3_place_33 ?_
      refine lv_iload_n hx hb dX3_place_34 rfl (lv_at hl 2 rfl) ?_
      refine lv_iconst (v := (-1)) hx hb dX3_place_35 (by decide) ?_
      refine lv_icmp_ne (tgt := 43) hx hb dX3_place_36 (by decide) (fun c_77 => ?_) (fun c_77 => ?_)
      · replace h := ga_iff c_77 h
        refine lv_iload_n hx hb dX3_place_43 rfl (lv_at hl 2 rfl) ?_
        refine vp_callSl (va_Run.run (va_runSN (As := [.int x2]) (rest := [.long ((vp_updL bS (ix 0) ((bS (ix 0)) ||| 0)) (ix 1)), .int 1, .ref b_s]) ⟨hx, hb, hml, hown, hts⟩ (met_X1_bit l D cA N x2 (jlshl 1 x2) rfl) (⟨va_cnB 1 hts (lw_meth q186) rfl rfl rfl (hK.2.1 _ q822 rfl) (hts _ q67) (by decide +kernel) ⟨Nat.le_of_ble_eq_true rfl, Nat.le_of_ble_eq_true rfl⟩, hts _ q185, trivial⟩) (ga_PS hK ga_P0) rfl rfl hl.1 rfl (lv_room (Nat.le_of_ble_eq_true rfl)) dX3_place_44 ⟨Nat.le_of_ble_eq_true rfl, Nat.le_of_ble_eq_true rfl⟩)) (fun z_80 w_81 => ?_)
        obtain rfl := w_81
        refine lv_lor hx hb dX3_place_47 ?_
        refine va_last hx hb hK.1 hP hD hS 1 1 (f := (vp_updL bS (ix 0) ((bS (ix 0)) ||| 0))) rfl rfl (ga_in (by decide)) dX3_place_48 (fun H_83 locs hP hD hS => ?_)
        have hP : va_P D ga_cl [(b, .inr (3, [.ref b_s, .ref b_a, .long bB, .ref b_c, .ref b_g])), (b_s, .inl (cA 1, 2, .inr (.inl (vp_updL (vp_updL bS (ix 0) ((bS (ix 0)) ||| 0)) (ix 1) (((vp_updL bS (ix 0) ((bS (ix 0)) ||| 0)) (ix 1)) ||| (jlshl 1 x2))))))] H_83 := hP
        have hD : va_D A [(b, .inr (3, [.ref b_s, .ref b_a, .long bB, .ref b_c, .ref b_g])), (b_s, .inl (cA 1, 2, .inr (.inl (vp_updL (vp_updL bS (ix 0) ((bS (ix 0)) ||| 0)) (ix 1) (((vp_updL bS (ix 0) ((bS (ix 0)) ||| 0)) (ix 1)) ||| (jlshl 1 x2))))))] := hD
        refine lv_goto (tgt := 123) hx hb dX3_place_49 (by decide) ?_
        have hP9 := hP.sub (ws' := [(b, .inr (3, [.ref b_s, .ref b_a, .long bB, .ref b_c, .ref b_g])), (b_s, .inl (cA 1, 2, .inr (.inl (vp_updL (vp_updL bS (ix 0) ((bS (ix 0)) ||| 0)) (ix 1) (((vp_updL bS (ix 0) ((bS (ix 0)) ||| 0)) (ix 1)) ||| (jlshl 1 x2))))))]) [0, 1] rfl
        have hD9 := hD.sub (ws' := [(b, .inr (3, [.ref b_s, .ref b_a, .long bB, .ref b_c, .ref b_g])), (b_s, .inl (cA 1, 2, .inr (.inl (vp_updL (vp_updL bS (ix 0) ((bS (ix 0)) ||| 0)) (ix 1) (((vp_updL bS (ix 0) ((bS (ix 0)) ||| 0)) (ix 1)) ||| (jlshl 1 x2))))))]) [0, 1] (by decide) rfl
        obtain rfl := Option.some.inj h
        exact W.vret hx hb hr (fun t ht hW => ⟨⟨(bB, (vp_updL (vp_updL bS (ix 0) ((bS (ix 0)) ||| 0)) (ix 1) (((vp_updL bS (ix 0) ((bS (ix 0)) ||| 0)) (ix 1)) ||| (jlshl 1 x2)))), rfl, rfl, ⟨by rw [ht]; exact hP9, hK.warm hW, hD9⟩⟩, hS.F ht⟩) hS.2.2 dX3_place_123
      · replace h := ga_ift c_77 h
        refine lv_lconst (v := 0) hx hb dX3_place_39 (by decide) ?_
        refine lv_goto (tgt := 47) hx hb dX3_place_40 (by decide) ?_
        refine lv_lor hx hb dX3_place_47 ?_
        refine va_last hx hb hK.1 hP hD hS 1 1 (f := (vp_updL bS (ix 0) ((bS (ix 0)) ||| 0))) rfl rfl (ga_in (by decide)) dX3_place_48 (fun H_84 locs hP hD hS => ?_)
        have hP : va_P D ga_cl [(b, .inr (3, [.ref b_s, .ref b_a, .long bB, .ref b_c, .ref b_g])), (b_s, .inl (cA 1, 2, .inr (.inl (vp_updL (vp_updL bS (ix 0) ((bS (ix 0)) ||| 0)) (ix 1) (((vp_updL bS (ix 0) ((bS (ix 0)) ||| 0)) (ix 1)) ||| 0)))))] H_84 := hP
        have hD : va_D A [(b, .inr (3, [.ref b_s, .ref b_a, .long bB, .ref b_c, .ref b_g])), (b_s, .inl (cA 1, 2, .inr (.inl (vp_updL (vp_updL bS (ix 0) ((bS (ix 0)) ||| 0)) (ix 1) (((vp_updL bS (ix 0) ((bS (ix 0)) ||| 0)) (ix 1)) ||| 0)))))] := hD
        refine lv_goto (tgt := 123) hx hb dX3_place_49 (by decide) ?_
        have hP9 := hP.sub (ws' := [(b, .inr (3, [.ref b_s, .ref b_a, .long bB, .ref b_c, .ref b_g])), (b_s, .inl (cA 1, 2, .inr (.inl (vp_updL (vp_updL bS (ix 0) ((bS (ix 0)) ||| 0)) (ix 1) (((vp_updL bS (ix 0) ((bS (ix 0)) ||| 0)) (ix 1)) ||| 0)))))]) [0, 1] rfl
        have hD9 := hD.sub (ws' := [(b, .inr (3, [.ref b_s, .ref b_a, .long bB, .ref b_c, .ref b_g])), (b_s, .inl (cA 1, 2, .inr (.inl (vp_updL (vp_updL bS (ix 0) ((bS (ix 0)) ||| 0)) (ix 1) (((vp_updL bS (ix 0) ((bS (ix 0)) ||| 0)) (ix 1)) ||| 0)))))]) [0, 1] (by decide) rfl
        obtain rfl := Option.some.inj h
        exact W.vret hx hb hr (fun t ht hW => ⟨⟨(bB, (vp_updL (vp_updL bS (ix 0) ((bS (ix 0)) ||| 0)) (ix 1) (((vp_updL bS (ix 0) ((bS (ix 0)) ||| 0)) (ix 1)) ||| 0))), rfl, rfl, ⟨by rw [ht]; exact hP9, hK.warm hW, hD9⟩⟩, hS.F ht⟩) hS.2.2 dX3_place_123
abbrev rm_X3_init : Room := { frames := 1, cells := 4, slots := 8, locals := 12 }
def F_X3_init (N : Nat)   : Option (Int64 × (Nat → Int64) × (Nat → Int64) × (Nat → Int32) × (Nat → Int64)) :=
  some (0, (fun _ => 0), (fun _ => 0), (fun _ => 0), (fun _ => 0))
set_option maxHeartbeats 4000000 in
theorem met_X3_init (l : Launch) (D : va_G) (cA : Nat → ClassId) (A : Nat → Prop) (b : Nat)  (N : Nat)   (out : Int64 × (Nat → Int64) × (Nat → Int64) × (Nat → Int32) × (Nat → Int64)) (h : F_X3_init N = some out) : Met l yX3_init (ws_ yX3_init cX3_init 1 none) rm_X3_init (ga_L D cA A [(b, .inr (3, [.null, .null, .long 0, .null, .null]))] [.ref b]) (va_Qv (fun (u : (Int64 × (Nat → Int64) × (Nat → Int64) × (Nat → Int32) × (Nat → Int64)) × (Nat → Nat)) => out = u.1) (fun (u : (Int64 × (Nat → Int64) × (Nat → Int64) × (Nat → Int32) × (Nat → Int64)) × (Nat → Nat)) (t : State) => va_P D ga_cl [(b, .inr (3, [.ref (u.2 0), .ref (u.2 1), .long u.1.1, .ref (u.2 2), .ref (u.2 3)])), ((u.2 0), .inl (cA 1, 2, .inr (.inl u.1.2.1))), ((u.2 1), .inl (cA 1, 2, .inr (.inl u.1.2.2.1))), ((u.2 2), .inl (cA 0, 2, .inl u.1.2.2.2.1)), ((u.2 3), .inl (cA 1, 2, .inr (.inl u.1.2.2.2.2)))] t.heap ∧ ga_K D cA t ∧ va_D A [(b, .inr (3, [.ref (u.2 0), .ref (u.2 1), .long u.1.1, .ref (u.2 2), .ref (u.2 3)])), ((u.2 0), .inl (cA 1, 2, .inr (.inl u.1.2.1))), ((u.2 1), .inl (cA 1, 2, .inr (.inl u.1.2.2.1))), ((u.2 2), .inl (cA 0, 2, .inl u.1.2.2.2.1)), ((u.2 3), .inl (cA 1, 2, .inr (.inl u.1.2.2.2.2)))]) A) 4 8 A := by
  refine Met.ofW (cc := cX3_init) (maxL := 1) (ret := none) (by decide) rfl ?_
  intro p e s m args below meth c s₁ B hml hv
  obtain ⟨rfl, hP, hK, hD, hA⟩ := hv
  have hS : va_S A s.heap s.heap [] := va_S.rf
  have hin : meth.name = "<init>" := (name_of_methodNamed B.named B.method).1
  have C : ga_cx p m c meth s _ RX3 cX3_init 1 none := ga_cx_of B hml
  have C0 := C
  obtain ⟨hx, hb, hr, hlocks, hml, hown, hts⟩ := C0
  have hl := lv_entry ([.ref b]) (n := 1) (Nat.le_of_ble_eq_true rfl)
  rw [lg_entry_eq]
  generalize (lg_sl ([.ref b]) ++ List.replicate (1 - (lg_sl ([.ref b])).length) Slot.unset).toArray = ls at hl ⊢
  have hl : lv_has ls 1 [(0, .ref b)] := hl
  rw [F_X3_init] at h
  refine lv_aload_n hx hb dX3_init_0 rfl (lv_at hl 0 rfl) ?_
  refine W.objInit hx hb hown (hts _ q153) (hts _ q113) (hts _ q114) rfl (by rw [hml]; exact hl.1) rfl dX3_init_1 (Nat.le_of_ble_eq_true rfl) (Nat.le_of_ble_eq_true rfl) ?_
  refine W.eq (g2 := F0 m 4 ls []) rfl ?_
  refine lv_aload_n hx hb dX3_init_4 rfl (lv_at hl 0 rfl) ?_
  refine lv_iconst (v := 2) hx hb dX3_init_5 (by decide) ?_
  refine va_newa (atype := .long) (a0 := (2, .inr (.inl (fun _ => 0)))) hx hb (hts _ q177) rfl hK.1 hP hD hS hA (fun _ => rfl) (by decide) rfl (Nat.le_of_ble_eq_true rfl) (Nat.le_of_ble_eq_true rfl) (Nat.le_of_ble_eq_true rfl) dX3_init_6 (fun q_1 k_3 H_2 hK9 hP hD hS => ?_)
  obtain rfl := ga_tyqJ hK9
  have hP : va_P D ga_cl [(b, .inr (3, [.null, .null, .long 0, .null, .null])), (q_1, .inl (cA 1, 2, .inr (.inl (fun _ => 0))))] H_2 := hP
  have hD : va_D A [(b, .inr (3, [.null, .null, .long 0, .null, .null])), (q_1, .inl (cA 1, 2, .inr (.inl (fun _ => 0))))] := hD
  refine W.cs (cells' := 1) (slots' := 2) rfl rfl ?_
  refine va_putF hx hb hts in_X3 tyX3 tyX3_ok nmX3 hown hK.1 hP hD hS 0 (fs := [.null, .null, .long 0, .null, .null]) rfl rfl 0 (by decide) (hts _ q154) (fun _ hh => hh) rfl hin rfl (v := .ref q_1) rfl rfl rfl (show 0 < 5 by decide) dX3_init_8 (fun H_4 locs hP hD hS => ?_)
  have hP : va_P D ga_cl [(b, .inr (3, [.ref q_1, .null, .long 0, .null, .null])), (q_1, .inl (cA 1, 2, .inr (.inl (fun _ => 0))))] H_4 := hP
  have hD : va_D A [(b, .inr (3, [.ref q_1, .null, .long 0, .null, .null])), (q_1, .inl (cA 1, 2, .inr (.inl (fun _ => 0))))] := hD
  refine lv_aload_n hx hb dX3_init_11 rfl (lv_at hl 0 rfl) ?_
  refine lv_iconst (v := 2) hx hb dX3_init_12 (by decide) ?_
  refine va_newa (atype := .long) (a0 := (2, .inr (.inl (fun _ => 0)))) hx hb (hts _ q177) rfl hK.1 hP hD hS hA (fun _ => rfl) (by decide) rfl (Nat.le_of_ble_eq_true rfl) (Nat.le_of_ble_eq_true rfl) (Nat.le_of_ble_eq_true rfl) dX3_init_13 (fun q_6 k_8 H_7 hK9 hP hD hS => ?_)
  obtain rfl := ga_tyqJ hK9
  have hP : va_P D ga_cl [(b, .inr (3, [.ref q_1, .null, .long 0, .null, .null])), (q_1, .inl (cA 1, 2, .inr (.inl (fun _ => 0)))), (q_6, .inl (cA 1, 2, .inr (.inl (fun _ => 0))))] H_7 := hP
  have hD : va_D A [(b, .inr (3, [.ref q_1, .null, .long 0, .null, .null])), (q_1, .inl (cA 1, 2, .inr (.inl (fun _ => 0)))), (q_6, .inl (cA 1, 2, .inr (.inl (fun _ => 0))))] := hD
  refine W.cs (cells' := 2) (slots' := 4) rfl rfl ?_
  refine va_putF hx hb hts in_X3 tyX3 tyX3_ok nmX3 hown hK.1 hP hD hS 0 (fs := [.ref q_1, .null, .long 0, .null, .null]) rfl rfl 1 (by decide) (hts _ q157) (fun _ hh => hh) rfl hin rfl (v := .ref q_6) rfl rfl rfl (show 1 < 5 by decide) dX3_init_15 (fun H_9 locs hP hD hS => ?_)
  have hP : va_P D ga_cl [(b, .inr (3, [.ref q_1, .ref q_6, .long 0, .null, .null])), (q_1, .inl (cA 1, 2, .inr (.inl (fun _ => 0)))), (q_6, .inl (cA 1, 2, .inr (.inl (fun _ => 0))))] H_9 := hP
  have hD : va_D A [(b, .inr (3, [.ref q_1, .ref q_6, .long 0, .null, .null])), (q_1, .inl (cA 1, 2, .inr (.inl (fun _ => 0)))), (q_6, .inl (cA 1, 2, .inr (.inl (fun _ => 0))))] := hD
  refine lv_aload_n hx hb dX3_init_18 rfl (lv_at hl 0 rfl) ?_
  refine lv_iconst (v := 2) hx hb dX3_init_19 (by decide) ?_
  refine va_newa (atype := .int) (a0 := (2, .inl (fun _ => 0))) hx hb (hts _ q176) rfl hK.1 hP hD hS hA (fun _ => rfl) (by decide) rfl (Nat.le_of_ble_eq_true rfl) (Nat.le_of_ble_eq_true rfl) (Nat.le_of_ble_eq_true rfl) dX3_init_20 (fun q_11 k_13 H_12 hK9 hP hD hS => ?_)
  obtain rfl := ga_tyqI hK9
  have hP : va_P D ga_cl [(b, .inr (3, [.ref q_1, .ref q_6, .long 0, .null, .null])), (q_1, .inl (cA 1, 2, .inr (.inl (fun _ => 0)))), (q_6, .inl (cA 1, 2, .inr (.inl (fun _ => 0)))), (q_11, .inl (cA 0, 2, .inl (fun _ => 0)))] H_12 := hP
  have hD : va_D A [(b, .inr (3, [.ref q_1, .ref q_6, .long 0, .null, .null])), (q_1, .inl (cA 1, 2, .inr (.inl (fun _ => 0)))), (q_6, .inl (cA 1, 2, .inr (.inl (fun _ => 0)))), (q_11, .inl (cA 0, 2, .inl (fun _ => 0)))] := hD
  refine W.cs (cells' := 3) (slots' := 6) rfl rfl ?_
  refine va_putF hx hb hts in_X3 tyX3 tyX3_ok nmX3 hown hK.1 hP hD hS 0 (fs := [.ref q_1, .ref q_6, .long 0, .null, .null]) rfl rfl 3 (by decide) (hts _ q161) (fun _ hh => hh) rfl hin rfl (v := .ref q_11) rfl rfl rfl (show 3 < 5 by decide) dX3_init_22 (fun H_14 locs hP hD hS => ?_)
  have hP : va_P D ga_cl [(b, .inr (3, [.ref q_1, .ref q_6, .long 0, .ref q_11, .null])), (q_1, .inl (cA 1, 2, .inr (.inl (fun _ => 0)))), (q_6, .inl (cA 1, 2, .inr (.inl (fun _ => 0)))), (q_11, .inl (cA 0, 2, .inl (fun _ => 0)))] H_14 := hP
  have hD : va_D A [(b, .inr (3, [.ref q_1, .ref q_6, .long 0, .ref q_11, .null])), (q_1, .inl (cA 1, 2, .inr (.inl (fun _ => 0)))), (q_6, .inl (cA 1, 2, .inr (.inl (fun _ => 0)))), (q_11, .inl (cA 0, 2, .inl (fun _ => 0)))] := hD
  refine lv_aload_n hx hb dX3_init_25 rfl (lv_at hl 0 rfl) ?_
  refine lv_iconst (v := 2) hx hb dX3_init_26 (by decide) ?_
  refine va_newa (atype := .long) (a0 := (2, .inr (.inl (fun _ => 0)))) hx hb (hts _ q177) rfl hK.1 hP hD hS hA (fun _ => rfl) (by decide) rfl (Nat.le_of_ble_eq_true rfl) (Nat.le_of_ble_eq_true rfl) (Nat.le_of_ble_eq_true rfl) dX3_init_27 (fun q_16 k_18 H_17 hK9 hP hD hS => ?_)
  obtain rfl := ga_tyqJ hK9
  have hP : va_P D ga_cl [(b, .inr (3, [.ref q_1, .ref q_6, .long 0, .ref q_11, .null])), (q_1, .inl (cA 1, 2, .inr (.inl (fun _ => 0)))), (q_6, .inl (cA 1, 2, .inr (.inl (fun _ => 0)))), (q_11, .inl (cA 0, 2, .inl (fun _ => 0))), (q_16, .inl (cA 1, 2, .inr (.inl (fun _ => 0))))] H_17 := hP
  have hD : va_D A [(b, .inr (3, [.ref q_1, .ref q_6, .long 0, .ref q_11, .null])), (q_1, .inl (cA 1, 2, .inr (.inl (fun _ => 0)))), (q_6, .inl (cA 1, 2, .inr (.inl (fun _ => 0)))), (q_11, .inl (cA 0, 2, .inl (fun _ => 0))), (q_16, .inl (cA 1, 2, .inr (.inl (fun _ => 0))))] := hD
  refine W.cs (cells' := 4) (slots' := 8) rfl rfl ?_
  refine va_putF hx hb hts in_X3 tyX3 tyX3_ok nmX3 hown hK.1 hP hD hS 0 (fs := [.ref q_1, .ref q_6, .long 0, .ref q_11, .null]) rfl rfl 4 (by decide) (hts _ q163) (fun _ hh => hh) rfl hin rfl (v := .ref q_16) rfl rfl rfl (show 4 < 5 by decide) dX3_init_29 (fun H_19 locs hP hD hS => ?_)
  have hP : va_P D ga_cl [(b, .inr (3, [.ref q_1, .ref q_6, .long 0, .ref q_11, .ref q_16])), (q_1, .inl (cA 1, 2, .inr (.inl (fun _ => 0)))), (q_6, .inl (cA 1, 2, .inr (.inl (fun _ => 0)))), (q_11, .inl (cA 0, 2, .inl (fun _ => 0))), (q_16, .inl (cA 1, 2, .inr (.inl (fun _ => 0))))] H_19 := hP
  have hD : va_D A [(b, .inr (3, [.ref q_1, .ref q_6, .long 0, .ref q_11, .ref q_16])), (q_1, .inl (cA 1, 2, .inr (.inl (fun _ => 0)))), (q_6, .inl (cA 1, 2, .inr (.inl (fun _ => 0)))), (q_11, .inl (cA 0, 2, .inl (fun _ => 0))), (q_16, .inl (cA 1, 2, .inr (.inl (fun _ => 0))))] := hD
  have hP9 := hP.sub (ws' := [(b, .inr (3, [.ref q_1, .ref q_6, .long 0, .ref q_11, .ref q_16])), (q_1, .inl (cA 1, 2, .inr (.inl (fun _ => 0)))), (q_6, .inl (cA 1, 2, .inr (.inl (fun _ => 0)))), (q_11, .inl (cA 0, 2, .inl (fun _ => 0))), (q_16, .inl (cA 1, 2, .inr (.inl (fun _ => 0))))]) [0, 1, 2, 3, 4] rfl
  have hD9 := hD.sub (ws' := [(b, .inr (3, [.ref q_1, .ref q_6, .long 0, .ref q_11, .ref q_16])), (q_1, .inl (cA 1, 2, .inr (.inl (fun _ => 0)))), (q_6, .inl (cA 1, 2, .inr (.inl (fun _ => 0)))), (q_11, .inl (cA 0, 2, .inl (fun _ => 0))), (q_16, .inl (cA 1, 2, .inr (.inl (fun _ => 0))))]) [0, 1, 2, 3, 4] (by decide) rfl
  obtain rfl := Option.some.inj h
  exact W.vret hx hb hr (fun t ht hW => ⟨⟨((0, (fun _ => 0), (fun _ => 0), (fun _ => 0), (fun _ => 0)), ga_ad [q_1, q_6, q_11, q_16]), rfl, rfl, ⟨by rw [ht]; exact hP9, hK.warm hW, hD9⟩⟩, hS.F ht⟩) hS.2.2 dX3_init_32
