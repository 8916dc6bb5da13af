/-! the elements of a list -/
theorem ga_O3 {E : String} {t : Nat} {A : Nat → Prop} {U : State} {H : Heap} (h : va_O E t A U H) : ∃ cellV : Cell, H[t]? = some cellV ∧ cellV.vm.isStatics = false ∧ U.vm.findClass E = some cellV.cls := by
  obtain ⟨c, h1, h2, h3, h4⟩ := h
  exact ⟨c, h1, h2, h3⟩
theorem va_O.warm9 {E : String} {t : Nat} {A : Nat → Prop} {s U : State} {H : Heap} (hW : s.WarmedH U.vm) (h : va_O E t A s H) : va_O E t A U H := va_O.moved hW.alike h
theorem va_O.call9 {E : String} {t : Nat} {A : Nat → Prop} {U : State} {H : Heap} {g : JFrame} {mk : MethodId} {a : Array Value} (h : va_O E t A U H) : va_O E t A (U.calling g mk a) H := va_O.moved (Vm.Alike.refl U.vm) h
theorem ga_c0 : (0 : Int32).toNatClampNeg = 0 := by decide
theorem ga_cpy0 {α : Type} {f g : Nat → α} {n j k : Nat} (h : n ≤ k) (hj : j < n) : va_cpy f g (ix 0) (ix 0) k j = f j := by
  have e : ix 0 = 0 := ix0
  unfold va_cpy
  rw [e, if_pos ⟨Nat.zero_le _, by omega⟩, Nat.zero_add, Nat.sub_zero]
theorem ga_recvO {D : va_G} {cA : Nat → ClassId} {s : State} {H : Heap} {ws : va_W} {a q0 n : Nat} {f : Nat → Option Nat} (hK : ga_K D cA s) (hP : va_P D ga_cl ws H) (he : ws[q0]? = some (a, .inl (cA 5, n, .inr (.inr (.inr (.inr f)))))) : ∃ cell : Cell, H[a]? = some cell ∧ cell.vm.isStatics = false ∧ s.vm.findClass "[Ljava/lang/Object;" = some cell.cls :=
  ⟨_, hP q0 _ he, rfl, ga_raO (C := "java/lang/Object") (cA 5) (hK.1.2 5 _ rfl).2⟩
def ga_el (EC : String) (lf : Nat → Option Nat) (A : Nat → Prop) (U : State) (H : Heap) : Prop := ∀ i y : Nat, lf i = some y → va_O EC y A U H
theorem ga_elK {EC : String} {lf : Nat → Option Nat} : ga_RK (ga_el EC lf) := ⟨fun _ _ _ _ _ _ h i y e => (h i y e).call9, fun _ _ _ _ hW h i y e => (h i y e).warm9 hW, fun _ _ _ _ hq h i y e => (h i y e).kept hq, fun _ _ _ _ hq h i y e => (h i y e).narrow hq⟩
def ga_e1 (EC : String) (rr : Nat) (A : Nat → Prop) (U : State) (H : Heap) : Prop := va_O EC rr A U H
theorem ga_e1K {EC : String} {rr : Nat} : ga_RK (ga_e1 EC rr) := ⟨fun _ _ _ _ _ _ h => va_O.call9 h, fun _ _ _ _ hW h => va_O.warm9 hW h, fun _ _ _ _ hq h => va_O.kept h hq, fun _ _ _ _ hq h => va_O.narrow h hq⟩
def ga_ea (EC : String) (lf : Nat → Option Nat) (rr : Nat) (A : Nat → Prop) (U : State) (H : Heap) : Prop := ga_el EC lf A U H ∧ ga_e1 EC rr A U H
theorem ga_eaK {EC : String} {lf : Nat → Option Nat} {rr : Nat} : ga_RK (ga_ea EC lf rr) := ⟨fun A U H g m a h => ⟨ga_elK.1 A U H g m a h.1, ga_e1K.1 A U H g m a h.2⟩, fun A s U H hW h => ⟨ga_elK.2.1 A s U H hW h.1, ga_e1K.2.1 A s U H hW h.2⟩, fun A U H H1 hq h => ⟨ga_elK.2.2.1 A U H H1 hq h.1, ga_e1K.2.2.1 A U H H1 hq h.2⟩, fun A B U H hq h => ⟨ga_elK.2.2.2 A B U H hq h.1, ga_e1K.2.2.2 A B U H hq h.2⟩⟩
theorem ga_Zq {C n d : String} {A : Nat → Prop} {U : State} {H : Heap} (h : va_Zq C n d A U H) : ∃ o : Option Nat, va_Z C n d (va_rf o) A U H := by
  rcases h with h | ⟨t, h⟩
  · exact ⟨none, h⟩
  · exact ⟨some t, h⟩
theorem ga_exc {D : va_G} {cA : Nat → ClassId} {s : State} {H : Heap} {ws : va_W} {a q0 ci : Nat} {q : vw_C} {fs : List Value} (hK : ga_K D cA s) (hP : va_P D ga_cl ws H) (hc : ga_cl[ci]? = some q) (he : ws[q0]? = some (a, .inr (ci, fs))) : ∃ ce : Cell, H[a]? = some ce ∧ ce.vm = .none ∧ s.vm.findClass q.1 = some ce.cls := by
  obtain ⟨cell, h1, h2, h3⟩ := va_recv hK.1 hP hc he
  obtain ⟨r, h4, cell', h5, h6, h7, h8⟩ := hP q0 _ he
  have e : cell = cell' := Option.some.inj (h1.symm.trans h5)
  exact ⟨cell, h1, by rw [e]; exact h7, h3⟩
def ga_xd (l : List Int32) : Nat → Int32 := fun k => l.getD k 0
theorem ga_upE {f : Nat → Option Nat} {k j y : Nat} (h : va_up f k none j = some y) : f j = some y := by
  by_cases e : j = k
  · subst e
    rw [va_up_self] at h
    exact nomatch h
  · exact (va_up_ne _ _ e).symm.trans h
theorem ga_cpyE {f : Nat → Option Nat} {k j y : Nat} (h : va_cpy f (fun _ => none) (ix 0) (ix 0) k j = some y) : f j = some y := by
  have e : ix 0 = 0 := ix0
  unfold va_cpy at h
  rw [e] at h
  by_cases q : 0 ≤ j ∧ j < 0 + k
  · rw [if_pos q, Nat.zero_add, Nat.sub_zero] at h
    exact h
  · rw [if_neg q] at h
    exact nomatch h
theorem ga_elS {EC : String} {f olf : Nat → Option Nat} {A B : Nat → Prop} {s : State} {H : Heap} (h : ga_el EC olf A s H) (hs : ∀ j y : Nat, f j = some y → olf j = some y) (hB : ∀ a : Nat, B a → A a) : ga_el EC f B s H := fun i y e => (h i y (hs i y e)).narrow hB
theorem ga_ixle {a b : Int32} (h : a ≤ b) : ix a ≤ ix b := Int.toNat_le_toNat (Int32.le_iff_toInt_le.mp h)
theorem ga_ixS {x : Int32} {M : Nat} (h0 : 0 ≤ x) (h1 : ix x < M) (hM : M ≤ 1000) : ix (x + 1) = ix x + 1 := by
  have e0 : (0 : Int) ≤ x.toInt := Int32.le_iff_toInt_le.mp h0
  have e1 : x.toInt.toNat < M := h1
  have e2 : (1 : Int32).toInt = 1 := by decide
  show (x + 1).toInt.toNat = x.toInt.toNat + 1
  rw [Int32.toInt_add, e2, Int.bmod_eq_of_le (by omega) (by omega)]
  omega
theorem ga_ixSle (x : Int32) : ix (x + 1) ≤ ix x + 1 := by
  have h1 := Int32.le_toInt x
  have h2 := Int32.toInt_lt x
  have e2 : (1 : Int32).toInt = 1 := by decide
  show (x + 1).toInt.toNat ≤ x.toInt.toNat + 1
  by_cases q : x.toInt < 2147483647
  · rw [Int32.toInt_add, e2, Int.bmod_eq_of_le (by omega) (by omega)]
    omega
  · have q2 : x.toInt = 2147483647 := by omega
    rw [Int32.toInt_add, e2, q2]
    decide
theorem ga_ix01 : ix (0 + 1) = 1 := by decide
theorem ga_lf1 {f olf : Nat → Option Nat} {r : Nat} (h0 : f (ix 0) = some r) (hn : ∀ j y : Nat, j ≠ ix 0 → ¬ f j = some y) (ho : olf (ix 0) = some r) : ∀ j y : Nat, f j = some y → olf j = some y := by
  intro j y hy
  by_cases e : j = ix 0
  · subst e
    exact ho.trans (h0.symm.trans hy)
  · exact absurd hy (hn j y e)
theorem ga_lf2 {f2 f olf : Nat → Option Nat} {r : Nat} {z x : Int32} (hi : f2 (ix z) = some r) (hk : ∀ j y : Nat, j ≠ ix z → f2 j = some y → f j = some y) (ho : olf (ix x) = some r) (hl : ∀ j y : Nat, f j = some y → olf j = some y) (e : z = x) : ∀ j y : Nat, f2 j = some y → olf j = some y := by
  subst e
  intro j y hy
  by_cases e : j = ix z
  · subst e
    exact ho.trans (hi.symm.trans hy)
  · exact hl j y (hk j y e hy)
theorem ga_lf3 {f olf : Nat → Option Nat} {r : Nat} (h0 : f (ix 0) = some r) (ho : olf (ix 0) = some r) : ∀ j : Nat, j < ix (0 + 1) → f j = olf j := by
  intro j hj
  rw [ga_ix01] at hj
  have e : j = ix 0 := by rw [ix0]; omega
  subst e
  exact h0.trans ho.symm
theorem ga_lf4 {f2 f olf : Nat → Option Nat} {r ln : Nat} {z x : Int32} (hi : f2 (ix z) = some r) (hk : ∀ j : Nat, j < ln → j ≠ ix z → f2 j = f j) (ho : olf (ix x) = some r) (hl : ∀ j : Nat, j < ix x → f j = olf j) (e : z = x) (hc : ix x ≤ ln) : ∀ j : Nat, j < ix (x + 1) → f2 j = olf j := by
  subst e
  intro j hj
  have h1 := ga_ixSle z
  by_cases e : j = ix z
  · subst e
    exact hi.trans ho.symm
  · exact (hk j (by omega) e).trans (hl j (by omega))
theorem ga_ix1 {lf : Nat → Option Nat} {m : Nat} {z : Int32} (h : lf (ix 0) = some m) (e : z = 1) : lf (ix (z - 1)) = some m := by
  subst e
  exact h
