/-! small Integers (the cache) and lists of them -/
set_option maxRecDepth 100000
def ga_iv (zs : Nat → Nat) (v : Int32) : Nat := zs (10 + ix (v + 128) % 256)
theorem ga_inb {i : Int32} {n : Nat} (h : inb i n = true) : 0 ≤ i ∧ ix i < n := by
  simp only [inb, Bool.and_eq_true, decide_eq_true_eq] at h
  exact h
theorem ga_ivE {zs : Nat → Nat} {i : Int32} (h : inb (i + 128) 256 = true) : zs (10 + (i + 128).toNatClampNeg) = ga_iv zs i := by
  have h1 : (i + 128).toNatClampNeg < 256 := (ga_inb h).2
  show zs (10 + (i + 128).toNatClampNeg) = zs (10 + (i + 128).toNatClampNeg % 256)
  rw [Nat.mod_eq_of_lt h1]
theorem ga_ivv {v : Int32} (h : inb (v + 128) 256 = true) : vb_c (ix (v + 128) % 256) = v := by
  obtain ⟨h0, h1⟩ := ga_inb h
  rw [Nat.mod_eq_of_lt h1]
  have e : Int32.ofNat (ix (v + 128)) = v + 128 := by
    have h2 : (0 : Int) ≤ (v + 128).toInt := Int32.le_iff_toInt_le.mp h0
    have h3 : (v + 128).toInt.toNat < 256 := h1
    apply Int32.toInt_inj.mp
    show (Int32.ofNat (v + 128).toInt.toNat).toInt = (v + 128).toInt
    have h4 : (nI (v + 128).toInt.toNat).toInt = ((v + 128).toInt.toNat : Int) := nI_toInt (by omega)
    exact h4.trans (by omega)
  unfold vb_c
  rw [e, Int32.add_sub_cancel]
theorem ga_ivO {zs : Nat → Nat} {A : Nat → Prop} {U : State} {H : Heap} {v : Int32} (h : vb_C (fun k => zs (10 + k)) A U H) : va_O "java/lang/Integer" (ga_iv zs v) A U H := h.1 _ (Nat.mod_lt _ (by decide))
def ga_il (zs : Nat → Nat) (ch : Nat → Int32) (k : Nat) : Nat → Option Nat := fun j => if j < k then some (ga_iv zs (ch j)) else none
theorem ga_ilget {zs : Nat → Nat} {ch : Nat → Int32} {k j : Nat} (h : j < k) : ga_il zs ch k j = some (ga_iv zs (ch j)) := if_pos h
theorem ga_ilel {zs : Nat → Nat} {ch : Nat → Int32} {k : Nat} {A : Nat → Prop} {s : State} {H : Heap} (h : vb_C (fun k => zs (10 + k)) A s H) : ga_el "java/lang/Integer" (ga_il zs ch k) A s H := by
  intro i y hy
  unfold ga_il at hy
  split at hy
  · cases hy; exact ga_ivO h
  · cases hy
theorem ga_cell {c : ClassId} {n : Nat} {f g : Nat → Option Nat} (h : ∀ j, j < n → f j = g j) : vp_cell c (n, .inr (.inr (.inr (.inr f)))) = vp_cell c (n, .inr (.inr (.inr (.inr g)))) := by
  show arrV c n (fun j => va_rf (f j)) = arrV c n (fun j => va_rf (g j))
  unfold arrV
  congr 1
  apply congrArg
  funext j
  exact congrArg va_rf (h j.val j.isLt)
theorem ga_cong {D : va_G} {ws : va_W} {H : Heap} {i a n : Nat} {c : ClassId} {f g : Nat → Option Nat} (hP : va_P D ga_cl ws H) (hi : ws[i]? = some (a, .inl (c, n, .inr (.inr (.inr (.inr f)))))) (h : ∀ j, j < n → f j = g j) : va_P D ga_cl (ws.set i (a, .inl (c, n, .inr (.inr (.inr (.inr g)))))) H := by
  intro k q hk
  by_cases e : i = k
  · subst e
    have hl : i < ws.length := (List.getElem?_eq_some_iff.mp hi).1
    rw [List.getElem?_set_self hl] at hk
    cases hk
    have h1 := hP i _ hi
    show H[a]? = some (vp_cell c (n, .inr (.inr (.inr (.inr g)))))
    rw [← ga_cell h]
    exact h1
  · rw [List.getElem?_set_ne e] at hk
    exact hP k q hk
theorem ga_iln0 {zs : Nat → Nat} {f2 : Nat → Option Nat} {v : Int32} {n : Nat} (hi : f2 (ix 0) = some (ga_iv zs v)) (hn : ∀ j y : Nat, j ≠ ix 0 → ¬ f2 j = some y) : ∀ j, j < n → f2 j = ga_il zs (upd (fun _ => 0) 0 v) 1 j := by
  intro j _
  rw [ix0] at hi hn
  unfold ga_il
  by_cases e : j = 0
  · subst e
    rw [hi, if_pos (by decide)]
    rfl
  · rw [if_neg (by omega)]
    cases h : f2 j with
    | none => rfl
    | some y => exact absurd h (hn j y e)
theorem ga_ilnS {zs : Nat → Nat} {f2 : Nat → Option Nat} {ch : Nat → Int32} {v z : Int32} {k ln n : Nat} (hi : f2 (ix z) = some (ga_iv zs v)) (ho : ∀ j : Nat, j < ln → j ≠ ix z → f2 j = ga_il zs ch k j) (hk : ∀ j y : Nat, j ≠ ix z → f2 j = some y → ga_il zs ch k j = some y) (e : ix z = k) (hl : k ≤ ln) : ∀ j, j < n → f2 j = ga_il zs (upd ch k v) (k + 1) j := by
  intro j _
  rw [e] at hi ho hk
  by_cases e1 : j = k
  · subst e1
    rw [hi]
    unfold ga_il
    rw [if_pos (by omega)]
    simp [upd]
  · by_cases e2 : j < k
    · rw [ho j (by omega) e1]
      unfold ga_il
      rw [if_pos e2, if_pos (by omega)]
      simp [upd, e1]
    · have e3 : ga_il zs ch k j = none := if_neg e2
      have e4 : ga_il zs (upd ch k v) (k + 1) j = none := if_neg (by omega)
      rw [e4]
      cases h : f2 j with
      | none => rfl
      | some y => exact nomatch e3.symm.trans (hk j y e1 h)
