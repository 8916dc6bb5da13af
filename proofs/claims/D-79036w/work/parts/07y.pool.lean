/-! further facts at a contract's start; the pool of rounds that are only read -/
def ga_RK (R : (Nat → Prop) → State → Heap → Prop) : Prop :=
  (∀ (A : Nat → Prop) (U : State) (H : Heap) (g : JFrame) (mk : MethodId) (a : Array Value), R A U H → R A (U.calling g mk a) H) ∧
  (∀ (A : Nat → Prop) (s U : State) (H : Heap), s.WarmedH U.vm → R A s H → R A U H) ∧
  (∀ (A : Nat → Prop) (U : State) (H H1 : Heap), (∀ a : Nat, a < H.size → ¬ A a → H1[a]? = H[a]?) → R A U H → R A U H1) ∧
  (∀ (A B : Nat → Prop) (U : State) (H : Heap), (∀ a : Nat, B a → A a) → R A U H → R B U H)
theorem ga_RK.at {R : (Nat → Prop) → State → Heap → Prop} (k : ga_RK R) {A B : Nat → Prop} {s : State} {H : Heap} {locs : List Loc} (h : R A s s.heap) (hS : va_S A s.heap H locs) (hq : ∀ a : Nat, B a → A a) : R B s H := k.2.2.2 A B s H hq (k.2.2.1 A s s.heap H (fun a h1 h2 => hS.2.1 a h1 h2) h)
def ga_PR (D : va_G) (cA : Nat → ClassId) (R : (Nat → Prop) → State → Heap → Prop) (ws : va_W) (av : List Value) : Array Value → State → Prop := va_Pc av (fun U => va_P D ga_cl ws U.heap ∧ ga_K D cA U ∧ R ga_F U U.heap)
theorem ga_PRS {s : State} {D : va_G} {cA : Nat → ClassId} {R : (Nat → Prop) → State → Heap → Prop} {ws : va_W} {H : Heap} {As : List Value} (k : ga_RK R) (hR : R ga_F s H) (hK : ga_K D cA s) (hP : va_P D ga_cl ws H) : PreS s H (ga_PR D cA R ws As) As :=
  ⟨fun a U g mk q => by obtain ⟨q0, qP, qK, qR⟩ := q; exact ⟨q0, qP, qK.call, k.1 _ _ _ _ _ _ qR⟩, fun U hU hW => ⟨rfl, by rw [hU]; exact hP, hK.warm hW, by rw [hU]; exact k.2.1 _ _ _ _ hW hR⟩⟩
theorem ga_PRV {s : State} {D : va_G} {cA : Nat → ClassId} {R : (Nat → Prop) → State → Heap → Prop} {ws : va_W} {H : Heap} {C : String} {b : Addr} {As : List Value} (k : ga_RK R) (hR : R ga_F s H) (hK : ga_K D cA s) (hP : va_P D ga_cl ws H) (hr : ∃ cell : Cell, H[b]? = some cell ∧ cell.vm.isStatics = false ∧ s.vm.findClass C = some cell.cls) : PreV s H C b (ga_PR D cA R ws (.ref b :: As)) As :=
  ⟨fun a U g mk q => by obtain ⟨q0, qP, qK, qR⟩ := q; exact ⟨q0, qP, qK.call, k.1 _ _ _ _ _ _ qR⟩, hr, fun U hU hW => ⟨rfl, by rw [hU]; exact hP, hK.warm hW, by rw [hU]; exact k.2.1 _ _ _ _ hW hR⟩⟩
def ga_XR (D : va_G) (cA : Nat → ClassId) (zs : Nat → Nat) (A : Nat → Prop) (R : (Nat → Prop) → State → Heap → Prop) (ws : va_W) (av : List Value) : Array Value → State → Prop := va_Pc av (fun U => va_P D ga_cl ws U.heap ∧ ga_K D cA U ∧ va_D A ws ∧ (∀ q : Nat, U.heap.size ≤ q → A q) ∧ ga_ST zs A U U.heap ∧ R A U U.heap)
theorem ga_XRS {s : State} {D : va_G} {cA : Nat → ClassId} {zs : Nat → Nat} {A : Nat → Prop} {R : (Nat → Prop) → State → Heap → Prop} {ws : va_W} {H : Heap} {As : List Value} (k : ga_RK R) (hR : R A s H) (hK : ga_K D cA s) (hP : va_P D ga_cl ws H) (hD : va_D A ws) (hA : ∀ q : Nat, H.size ≤ q → A q) (hST : ga_ST zs A s H) : PreS s H (ga_XR D cA zs A R ws As) As :=
  ⟨fun a U g mk q => by obtain ⟨q0, qP, qK, qD, qA, qS, qR⟩ := q; exact ⟨q0, qP, qK.call, qD, qA, qS.call, k.1 _ _ _ _ _ _ qR⟩, fun U hU hW => ⟨rfl, by rw [hU]; exact hP, hK.warm hW, hD, by rw [hU]; exact hA, by rw [hU]; exact hST.warm hW, by rw [hU]; exact k.2.1 _ _ _ _ hW hR⟩⟩
theorem ga_XRV {s : State} {D : va_G} {cA : Nat → ClassId} {zs : Nat → Nat} {A : Nat → Prop} {R : (Nat → Prop) → State → Heap → Prop} {ws : va_W} {H : Heap} {C : String} {b : Addr} {As : List Value} (k : ga_RK R) (hR : R A s H) (hK : ga_K D cA s) (hP : va_P D ga_cl ws H) (hD : va_D A ws) (hA : ∀ q : Nat, H.size ≤ q → A q) (hST : ga_ST zs A s H) (hr : ∃ cell : Cell, H[b]? = some cell ∧ cell.vm.isStatics = false ∧ s.vm.findClass C = some cell.cls) : PreV s H C b (ga_XR D cA zs A R ws (.ref b :: As)) As :=
  ⟨fun a U g mk q => by obtain ⟨q0, qP, qK, qD, qA, qS, qR⟩ := q; exact ⟨q0, qP, qK.call, qD, qA, qS.call, k.1 _ _ _ _ _ _ qR⟩, hr, fun U hU hW => ⟨rfl, by rw [hU]; exact hP, hK.warm hW, hD, by rw [hU]; exact hA, by rw [hU]; exact hST.warm hW, by rw [hU]; exact k.2.1 _ _ _ _ hW hR⟩⟩
/-- a round with its board: addresses, contents -/
def ga_rd (cA : Nat → ClassId) (r b w t e v bs ba bc bg : Nat) (q1 q2 qN : Int32) (qW qP qR qV : Nat → Int32) (qB : Int64) (qS qA qG : Nat → Int64) (qC : Nat → Int32) : va_W :=
  [(r, .inr (5, [.int q1, .int q2, .ref b, .ref w, .int qN, .ref t, .ref e, .ref v])), (w, .inl (cA 0, 8, .inl qW)), (t, .inl (cA 0, 2, .inl qP)), (e, .inl (cA 0, 49, .inl qR)), (v, .inl (cA 0, 49, .inl qV)),
   (b, .inr (3, [.ref bs, .ref ba, .long qB, .ref bc, .ref bg])), (bs, .inl (cA 1, 2, .inr (.inl qS))), (ba, .inl (cA 1, 2, .inr (.inl qA))), (bc, .inl (cA 0, 2, .inl qC)), (bg, .inl (cA 1, 2, .inr (.inl qG)))]
/-- the rounds at the places below np: round k's contents by q1 .. qC -/
def ga_po (D : va_G) (cA : Nat → ClassId) (lf : Nat → Option Nat) (np : Nat) (q1 q2 qN : Nat → Int32) (qW qP qR qV : Nat → Nat → Int32) (qB : Nat → Int64) (qS qA qG : Nat → Nat → Int64) (qC : Nat → Nat → Int32) (A : Nat → Prop) (_ : State) (H : Heap) : Prop :=
  ∀ k : Nat, k < np → ∃ r b w t e v bs ba bc bg : Nat, lf k = some r ∧ va_P D ga_cl (ga_rd cA r b w t e v bs ba bc bg (q1 k) (q2 k) (qN k) (qW k) (qP k) (qR k) (qV k) (qB k) (qS k) (qA k) (qG k) (qC k)) H ∧
    ∀ (j : Nat) (q : Nat × va_E), (ga_rd cA r b w t e v bs ba bc bg (q1 k) (q2 k) (qN k) (qW k) (qP k) (qR k) (qV k) (qB k) (qS k) (qA k) (qG k) (qC k))[j]? = some q → ¬ A q.1
theorem ga_poK {D : va_G} {cA : Nat → ClassId} {lf : Nat → Option Nat} {np : Nat} {q1 q2 qN : Nat → Int32} {qW qP qR qV : Nat → Nat → Int32} {qB : Nat → Int64} {qS qA qG : Nat → Nat → Int64} {qC : Nat → Nat → Int32} : ga_RK (ga_po D cA lf np q1 q2 qN qW qP qR qV qB qS qA qG qC) := by
  refine ⟨fun A U H g mk a h => h, fun A s U H hW h => h, fun A U H H1 hq h k hk => ?_, fun A B U H hq h k hk => ?_⟩
  · obtain ⟨r, b, w, t, e, v, bs, ba, bc, bg, h1, h2, h3⟩ := h k hk
    exact ⟨r, b, w, t, e, v, bs, ba, bc, bg, h1, h2.kept (fun j q hj => hq _ ((h2 j q hj).lt) (h3 j q hj)), h3⟩
  · obtain ⟨r, b, w, t, e, v, bs, ba, bc, bg, h1, h2, h3⟩ := h k hk
    exact ⟨r, b, w, t, e, v, bs, ba, bc, bg, h1, h2, fun j q hj x => h3 j q hj (hq _ x)⟩
/-- cells that are only read -/
def ga_ro (D : va_G) (ws : va_W) (A : Nat → Prop) (_ : State) (H : Heap) : Prop := va_P D ga_cl ws H ∧ ∀ (j : Nat) (q : Nat × va_E), ws[j]? = some q → ¬ A q.1
theorem ga_roK {D : va_G} {ws : va_W} : ga_RK (ga_ro D ws) := ⟨fun A U H g mk a h => h, fun A s U H hW h => h, fun A U H H1 hq h => ⟨h.1.kept (fun j q hj => hq _ ((h.1 j q hj).lt) (h.2 j q hj)), h.2⟩, fun A B U H hq h => ⟨h.1, fun j q hj x => h.2 j q hj (hq _ x)⟩⟩
theorem ga_roS {D : va_G} {ws ws' : va_W} {A B : Nat → Prop} {s : State} {H : Heap} (h : ga_ro D ws A s H) (is : List Nat) (hs : is.filterMap (fun i => ws[i]?) = ws') (hB : ∀ a : Nat, B a → A a) : ga_ro D ws' B s H := by
  refine ⟨h.1.sub is hs, fun j q hj x => ?_⟩
  subst hs
  obtain ⟨i, -, hi⟩ := List.mem_filterMap.mp (List.mem_of_getElem? hj)
  exact h.2 i q hi (hB _ x)
theorem ga_roF {D : va_G} {ws : va_W} {A B : Nat → Prop} {s : State} {H H1 : Heap} (h : ga_ro D ws A s H) (hB : ∀ a : Nat, B a → A a) (hk : ∀ q : Nat, q < H.size → ¬ B q → H1[q]? = H[q]?) : ga_ro D ws A s H1 := ⟨h.1.kept (fun j q hj => hk _ ((h.1 j q hj).lt) (fun x => h.2 j q hj (hB _ x))), h.2⟩
theorem ga_mapat {ws w : va_W} {is : List Nat} (hs : is.map (fun i => ws[i]?) = w.map some) (k : Nat) (q : Nat × va_E) (hq : w[k]? = some q) : ∃ i, is[k]? = some i ∧ ws[i]? = some q := by
  have h1 : (is.map (fun i => ws[i]?))[k]? = some (some q) := by rw [hs, List.getElem?_map, hq]; rfl
  rw [List.getElem?_map] at h1
  cases hi : is[k]? with
  | none => rw [hi] at h1; cases h1
  | some i => rw [hi] at h1; exact ⟨i, rfl, Option.some.inj h1⟩
/-- cells that aren't the callee's lie outside what it may write -/
theorem ga_apart {A0 : Nat → Prop} {D : va_G} {cl : List vw_C} {ws wc wr : va_W} {H : Heap} (hP : va_P D cl ws H) (hD : va_D A0 ws) (isC isR : List Nat) (hC : isC.map (fun i => ws[i]?) = wc.map some) (hR : isR.map (fun i => ws[i]?) = wr.map some) (hdis : ∀ i ∈ isR, i ∉ isC)
    (k : Nat) (q : Nat × va_E) (hk : wr[k]? = some q) : ¬ va_A wc H.size q.1 := by
  obtain ⟨i, h1, h2⟩ := ga_mapat hR k q hk
  have hl := (hP i q h2).lt
  intro h
  rcases h with ⟨k2, e, h⟩ | h
  · obtain ⟨j, h3, h4⟩ := ga_mapat hC k2 (q.1, e) h
    have hij := hD.1 i j q (q.1, e) h2 h4 rfl
    subst hij
    exact hdis i (List.mem_of_getElem? h1) (List.mem_of_getElem? h3)
  · omega
theorem ga_apL {A0 : Nat → Prop} {D : va_G} {cl : List vw_C} {ws wc wr : va_W} {H : Heap} (hP : va_P D cl ws H) (hD : va_D A0 ws) (isC isR : List Nat) (hC : isC.map (fun i => ws[i]?) = wc.map some) (hR : isR.map (fun i => ws[i]?) = wr.map some) (hdis : ∀ i ∈ isR, i ∉ isC) :
    ∀ (k : Nat) (q : Nat × va_E), wr[k]? = some q → ¬ va_A wc H.size q.1 := fun k q hk => ga_apart hP hD isC isR hC hR hdis k q hk
section GAC
variable {p : Program} {l : Launch} {e : Env} {R : Room} {s : State} {m : MethodId} {args : Array Value} {below : List Frame} {meth : Method} {c : Code} {H : Heap} {locs : List Loc} {cells slots : Nat} {Q : State → Prop}
variable {cc : ByteArray} {pc : Nat} {ls : Array Slot} {rest : List Value} {D : va_G} {cl : List vw_C} {A : Nat → Prop} {a : Nat} {tys : List (ClassId × FieldType)} {ws : va_W}
/-- a cell that is as it was at the start counts as unwritten -/
theorem ga_drop {a0 : Nat} {g : JFrame} (h0 : a0 < s.heap.size → H[a0]? = s.heap[a0]?) (kk : W p l e R s m args below meth c H (locs.filter (fun q => !(q.base == a0))) cells slots Q g) : W p l e R s m args below meth c H locs cells slots Q g := by
  intro T hT X
  obtain ⟨e1, q2, q3, q4, q5, q6⟩ := X.same
  refine kk T hT { X with same := ⟨e1, q2, q3, q4, q5, fun x c0 hc => ?_⟩ }
  obtain ⟨c', k1, k2, k3, k4⟩ := q6 x c0 hc
  refine ⟨c', k1, k2, k3, fun i hi => ?_⟩
  by_cases e : x = a0
  · subst e
    have h1 : T.heap[x]? = s.heap[x]? := by rw [hT]; exact h0 (Array.getElem?_eq_some_iff.mp hc).1
    have h2 : T.heap[x]? = some c' := k1
    rw [h1, hc] at h2
    cases h2
    rfl
  · exact k4 i (fun hx => hi (List.mem_filter.mpr ⟨hx, by simp [e]⟩))
/-- arraycopy out of an array that is only read: ints -/
theorem ga_copyRi (hexec : p.tables.exec = Jvm.exec) (hb : c.code = cc) (hml : c.maxLocals = ls.size) {own : String} {index : Nat} (hown : s.vm.findClass own = some m.cls) (hlink : (Cond.methodLink own index arraycopyName).before args s = true) (hnat : (Cond.native arraycopyName).before args s = true) (hstat : (Cond.static arraycopyName).before args s = true) (hini : (Cond.initialized "java/lang/System").before args s = true)
    (hK : va_K D cl tys s) {a0 n0 n1 : Nat} {c0 c1 : ClassId} {f g : Nat → Int32} {ty : FieldType} (hc0 : va_P D cl [(a0, .inl (c0, n0, .inl f))] H) (hna : ¬ A a0) (hP : va_P D cl ws H) (hD : va_D A ws) (hS : va_S A s.heap H locs) (q1 t0 t1 : Nat) (ha1 : ws[q1]? = some (a, .inl (c1, n1, .inl g))) (ht0 : tys[t0]? = some (c0, ty)) (ht1 : tys[t1]? = some (c1, ty)) (hprim : refKind ty = false)
    {sp dp n : Int32} (h1 : ¬ sp < 0) (h2 : ¬ dp < 0) (h3 : ¬ n < 0) (h4 : sp.toNatClampNeg + n.toNatClampNeg ≤ n0) (h5 : dp.toNatClampNeg + n.toNatClampNeg ≤ n1) (hfit : ∀ i, i < n.toNatClampNeg → fits ty (.int (f (sp.toNatClampNeg + i))) = true)
    (hframes : 1 ≤ R.frames) (hlocals : (rest.map fun v => v.category).sum + (nativeFrameWords "java/lang/System" "arraycopy" 5 + 11) ≤ R.locals) (hdg : decode cc pc = .ok (.invokestatic index, 3))
    (kk : ∀ (H1 : Heap) (locs1 : List Loc), va_P D cl (ws.set q1 (a, .inl (c1, n1, .inl (va_cpy f g sp.toNatClampNeg dp.toNatClampNeg n.toNatClampNeg)))) H1 → va_D A (ws.set q1 (a, .inl (c1, n1, .inl (va_cpy f g sp.toNatClampNeg dp.toNatClampNeg n.toNatClampNeg)))) → va_S A s.heap H1 locs1 → W p l e R s m args below meth c H1 locs1 cells slots Q (F0 m (pc + 3) ls rest)) : W p l e R s m args below meth c H locs cells slots Q (F0 m pc ls (.int n :: .int dp :: .ref a :: .int sp :: .ref a0 :: rest)) := by
  have hq : q1 < ws.length := (List.getElem?_eq_some_iff.mp ha1).1
  have hne : ∀ (i : Nat) (q : Nat × va_E), ws[i]? = some q → q.1 ≠ a0 := fun i q hi e => hna (e ▸ hD.2 i q hi)
  refine va_copyi (A := fun q => A q ∨ q = a0) hexec hb hml hown hlink hnat hstat hini hK (hP.app hc0) (va_D.app (hD.weaken (fun _ _ _ h => Or.inl h)) ⟨fun i j x y hi hj _ => ?_, fun k q hk => ?_⟩ (fun i j x y hi hj => ?_)) ⟨hS.1, fun q g1 g2 => hS.2.1 q g1 (fun h => g2 (Or.inl h)), fun q hq => Or.inl (hS.2.2 q hq)⟩ ws.length q1 t0 t1 (f := f) (g := g)
    (by rw [List.getElem?_append_right (Nat.le_refl _), Nat.sub_self]; rfl) (by rw [List.getElem?_append_left hq]; exact ha1) ht0 ht1 hprim h1 h2 h3 h4 h5 hfit hframes hlocals hdg (fun H1 locs1 hP1 hD1 hS1 => ?_)
  · have g1 := (List.getElem?_eq_some_iff.mp hi).1
    have g2 := (List.getElem?_eq_some_iff.mp hj).1
    simp only [List.length_singleton] at g1 g2
    omega
  · have g1 := (List.getElem?_eq_some_iff.mp hk).1
    simp only [List.length_singleton] at g1
    rw [show k = 0 by omega] at hk
    cases hk
    exact Or.inr rfl
  · have g1 := (List.getElem?_eq_some_iff.mp hj).1
    simp only [List.length_singleton] at g1
    rw [show j = 0 by omega] at hj
    cases hj
    exact hne i x hi
  rw [List.set_append_left _ _ hq] at hP1
  have hs0 : H[a0]? = some (vp_cell c0 (n0, .inl f)) := hc0 0 _ rfl
  have hs1 : H1[a0]? = some (vp_cell c0 (n0, .inl f)) := hP1 ws.length (a0, .inl (c0, n0, .inl f)) (by rw [List.getElem?_append_right (by rw [List.length_set]; exact Nat.le_refl _), List.length_set, Nat.sub_self]; rfl)
  have hold : a0 < s.heap.size → H1[a0]? = s.heap[a0]? := fun g => (hs1.trans hs0.symm).trans (hS.2.1 a0 g hna)
  refine ga_drop hold (kk H1 _ (fun k q hk => hP1 k q (by rw [List.getElem?_append_left (List.getElem?_eq_some_iff.mp hk).1]; exact hk)) (hD.set ha1) ⟨hS1.1, fun q g1 g2 => ?_, fun q hq => ?_⟩)
  · by_cases e : q = a0
    · subst e; exact hold g1
    · exact hS1.2.1 q g1 (fun h => h.elim g2 e)
  · obtain ⟨g1, g2⟩ := List.mem_filter.mp hq
    rcases hS1.2.2 q g1 with g3 | g3
    · exact g3
    · simp [g3] at g2
/-- arraycopy out of an array that is only read: longs -/
theorem ga_copyRl (hexec : p.tables.exec = Jvm.exec) (hb : c.code = cc) (hml : c.maxLocals = ls.size) {own : String} {index : Nat} (hown : s.vm.findClass own = some m.cls) (hlink : (Cond.methodLink own index arraycopyName).before args s = true) (hnat : (Cond.native arraycopyName).before args s = true) (hstat : (Cond.static arraycopyName).before args s = true) (hini : (Cond.initialized "java/lang/System").before args s = true)
    (hK : va_K D cl tys s) {a0 n0 n1 : Nat} {c0 c1 : ClassId} {f g : Nat → Int64} {ty : FieldType} (hc0 : va_P D cl [(a0, .inl (c0, n0, .inr (.inl f)))] H) (hna : ¬ A a0) (hP : va_P D cl ws H) (hD : va_D A ws) (hS : va_S A s.heap H locs) (q1 t0 t1 : Nat) (ha1 : ws[q1]? = some (a, .inl (c1, n1, .inr (.inl g)))) (ht0 : tys[t0]? = some (c0, ty)) (ht1 : tys[t1]? = some (c1, ty)) (hprim : refKind ty = false)
    {sp dp n : Int32} (h1 : ¬ sp < 0) (h2 : ¬ dp < 0) (h3 : ¬ n < 0) (h4 : sp.toNatClampNeg + n.toNatClampNeg ≤ n0) (h5 : dp.toNatClampNeg + n.toNatClampNeg ≤ n1) (hfit : ∀ i, i < n.toNatClampNeg → fits ty (.long (f (sp.toNatClampNeg + i))) = true)
    (hframes : 1 ≤ R.frames) (hlocals : (rest.map fun v => v.category).sum + (nativeFrameWords "java/lang/System" "arraycopy" 5 + 11) ≤ R.locals) (hdg : decode cc pc = .ok (.invokestatic index, 3))
    (kk : ∀ (H1 : Heap) (locs1 : List Loc), va_P D cl (ws.set q1 (a, .inl (c1, n1, .inr (.inl (va_cpy f g sp.toNatClampNeg dp.toNatClampNeg n.toNatClampNeg))))) H1 → va_D A (ws.set q1 (a, .inl (c1, n1, .inr (.inl (va_cpy f g sp.toNatClampNeg dp.toNatClampNeg n.toNatClampNeg))))) → va_S A s.heap H1 locs1 → W p l e R s m args below meth c H1 locs1 cells slots Q (F0 m (pc + 3) ls rest)) : W p l e R s m args below meth c H locs cells slots Q (F0 m pc ls (.int n :: .int dp :: .ref a :: .int sp :: .ref a0 :: rest)) := by
  have hq : q1 < ws.length := (List.getElem?_eq_some_iff.mp ha1).1
  have hne : ∀ (i : Nat) (q : Nat × va_E), ws[i]? = some q → q.1 ≠ a0 := fun i q hi e => hna (e ▸ hD.2 i q hi)
  refine va_copyl (A := fun q => A q ∨ q = a0) hexec hb hml hown hlink hnat hstat hini hK (hP.app hc0) (va_D.app (hD.weaken (fun _ _ _ h => Or.inl h)) ⟨fun i j x y hi hj _ => ?_, fun k q hk => ?_⟩ (fun i j x y hi hj => ?_)) ⟨hS.1, fun q g1 g2 => hS.2.1 q g1 (fun h => g2 (Or.inl h)), fun q hq => Or.inl (hS.2.2 q hq)⟩ ws.length q1 t0 t1 (f := f) (g := g)
    (by rw [List.getElem?_append_right (Nat.le_refl _), Nat.sub_self]; rfl) (by rw [List.getElem?_append_left hq]; exact ha1) ht0 ht1 hprim h1 h2 h3 h4 h5 hfit hframes hlocals hdg (fun H1 locs1 hP1 hD1 hS1 => ?_)
  · have g1 := (List.getElem?_eq_some_iff.mp hi).1
    have g2 := (List.getElem?_eq_some_iff.mp hj).1
    simp only [List.length_singleton] at g1 g2
    omega
  · have g1 := (List.getElem?_eq_some_iff.mp hk).1
    simp only [List.length_singleton] at g1
    rw [show k = 0 by omega] at hk
    cases hk
    exact Or.inr rfl
  · have g1 := (List.getElem?_eq_some_iff.mp hj).1
    simp only [List.length_singleton] at g1
    rw [show j = 0 by omega] at hj
    cases hj
    exact hne i x hi
  rw [List.set_append_left _ _ hq] at hP1
  have hs0 : H[a0]? = some (vp_cell c0 (n0, .inr (.inl f))) := hc0 0 _ rfl
  have hs1 : H1[a0]? = some (vp_cell c0 (n0, .inr (.inl f))) := hP1 ws.length (a0, .inl (c0, n0, .inr (.inl f))) (by rw [List.getElem?_append_right (by rw [List.length_set]; exact Nat.le_refl _), List.length_set, Nat.sub_self]; rfl)
  have hold : a0 < s.heap.size → H1[a0]? = s.heap[a0]? := fun g => (hs1.trans hs0.symm).trans (hS.2.1 a0 g hna)
  refine ga_drop hold (kk H1 _ (fun k q hk => hP1 k q (by rw [List.getElem?_append_left (List.getElem?_eq_some_iff.mp hk).1]; exact hk)) (hD.set ha1) ⟨hS1.1, fun q g1 g2 => ?_, fun q hq => ?_⟩)
  · by_cases e : q = a0
    · subst e; exact hold g1
    · exact hS1.2.1 q g1 (fun h => h.elim g2 e)
  · obtain ⟨g1, g2⟩ := List.mem_filter.mp hq
    rcases hS1.2.2 q g1 with g3 | g3
    · exact g3
    · simp [g3] at g2
end GAC
