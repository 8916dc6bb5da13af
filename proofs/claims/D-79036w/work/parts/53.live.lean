/-! facts on the heap as it stands: cells that are none of the explicit world's -/
set_option maxRecDepth 100000
def ga_u {α : Type} (f : Nat → α) (k : Nat) (x : α) : Nat → α := fun j => if j = k then x else f j
theorem ga_u_eq {α : Type} (f : Nat → α) (k : Nat) (x : α) : ga_u f k x k = x := if_pos rfl
theorem ga_u_ne {α : Type} (f : Nat → α) {k j : Nat} (x : α) (h : j ≠ k) : ga_u f k x j = f j := if_neg h
theorem ga_AA {ws wc : va_W} {n : Nat} (is : List Nat) (hs : is.map (fun i => ws[i]?) = wc.map some) (a : Nat) (h : va_A wc n a) : va_A ws n a := by
  rcases h with ⟨k, e, h⟩ | h
  · obtain ⟨i, -, h2⟩ := ga_mapat hs k _ h
    exact Or.inl ⟨i, e, h2⟩
  · exact Or.inr h
def ga_iw (ws : va_W) (q : Nat) : Prop := ∃ (k : Nat) (e : va_E), ws[k]? = some (q, e)
theorem ga_liveT {R : (Nat → Prop) → State → Heap → Prop} (k : ga_RK R) {ws wc : va_W} {s : State} {H : Heap} {n : Nat} (h : R (va_A ws n) s H) (is : List Nat) (hs : is.map (fun i => ws[i]?) = wc.map some) : R (va_A wc n) s H := k.2.2.2 _ _ _ _ (ga_AA is hs) h
theorem ga_live0 {R : (Nat → Prop) → State → Heap → Prop} (k : ga_RK R) {A : Nat → Prop} {ws : va_W} {s : State} {H : Heap} {locs : List Loc} (h : R A s s.heap) (hS : va_S A s.heap H locs) (hF : ∀ q, va_A ws H.size q → A q) : R (va_A ws H.size) s H := k.at h hS hF
theorem ga_liveC {R : (Nat → Prop) → State → Heap → Prop} (k : ga_RK R) {ws wc wr w1 : va_W} {s : State} {H H1 : Heap} (h : R (va_A ws H.size) s H) (isC isR : List Nat) (hC : isC.map (fun i => ws[i]?) = wc.map some) (hR : isR.map (fun i => ws[i]?) = wr.map some)
    (hk : ∀ q : Nat, q < H.size → ¬ va_A wc H.size q → H1[q]? = H[q]?) (hD1 : va_D (va_A wc H.size) w1) (hz : H.size ≤ H1.size) : R (va_A (wr ++ w1) H1.size) s H1 := by
  have h1 : R (va_A ws H.size) s H1 := k.2.2.1 _ _ H H1 (fun a ha hn => hk a ha (fun z => hn (ga_AA isC hC a z))) h
  refine k.2.2.2 _ _ _ _ (fun a ha => ?_) h1
  rcases ha with ⟨j, e, hj⟩ | ha
  · rcases List.mem_append.mp (List.mem_of_getElem? hj) with hm | hm
    · obtain ⟨i, hi⟩ := List.getElem?_of_mem hm
      obtain ⟨i2, -, h3⟩ := ga_mapat hR i _ hi
      exact Or.inl ⟨i2, e, h3⟩
    · obtain ⟨i, hi⟩ := List.getElem?_of_mem hm
      exact ga_AA isC hC a (hD1.2 i _ hi)
  · exact Or.inr (Nat.le_trans hz ha)
/-- a cell of the explicit world is written -/
theorem ga_liveW {R : (Nat → Prop) → State → Heap → Prop} (k : ga_RK R) {ws : va_W} {s : State} {H H1 : Heap} {D : va_G} {cl : List vw_C} {i a : Nat} {e e1 : va_E} (h : R (va_A ws H.size) s H) (hi : ws[i]? = some (a, e)) (hf : ∀ q : Nat, q ≠ a → H1[q]? = H[q]?) (hP1 : va_P D cl (ws.set i (a, e1)) H1) : R (va_A (ws.set i (a, e1)) H1.size) s H1 := by
  have hl : i < ws.length := (List.getElem?_eq_some_iff.mp hi).1
  have hz : H.size ≤ H1.size := by
    rcases Nat.lt_or_ge H1.size H.size with h9 | h9
    · have ha : a < H1.size := (hP1 i (a, e1) (List.getElem?_set_self hl)).lt
      have h3 := hf H1.size (fun z => by omega)
      rw [Array.getElem?_eq_none (Nat.le_refl _)] at h3
      exact absurd (Array.getElem?_eq_none_iff.mp h3.symm) (by omega)
    · exact h9
  have h1 : R (va_A ws H.size) s H1 := k.2.2.1 _ _ H H1 (fun q hq hn => hf q (fun z => hn (by rw [z]; exact va_A.in hi))) h
  refine k.2.2.2 _ _ _ _ (fun q hq => ?_) h1
  rcases hq with ⟨j, e2, hj⟩ | hq
  · by_cases hji : i = j
    · subst hji
      rw [List.getElem?_set_self hl] at hj
      cases hj
      exact va_A.in hi
    · rw [List.getElem?_set_ne hji] at hj
      exact Or.inl ⟨j, e2, hj⟩
  · exact Or.inr (Nat.le_trans hz hq)
/-- a cell comes to the explicit world -/
theorem ga_liveN {R : (Nat → Prop) → State → Heap → Prop} (k : ga_RK R) {ws : va_W} {s : State} {H H1 : Heap} {a : Nat} {e : va_E} (h : R (va_A ws H.size) s H) (hf : ∀ q : Nat, q < H.size → H1[q]? = H[q]?) (ha : H.size ≤ a) (hz : H.size ≤ H1.size) : R (va_A (ws ++ [(a, e)]) H1.size) s H1 := by
  have h1 : R (va_A ws H.size) s H1 := k.2.2.1 _ _ H H1 (fun q hq _ => hf q hq) h
  refine k.2.2.2 _ _ _ _ (fun q hq => ?_) h1
  rcases hq with ⟨j, e2, hj⟩ | hq
  · rcases List.mem_append.mp (List.mem_of_getElem? hj) with hm | hm
    · obtain ⟨i, hi⟩ := List.getElem?_of_mem hm
      exact Or.inl ⟨i, e2, hi⟩
    · cases List.mem_singleton.mp hm
      exact Or.inr ha
  · exact Or.inr (Nat.le_trans hz hq)
section GPB
variable {D : va_G} {cA : Nat → ClassId} {lf : Nat → Option Nat} {np : Nat} {q1 q2 qN : Nat → Int32} {qW qP qR qV : Nat → Nat → Int32} {qB : Nat → Int64} {qS qA qG : Nat → Nat → Int64} {qC : Nat → Nat → Int32}
/-- the pool, none of whose cells is in A or in B -/
def ga_pb (D : va_G) (cA : Nat → ClassId) (B : Nat → Prop) (lf : Nat → Option Nat) (np : Nat) (q1 q2 qN : Nat → Int32) (qW qP qR qV : Nat → Nat → Int32) (qB : Nat → Int64) (qS qA qG : Nat → Nat → Int64) (qC : Nat → Nat → Int32) (A : Nat → Prop) (U : State) (H : Heap) : Prop :=
  ga_pe D cA lf np q1 q2 qN qW qP qR qV qB qS qA qG qC (fun q => A q ∨ B q) U H ∧ ∀ q : Nat, B q → ¬ A q ∧ q < H.size
theorem ga_pbK {B : Nat → Prop} : ga_RK (ga_pb D cA B lf np q1 q2 qN qW qP qR qV qB qS qA qG qC) := by
  refine ⟨fun A U H g mk a h => ⟨ga_peK.1 _ U H g mk a h.1, h.2⟩, fun A s U H hW h => ⟨ga_peK.2.1 _ s U H hW h.1, h.2⟩, fun A U H H1 hq h => ⟨ga_peK.2.2.1 _ U H H1 (fun a ha hn => hq a ha (fun z => hn (Or.inl z))) h.1, fun q hb => ⟨(h.2 q hb).1, ?_⟩⟩, fun A A' U H hq h => ⟨ga_peK.2.2.2 _ _ U H (fun a ha => ha.imp (hq a) id) h.1, fun q hb => ⟨fun z => (h.2 q hb).1 (hq q z), (h.2 q hb).2⟩⟩⟩
  have h1 := hq q (h.2 q hb).2 (h.2 q hb).1
  rw [Array.getElem?_eq_getElem (h.2 q hb).2] at h1
  exact (Array.getElem?_eq_some_iff.mp h1).1
theorem ga_pbe {B A : Nat → Prop} {s : State} {H : Heap} (h : ga_pb D cA B lf np q1 q2 qN qW qP qR qV qB qS qA qG qC A s H) : ga_pe D cA lf np q1 q2 qN qW qP qR qV qB qS qA qG qC A s H := ga_peK.2.2.2 _ _ _ _ (fun _ z => Or.inl z) h.1
theorem ga_peb {A : Nat → Prop} {s : State} {H : Heap} (h : ga_pe D cA lf np q1 q2 qN qW qP qR qV qB qS qA qG qC A s H) : ga_pb D cA (fun _ => False) lf np q1 q2 qN qW qP qR qV qB qS qA qG qC A s H := ⟨ga_peK.2.2.2 _ _ _ _ (fun _ z => z.elim id (fun z => z.elim)) h, fun _ z => z.elim⟩
/-- for a callee that changes the pool: the caller's other cells are none of it -/
theorem ga_pbC {B A0 : Nat → Prop} {ws wc wr : va_W} {s : State} {H : Heap} (h : ga_pb D cA B lf np q1 q2 qN qW qP qR qV qB qS qA qG qC (va_A ws H.size) s H) (hP : va_P D ga_cl ws H) (hD : va_D A0 ws) (isC isR : List Nat) (hC : isC.map (fun i => ws[i]?) = wc.map some) (hR : isR.map (fun i => ws[i]?) = wr.map some) (hdis : ∀ i ∈ isR, i ∉ isC) :
    ga_pb D cA (fun q => B q ∨ ga_iw wr q) lf np q1 q2 qN qW qP qR qV qB qS qA qG qC (va_A wc H.size) s H := by
  have hin : ∀ q, ga_iw wr q → va_A ws H.size q := fun q ⟨k, e, hk⟩ => by
    obtain ⟨i, -, h2⟩ := ga_mapat hR k _ hk
    exact Or.inl ⟨i, e, h2⟩
  refine ⟨ga_peK.2.2.2 _ _ _ _ (fun a ha => ?_) h.1, fun q hq => ?_⟩
  · rcases ha with ha | ha | ha
    · exact Or.inl (ga_AA isC hC a ha)
    · exact Or.inr ha
    · exact Or.inl (hin a ha)
  · rcases hq with hq | ⟨k, e, hk⟩
    · exact ⟨fun z => (h.2 q hq).1 (ga_AA isC hC q z), (h.2 q hq).2⟩
    · refine ⟨ga_apart hP hD isC isR hC hR hdis k _ hk, ?_⟩
      obtain ⟨i, -, h2⟩ := ga_mapat hR k _ hk
      exact (hP i _ h2).lt
theorem ga_peA {A : Nat → Prop} {s t : State} {H : Heap} (hv : s.vm.Alike t.vm) (h : ga_pe D cA lf np q1 q2 qN qW qP qR qV qB qS qA qG qC A t H) : ga_pe D cA lf np q1 q2 qN qW qP qR qV qB qS qA qG qC A s H := ⟨h.1, fun i y e => va_O.moved hv.symm (h.2 i y e)⟩
theorem ga_pbA {B A : Nat → Prop} {s t : State} {H : Heap} (hv : s.vm.Alike t.vm) (h : ga_pb D cA B lf np q1 q2 qN qW qP qR qV qB qS qA qG qC A s H) : ga_pb D cA B lf np q1 q2 qN qW qP qR qV qB qS qA qG qC A t H := ⟨ga_peA hv.symm h.1, h.2⟩
theorem ga_pbR {B : Nat → Prop} {lf0 : Nat → Option Nat} {np0 : Nat} {p1 p2 pN : Nat → Int32} {pW pP pR pV : Nat → Nat → Int32} {pB : Nat → Int64} {pS pA pG : Nat → Nat → Int64} {pC : Nat → Nat → Int32} {ws wr w1 : va_W} {s t : State} {H H1 : Heap}
    (h0 : ga_pb D cA B lf0 np0 p1 p2 pN pW pP pR pV pB pS pA pG pC (va_A ws H.size) s H) (isR : List Nat) (hR : isR.map (fun i => ws[i]?) = wr.map some) (hv : s.vm.Alike t.vm)
    (h : ga_pb D cA (fun q => B q ∨ ga_iw wr q) lf np q1 q2 qN qW qP qR qV qB qS qA qG qC (va_A w1 H1.size) t H1) : ga_pb D cA B lf np q1 q2 qN qW qP qR qV qB qS qA qG qC (va_A (wr ++ w1) H1.size) s H1 := by
  have spl : ∀ a, va_A (wr ++ w1) H1.size a → va_A w1 H1.size a ∨ ga_iw wr a := by
    intro a ha
    rcases ha with ⟨j, e, hj⟩ | ha
    · rcases List.mem_append.mp (List.mem_of_getElem? hj) with hm | hm
      · obtain ⟨i, hi⟩ := List.getElem?_of_mem hm
        exact Or.inr ⟨i, e, hi⟩
      · obtain ⟨i, hi⟩ := List.getElem?_of_mem hm
        exact Or.inl (Or.inl ⟨i, e, hi⟩)
    · exact Or.inl (Or.inr ha)
  refine ⟨ga_peA hv (ga_peK.2.2.2 _ _ _ _ (fun a ha => ?_) h.1), fun q hq => ⟨fun z => ?_, (h.2 q (Or.inl hq)).2⟩⟩
  · rcases ha with ha | ha
    · rcases spl a ha with h9 | h9
      · exact Or.inl h9
      · exact Or.inr (Or.inr h9)
    · exact Or.inr (Or.inl ha)
  · rcases spl q z with h9 | ⟨k, e, hk⟩
    · exact (h.2 q (Or.inl hq)).1 h9
    · obtain ⟨i, -, h2⟩ := ga_mapat hR k _ hk
      exact (h0.2 q hq).1 (Or.inl ⟨i, e, h2⟩)
/-- a new round of the explicit world goes into the pool -/
theorem ga_pbAdd {B A0 : Nat → Prop} {ws wo : va_W} {s : State} {H : Heap} {f2 : Nat → Option Nat} {ln K r b w t e v bs ba bc bg : Nat} {c1 c2 cN : Int32} {dW dP dR dV : Nat → Int32} {cB : Int64} {dS dA dG : Nat → Int64} {dC : Nat → Int32}
    (h : ga_pb D cA B lf np q1 q2 qN qW qP qR qV qB qS qA qG qC (va_A ws H.size) s H) (hK : ga_K D cA s) (hP : va_P D ga_cl ws H) (hD : va_D A0 ws) (isO isM : List Nat) (hO : isO.map (fun i => ws[i]?) = wo.map some)
    (hM : isM.map (fun i => ws[i]?) = (ga_rd cA r b w t e v bs ba bc bg c1 c2 cN dW dP dR dV cB dS dA dG dC).map some) (hM2 : isM.filterMap (fun i => ws[i]?) = ga_rd cA r b w t e v bs ba bc bg c1 c2 cN dW dP dR dV cB dS dA dG dC) (hdis : ∀ i ∈ isM, i ∉ isO)
    (h1 : f2 K = some r) (h2 : ∀ j : Nat, j < ln → j ≠ K → f2 j = lf j) (h3 : ∀ (j y : Nat), j ≠ K → f2 j = some y → lf j = some y) (hg : K ≤ np ∧ K ≤ ln) :
    ga_pb D cA B f2 (K + 1) (ga_u q1 K c1) (ga_u q2 K c2) (ga_u qN K cN) (ga_u qW K dW) (ga_u qP K dP) (ga_u qR K dR) (ga_u qV K dV) (ga_u qB K cB) (ga_u qS K dS) (ga_u qA K dA) (ga_u qG K dG) (ga_u qC K dC) (va_A wo H.size) s H := by
  have hap := ga_apart hP hD isO isM hO hM hdis
  have hBm : ∀ (j : Nat) (q : Nat × va_E), (ga_rd cA r b w t e v bs ba bc bg c1 c2 cN dW dP dR dV cB dS dA dG dC)[j]? = some q → ¬ B q.1 := by
    intro j q hj hb
    obtain ⟨i, -, hi⟩ := ga_mapat hM j q hj
    exact (h.2 _ hb).1 (Or.inl ⟨i, q.2, hi⟩)
  refine ⟨⟨fun k hk => ?_, fun i y hi => ?_⟩, fun q hq => ⟨fun z => (h.2 q hq).1 (ga_AA isO hO q z), (h.2 q hq).2⟩⟩
  · by_cases e9 : k = K
    · subst e9
      simp only [ga_u_eq]
      exact ⟨r, b, w, t, e, v, bs, ba, bc, bg, h1, hP.sub isM hM2, fun j q hj z => z.elim (hap j q hj) (hBm j q hj)⟩
    · simp only [ga_u_ne _ _ e9]
      obtain ⟨r', b', w', t', e', v', bs', ba', bc', bg', g1, g2, g3⟩ := h.1.1 k (by omega)
      exact ⟨r', b', w', t', e', v', bs', ba', bc', bg', (h2 k (by omega) e9).trans g1, g2, fun j q hj z => g3 j q hj (z.imp (ga_AA isO hO q.1) id)⟩
  · by_cases e9 : i = K
    · subst e9
      cases Option.some.inj (h1.symm.trans hi)
      obtain ⟨i0, -, hi0⟩ := ga_mapat hM 0 _ rfl
      exact ga_ownO hK hP (ci := 5) (q0 := i0) rfl hi0 (fun z => z.elim (hap 0 _ rfl) (hBm 0 _ rfl))
    · exact (h.1.2 i y (h3 i y e9 hi)).narrow (fun q z => z.imp (ga_AA isO hO q) id)
/-- fewer rounds, in a list that has the same at these places -/
theorem ga_pbCut {B A : Nat → Prop} {s : State} {H : Heap} {f2 : Nat → Option Nat} {np2 : Nat} (h : ga_pb D cA B lf np q1 q2 qN qW qP qR qV qB qS qA qG qC A s H) (h1 : np2 ≤ np) (h2 : ∀ j : Nat, j < np2 → f2 j = lf j) (h3 : ∀ (j y : Nat), f2 j = some y → lf j = some y) : ga_pb D cA B f2 np2 q1 q2 qN qW qP qR qV qB qS qA qG qC A s H :=
  ⟨⟨fun k hk => by rw [h2 k hk]; exact h.1.1 k (Nat.lt_of_lt_of_le hk h1), fun i y hi => h.1.2 i y (h3 i y hi)⟩, h.2⟩
end GPB
