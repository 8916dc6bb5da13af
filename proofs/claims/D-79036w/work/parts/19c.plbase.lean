/-! the pool without the last round and the list's elements, for the methods that play; answers with alternatives -/
set_option maxRecDepth 100000
def ga_sm {α β γ : Type} (r : α ⊕ β) (f : α → γ) (g : β → γ) : γ := match r with
  | .inl v => f v
  | .inr k => g k
def ga_smp {α β : Type} (r : α ⊕ β) (f : α → Prop) (g : β → Prop) : Prop := match r with
  | .inl v => f v
  | .inr k => g k
/-- an object of the world, seen as a list's element -/
theorem ga_ownO {D : va_G} {cA : Nat → ClassId} {s : State} {H : Heap} {ws : va_W} {B : Nat → Prop} {a q0 ci : Nat} {q : vw_C} {fs : List Value} (hK : ga_K D cA s) (hP : va_P D ga_cl ws H) (hc : ga_cl[ci]? = some q) (he : ws[q0]? = some (a, .inr (ci, fs))) (hn : ¬ B a) : va_O q.1 a B s H := by
  obtain ⟨cell, h1, h2, h3⟩ := va_recv hK.1 hP hc he
  exact ⟨cell, h1, h2, h3, hn⟩
/-- the rounds at the places below np, and what the list's elements are -/
def ga_pe (D : va_G) (cA : Nat → ClassId) (lf : Nat → Option Nat) (np : Nat) (q1 q2 qN : Nat → Int32) (qW qP qR qV : Nat → Nat → Int32) (qB : Nat → Int64) (qS qA qG : Nat → Nat → Int64) (qC : Nat → Nat → Int32) (A : Nat → Prop) (U : State) (H : Heap) : Prop :=
  ga_po D cA lf np q1 q2 qN qW qP qR qV qB qS qA qG qC A U H ∧ ga_el "EnclosureReferee$Round" lf A U H
theorem ga_peK {D : va_G} {cA : Nat → ClassId} {lf : Nat → Option Nat} {np : Nat} {q1 q2 qN : Nat → Int32} {qW qP qR qV : Nat → Nat → Int32} {qB : Nat → Int64} {qS qA qG : Nat → Nat → Int64} {qC : Nat → Nat → Int32} : ga_RK (ga_pe D cA lf np q1 q2 qN qW qP qR qV qB qS qA qG qC) :=
  ⟨fun A U H g mk a h => ⟨ga_poK.1 A U H g mk a h.1, ga_elK.1 A U H g mk a h.2⟩, fun A s U H hW h => ⟨ga_poK.2.1 A s U H hW h.1, ga_elK.2.1 A s U H hW h.2⟩, fun A U H H1 hq h => ⟨ga_poK.2.2.1 A U H H1 hq h.1, ga_elK.2.2.1 A U H H1 hq h.2⟩, fun A B U H hq h => ⟨ga_poK.2.2.2 A B U H hq h.1, ga_elK.2.2.2 A B U H hq h.2⟩⟩
