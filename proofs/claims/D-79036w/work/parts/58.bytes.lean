/-! arrays of bytes: what they hold fits -/
set_option maxRecDepth 100000
def ga_Fb (f : Nat → Int32) : Prop := ∀ j : Nat, fits .byte (.int (f j)) = true
theorem ga_nb8 (x : Int32) : fits .byte (.int (vp_nar .byte x)) = true := by
  show (decide ((-128 : Int32) ≤ x.toInt8.toInt32) && decide (x.toInt8.toInt32 ≤ (127 : Int32))) = true
  have e : (x.toInt8.toInt32).toInt = x.toInt8.toInt := Int8.toInt_toInt32 _
  have h1 := Int8.le_toInt x.toInt8
  have h2 := Int8.toInt_lt x.toInt8
  have e1 : (-128 : Int32).toInt = -128 := by decide
  have e2 : (127 : Int32).toInt = 127 := by decide
  rw [Bool.and_eq_true, decide_eq_true_eq, decide_eq_true_eq, Int32.le_iff_toInt_le, Int32.le_iff_toInt_le, e, e1, e2]
  omega
theorem ga_Fb0 : ga_Fb (fun _ => 0) := fun _ => by decide
theorem ga_Fbu {f : Nat → Int32} (h : ga_Fb f) (i : Nat) (x : Int32) : ga_Fb (upd f i (vp_nar .byte x)) := by
  intro j
  unfold upd
  split
  · exact ga_nb8 x
  · exact h j
theorem ga_Fbc {f g : Nat → Int32} (h : ga_Fb f) (h2 : ga_Fb g) (a b n : Nat) : ga_Fb (va_cpy f g a b n) := by
  intro j
  unfold va_cpy
  split
  · exact h _
  · exact h2 j
theorem ga_FbC {f : Nat → Int32} (h : ga_Fb f) {c : ClassId} {n : Nat} (i : Nat) (v : Value) (hv : (vp_cell c (n, .inl f)).slots[i]? = some v) : fits .byte v = true := by
  have e : (vp_cell c (n, .inl f)) = arrV c n (fun j => .int (f j)) := rfl
  rw [e] at hv
  unfold arrV at hv
  simp only [Array.getElem?_ofFn] at hv
  split at hv
  · cases hv; exact h _
  · cases hv
theorem ga_tyqB9 {D : va_G} {cA : Nat → ClassId} {s : State} (hK : ga_K D cA s) : s.vm.findClass "[B" = some (cA 3) := (hK.1.2 3 _ rfl).2
/-- a private method is what's selected -/
theorem ga_selP {args : Array Value} {s : State} {C : String} {x y : MethodName} (h : (Cond.selects C x x).before args s = true) (hx : x.cls = y.cls) (hi : (Cond.instanceMethod y).before args s = true) (hp : (Cond.privateMethod y).before args s = true) (hy : y.cls ≠ "java/lang/invoke/MethodHandle" ∧ y.cls ≠ "java/lang/invoke/VarHandle") : (Cond.selects C y y).before args s = true := by
  obtain ⟨mk, methM, hnamed, hmethM, -, -⟩ := Cond.instanceMethod_spec hi
  obtain ⟨c, r, m, h1, h2, h3, h4, kP, hk, hni⟩ := Cond.selects_spec h
  have hfound : s.methodFound? y.cls y.name y.desc = some mk := State.methodFound?_of_named hnamed hy
  have hsel : selectMethod {} s.vm c mk = .method mk := selectMethod_private hmethM (Cond.privateMethod_at hp mk methM hnamed hmethM)
  have hcls : m.cls = mk.cls := Option.some.inj ((findClass_of_methodNamed h3).symm.trans (by rw [hx]; exact findClass_of_methodNamed hnamed))
  rw [hcls] at hk
  simp only [Cond.before, Cond.holds, Cond.value, h1, hfound, hnamed, hsel, hk]
  simp
  exact hni
section GUP
variable {p : Program} {l : Launch} {e : Env} {R : Room} {s : State} {m : MethodId} {args : Array Value} {below : List Frame} {meth : Method} {c : Code} {H : Heap} {locs : List Loc} {cells slots : Nat}
variable {y : MethodName} {bytes cc : ByteArray} {maxL nL mc ms n index : Nat} {ret : Option FieldType} {ws : List Cond} {rm : Room} {Pc : Array Value → State → Prop} {Qc : Array Value → State → Outcome → State → Prop} {free : Addr → Prop} {Ts : List Cond} {own C : String} {b : Addr} {As rest : List Value} {g : JFrame}
/-- super.m(..) -/
theorem ga_runU (S : CallFix p m c cc nL s args Ts own) (hM : Met l y ws rm Pc Qc mc ms free) (cw : CallB R s args own index y bytes maxL ret ws rm mc ms n ∧ (Cond.instanceMethod y).before args s = true ∧ (Cond.sameMethod y.cls y.cls y.name y.desc).before args s = true ∧ (Cond.superclass own y.cls).before args s = true ∧ y.name ≠ "<init>") (hp : PreV s H C b Pc As)
    (hg : g.method = m) (hn : As.length = n) (hsize : g.locals.size = nL) (hstack : g.stack = As.reverse ++ .ref b :: rest) (hW : 2 * g.monitorRoom + (rest.map fun v => v.category).sum ≤ 8) (hdg : decode cc g.pc = .ok (.invokespecial index, 3)) (hf : cells + mc ≤ R.cells ∧ slots + ms ≤ R.slots) :
    va_Run p l e R s m args below meth c H locs cells slots mc ms g rest (Qc (Value.ref b :: As).toArray) free := by
  obtain ⟨cwB, hin, hsm, hsu, hy1⟩ := cw
  have hK : Back l R p e below s args y 3 8 (PreOf R mc ms Pc) (PostOf Qc mc ms free) := callBack cwB hM hp.1
  obtain ⟨-, -, -, -, -, -, hcode, -, hy, hlen, hl⟩ := cwB
  obtain ⟨hx, hb, hml, ho, -⟩ := S
  obtain ⟨-, ⟨cellB, hcB, hoB, hclB⟩, hPc⟩ := hp
  obtain ⟨mk, methM, hnamed, hmethM, hstM, habM⟩ := Cond.instanceMethod_spec hin
  obtain ⟨methM', cM, hmethM', -, -, -, -, -, -, hsigM⟩ := Cond.code_spec hnamed hcode
  cases hmethM.symm.trans hmethM'
  obtain ⟨cn, dk, kp, hcn, hd, -, hsuper, -, -, hnid⟩ := Cond.superclass_spec ho hsu
  have hmc : mk.cls = cn := Option.some.inj ((findClass_of_methodNamed hnamed).symm.trans hcn)
  obtain ⟨kc, hkc, -⟩ := Vm.findClass_spec hclB
  intro T hT X
  obtain ⟨v, vm₁, ⟨U', l2, c2, s2⟩, hW₁, X', ⟨g', mk', t, L, e1, e2, hq, h1, hL, h2, h3⟩, st⟩ := X.specialUpBack (x := y) (owner := y.cls) hx ho hl hsm hnamed hmethM hstM habM hy1 hd hnid hcn hsuper (by rw [hmc]; simp [Vm.isSubclass, Vm.isSubclassAux]) (cell := cellB) (kcell := kc) (by rw [hT]; exact hcB)
    (fun z h => by rw [h] at hoB; cases hoB) hkc hK hg (hsize.trans hml.symm) (Steps.refl _) (argsL := As) (rest := rest) (hn.trans (hlen _ hsigM)) hstack hW (by rw [hb]; exact hdg) (fun vm₁ hW₁ => ⟨hf.1, hf.2, hPc (T.setVm vm₁) hT hW₁⟩)
  dsimp only [Pt.U, Pt.locs, Pt.cells, Pt.slots] at X' e1 e2 h1 h2 h3 st
  subst h1; subst h2; subst h3
  exact ⟨v, (T.setVm vm₁).calling g' mk' (Value.ref b :: As).toArray, t, U', L, hT, X', hL, e1, e2, hq, fun t2 h => st.trans h⟩
end GUP
/-- what an append may make -/
def ga_gc (sc : Int32) (sn : Nat) : Nat := if ((sc + 1) - (jishr (Int32.ofNat sn) 0)) ≤ 0 then 0 else 1
def ga_gs (sc : Int32) (sn : Nat) : Nat := if ((sc + 1) - (jishr (Int32.ofNat sn) 0)) ≤ 0 then 0 else (sn + sn + 2)
theorem ga_cwO {R : Room} {s : State} {args : Array Value} {own C : String} {index maxL mc ms : Nat} {x y : MethodName} {bytes : ByteArray} {ret : Option FieldType} {Ts ws ws' : List Cond} {rm : Room} (n : Nat) (ht : ∀ w ∈ Ts, w.before args s = true) (hG : GoodIn Ts ws) (hw : ws = Cond.code y bytes maxL ret :: ws') (hrc : rm.cells = mc) (hrs : rm.slots = ms)
    (hini : (Cond.initialized y.cls).before args s = true) (hl : (Cond.methodLink own index x).before args s = true) (hsm : (Cond.sameMethod x.cls x.cls x.name x.desc).before args s = true) {b0 : ByteArray} {m0 : Nat} {r0 : Option FieldType} (hdi : (Cond.instanceMethod x).before args s = true) (hdc : (Cond.code x b0 m0 r0).before args s = true)
    (hse : (Cond.selects C x y).before args s = true) (hi : (Cond.instanceMethod y).before args s = true)
    (hd : x.cls ≠ "java/lang/invoke/MethodHandle" ∧ x.cls ≠ "java/lang/invoke/VarHandle" ∧ (parseMethodDescriptor x.desc).map (fun d => d.parameters.length) = some n) (hR : rm.frames + 1 ≤ R.frames ∧ 8 + (maxL + 11) + rm.locals ≤ R.locals) : va_CU R s args own C x.cls index x y bytes maxL ret ws rm mc ms n := by
  have hc : Cond.code y bytes maxL ret ∈ ws := by rw [hw]; exact List.mem_cons_self
  refine ⟨⟨hrc, hrs, hR.1, hR.2, pay_in ht hG, hc⟩, ht _ (hG _ hc).1, hini, ⟨hd.1, hd.2.1⟩, fun sig h => ?_, hl, hsm, va_Decl.of hdi hdc, hse, hi⟩
  have h2 := hd.2.2
  rw [h] at h2
  exact (Option.some.inj h2).symm
