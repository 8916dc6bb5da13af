/-! a synchronized getter: Throwable.getCause -/
set_option maxRecDepth 100000
theorem ga_ofSync {l : Launch} {x : MethodName} {S : Spec} {P : Array Value → State → Prop} {Q : Array Value → State → Outcome → State → Prop} {code : ByteArray} {maxLocals : Nat} {ret : Option FieldType}
    (hx : plainName x.cls = true)
    (his : ∀ args (s : State) m, S.pre.before args s = true → s.methodNamed? x = some m → ∃ meth c, s.vm.method? m = some meth ∧ meth.code = some c ∧ c.code = code ∧ c.maxLocals = maxLocals ∧ meth.sig.returnType = ret ∧ meth.locks = true ∧ meth.isStatic = false)
    (hrecv : ∀ args (s : State), P args s → ∃ a cell, args[0]? = some (.ref a) ∧ s.heap[a]? = some cell ∧ cell.enterable s.cur)
    (body : ∀ (p : Program) (e : Env) (s : State) (m : MethodId) (args : Array Value) (below : List Frame) (meth : Method) (c : Code) (a : Addr) (cell : Cell) (s₁ : State), p.tables.exec = Jvm.exec → S.pre.before args s = true → s.methodNamed? x = some m → meth.sig.returnType = ret → meth.locks = true → c.code = code → c.maxLocals = maxLocals →
      args[0]? = some (.ref a) → s.heap[a]? = some cell → cell.enterable s.cur → s₁.heap = s.heap.setIfInBounds a (cell.withEntry s.cur) →
      Stand p l e S.room (s.setCell a (cell.withEntry s.cur)) m args below meth c s₁ [] 0 0 → P args s →
      ∃ s₂ o, Steps p.tables e below (s₁.setTop (entryFrameSync m args maxLocals a)) s₂ ∧ s₂.status = .running ∧ Ended s₂ below o ∧ Q args s o s₂) :
    MetFree l x S P (fun _ _ _ _ _ => True) Q := by
  intro p e ha hc hk s m args below hf happ hP _
  obtain ⟨hrun, hable, halone, hname, hhears, hinit, hroom, hpre⟩ := (Spec.appliesLoose_iff hf).mp happ
  obtain ⟨meth, c, hmeth, hcode, hbytes, hlocals, hret, hlocks, hst⟩ := his args s m hpre hname
  obtain ⟨a, cell, harg, hcell, hent⟩ := hrecv args s hP
  have hcur := State.cur_lt_of_frames hf
  have hcur' : (s.setCell a (cell.withEntry s.cur)).cur < (s.setCell a (cell.withEntry s.cur)).threads.size := hcur
  have hf1 : ((s.setCell a (cell.withEntry s.cur)).setFrames (.java (entryFrameSync m args maxLocals a) :: below)).frames = .java (entryFrameSync m args maxLocals a) :: below :=
    State.frames_setFrames _ hcur'
  have ht1 := State.topJava?_of_frames hf1
  have hplain : ((s.setCell a (cell.withEntry s.cur)).setFrames (.java (entryFrameSync m args maxLocals a) :: below)).plainMethod m := State.plainMethod.of_named (s := s) (plainFor_of_name hx) hname hmeth
  have hAt : At ((s.setCell a (cell.withEntry s.cur)).setFrames (.java (entryFrameSync m args maxLocals a) :: below)) m c below :=
    ⟨by rw [ht1]; rfl, ⟨[], by rw [hf1]; rfl⟩, hrun, by simpa using hable, by simpa using halone,
      by rw [State.code?_eq]; simp [State.setFrames, State.setCell, hmeth, hcode], hplain⟩
  obtain ⟨t, ht, -⟩ := State.frames_cons hf
  have hX : Stand p l e S.room (s.setCell a (cell.withEntry s.cur)) m args below meth c ((s.setCell a (cell.withEntry s.cur)).setFrames (.java (entryFrameSync m args maxLocals a) :: below)) [] 0 0 := by
    refine ⟨ha, hc, hk, hf, by rw [State.hasRoom_setCell (x := cell.withEntry s.cur) hcell rfl]; exact hroom, hhears, hmeth, hcode, hAt, by rw [hf1]; rfl,
      State.WarmedH.refl (s.setCell a (cell.withEntry s.cur)), by rw [State.stackLimits_setFrames], by rw [State.stackBytes_setFrames], ?_⟩
    exact (State.sameButNew.refl (s.setCell a (cell.withEntry s.cur)) (x := t) ht).setFrames (.java (entryFrameSync m args maxLocals a) :: below) hcur
  obtain ⟨s₂, o, hs, hr, he, hp⟩ := body p e s m args below meth c a cell _ (by cases p <;> rfl) hpre hname hret hlocks hbytes hlocals harg hcell hent rfl hX hP
  have hstep : (stepThread p.tables e s).1 =
      ((s.setCell a (cell.withEntry s.cur)).setFrames (.java (entryFrameSync m args maxLocals a) :: below)).setTop (entryFrameSync m args maxLocals a) := by
    have hfull : e.platform.stackFull (s.setFrames below).me (s.setFrames below).frames (c.maxLocals + 2) = false := by
      obtain ⟨-, h1, -, h2⟩ := State.hasRoom_stack hroom
      rw [hf, List.length_cons] at h1
      rw [State.localsInUse_invoking hf hmeth hcode] at h2
      have hw := stackUse_le_stackWeight below
      rw [State.frames_setFrames _ hcur]
      simp only [vmFrameWords] at h2
      exact Platform.stackFull_eq_false (by rw [State.stackLimits_setFrames]; omega) (by rw [State.stackLimits_setFrames]; omega)
    rw [stepThread_invoking hf, (doInvoke_java_sync (s := s.setFrames below) (e := e) (meth := meth) (code := c) (a := a) (cell := cell) hmeth hcode hlocks hst harg hcell hent.either hfull).1,
      State.setTop_self ht1, hlocals]
    show (((s.setFrames below).setCell a (cell.withEntry s.cur)).setFrames (.java (entryFrameSync m args maxLocals a) :: ((s.setFrames below).setCell a (cell.withEntry s.cur)).frames)) = _
    rw [show ((s.setFrames below).setCell a (cell.withEntry s.cur)).frames = below from State.frames_setFrames _ hcur, State.setCell_setFrames, State.setFrames_setFrames]
  obtain ⟨n, hn, hw⟩ := Steps.head (tb := p.tables) (e := e) ⟨hrun, hable, halone⟩ ⟨[.invoking m args], hf, by simp, by simp⟩ (hstep ▸ hs)
  exact ⟨n, o, hw, hn ▸ hr, hn ▸ he, hn ▸ hp⟩
abbrev ga_yC : MethodName := { cls := "java/lang/Throwable", name := "getCause", desc := "()Ljava/lang/Throwable;" }
abbrev ga_wC : List Cond := [Cond.codeSync ga_yC prog_38_method_8_code (1 : Nat) (some (FieldType.object "java/lang/Throwable")), Cond.instanceMethod ga_yC, Cond.fieldLink "java/lang/Throwable" (7 : Nat) "java/lang/Throwable" "cause" "Ljava/lang/Throwable;"]
abbrev ga_rC : Room := { frames := 1, cells := 0, slots := 0, locals := 14 }
def ga_pC (q : Nat) (v : Value) (a : Array Value) (st : State) : Prop :=
  a = #[.ref q] ∧ (v = .null ∨ ∃ b : Nat, v = .ref b ∧ b ≠ q) ∧ ∃ (cf i : Nat) (k : Class) (f : Field) (cell : Cell), st.fieldFound? "java/lang/Throwable" "cause" "Ljava/lang/Throwable;" = some (cf, k, i, f) ∧ f.isStatic = false ∧
    st.heap[q]? = some cell ∧ cell.vm ≠ .unknown ∧ cell.slots[f.slot]? = some v ∧ cell.monitor.owner = none ∧ cell.monitor.count = 0
theorem ga_dC0 : decode prog_38_method_8_code 0 = .ok (.aload_n 0, 1) := by rfl
theorem ga_dC1 : decode prog_38_method_8_code 1 = .ok (.getfield 7, 3) := by rfl
theorem ga_dC4 : decode prog_38_method_8_code 4 = .ok (.aload_n 0, 1) := by rfl
theorem ga_dC5 : decode prog_38_method_8_code 5 = .ok (.if_acmp .ne 7, 3) := by rfl
theorem ga_dC12 : decode prog_38_method_8_code 12 = .ok (.aload_n 0, 1) := by rfl
theorem ga_dC13 : decode prog_38_method_8_code 13 = .ok (.getfield 7, 3) := by rfl
theorem ga_dC16 : decode prog_38_method_8_code 16 = .ok (.areturn, 1) := by rfl
section GAC
variable {p : Program} {l : Launch} {e : Env} {R : Room} {s : State} {m : MethodId} {args : Array Value} {below : List Frame} {meth : Method} {c : Code} {H : Heap} {locs : List Loc} {cells slots : Nat} {Q : State → Prop} {cc : ByteArray}
theorem ga_aldg (hexec : p.tables.exec = Jvm.exec) (hb : c.code = cc) {g : JFrame} (hg : g.method = m) {x : Nat} (hdg : decode cc g.pc = .ok (.aload_n 0, 1)) (hl : g.locals[0]? = some (.val (.ref x)))
    (k : W p l e R s m args below meth c H locs cells slots Q { g with pc := g.pc + 1, stack := .ref x :: g.stack }) : W p l e R s m args below meth c H locs cells slots Q g := by
  intro T hT X
  obtain ⟨t, a, b⟩ := k T hT X
  refine ⟨t, ?_, b⟩
  subst hg
  jvm_step X.here [X.here.top, hexec, hb, hdg, hl, Value.isRef]
  exact a
theorem ga_acng (hexec : p.tables.exec = Jvm.exec) (hb : c.code = cc) {g : JFrame} (hg : g.method = m) {x : Nat} {v : Value} {rest : List Value} (hs : g.stack = .ref x :: v :: rest) (hv : v = .null ∨ ∃ b : Nat, v = .ref b ∧ b ≠ x) {off : Int} {tgt : Nat} (hdg : decode cc g.pc = .ok (.if_acmp .ne off, 3)) (ht : (g.pc : Int) + off = (tgt : Int))
    (k : W p l e R s m args below meth c H locs cells slots Q { g with pc := tgt, stack := rest }) : W p l e R s m args below meth c H locs cells slots Q g := by
  intro T hT X
  obtain ⟨t, a, b⟩ := k T hT X
  refine ⟨t, ?_, b⟩
  subst hg
  rcases hv with rfl | ⟨y, rfl, hne⟩
  · jvm_step X.here [X.here.top, hexec, hb, hdg, hs, Value.asRef?, Op.if_acmp.holds, ht]; exact a
  · jvm_step X.here [X.here.top, hexec, hb, hdg, hs, Value.asRef?, Op.if_acmp.holds, ht, hne]; exact a
end GAC
theorem met_J6_getCause (l : Launch) (q : Nat) (v : Value) : Met l ga_yC ga_wC ga_rC (ga_pC q v) (fun _ st o t => o = .returned (some v) ∧ t.heap = st.heap) 0 0 (fun _ => False) := by
  unfold Met
  refine ga_ofSync (code := prog_38_method_8_code) (maxLocals := 1) (ret := some (FieldType.object "java/lang/Throwable")) (by decide) ?_ ?_ ?_
  · intro args s m h hn
    have h1 := atoms_spec (ws := ga_wC) h _ List.mem_cons_self
    have h2 := atoms_spec (ws := ga_wC) h (Cond.instanceMethod ga_yC) (List.mem_cons_of_mem _ List.mem_cons_self)
    obtain ⟨meth, c, hmeth, hcode, hbytes, hlocals, hret, hlocks, -, -⟩ := Cond.codeSync_spec hn h1
    obtain ⟨mk, methM, hnamed, hmethM, hstM, -⟩ := Cond.instanceMethod_spec h2
    cases Option.some.inj (hn.symm.trans hnamed)
    cases hmeth.symm.trans hmethM
    exact ⟨meth, c, hmeth, hcode, hbytes, hlocals, hret, hlocks, hstM⟩
  · rintro args s ⟨rfl, -, cf, i, k, f, cell, -, -, hc, -, -, ho, hn⟩
    exact ⟨q, cell, rfl, hc, Or.inl ⟨ho, hn⟩⟩
  · rintro p e s m args below meth c a cell s₁ hexec hpre hname hret hlocks hb hml harg hcell hent hs1 X ⟨rfl, hv, cf, i, k, f, cell', hF, hst, hc, hun, hsl, ho, hn⟩
    cases (show q = a from by simpa using harg)
    cases hcell.symm.trans hc
    have hlt : q < s.heap.size := (Array.getElem?_eq_some_iff.mp hcell).1
    have hlink : (Cond.fieldLink "java/lang/Throwable" (7 : Nat) "java/lang/Throwable" "cause" "Ljava/lang/Throwable;").before #[.ref q] (s.setCell q (cell.withEntry s.cur)) = true :=
      word_at (s := s) (U := s.setCell q (cell.withEntry s.cur)) (State.WarmedH.refl s) (Or.inl rfl) (atoms_spec (ws := ga_wC) hpre _ (List.mem_cons_of_mem _ (List.mem_cons_of_mem _ List.mem_cons_self)))
    have hown : (s.setCell q (cell.withEntry s.cur)).vm.findClass "java/lang/Throwable" = some m.cls := findClass_of_methodNamed hname
    have hF' : (s.setCell q (cell.withEntry s.cur)).fieldFound? "java/lang/Throwable" "cause" "Ljava/lang/Throwable;" = some (cf, k, i, f) := hF
    have hH : (s.heap.setIfInBounds q (cell.withEntry s.cur))[q]? = some (cell.withEntry s.cur) := by simp [hlt]
    have hl0 : (argsToLocals #[Value.ref q] 1)[0]? = some (.val (.ref q)) := rfl
    have key : W p l e ga_rC (s.setCell q (cell.withEntry s.cur)) m #[.ref q] below meth c (s.heap.setIfInBounds q (cell.withEntry s.cur)) [] 0 0
        (fun t => ∃ o, t.status = .running ∧ Ended t below o ∧ (o = .returned (some v) ∧ t.heap = s.heap) ∧ ∃ L, FrameEnd s o t L 0 0 ∧ ∀ q ∈ L, False) (entryFrameSync m #[.ref q] 1 q) := by
      refine ga_aldg hexec hb rfl ga_dC0 hl0 ?_
      refine W.getf hexec hb hown hlink hF' hst hH hun (v := v) hsl rfl rfl ga_dC1 ?_
      refine ga_aldg hexec hb rfl ga_dC4 hl0 ?_
      refine ga_acng hexec hb rfl rfl hv (tgt := 12) ga_dC5 rfl ?_
      refine ga_aldg hexec hb rfl ga_dC12 hl0 ?_
      refine W.getf hexec hb hown hlink hF' hst hH hun (v := v) hsl rfl rfl ga_dC13 ?_
      intro T hT X
      obtain ⟨fs, cellT, hcT, hret9, hrun, hended, hW, hfr⟩ := X.leaveSync hcell hent hlocks (v := some v) (fun h => by rw [hret] at h; cases h)
      have hmeth' : T.vm.method? m = some meth := X.method'
      have e1 : cellT = cell.withEntry s.cur := by rw [hT] at hcT; exact Option.some.inj (hcT.symm.trans hH)
      have hheap : ((T.setCell q cellT.left).setFrames fs).heap = s.heap := by
        show T.heap.setIfInBounds q cellT.left = s.heap
        rw [hT, e1, Cell.left_withEntry' hent, Array.setIfInBounds_setIfInBounds]
        exact congrArg State.heap (State.setCell_same hcell)
      refine ⟨(T.setCell q cellT.left).setFrames fs, ?_, .returned (some v), hrun, hended, ⟨rfl, hheap⟩, [], ⟨⟨_, rfl⟩, hW, hfr⟩, by simp⟩
      rcases hv with rfl | ⟨b, rfl, -⟩ <;>
        (jvm_step X.here [X.here.top, hexec, hb, ga_dC16, hmeth', hret]
         (try refine ⟨rfl, ?_⟩); (try refine ⟨rfl, ?_⟩)
         first | (intro acts; rw [hret9 _ acts rfl rfl rfl]) | rw [hret9 _ _ rfl rfl rfl]
         exact Steps.refl _)
    obtain ⟨t, h1, o, h2, h3, h4⟩ := key s₁ hs1 X
    exact ⟨t, o, h1, h2, h3, h4⟩
section GAY
variable {l : Launch} {R : Room} {p : Program} {e : Env} {below : List Frame} {s : State} {sargs : Array Value} {y : MethodName} {len W9 : Nat}
theorem ga_backY {ws : List Cond} {rm : Room} {Pc : Array Value → State → Prop} {Qc : Array Value → State → Outcome → State → Prop} {mc ms : Nat} {free : Addr → Prop} {bytes : ByteArray} {maxL : Nat} {ret : Option FieldType}
    (hM : Met l y ws rm Pc Qc mc ms free) (hblind : FrameBlind Pc) (hrc : rm.cells = mc) (hrs : rm.slots = ms)
    (hframes : rm.frames + 1 ≤ R.frames) (hlocals : W9 + (maxL + 11) + rm.locals ≤ R.locals)
    (hws : ∀ w ∈ ws, ∀ a' U, s.WarmedH U.vm → w.before a' U = true) (hcode : Cond.codeSync y bytes maxL ret ∈ ws) (hinit : ∀ a' U, s.WarmedH U.vm → (Cond.initialized y.cls).before a' U = true) :
    Back l R p e below s sargs y len W9 (PreOf R mc ms Pc) (PostOf Qc mc ms free) := by
  intro m meth c A g ig mk a X hg hsize hdg hW hn hp
  have h1 : (headSpec ws rm).pre.before a A.U = true := atoms_intro fun w hw => hws w hw _ _ X.warmed
  have h2 : (Cond.codeSync y bytes maxL ret).before a A.U = true := hws _ hcode _ _ X.warmed
  have h3 : (Cond.initialized y.cls).before a A.U = true := hinit _ _ X.warmed
  have h4 : A.cells + (headSpec ws rm).room.cells ≤ R.cells := by rw [show (headSpec ws rm).room.cells = mc from hrc]; exact hp.1
  have h5 : A.slots + (headSpec ws rm).room.slots ≤ R.slots := by rw [show (headSpec ws rm).room.slots = ms from hrs]; exact hp.2.1
  have hPc : Pc a (A.U.calling g mk a) := hblind _ _ _ _ hp.2.2
  obtain ⟨U, Ls, c0, s0⟩ := A
  dsimp only [Pt.U, Pt.locs, Pt.cells, Pt.slots] at h1 h2 h3 h4 h5 X hn hPc ⊢
  obtain ⟨methY, cY, hmY, hcY, -, hlY, -⟩ := Cond.codeSync_spec hn h2
  obtain ⟨kY, hkY, -⟩ := className_of_methodNamed hn
  have hinitY : kY.init = .initialized := Cond.initialized_spec (findClass_of_methodNamed hn) hkY h3
  have h : At U g.method c below := by rw [hg]; exact X.here
  have hlocals9 : W9 + (maxL + 11) + (headSpec ws rm).room.locals ≤ R.locals := hlocals
  have happ : (headSpec ws rm).appliesLoose y e.platform (U.calling g mk a) = true :=
    Spec.appliesLoose_calling (g := g) h hdg hn hkY hinitY
      (X.room_calling (g := g) (R' := (headSpec ws rm).room) hsize hmY hcY hframes (by rw [hlY]; omega) h4 h5) h1
  obtain ⟨mid, hmid⟩ := h.above
  have hfr : (U.setTop g).frames = (.java g :: mid) ++ below := by rw [State.frames_setTop' g h.top, hmid]; rfl
  obtain ⟨o, s₂, hsteps, -, hend, hq⟩ := Steps.callFree hM p X.admits X.cas X.clock (acts := []) hfr happ hPc trivial
  have hq' : Qc a (U.calling g mk a) o s₂ ∧ ∃ L, FrameEnd (U.calling g mk a) o s₂ L mc ms ∧ ∀ q ∈ L, free q.base := hq
  rw [State.frames_setTop' g h.top] at hend
  obtain ⟨hqc, L, hfe, hL⟩ := hq'
  obtain ⟨⟨v, rfl⟩, hW₂, e2, q2, q3, q4, q5, q6⟩ := id hfe
  have e3 : s₂ = ({ (U.calling g mk a).setFrames s₂.frames with heap := s₂.heap, slotsUsed := s₂.slotsUsed } : State).setVm s₂.vm := by
    have : s₂ = ({ s₂ with vm := (U.calling g mk a).vm } : State).setVm s₂.vm := rfl
    rw [e2] at this
    exact this
  obtain ⟨c₂, i₂, len₂, hc₂, hd₂, hf₂⟩ := hend
  have hW' : U.WarmedH s₂.vm := hW₂
  have hcc : c₂ = c := by
    have h1 : s₂.code? g.method = U.code? g.method := by
      rw [State.code?_eq, State.code?_eq, hW'.alike.method?]
    exact Option.some.inj (hc₂.symm.trans (h1.trans h.code))
  subst hcc
  have hlen : len₂ = len := by rw [hdg] at hd₂; cases hd₂; rfl
  subst hlen
  obtain ⟨g₀, hg0⟩ := Option.isSome_iff_exists.mp h.top
  obtain ⟨r, hr⟩ := State.topJava?_eq_some.mp hg0
  have hs₂ : s₂ = (({ U with heap := s₂.heap, slotsUsed := s₂.slotsUsed } : State).setVm s₂.vm).setTop { g with pc := g.pc + len₂, stack := v.toList ++ g.stack } := by
    have hr' : (({ U with heap := s₂.heap, slotsUsed := s₂.slotsUsed } : State).setVm s₂.vm).frames = .java g₀ :: r := hr
    refine e3.trans ?_
    rw [hf₂, State.calling_eq h.top, State.setFrames_setFrames, State.setTop_of_frames _ hr', hr]
    rfl
  have hsame : U.sameButNew ({ U with heap := s₂.heap, slotsUsed := s₂.slotsUsed } : State) L mc ms := by
    refine ⟨?_, q2, q3, q4, q5, q6⟩
    obtain ⟨t, ht, -⟩ := State.frames_cons hr
    show ({ U with heap := s₂.heap, slotsUsed := s₂.slotsUsed } : State) = { U.setFrames U.frames with heap := s₂.heap, slotsUsed := s₂.slotsUsed }
    rw [State.setFrames_self ht]
  subst hg
  refine ⟨v, ⟨(({ U with heap := s₂.heap, slotsUsed := s₂.slotsUsed } : State).setVm s₂.vm), Ls ++ L, c0 + mc, s0 + ms⟩,
    ⟨X.admits, X.cas, X.clock, X.frames, X.room, X.hears, X.method, X.code, (X.here.setHeapUsed s₂.heap s₂.slotsUsed).setVm hW'.alike, X.tail, State.WarmedH.trans X.warmed hW', X.limits, X.bytes, X.same.trans (hsame.setVm s.vm)⟩,
    ⟨g, mk, s₂, L, rfl, rfl, hqc, rfl, hL, rfl, rfl⟩, ?_⟩
  show Steps p.tables e below _ ((({ U with heap := s₂.heap, slotsUsed := s₂.slotsUsed } : State).setVm s₂.vm).setTop { g with pc := g.pc + len₂, stack := v.toList ++ g.stack })
  rw [← hs₂]
  exact hsteps
end GAY
section GAZ
variable {p : Program} {l : Launch} {e : Env} {R : Room} {s : State} {m : MethodId} {args : Array Value} {below : List Frame} {meth : Method} {c : Code} {H : Heap} {locs : List Loc} {cells slots : Nat} {Q : State → Prop}
variable {cc : ByteArray} {pc : Nat} {ls : Array Slot} {rest : List Value} {D : va_G} {A : Nat → Prop} {a : Nat} {tys : List (ClassId × FieldType)} {ws : va_W}
theorem ga_callY {T : State} (X : Stand p l e R s m args below meth c T locs cells slots) (hexec : p.tables.exec = Jvm.exec) {own C : String} {index : Nat} {y : MethodName} {bytes : ByteArray} {maxL : Nat} {ret : Option FieldType}
    (hown : s.vm.findClass own = some m.cls) (hlink : (Cond.methodLink own index y).before args s = true) (hinst : (Cond.instanceMethod y).before args s = true) (hsel : (Cond.selects C y y).before args s = true)
    (hcode : (Cond.codeSync y bytes maxL ret).before args s = true) (hy : y.cls ≠ "java/lang/invoke/MethodHandle" ∧ y.cls ≠ "java/lang/invoke/VarHandle")
    {W9 : Nat} {Pre : Pt → Array Value → Prop} {Post : Pt → Array Value → Option Value → Pt → Prop} (hK : Back l R p e below s args y 3 W9 Pre Post)
    {b : Addr} {cellB : Cell} (hcell : T.heap[b]? = some cellB) (hobj : cellB.vm.isStatics = false) (hcls : s.vm.findClass C = some cellB.cls)
    {g : JFrame} (hg : g.method = m) (hsize : g.locals.size = c.maxLocals) {argsL rest : List Value} (hlen : ∀ sig, parseMethodDescriptor y.desc = some sig → argsL.length = sig.parameters.length)
    (hstack : g.stack = argsL.reverse ++ .ref b :: rest) (hW : 2 * g.monitorRoom + (rest.map fun v => v.category).sum ≤ W9) (hdg : decode c.code g.pc = .ok (.invokevirtual index, 3))
    (hpre : ∀ vm₁, s.WarmedH vm₁ → Pre ⟨T.setVm vm₁, locs, cells, slots⟩ (Value.ref b :: argsL).toArray) :
    ∃ (v : Option Value) (vm₁ : Vm) (B : Pt), s.WarmedH vm₁ ∧ Stand p l e R s m args below meth c B.U B.locs B.cells B.slots ∧ Post ⟨T.setVm vm₁, locs, cells, slots⟩ (Value.ref b :: argsL).toArray v B ∧
      ∀ target, Steps p.tables e below (B.U.setTop { g with pc := g.pc + 3, stack := v.toList ++ rest }) target → Steps p.tables e below (T.setTop g) target := by
  obtain ⟨mk, methM, hnamed, hmethM, hstM, habM⟩ := Cond.instanceMethod_spec hinst
  obtain ⟨methM', cM, hmethM', -, -, -, -, -, -, hsigM⟩ := Cond.codeSync_spec hnamed hcode
  cases hmethM.symm.trans hmethM'
  obtain ⟨c2, r2, m2, q1, q2, q3, q4, kP, hkP, hkPi⟩ := Cond.selects_spec hsel
  cases hcls.symm.trans q1
  cases (State.methodFound?_of_named hnamed hy).symm.trans q2
  cases hnamed.symm.trans q3
  have hselP : selectMethod e.platform s.vm cellB.cls mk = .method mk := by rw [Launch.admits_selectMethod X.admits]; exact q4
  obtain ⟨vm₁, X₁, hstep₁⟩ := X.invokevirtual hexec hown hlink hnamed hmethM hstM hkP hkPi hy (a := b) (cell := cellB) hcell
    (fun z h => by rw [h] at hobj; cases hobj) hselP hmethM habM hkP hkPi (g := g) hg (argsL := argsL) (rest := rest) (hlen _ hsigM) hstack hdg
  obtain ⟨v, B, X', hpost, hsteps⟩ := hK m meth c ⟨T.setVm vm₁, locs, cells, slots⟩ { g with stack := rest } (.invokevirtual index) mk (Value.ref b :: argsL).toArray X₁ hg hsize hdg hW (X₁.named hnamed) (hpre vm₁ X₁.warmed)
  exact ⟨v, vm₁, B, X₁.warmed, X', hpost, fun target h => hstep₁ _ fun acts => by rw [doInvoke_state]; exact hsteps.trans h⟩
end GAZ
theorem ga_pCblind (q : Nat) (v : Value) : FrameBlind (ga_pC q v) := by
  rintro a U g mk ⟨h1, h2, cf, i, k, f, cell, h3, h4, h5⟩
  exact ⟨h1, h2, cf, i, k, f, cell, h3, h4, h5⟩
section GAZ2
variable {p : Program} {l : Launch} {e : Env} {R : Room} {s : State} {m : MethodId} {args : Array Value} {below : List Frame} {meth : Method} {c : Code} {H : Heap} {locs : List Loc} {cells slots : Nat} {Q : State → Prop}
variable {cc : ByteArray} {pc : Nat} {ls : Array Slot} {rest : List Value} {D : va_G} {A : Nat → Prop} {a : Nat} {tys : List (ClassId × FieldType)} {ws : va_W} {cl : List vw_C}
theorem ga_cause (hexec : p.tables.exec = Jvm.exec) (hb : c.code = cc) (hsz : ls.size = c.maxLocals) {own C : String} {T : u_T} {N ci index : Nat} {Ts : List Cond} (hts : ∀ w ∈ Ts, w.before args s = true) (hin : ∀ w ∈ u_ws C T N, w ∈ Ts)
    (hown : s.vm.findClass own = some m.cls) (hK : va_K D cl tys s) (hP : va_P D cl ws H) (q0 : Nat) {fs : List Value} (he : ws[q0]? = some (a, .inr (ci, fs))) (hc : cl[ci]? = some (C, T, N)) (k : Nat) (hk : k < N) (hT : (T k).1 = "java/lang/Throwable" ∧ (T k).2.1 = "cause" ∧ (T k).2.2.1 = "Ljava/lang/Throwable;")
    {v : Value} (hv : fs[k]? = some v) (hvn : v = .null ∨ ∃ b : Nat, v = .ref b ∧ b ≠ a) (hM : ga_M a H)
    (hl : (Cond.methodLink own index ga_yC).before args s = true) (hi : (Cond.instanceMethod ga_yC).before args s = true) (hse : (Cond.selects C ga_yC ga_yC).before args s = true) (hini : (Cond.initialized "java/lang/Throwable").before args s = true)
    (hco : (Cond.codeSync ga_yC prog_38_method_8_code (1 : Nat) (some (FieldType.object "java/lang/Throwable"))).before args s = true) (hfl : (Cond.fieldLink "java/lang/Throwable" (7 : Nat) "java/lang/Throwable" "cause" "Ljava/lang/Throwable;").before args s = true)
    (hR : 2 ≤ R.frames ∧ 34 ≤ R.locals) (hf : cells ≤ R.cells ∧ slots ≤ R.slots) (hW : (rest.map fun v => v.category).sum ≤ 8) (hdg : decode cc pc = .ok (.invokevirtual index, 3))
    (kk : W p l e R s m args below meth c H locs cells slots Q (F0 m (pc + 3) ls (v :: rest))) : W p l e R s m args below meth c H locs cells slots Q (F0 m pc ls (.ref a :: rest)) := by
  obtain ⟨r, h1, cell, q1, q2, q3, q4⟩ := hP q0 _ he
  have hr : r = (C, T, N) := Option.some.inj (h1.symm.trans hc)
  subst hr
  obtain ⟨hS, hfc, kC, hkC, hkind⟩ := hK.1 ci _ hc
  obtain ⟨cf, kf, fi, f, hi9, hsl⟩ := hS k hk
  have hst : f.isStatic = false := (u_facts hfc hkC (u_lays hts hin hk) hi9).1
  rw [hT.1, hT.2.1, hT.2.2] at hi9
  obtain ⟨cell9, m1, m2, m3⟩ := hM
  have hcc : cell9 = cell := Option.some.inj (m1.symm.trans q1)
  subst hcc
  have hpc : ∀ vm₁, s.WarmedH vm₁ → ∀ T9 : State, T9.heap = H → ga_pC a v (Value.ref a :: ([] : List Value)).toArray (T9.setVm vm₁) := by
    intro vm₁ hW₁ T9 hT9
    obtain ⟨k', hf', -⟩ := State.fieldFound?_setVm hW₁.alike hi9
    refine ⟨rfl, hvn, cf, fi, k', f, cell9, hf', hst, ?_, by rw [q3]; exact (fun h => (by cases h)), by rw [hsl, q4 k hk]; simp [vp_V, hv], m2, m3⟩
    show T9.heap[a]? = _
    rw [hT9]
    exact q1
  have hback : Back l R p e below s args ga_yC 3 8 (PreOf R 0 0 (ga_pC a v)) (PostOf (fun _ st o t => o = .returned (some v) ∧ t.heap = st.heap) 0 0 (fun _ => False)) :=
    ga_backY (ws := ga_wC) (rm := ga_rC) (met_J6_getCause l a v) (ga_pCblind a v) rfl rfl hR.1 hR.2 (fun w hw a' U hWU => by
      rcases List.mem_cons.mp hw with rfl | hw
      · exact word_at hWU (Or.inl rfl) hco
      rcases List.mem_cons.mp hw with rfl | hw
      · exact word_at hWU (Or.inl rfl) hi
      rcases List.mem_cons.mp hw with rfl | hw
      · exact word_at hWU (Or.inl rfl) hfl
      · cases hw) List.mem_cons_self (fun a' U hWU => word_at hWU (Or.inl rfl) hini)
  intro T9 hT9 X
  obtain ⟨v9, vm₁, ⟨U', l2, c2, s2⟩, hW₁, X', ⟨g', mk, t, L, e1, e2, hq, h1', hL, h2, h3⟩, st⟩ := ga_callY X hexec hown hl hi hse hco (by decide) hback (by rw [hT9]; exact q1) (by rw [q3]; rfl) (by rw [q2]; exact hfc) (g := F0 m pc ls (.ref a :: rest)) rfl hsz (argsL := []) (rest := rest) (fun sig h => by cases h; rfl) rfl (by simpa using hW) (by rw [hb]; exact hdg)
    (fun vm₁ hW₁ => ⟨by simpa using hf.1, by simpa using hf.2, hpc vm₁ hW₁ T9 hT9⟩)
  dsimp only [Pt.U, Pt.locs, Pt.cells, Pt.slots] at X' e1 e2 h1' h2 h3 st hq
  subst h1'; subst h2; subst h3
  obtain ⟨hq1, hq2⟩ := hq
  cases hq1
  have hLn : L = [] := by
    cases L with
    | nil => rfl
    | cons x r => exact (hL x List.mem_cons_self).elim
  subst hLn
  rw [List.append_nil] at X'
  obtain ⟨t2, a1, b1⟩ := kk U' (by rw [e1, hq2]; exact hT9) X'
  exact ⟨t2, st t2 a1, b1⟩
end GAZ2
def ga_rm (D : va_G) (ws : va_W) (A : Nat → Prop) (U : State) (H : Heap) : Prop := ga_ro D ws A U H ∧ (∀ q ∈ ws, ga_M q.1 H) ∧ va_D (fun _ => True) ws
theorem ga_rmK {D : va_G} {ws : va_W} : ga_RK (ga_rm D ws) := by
  refine ⟨fun A U H g mk a h => h, fun A s U H hW h => h, fun A U H H1 hq h => ⟨ga_roK.2.2.1 A U H H1 hq h.1, fun q hq9 => ?_, h.2.2⟩, fun A B U H hq h => ⟨ga_roK.2.2.2 A B U H hq h.1, h.2⟩⟩
  obtain ⟨j, hj⟩ := List.getElem?_of_mem hq9
  exact (h.2.1 q hq9).kept (hq _ (h.2.1 q hq9).lt (h.1.2 j q hj))
theorem ga_rmS {D : va_G} {ws ws' : va_W} {A B : Nat → Prop} {s : State} {H : Heap} (h : ga_rm D ws A s H) (is : List Nat) (hs : is.filterMap (fun i => ws[i]?) = ws') (hs2 : is.map (fun i => ws[i]?) = ws'.map some) (hn : va_nd is = true) (hB : ∀ a : Nat, B a → A a) : ga_rm D ws' B s H := by
  refine ⟨ga_roS h.1 is hs hB, fun q hq => ?_, h.2.2.sub is hn hs2⟩
  subst hs
  obtain ⟨i, -, hi⟩ := List.mem_filterMap.mp hq
  exact h.2.1 q (List.mem_of_getElem? hi)
theorem ga_rmM {D : va_G} {ws : va_W} {A : Nat → Prop} {s : State} {H : Heap} (h : ga_rm D ws A s H) (j : Nat) {q : Nat × va_E} (hj : ws[j]? = some q) : ga_M q.1 H := h.2.1 q (List.mem_of_getElem? hj)
theorem ga_rmN {D : va_G} {ws : va_W} {A : Nat → Prop} {s : State} {H : Heap} (h : ga_rm D ws A s H) (i j : Nat) {p q : Nat × va_E} (hi : ws[i]? = some p) (hj : ws[j]? = some q) (hn : i ≠ j) : p.1 ≠ q.1 := ga_ne h.2.2 i j hi hj hn
