/-! EXCEPTIONS: contracts whose method may end in a throw; calls of them; throws out of the method; a cold catch. -/
section XT
variable {p : Program} {l : Launch} {e : Env} {R : Room} {s : State} {m : MethodId} {args : Array Value} {below : List Frame} {meth : Method} {c : Code} {H : Heap} {locs : List Loc} {cells slots : Nat} {Q Q' : State → Prop}
/-- what a method's end must keep, returned or thrown -/
def xt_End (st t : State) (L : List Loc) (mc ms : Nat) : Prop := st.WarmedH t.vm ∧ st.sameButNew ({ t with vm := st.vm } : State) L mc ms
/-- a contract: the method returns or throws -/
def MetT (l : Launch) (y : MethodName) (ws : List Cond) (rm : Room) (Pc : Array Value → State → Prop) (Qc : Array Value → State → Outcome → State → Prop) (mc ms : Nat) (free : Addr → Prop) : Prop :=
  MetFree l y (headSpec ws rm) Pc (fun _ _ _ _ _ => True) (fun a st o t => Qc a st o t ∧ ∃ L, xt_End st t L mc ms ∧ ∀ q ∈ L, free q.base)
def MQT (below : List Frame) (Qc : Array Value → State → Outcome → State → Prop) (a : Array Value) (s : State) (mc ms : Nat) (free : Addr → Prop) : State → Prop := fun t =>
  ∃ o, t.status = .running ∧ Ended t below o ∧ Qc a s o t ∧ ∃ L, xt_End s t L mc ms ∧ ∀ q ∈ L, free q.base
theorem W.mono {g : JFrame} (h : ∀ t, Q t → Q' t) (k : W p l e R s m args below meth c H locs cells slots Q g) : W p l e R s m args below meth c H locs cells slots Q' g := by
  intro T hT X
  obtain ⟨t, a1, b1⟩ := k T hT X
  exact ⟨t, a1, h t b1⟩
/-- a return in the body of a method that may throw -/
theorem W.toT {Qc : Array Value → State → Outcome → State → Prop} {a : Array Value} {mc ms : Nat} {free : Addr → Prop} {g : JFrame} (k : W p l e R s m args below meth c H locs cells slots (MQ below Qc a s mc ms free) g) : W p l e R s m args below meth c H locs cells slots (MQT below Qc a s mc ms free) g :=
  W.mono (fun _ ⟨o, h1, h2, h3, L, h4, h5⟩ => ⟨o, h1, h2, h3, L, ⟨h4.2.1, h4.2.2⟩, h5⟩) k
theorem MetT.ofW {y : MethodName} {ws ws' : List Cond} {rm : Room} {Pc : Array Value → State → Prop} {Qc : Array Value → State → Outcome → State → Prop} {mc ms : Nat} {free : Addr → Prop} {cc : ByteArray} {maxL : Nat} {ret : Option FieldType}
    (hy : plainName y.cls = true) (hw : ws = Cond.code y cc maxL ret :: ws')
    (body : ∀ p e s m args below meth c s₁, BodyLoose p l y (headSpec ws rm) cc maxL ret e s m args below meth c s₁ → c.maxLocals = maxL → Pc args s →
      W p l e (headSpec ws rm).room s m args below meth c s.heap [] 0 0 (MQT below Qc args s mc ms free) (entryFrame m args maxL)) : MetT l y ws rm Pc Qc mc ms free := by
  refine MetFree.of_bodyS (code := cc) (maxLocals := maxL) (ret := ret) hy ?_ ?_
  · intro args s m h hn
    obtain ⟨meth, c, h1, h2, h3, h4, h5, h6, -, -⟩ := Cond.code_spec hn (atoms_spec (ws := ws) h _ (by rw [hw]; exact List.mem_cons_self))
    exact ⟨meth, c, h1, h2, h3, h4, h5, h6⟩
  · intro p e s m args below meth c s₁ B hml hP _
    have hh0 : s₁.heap = s.heap := by rw [B.state]; rfl
    obtain ⟨t, a1, o, b1, b2, b3⟩ := body p e s m args below meth c s₁ B hml hP s₁ hh0 (Stand.of_body B)
    exact ⟨t, o, a1, b1, b2, ⟨b3.1, b3.2⟩⟩
/-- a contract of a method WITH HANDLERS that always returns -/
theorem Met.ofWH {y : MethodName} {ws ws' : List Cond} {rm : Room} {Pc : Array Value → State → Prop} {Qc : Array Value → State → Outcome → State → Prop} {mc ms : Nat} {free : Addr → Prop} {cc : ByteArray} {maxL : Nat} {ret : Option FieldType} {hh : List (Nat × Nat × Nat × Nat)}
    (hy : plainName y.cls = true) (hw : ws = Cond.codeWith y cc maxL ret hh :: ws')
    (body : ∀ p e s m args below meth c s₁, BodyLoose p l y (headSpec ws rm) cc maxL ret e s m args below meth c s₁ → c.maxLocals = maxL → Pc args s →
      W p l e (headSpec ws rm).room s m args below meth c s.heap [] 0 0 (MQ below Qc args s mc ms free) (entryFrame m args maxL)) : Met l y ws rm Pc Qc mc ms free := by
  refine MetFree.of_bodyS (code := cc) (maxLocals := maxL) (ret := ret) hy ?_ ?_
  · intro args s m h hn
    obtain ⟨m', meth, c, h0, h1, h2, h3, h4, -, h5, h6, -⟩ := Cond.codeWith_spec (atoms_spec (ws := ws) h _ (by rw [hw]; exact List.mem_cons_self))
    cases hn.symm.trans h0
    exact ⟨meth, c, h1, h2, h3, h4, h5, h6⟩
  · intro p e s m args below meth c s₁ B hml hP _
    have hh0 : s₁.heap = s.heap := by rw [B.state]; rfl
    obtain ⟨t, a1, o, b1, b2, b3⟩ := body p e s m args below meth c s₁ B hml hP s₁ hh0 (Stand.of_body B)
    exact ⟨t, o, a1, b1, b2, ⟨b3.1, b3.2⟩⟩
/-- the body of a method without handlers catches nothing -/
theorem xt_none {y : MethodName} {ws ws' : List Cond} {rm : Room} {cc : ByteArray} {maxL : Nat} {ret : Option FieldType} {s₁ : State} (hw : ws = Cond.code y cc maxL ret :: ws') (B : BodyLoose p l y (headSpec ws rm) cc maxL ret e s m args below meth c s₁) : c.exceptionTable.toList = [] := by
  have h := BodyLoose.noHandlers B (atoms_spec (ws := ws) B.pre _ (by rw [hw]; exact List.mem_cons_self))
  have h0 : c.exceptionTable.size = 0 := by simpa [Array.isEmpty] using h
  exact List.eq_nil_of_length_eq_zero (by simpa using h0)
/-! the entry into a callee, by the kind of the call -/
/-- the machine has come to the callee's invocation -/
def xt_Ent (p : Program) (l : Launch) (e : Env) (R : Room) (s : State) (m : MethodId) (args : Array Value) (below : List Frame) (meth : Method) (c : Code) (H : Heap) (locs : List Loc) (cells slots : Nat) (g : JFrame) (rest : List Value) (y : MethodName) (a : Array Value) : Prop :=
  ∀ T : State, T.heap = H → Stand p l e R s m args below meth c T locs cells slots → ∃ (vm₁ : Vm) (mk : MethodId) (ig : Instr), Stand p l e R s m args below meth c (T.setVm vm₁) locs cells slots ∧ (T.setVm vm₁).methodNamed? y = some mk ∧ decode c.code g.pc = .ok (ig, 3) ∧
    ∀ tg, Steps p.tables e below (doInvoke e ((T.setVm vm₁).setTop { g with stack := rest }) [] mk a).1 tg → Steps p.tables e below (T.setTop g) tg
variable {y : MethodName} {bytes cc : ByteArray} {maxL nL mc ms n index : Nat} {ret : Option FieldType} {ws : List Cond} {rm : Room} {Pc : Array Value → State → Prop} {Qc : Array Value → State → Outcome → State → Prop} {free : Addr → Prop} {Ts : List Cond} {own C : String} {b : Addr} {As rest : List Value} {g : JFrame}
theorem xt_entV (S : CallFix p m c cc nL s args Ts own) (cw : CallW R s args own C index y bytes maxL ret ws rm mc ms n) (hr : ∃ cellB : Cell, H[b]? = some cellB ∧ cellB.vm.isStatics = false ∧ s.vm.findClass C = some cellB.cls)
    (hg : g.method = m) (hn : As.length = n) (hstack : g.stack = As.reverse ++ .ref b :: rest) (hdg : decode cc g.pc = .ok (.invokevirtual index, 3)) :
    xt_Ent p l e R s m args below meth c H locs cells slots g rest y (Value.ref b :: As).toArray := by
  obtain ⟨⟨-, -, -, -, -, -, hcode, -, hy, hlen, hlink⟩, hinst, hsel⟩ := cw
  obtain ⟨hexec, hb, hml, hown, -⟩ := S
  obtain ⟨cellB, hcell, hobj, hcls⟩ := hr
  intro T hT X
  subst hT; subst hb
  obtain ⟨mk, methM, hnamed, hmethM, hstM, habM⟩ := Cond.instanceMethod_spec hinst
  obtain ⟨methM', cM, hmethM', -, -, -, -, -, -, hsigM⟩ := Cond.code_spec hnamed hcode
  cases hmethM.symm.trans hmethM'
  obtain ⟨c2, r2, m2, q1, q2, q3, q4, kP, hkP, hkPi⟩ := Cond.selects_spec hsel
  cases hcls.symm.trans q1
  cases (State.methodFound?_of_named hnamed hy).symm.trans q2
  cases hnamed.symm.trans q3
  have hselP : selectMethod e.platform s.vm cellB.cls mk = .method mk := by rw [Launch.admits_selectMethod X.admits]; exact q4
  obtain ⟨vm₁, X₁, hstep₁⟩ := X.invokevirtual hexec hown hlink hnamed hmethM hstM hkP hkPi hy (a := b) (cell := cellB) hcell
    (fun z h => by rw [h] at hobj; cases hobj) hselP hmethM habM hkP hkPi (g := g) hg (argsL := As) (rest := rest) (hn.trans (hlen _ hsigM)) hstack hdg
  exact ⟨vm₁, mk, _, X₁, X₁.named hnamed, hdg, fun tg h => hstep₁ _ fun acts => by rw [doInvoke_state]; exact h⟩
theorem xt_entU {x : MethodName} {owner : String} (S : CallFix p m c cc nL s args Ts own) (cw : va_CU R s args own C owner index x y bytes maxL ret ws rm mc ms n) (hr : ∃ cellB : Cell, H[b]? = some cellB ∧ cellB.vm.isStatics = false ∧ s.vm.findClass C = some cellB.cls)
    (hg : g.method = m) (hn : As.length = n) (hstack : g.stack = As.reverse ++ .ref b :: rest) (hdg : decode cc g.pc = .ok (.invokevirtual index, 3)) :
    xt_Ent p l e R s m args below meth c H locs cells slots g rest y (Value.ref b :: As).toArray := by
  have hcode := cw.code
  have hlen := cw.len
  have hlink := cw.link
  have hsame := cw.same
  have howner := cw.notMH
  have hsel := cw.sel
  have hinst := cw.inst
  obtain ⟨hexec, hb, hml, hown, -⟩ := S
  obtain ⟨cellB, hcell, hobj, hcls⟩ := hr
  obtain ⟨r0, r, hn0, hrm, hstR, hsigR⟩ := cw.decl
  intro T hT X
  subst hT; subst hb
  obtain ⟨cn, ck, r1, hcn, hck, hni, hf, hn1⟩ := Cond.sameMethod_found hsame
  cases hn0.symm.trans hn1
  obtain ⟨mk, methM, hnamed, hmethM, -, habM⟩ := Cond.instanceMethod_spec hinst
  obtain ⟨c2, r2, m2, q1, q2, q3, q4, kP, hkP, hkPi⟩ := Cond.selects_spec hsel
  cases hcls.symm.trans q1
  cases hf.symm.trans q2
  cases hnamed.symm.trans q3
  have hselP : selectMethod e.platform s.vm cellB.cls r0 = .method mk := by rw [Launch.admits_selectMethod X.admits]; exact q4
  obtain ⟨vm₁, X₁, hstep₁⟩ := X.invokevirtualUp hexec hown hlink hsame howner hn0 hrm hstR (a := b) (cell := cellB) hcell
    (fun z h => by rw [h] at hobj; cases hobj) hselP hmethM habM hkP hkPi (g := g) hg (argsL := As) (rest := rest) (hn.trans (hlen _ hsigR)) hstack hdg
  exact ⟨vm₁, mk, _, X₁, X₁.named hnamed, hdg, fun tg h => hstep₁ _ fun acts => by rw [doInvoke_state]; exact h⟩
theorem xt_entS (S : CallFix p m c cc nL s args Ts own) (cw : CallB R s args own index y bytes maxL ret ws rm mc ms n ∧ (Cond.static y).before args s = true)
    (hg : g.method = m) (hn : As.length = n) (hstack : g.stack = As.reverse ++ rest) (hdg : decode cc g.pc = .ok (.invokestatic index, 3)) :
    xt_Ent p l e R s m args below meth c H locs cells slots g rest y As.toArray := by
  obtain ⟨⟨-, -, -, -, -, -, hcode, hinit, hy, hlen, hlink⟩, hstat⟩ := cw
  obtain ⟨hexec, hb, hml, hown, -⟩ := S
  intro T hT X
  subst hT; subst hb
  obtain ⟨mk, hnamed⟩ := Cond.code_named hcode
  obtain ⟨methM, cM, hmethM, -, -, -, -, -, -, hsigM⟩ := Cond.code_spec hnamed hcode
  have hstatic : methM.isStatic = true := Cond.static_spec hnamed hmethM hstat
  obtain ⟨kP, hkP, -⟩ := className_of_methodNamed hnamed
  have hinitP : kP.init = .initialized := Cond.initialized_spec (findClass_of_methodNamed hnamed) hkP hinit
  obtain ⟨vm₁, X₁, hstep₁⟩ := X.invokestatic hexec hown hlink hnamed hmethM hstatic hkP hinitP hy (g := g) hg (argsL := As) (rest := rest) (hn.trans (hlen _ hsigM)) hstack hdg
  exact ⟨vm₁, mk, _, X₁, X₁.named hnamed, hdg, fun tg h => hstep₁ _ fun acts => by rw [doInvoke_state]; exact h⟩
theorem xt_entSN {host : String} (S : CallFix p m c cc nL s args Ts own) (cw : va_CN R s args own index y host bytes maxL ret ws rm mc ms n ∧ (Cond.static y).before args s = true ∧ True)
    (hg : g.method = m) (hn : As.length = n) (hstack : g.stack = As.reverse ++ rest) (hdg : decode cc g.pc = .ok (.invokestatic index, 3)) :
    xt_Ent p l e R s m args below meth c H locs cells slots g rest y As.toArray := by
  obtain ⟨⟨-, hcode, hinit, hy, hlen, hlink⟩, hstat, -⟩ := cw
  obtain ⟨hexec, hb, hml, hown, -⟩ := S
  intro T hT X
  subst hT; subst hb
  obtain ⟨mk, hnamed⟩ := Cond.code_named hcode
  obtain ⟨methM, cM, hmethM, -, -, -, -, -, -, hsigM⟩ := Cond.code_spec hnamed hcode
  have hstatic : methM.isStatic = true := Cond.static_spec hnamed hmethM hstat
  obtain ⟨kP, hkP, -⟩ := className_of_methodNamed hnamed
  have hinitP : kP.init = .initialized := Cond.initialized_spec (findClass_of_methodNamed hnamed) hkP hinit
  obtain ⟨vm₁, X₁, hstep₁⟩ := X.invokestaticNest hexec hown hlink hnamed hmethM hstatic hkP hinitP hy (g := g) hg (argsL := As) (rest := rest) (hn.trans (hlen _ hsigM)) hstack hdg
  exact ⟨vm₁, mk, _, X₁, X₁.named hnamed, hdg, fun tg h => hstep₁ _ fun acts => by rw [doInvoke_state]; exact h⟩
/-- a call of a method that may throw: it comes back, or the note of the throw lies over the caller's frame -/
def xt_Run (p : Program) (l : Launch) (e : Env) (R : Room) (s : State) (m : MethodId) (args : Array Value) (below : List Frame) (meth : Method) (c : Code) (H : Heap) (locs : List Loc) (cells slots mc ms : Nat) (g : JFrame) (rest : List Value) (Qa : State → Outcome → State → Prop) (free : Addr → Prop) : Prop :=
  ∀ T : State, T.heap = H → Stand p l e R s m args below meth c T locs cells slots → ∃ (o : Outcome) (st₀ t T' : State) (L : List Loc), st₀.heap = H ∧ Stand p l e R s m args below meth c T' (locs ++ L) (cells + mc) (slots + ms) ∧ (∀ q ∈ L, free q.base) ∧ T'.heap = t.heap ∧ T'.vm = t.vm ∧ Qa st₀ o t ∧
    ((∃ v, o = .returned v ∧ ∀ tg, Steps p.tables e below (T'.setTop { g with pc := g.pc + 3, stack := v.toList ++ rest }) tg → Steps p.tables e below (T.setTop g) tg) ∨
     (∃ x, o = .threw x ∧ ∀ tg, Steps p.tables e below ((T'.setTop { g with stack := rest }).pushFrame (.throwing x)) tg → Steps p.tables e below (T.setTop g) tg))
theorem xt_run {a : Array Value} (hM : MetT l y ws rm Pc Qc mc ms free) (hbl : FrameBlind Pc)
    (cb : rm.cells = mc ∧ rm.slots = ms ∧ rm.frames + 1 ≤ R.frames ∧ 8 + (maxL + 11) + rm.locals ≤ R.locals ∧ (∀ w ∈ ws, ∀ (a' : Array Value) (U : State), s.WarmedH U.vm → w.before a' U = true) ∧ Cond.code y bytes maxL ret ∈ ws) (hini : (Cond.initialized y.cls).before args s = true)
    (hE : xt_Ent p l e R s m args below meth c H locs cells slots g rest y a) (hPc : ∀ U : State, U.heap = H → s.WarmedH U.vm → Pc a U)
    (hg : g.method = m) (hsize : g.locals.size = c.maxLocals) (hW : 2 * g.monitorRoom + (rest.map fun v => v.category).sum ≤ 8) (hf : cells + mc ≤ R.cells ∧ slots + ms ≤ R.slots) :
    xt_Run p l e R s m args below meth c H locs cells slots mc ms g rest (Qc a) free := by
  obtain ⟨hrc, hrs, hfr, hlo, hws, hcw⟩ := cb
  intro T hT X
  obtain ⟨vm₁, mk, ig, X₁, hn, hdg, st⟩ := hE T hT X
  obtain ⟨methY, cY, hmY, hcY, -, hlY, -, -, -, -⟩ := Cond.code_spec hn (hws _ hcw a _ X₁.warmed)
  obtain ⟨kY, hkY, -⟩ := className_of_methodNamed hn
  have hinitY : kY.init = .initialized := Cond.initialized_spec (findClass_of_methodNamed hn) hkY (word_at X₁.warmed (a' := a) (Or.inl (by first | rfl | simp [Cond.onTables, Cond.keeps, Cond.steady])) hini)
  have h : At (T.setVm vm₁) ({ g with stack := rest } : JFrame).method c below := by rw [show ({ g with stack := rest } : JFrame).method = m from hg]; exact X₁.here
  have happ : (headSpec ws rm).appliesLoose y e.platform ((T.setVm vm₁).calling { g with stack := rest } mk a) = true :=
    Spec.appliesLoose_calling (g := { g with stack := rest }) h hdg hn hkY hinitY
      (X₁.room_calling (g := { g with stack := rest }) (R' := rm) hsize hmY hcY hfr (by rw [hlY]; show 2 * g.monitorRoom + (rest.map fun v => v.category).sum + _ + _ ≤ _; omega) (by rw [hrc]; exact hf.1) (by rw [hrs]; exact hf.2)) (atoms_intro fun w hw => hws w hw _ _ X₁.warmed)
  obtain ⟨mid, hmid⟩ := h.above
  have hfr : ((T.setVm vm₁).setTop { g with stack := rest }).frames = (.java { g with stack := rest } :: mid) ++ below := by rw [State.frames_setTop' _ h.top, hmid]; rfl
  obtain ⟨o, s₂, hsteps, -, hend, ⟨hq, L, ⟨hW2, hsame⟩, hL⟩⟩ := Steps.callFree hM p X.admits X.cas X.clock (acts := []) hfr happ (hbl _ _ _ _ (hPc _ hT X₁.warmed)) trivial
  rw [State.frames_setTop' _ h.top, X₁.tail] at hend
  cases o with
  | returned v =>
    obtain ⟨T', X', -, -, ht⟩ := X₁.outOf (g := { g with stack := rest }) hg hdg hend hW2 hsame
    refine ⟨.returned v, (T.setVm vm₁).calling { g with stack := rest } mk a, s₂, T', L, hT, X', hL, by rw [ht]; rfl, by rw [ht]; rfl, hq, Or.inl ⟨v, rfl, fun tg h1 => st _ (hsteps.trans ?_)⟩⟩
    rw [ht]
    exact h1
  | threw x =>
    obtain ⟨T', X', -, -, ht⟩ := X₁.outOfThrown (g := { g with stack := rest }) hg hend hW2 hsame
    refine ⟨.threw x, (T.setVm vm₁).calling { g with stack := rest } mk a, s₂, T', L, hT, X', hL, by rw [ht, Stand.throwing_heap], by rw [ht, Stand.throwing_vm], hq, Or.inr ⟨x, rfl, fun tg h1 => st _ (hsteps.trans ?_)⟩⟩
    rw [ht]
    exact h1
end XT
