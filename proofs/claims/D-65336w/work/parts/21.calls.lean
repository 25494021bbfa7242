/-! CALLS over pooled worlds; a method's start -/
/-- a contract's end that is a return alone -/
def pN (post : Option Value → List Nat → (Nat → va_E) → Prop) : pR → List Nat → (Nat → va_E) → Prop := fun r L' f' => match r with
  | .inl v => post v L' f'
  | .inr _ => False
/-- .. that leaves the world as it was, with the answer v -/
def pRd (L : List Nat) (f : Nat → va_E) (v : Option Value) : pR → List Nat → (Nat → va_E) → Prop := fun r L' f' => r = .inl v ∧ L' = L ∧ f' = f
section PMS
variable {l : Launch} {D : va_G} {cs : Nat → ClassId}
theorem pm_of {y : MethodName} {cc : ByteArray} {nL : Nat} {ret : Option FieldType} {rm : Room} {av : List Value} {L : List Nat} {f : Nat → va_E} {post : pR → List Nat → (Nat → va_E) → Prop} (own : String) (hown : y.cls = own) (hy : plainName y.cls = true) (hlen : (lg_sl av).length ≤ nL)
    (body : ∀ (sz : Nat) (p : Program) (e : Env) (s : State) (m : MethodId) (below : List Frame) (meth : Method) (c : Code), CallFix p m c cc nL s av.toArray lw_all own → PW D cs (pA L sz) s L f s.heap [] → s.heap.size = sz → meth.sig.returnType = ret → meth.locks = false → meth.name = y.name → c.exceptionTable.toList = [] → ∀ ls : Array Slot, lv_has ls nL (lv_args 0 av) →
      W p l e rm s m av.toArray below meth c s.heap [] 0 0 (MQT below (PQ D L sz post) av.toArray s rm.cells rm.slots (pA L sz)) (F0 m 0 ls [])) : PM l D cs y cc nL ret rm av L f post := by
  intro sz
  refine MetT.ofW (cc := cc) (maxL := nL) (ret := ret) hy rfl ?_
  intro p e s m args below meth c s₁ B hml hv
  obtain ⟨rfl, hsz, hP, hD0, hK, hG, hX⟩ := hv
  have hts := atoms_spec (ws := ws_ y cc nL ret) B.pre
  have hts : ∀ w ∈ lw_all, w.before _ s = true := fun w h => hts w (List.mem_cons_of_mem _ h)
  have hown' : s.vm.findClass own = some m.cls := by rw [← hown]; exact findClass_of_methodNamed B.named
  have hl := lv_entry av (n := nL) hlen
  rw [lg_entry_eq]
  generalize (lg_sl av ++ List.replicate (nL - (lg_sl av).length) Slot.unset).toArray = ls at hl ⊢
  have hD : va_D (pA L sz) (va_pl L f) := hD0.weaken (fun k q hk _ => by
    simp only [va_pl, List.getElem?_map] at hk
    cases hb : L[k]? with
    | none => rw [hb] at hk; cases hk
    | some b =>
      rw [hb] at hk
      cases hk
      exact Or.inl (List.mem_of_getElem? hb))
  exact body sz p e s m below meth c ⟨B.exec, B.bytes, hml, hown', hts⟩ ⟨hP, hD, va_S.rf, fun q h => Or.inr (by omega), hG, hX, hK⟩ hsz B.returns B.notSynchronized (name_of_methodNamed B.named B.method).1 (xt_none rfl B) ls hl
end PMS
section PWC
variable {p : Program} {l : Launch} {e : Env} {R : Room} {s : State} {m : MethodId} {args : Array Value} {below : List Frame} {meth : Method} {c : Code} {H : Heap} {locs : List Loc} {cells slots : Nat} {Q : State → Prop}
variable {cc : ByteArray} {nL pc : Nat} {ls : Array Slot} {rest : List Value} {D : va_G} {cs : Nat → ClassId} {A : Nat → Prop} {a : Nat} {L : List Nat} {f : Nat → va_E} {own : String}
theorem PW.mem (P : PW D cs A s L f H locs) (ha : a ∈ L) : A a := by
  obtain ⟨k, hk⟩ := P.get ha
  exact P.2.1.2 k _ hk
theorem PW.lt (P : PW D cs A s L f H locs) (ha : a ∈ L) : a < H.size := va_pl_lt (X := []) P.1 ha
theorem PW.pA (P : PW D cs A s L f H locs) : ∀ q, pA L H.size q → A q := by
  intro q h
  rcases h with h | h
  · exact P.mem h
  · exact P.2.2.2.1 q (Nat.le_trans P.2.2.1.1 h)
/-- the receiver -/
theorem PW.recv {ci : Nat} {fs : List Value} {q : vw_C} (P : PW D cs A s L f H locs) (ha : a ∈ L) (hf : f a = .inr (ci, fs)) (hc : vwCl[ci]? = some q) : ∃ cell : Cell, H[a]? = some cell ∧ cell.vm.isStatics = false ∧ s.vm.findClass q.1 = some cell.cls := by
  obtain ⟨k, hk⟩ := P.get ha
  rw [hf] at hk
  exact va_recv P.2.2.2.2.2.2 P.1 hc hk
theorem pw_entV {y : MethodName} {bytes : ByteArray} {maxL index : Nat} {ret : Option FieldType} {ci : Nat} {fs : List Value} {q : vw_C} {b : Nat} (As : List Value) (S : CallFix p m c cc nL s args lw_all own) (P : PW D cs A s L f H locs) (hb0 : b ∈ L) (hf0 : f b = .inr (ci, fs)) (hc0 : vwCl[ci]? = some q) (q1 : Cond.methodLink own index y ∈ lw_all) (q2 : Cond.instanceMethod y ∈ lw_all) (q3 : Cond.selects q.1 y y ∈ lw_all) (q5 : Cond.code y bytes maxL ret ∈ lw_all)
    (hd : y.cls ≠ "java/lang/invoke/MethodHandle" ∧ y.cls ≠ "java/lang/invoke/VarHandle" ∧ (parseMethodDescriptor y.desc).map (fun d => d.parameters.length) = some As.length) (hdg : decode cc pc = .ok (.invokevirtual index, 3)) :
    xt_Ent p l e R s m args below meth c H locs cells slots (F0 m pc ls (As.reverse ++ .ref b :: rest)) rest y (Value.ref b :: As).toArray := by
  have hrecv := P.recv hb0 hf0 hc0
  obtain ⟨hexec, hb, hml, hown, hts⟩ := S
  have hcode := hts _ q5
  have hlink := hts _ q1
  have hinst := hts _ q2
  have hsel := hts _ q3
  obtain ⟨cellB, hcell, hobj, hcls⟩ := hrecv
  intro T hT X
  subst hT; subst hb
  obtain ⟨mk, methM, hnamed, hmethM, hstM, habM⟩ := Cond.instanceMethod_spec hinst
  obtain ⟨methM', cM, hmethM', -, -, -, -, -, -, hsigM⟩ := Cond.code_spec hnamed hcode
  cases hmethM.symm.trans hmethM'
  obtain ⟨c2, r2, m2, q1, q2, q3, q4, kP, hkP, hkPi⟩ := Cond.selects_spec hsel
  cases hcls.symm.trans q1
  cases (State.methodFound?_of_named hnamed ⟨hd.1, hd.2.1⟩).symm.trans q2
  cases hnamed.symm.trans q3
  have hselP : selectMethod e.platform s.vm cellB.cls mk = .method mk := by rw [Launch.admits_selectMethod X.admits]; exact q4
  have hlen : As.length = methM.sig.parameters.length := by
    have h2 := hd.2.2
    rw [hsigM] at h2
    exact (Option.some.inj h2).symm
  obtain ⟨vm₁, X₁, hstep₁⟩ := X.invokevirtual hexec hown hlink hnamed hmethM hstM hkP hkPi ⟨hd.1, hd.2.1⟩ (a := b) (cell := cellB) hcell
    (fun z h => by rw [h] at hobj; cases hobj) hselP hmethM habM hkP hkPi (g := F0 m pc ls (As.reverse ++ .ref b :: rest)) rfl (argsL := As) (rest := rest) hlen rfl hdg
  exact ⟨vm₁, mk, _, X₁, X₁.named hnamed, hdg, fun tg h => hstep₁ _ fun acts => by rw [doInvoke_state]; exact h⟩
/-- the method that is run (y) is another than the one that is named (x, of the class owner) -/
theorem pw_entU {x y : MethodName} {bytes : ByteArray} {maxL index : Nat} {ret : Option FieldType} {ci : Nat} {fs : List Value} {q : vw_C} {b : Nat} (owner : String) (As : List Value) (S : CallFix p m c cc nL s args lw_all own) (P : PW D cs A s L f H locs) (hb0 : b ∈ L) (hf0 : f b = .inr (ci, fs)) (hc0 : vwCl[ci]? = some q) (q1 : Cond.methodLink own index x ∈ lw_all) (qs : Cond.sameMethod x.cls owner x.name x.desc ∈ lw_all) (q3 : Cond.selects q.1 x y ∈ lw_all) (q2 : Cond.instanceMethod y ∈ lw_all) (q5 : Cond.code y bytes maxL ret ∈ lw_all) (hdecl : va_Decl s ⟨owner, x.name, x.desc⟩)
    (hd : owner ≠ "java/lang/invoke/MethodHandle" ∧ owner ≠ "java/lang/invoke/VarHandle" ∧ (parseMethodDescriptor x.desc).map (fun d => d.parameters.length) = some As.length) (hdg : decode cc pc = .ok (.invokevirtual index, 3)) :
    xt_Ent p l e R s m args below meth c H locs cells slots (F0 m pc ls (As.reverse ++ .ref b :: rest)) rest y (Value.ref b :: As).toArray := by
  have hrecv := P.recv hb0 hf0 hc0
  obtain ⟨hexec, hb, hml, hown, hts⟩ := S
  have hcode := hts _ q5
  have hlink := hts _ q1
  have hinst := hts _ q2
  have hsel := hts _ q3
  have hsame := hts _ qs
  obtain ⟨cellB, hcell, hobj, hcls⟩ := hrecv
  obtain ⟨r0, r, hn0, hrm, hstR, hsigR⟩ := hdecl
  intro T hT X
  subst hT; subst hb
  obtain ⟨cn, ck, r1, hcn, hck, hni, hf, hn1⟩ := Cond.sameMethod_found hsame
  cases hn0.symm.trans hn1
  obtain ⟨mk, methM, hnamed, hmethM, -, habM⟩ := Cond.instanceMethod_spec hinst
  obtain ⟨c2, r2, m2, q1, q2, q3, q4, kP, hkP, hkPi⟩ := Cond.selects_spec hsel
  cases hcls.symm.trans q1
  cases hf.symm.trans q2
  cases hnamed.symm.trans q3
  have hselP : selectMethod e.platform s.vm cellB.cls r0 = .method mk := by rw [Launch.admits_selectMethod X.admits]; exact q4
  have hlen : As.length = r.sig.parameters.length := by
    have h2 := hd.2.2
    rw [hsigR] at h2
    exact (Option.some.inj h2).symm
  obtain ⟨vm₁, X₁, hstep₁⟩ := X.invokevirtualUp hexec hown hlink hsame ⟨hd.1, hd.2.1⟩ hn0 hrm hstR (a := b) (cell := cellB) hcell
    (fun z h => by rw [h] at hobj; cases hobj) hselP hmethM habM hkP hkPi (g := F0 m pc ls (As.reverse ++ .ref b :: rest)) rfl (argsL := As) (rest := rest) hlen rfl hdg
  exact ⟨vm₁, mk, _, X₁, X₁.named hnamed, hdg, fun tg h => hstep₁ _ fun acts => by rw [doInvoke_state]; exact h⟩
theorem pw_entS {y : MethodName} {bytes : ByteArray} {maxL index : Nat} {ret : Option FieldType} (As : List Value) (S : CallFix p m c cc nL s args lw_all own) (q1 : Cond.methodLink own index y ∈ lw_all) (q2 : Cond.static y ∈ lw_all) (q3 : Cond.initialized y.cls ∈ lw_all) (q5 : Cond.code y bytes maxL ret ∈ lw_all)
    (hd : y.cls ≠ "java/lang/invoke/MethodHandle" ∧ y.cls ≠ "java/lang/invoke/VarHandle" ∧ (parseMethodDescriptor y.desc).map (fun d => d.parameters.length) = some As.length) (hdg : decode cc pc = .ok (.invokestatic index, 3)) :
    xt_Ent p l e R s m args below meth c H locs cells slots (F0 m pc ls (As.reverse ++ rest)) rest y As.toArray := by
  obtain ⟨hexec, hb, hml, hown, hts⟩ := S
  intro T hT X
  subst hT; subst hb
  obtain ⟨mk, hnamed⟩ := Cond.code_named (hts _ q5)
  obtain ⟨methM, cM, hmethM, -, -, -, -, -, -, hsigM⟩ := Cond.code_spec hnamed (hts _ q5)
  have hstatic : methM.isStatic = true := Cond.static_spec hnamed hmethM (hts _ q2)
  obtain ⟨kP, hkP, -⟩ := className_of_methodNamed hnamed
  have hinitP : kP.init = .initialized := Cond.initialized_spec (findClass_of_methodNamed hnamed) hkP (hts _ q3)
  have hlen : As.length = methM.sig.parameters.length := by
    have h2 := hd.2.2
    rw [hsigM] at h2
    exact (Option.some.inj h2).symm
  obtain ⟨vm₁, X₁, hstep₁⟩ := X.invokestatic hexec hown (hts _ q1) hnamed hmethM hstatic hkP hinitP ⟨hd.1, hd.2.1⟩ (g := F0 m pc ls (As.reverse ++ rest)) rfl (argsL := As) (rest := rest) hlen rfl hdg
  exact ⟨vm₁, mk, _, X₁, X₁.named hnamed, hdg, fun tg h => hstep₁ _ fun acts => by rw [doInvoke_state]; exact h⟩
theorem pw_entSN {y : MethodName} {bytes : ByteArray} {maxL index : Nat} {ret : Option FieldType} (host : String) (As : List Value) (S : CallFix p m c cc nL s args lw_all own) (hz : va_Nw (.methodLinkNest own index y host) s) (q2 : Cond.static y ∈ lw_all) (q3 : Cond.initialized y.cls ∈ lw_all) (q5 : Cond.code y bytes maxL ret ∈ lw_all)
    (hd : y.cls ≠ "java/lang/invoke/MethodHandle" ∧ y.cls ≠ "java/lang/invoke/VarHandle" ∧ (parseMethodDescriptor y.desc).map (fun d => d.parameters.length) = some As.length) (hdg : decode cc pc = .ok (.invokestatic index, 3)) :
    xt_Ent p l e R s m args below meth c H locs cells slots (F0 m pc ls (As.reverse ++ rest)) rest y As.toArray := by
  obtain ⟨hexec, hb, hml, hown, hts⟩ := S
  intro T hT X
  subst hT; subst hb
  obtain ⟨mk, hnamed⟩ := Cond.code_named (hts _ q5)
  obtain ⟨methM, cM, hmethM, -, -, -, -, -, -, hsigM⟩ := Cond.code_spec hnamed (hts _ q5)
  have hstatic : methM.isStatic = true := Cond.static_spec hnamed hmethM (hts _ q2)
  obtain ⟨kP, hkP, -⟩ := className_of_methodNamed hnamed
  have hinitP : kP.init = .initialized := Cond.initialized_spec (findClass_of_methodNamed hnamed) hkP (hts _ q3)
  have hlen : As.length = methM.sig.parameters.length := by
    have h2 := hd.2.2
    rw [hsigM] at h2
    exact (Option.some.inj h2).symm
  obtain ⟨vm₁, X₁, hstep₁⟩ := X.invokestaticNest hexec hown (va_Nw.use rfl hz) hnamed hmethM hstatic hkP hinitP ⟨hd.1, hd.2.1⟩ (g := F0 m pc ls (As.reverse ++ rest)) rfl (argsL := As) (rest := rest) hlen rfl hdg
  exact ⟨vm₁, mk, _, X₁, X₁.named hnamed, hdg, fun tg h => hstep₁ _ fun acts => by rw [doInvoke_state]; exact h⟩
theorem pw_entI {y : MethodName} {bytes : ByteArray} {maxL index : Nat} {b : Nat} (As : List Value) (S : CallFix p m c cc nL s args lw_all own) (hy1 : y.name = "<init>") (q1 : Cond.methodLink own index y ∈ lw_all) (q2 : Cond.instanceMethod y ∈ lw_all) (q5 : Cond.code y bytes maxL none ∈ lw_all)
    (hd : y.cls ≠ "java/lang/invoke/MethodHandle" ∧ y.cls ≠ "java/lang/invoke/VarHandle" ∧ (parseMethodDescriptor y.desc).map (fun d => d.parameters.length) = some As.length) (hdg : decode cc pc = .ok (.invokespecial index, 3)) :
    xt_Ent p l e R s m args below meth c H locs cells slots (F0 m pc ls (As.reverse ++ .ref b :: rest)) rest y (Value.ref b :: As).toArray := by
  obtain ⟨hexec, hb, hml, hown, hts⟩ := S
  intro T hT X
  subst hT; subst hb
  have hpl : e.platform.magicAccessors = ({} : Platform).magicAccessors := by rw [X.admits.platform]
  obtain ⟨mk, methM, cM, kP, vm₁, hnamed, hmethM, hcodeM, -, hlocalsM, -, hkP, -, hW₁, hstep₁⟩ := Steps.initColdArgs (e := e) X.here hexec X.warmed hpl hown hy1 ⟨hd.1, hd.2.1⟩ (hts _ q1) (hts _ q2) (hts _ q5) (f := F0 m pc ls (As.reverse ++ .ref b :: rest)) rfl (argsL := As) (rest := rest) (fun sig h => by
    have h2 := hd.2.2
    rw [h] at h2
    exact (Option.some.inj h2).symm) rfl hdg
  have X₁ := X.noted hW₁
  exact ⟨vm₁, mk, _, X₁, X₁.named hnamed, hdg, fun tg h => hstep₁ _ fun acts => by rw [doInvoke_state]; exact h⟩
theorem pw_entIN {y : MethodName} {bytes : ByteArray} {maxL index : Nat} {b : Nat} (host : String) (As : List Value) (S : CallFix p m c cc nL s args lw_all own) (hy1 : y.name = "<init>") (hz : va_Nw (.methodLinkNest own index y host) s) (q2 : Cond.instanceMethod y ∈ lw_all) (q5 : Cond.code y bytes maxL none ∈ lw_all)
    (hd : y.cls ≠ "java/lang/invoke/MethodHandle" ∧ y.cls ≠ "java/lang/invoke/VarHandle" ∧ (parseMethodDescriptor y.desc).map (fun d => d.parameters.length) = some As.length) (hdg : decode cc pc = .ok (.invokespecial index, 3)) :
    xt_Ent p l e R s m args below meth c H locs cells slots (F0 m pc ls (As.reverse ++ .ref b :: rest)) rest y (Value.ref b :: As).toArray := by
  obtain ⟨hexec, hb, hml, hown, hts⟩ := S
  intro T hT X
  subst hT; subst hb
  have hpl : e.platform.magicAccessors = ({} : Platform).magicAccessors := by rw [X.admits.platform]
  obtain ⟨mk, methM, cM, kP, vm₁, hnamed, hmethM, hcodeM, -, hlocalsM, -, hkP, -, hW₁, hstep₁⟩ := Steps.initColdArgsNest (e := e) X.here hexec X.warmed hpl hown hy1 ⟨hd.1, hd.2.1⟩ (va_Nw.use rfl hz) (hts _ q2) (hts _ q5) (f := F0 m pc ls (As.reverse ++ .ref b :: rest)) rfl (argsL := As) (rest := rest) (fun sig h => by
    have h2 := hd.2.2
    rw [h] at h2
    exact (Option.some.inj h2).symm) rfl hdg
  have X₁ := X.noted hW₁
  exact ⟨vm₁, mk, _, X₁, X₁.named hnamed, hdg, fun tg h => hstep₁ _ fun acts => by rw [doInvoke_state]; exact h⟩
/-- THE CALL -/
theorem pw_call {y : MethodName} {cc' : ByteArray} {nL' : Nat} {ret' : Option FieldType} {rm : Room} {av st0 : List Value} {post : pR → List Nat → (Nat → va_E) → Prop} (S : CallFix p m c cc nL s args lw_all own) (P : PW D cs A s L f H locs) (hM : PM l D cs y cc' nL' ret' rm av L f post) (hq : Cond.code y cc' nL' ret' ∈ lw_all) (hini : Cond.initialized y.cls ∈ lw_all)
    (hE : xt_Ent p l e R s m args below meth c H locs cells slots (F0 m pc ls st0) rest y av.toArray) (hls : ls.size = nL) (hroom : (rest.map fun v => v.category).sum ≤ 8) (hR : rm.frames + 1 ≤ R.frames ∧ 8 + (nL' + 11) + rm.locals ≤ R.locals) (hf : cells + rm.cells ≤ R.cells ∧ slots + rm.slots ≤ R.slots)
    (kr : ∀ (v : Option Value) (L' : List Nat) (f' : Nat → va_E) (H1 : Heap) (locs1 : List Loc), post (.inl v) L' f' → PW D cs A s L' f' H1 locs1 → W p l e R s m args below meth c H1 locs1 (cells + rm.cells) (slots + rm.slots) Q (F0 m (pc + 3) ls (v.toList ++ rest)))
    (kt : ∀ (C : String) (x : Nat) (L' : List Nat) (f' : Nat → va_E) (H1 : Heap) (locs1 : List Loc), post (.inr C) L' f' → PW D cs A s L' f' H1 locs1 → (∃ cell : Cell, H1[x]? = some cell ∧ cell.vm.isStatics = false ∧ s.vm.findClass C = some cell.cls) → WX p l e R s m args below meth c H1 locs1 (cells + rm.cells) (slots + rm.slots) Q (F0 m pc ls rest) x) : W p l e R s m args below meth c H locs cells slots Q (F0 m pc ls st0) := by
  have key : ∀ (st t : State) (o : Outcome) (Lc : List Loc), st.heap = H → (∀ q ∈ Lc, pA L H.size q.base) → PQ D L H.size post av.toArray st o t → ∃ (r : pR) (L' : List Nat) (f' : Nat → va_E), pIs o r t ∧ post r L' f' ∧ PW D cs A s L' f' t.heap (locs ++ Lc) := by
    intro st t o Lc hst hLc hq
    obtain ⟨⟨r, L', f', h1, h2, h3, h4⟩, h5, h6⟩ := hq
    rw [hst] at h5 h6
    refine ⟨r, L', f', h1, h2, P.to h3 (h4.weaken (fun k q _ h => P.pA _ h)) ⟨Nat.le_trans P.2.2.1.1 h5, fun q g1 g2 => ?_, fun q hq => ?_⟩⟩
    · rw [h6 q (Nat.lt_of_lt_of_le g1 P.2.2.1.1) (fun z => g2 (P.pA q z))]
      exact P.2.2.1.2.1 q g1 g2
    · rcases List.mem_append.mp hq with h | h
      · exact P.2.2.1.2.2 q h
      · exact P.pA _ (hLc q h)
  refine xt_call (xt_run (hM H.size) PC.blind ⟨rfl, rfl, hR.1, hR.2, pay_in S.2.2.2.2 (lw_meth hq), List.mem_cons_self⟩ (S.2.2.2.2 _ hini) hE (fun U hU hW => ⟨rfl, by rw [hU], by rw [hU]; exact P.1, P.2.1.weaken (fun _ _ _ _ => trivial), va_K.moved hW.alike P.2.2.2.2.2.2, P.2.2.2.2.1.moved hW, by rw [hU]; exact P.2.2.2.2.2.1.moved P.2.2.1 hW.alike (fun q _ h => P.pA q h)⟩) rfl (hls.trans S.2.2.1.symm) (lv_room hroom) hf) ?_ ?_
  · intro v st t Lc hst hvm hLc hq
    obtain ⟨r, L', f', h1, h2, h3⟩ := key st t _ Lc hst hLc hq
    cases r with
    | inl v' =>
      have h1 : Outcome.returned v = .returned v' := h1
      cases h1
      exact kr v L' f' _ _ h2 h3
    | inr C =>
      obtain ⟨x, h1, -⟩ := h1
      cases h1
  · intro x st t Lc hst hW hLc hq
    obtain ⟨r, L', f', h1, h2, h3⟩ := key st t _ Lc hst hLc hq
    cases r with
    | inl v' =>
      have h1 : Outcome.threw x = .returned v' := h1
      cases h1
    | inr C =>
      obtain ⟨x', h1, cell, k1, k2, k3⟩ := h1
      cases h1
      exact kt C x L' f' _ _ h2 h3 ⟨cell, k1, k2, by rw [← hW.alike.findClass]; exact k3⟩
/-- a call that leaves the world -/
theorem pw_callR {y : MethodName} {cc' : ByteArray} {nL' : Nat} {ret' : Option FieldType} {rm : Room} {av st0 : List Value} {v : Option Value} (S : CallFix p m c cc nL s args lw_all own) (P : PW D cs A s L f H locs) (hM : PM l D cs y cc' nL' ret' rm av L f (pRd L f v)) (hq : Cond.code y cc' nL' ret' ∈ lw_all) (hini : Cond.initialized y.cls ∈ lw_all)
    (hE : xt_Ent p l e R s m args below meth c H locs cells slots (F0 m pc ls st0) rest y av.toArray) (hls : ls.size = nL) (hroom : (rest.map fun v => v.category).sum ≤ 8) (hR : rm.frames + 1 ≤ R.frames ∧ 8 + (nL' + 11) + rm.locals ≤ R.locals) (hf : cells + rm.cells ≤ R.cells ∧ slots + rm.slots ≤ R.slots)
    (kr : ∀ (H1 : Heap) (locs1 : List Loc), PW D cs A s L f H1 locs1 → W p l e R s m args below meth c H1 locs1 (cells + rm.cells) (slots + rm.slots) Q (F0 m (pc + 3) ls (v.toList ++ rest))) : W p l e R s m args below meth c H locs cells slots Q (F0 m pc ls st0) := by
  refine pw_call S P hM hq hini hE hls hroom hR hf (fun v' L' f' H1 locs1 h P1 => ?_) (fun C x L' f' H1 locs1 h _ _ => ?_)
  · obtain ⟨h1, rfl, rfl⟩ := h
    cases h1
    exact kr H1 locs1 P1
  · obtain ⟨h1, -, -⟩ := h
    cases h1
/-- a call that returns -/
theorem pw_callN {y : MethodName} {cc' : ByteArray} {nL' : Nat} {ret' : Option FieldType} {rm : Room} {av st0 : List Value} {post : Option Value → List Nat → (Nat → va_E) → Prop} (S : CallFix p m c cc nL s args lw_all own) (P : PW D cs A s L f H locs) (hM : PM l D cs y cc' nL' ret' rm av L f (pN post)) (hq : Cond.code y cc' nL' ret' ∈ lw_all) (hini : Cond.initialized y.cls ∈ lw_all)
    (hE : xt_Ent p l e R s m args below meth c H locs cells slots (F0 m pc ls st0) rest y av.toArray) (hls : ls.size = nL) (hroom : (rest.map fun v => v.category).sum ≤ 8) (hR : rm.frames + 1 ≤ R.frames ∧ 8 + (nL' + 11) + rm.locals ≤ R.locals) (hf : cells + rm.cells ≤ R.cells ∧ slots + rm.slots ≤ R.slots)
    (kr : ∀ (v : Option Value) (L' : List Nat) (f' : Nat → va_E) (H1 : Heap) (locs1 : List Loc), post v L' f' → PW D cs A s L' f' H1 locs1 → W p l e R s m args below meth c H1 locs1 (cells + rm.cells) (slots + rm.slots) Q (F0 m (pc + 3) ls (v.toList ++ rest))) : W p l e R s m args below meth c H locs cells slots Q (F0 m pc ls st0) :=
  pw_call S P hM hq hini hE hls hroom hR hf (fun v' L' f' H1 locs1 h P1 => kr v' L' f' H1 locs1 h P1) (fun _ _ _ _ _ _ h _ _ => h.elim)
/-- the throw goes on out of the method -/
theorem pw_out {sz x : Nat} {L0 : List Nat} {post : pR → List Nat → (Nat → va_E) → Prop} {C : String} (P : PW D cs (pA L0 sz) s L f H locs) (htb : c.exceptionTable.toList = []) (hlk : meth.locks = false) (ht : ∃ cell : Cell, H[x]? = some cell ∧ cell.vm.isStatics = false ∧ s.vm.findClass C = some cell.cls) (hp : post (.inr C) L f) :
    WX p l e R s m args below meth c H locs cells slots (MQT below (PQ D L0 sz post) args s cells slots (pA L0 sz)) (F0 m pc ls rest) x := by
  obtain ⟨cell, k1, k2, k3⟩ := ht
  exact xt_out htb hlk rfl rfl rfl (fun t ht hW => ⟨⟨.inr C, L, f, ⟨x, rfl, cell, by rw [ht]; exact k1, k2, by rw [hW.alike.findClass]; exact k3⟩, hp, by rw [ht]; exact P.1, P.2.1⟩, P.2.2.1.F ht⟩) P.2.2.1.2.2
/-- new X(); throw, in a method that has written nothing -/
theorem pw_throw {sz idx ic : Nat} {L0 : List Nat} {post : pR → List Nat → (Nat → va_E) → Prop} {C : String} (S : CallFix p m c cc nL s args lw_all "SyncHall") (P : PW D cs (pA L0 sz) s L f H locs) (P0 : PW D cs (pA L0 sz) s L f s.heap []) (hl : l.stackTraces = false) (hw : ∀ a ∈ Bundle.ownAtoms0 "SyncHall" ic C xaN, a.before args s = true) (hcls : Bundle.fit C = true) (qc : Cond.classLink "SyncHall" idx C ∈ lw_all) (qi : Cond.initialized C ∈ lw_all)
    (hlocs : ∀ x ∈ locs, s.heap.size ≤ x.base) (htb : c.exceptionTable.toList = []) (hlk : meth.locks = false) (hls : ls.size = nL) (hd0 : decode cc pc = .ok (.new idx, 3)) (hd3 : decode cc (pc + 3) = .ok (.dup, 1)) (hd4 : decode cc (pc + 4) = .ok (.invokespecial ic, 3)) (hd7 : decode cc (pc + 7) = .ok (.athrow, 1))
    (hcells : cells + 1 ≤ R.cells) (hslots : slots + 6 ≤ R.slots) (hRf : 5 < R.frames) (hRl : (rest.map fun v => v.category).sum + 81 ≤ R.locals) (hp : post (.inr C) L f) :
    W p l e R s m args below meth c H locs cells slots (MQT below (PQ D L0 sz post) args s (cells + 1) (slots + 6) (pA L0 sz)) (F0 m pc ls rest) := by
  refine xt_throw (names := xaN) S.1 S.2.1 hl S.2.2.2.1 hcls xaN_fit hw (S.2.2.2.2 _ qc) (S.2.2.2.2 _ qi) hlocs htb hlk (hls.trans S.2.2.1.symm) hd0 hd3 hd4 hd7 hcells hslots (by show 2 + 3 < _; omega) (by show _ + (13 * (2 + 1) + 42) ≤ _; omega) P.2.2.1.1 (fun x t h1 h2 h3 h4 => ?_) P.2.2.1.2.2
  refine ⟨⟨.inr C, L, f, ⟨x, rfl, h4⟩, hp, P0.1.kept (fun k q hk => h2 q.1 ((P0.1 k q hk).lt)), P0.2.1⟩, h1, fun q g1 _ => h2 q g1⟩
end PWC
