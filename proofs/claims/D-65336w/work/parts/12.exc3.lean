/-! EXCEPTIONS, 3: into a handler, its class cold or warm -/
section XT3
variable {p : Program} {l : Launch} {e : Env} {R : Room} {s : State} {m : MethodId} {args : Array Value} {below : List Frame} {meth : Method} {c : Code} {H : Heap} {locs : List Loc} {cells slots : Nat} {Q : State → Prop}
/-- the first entry of the table that takes an object of class C thrown at pc goes to h: the classes by their links -/
def xt_Match (s : State) (args : Array Value) (own C : String) (pc : Nat) (h : Nat) : List (Nat × Nat × Nat × Nat) → Prop
  | [] => False
  | x :: t => (x.1 ≤ pc ∧ pc < x.2.1 ∧ x.2.2.2 ≠ 0) ∧ ∃ D : String, (Cond.classLink own x.2.2.2 D).before args s = true ∧
      (((∃ c d : ClassId, s.vm.findClass C = some c ∧ s.vm.findClass D = some d ∧ s.vm.assignable c d = true) ∧ x.2.2.1 = h) ∨ (va_Nc C D s ∧ xt_Match s args own C pc h t))
theorem xt_find {own C : String} {f : JFrame} {x : Addr} {cell : Cell} {h : Nat} (hpl : e.platform.magicAccessors = ({} : Platform).magicAccessors) (hown : s.vm.findClass own = some f.method.cls) (hst : cell.vm.isStatics = false) (hcl : s.vm.findClass C = some cell.cls) :
    ∀ (tbl : List ExceptionTableEntry) (S : State), S.heap[x]? = some cell → s.WarmedH S.vm → xt_Match s args own C f.pc h (tbl.map (fun h => (h.startPc, h.endPc, h.handlerPc, h.catchType))) →
      ∃ vm' : Vm, s.WarmedH vm' ∧ ∀ (Q : Handler → Pre) (E : CtlPost) (d : Bool) (acts : List Action), wp (findHandler.go f x tbl) Q E e d acts S ↔ Q (.found h) d acts (S.setVm vm') := by
  intro tbl
  induction tbl with
  | nil => intro S _ _ hm; exact hm.elim
  | cons y t ih =>
    intro S hcell hW hm
    obtain ⟨⟨h1, h2, h3⟩, D, hlink, hor⟩ := hm
    have hcov : covers y f.pc = true := by simp [covers]; exact ⟨h1, h2⟩
    obtain ⟨c', hc', hcl'⟩ := Cond.classLink_spec hown hlink e.platform hpl
    obtain ⟨dk, _, _, kt, hd, _, _, _, _, hkt, _, hopen⟩ := hcl'.here
    have hcl₀ := hW.classLinks hcl'
    have hW' : s.WarmedH (S.vm.noted f.method.cls y.catchType (.cls c')) := hW.noted hd hopen (State.rightAt_cls hcl')
    obtain ⟨ks, hks⟩ := Vm.classAt_of_findClass hcl
    obtain ⟨ks', hks', -⟩ := hW'.alike.2.2 _ _ hks
    obtain ⟨kt', hkt', -⟩ := hW'.alike.2.2 _ _ hkt
    have key := fun (Q : Handler → Pre) (E : CtlPost) (d : Bool) (acts : List Action) => xt_goCold (e := e) (E := E) (d := d) (acts := acts) (S := S) (f := f) (a := x) (Q := Q) (x := y) (t := t) hcov h3 (resolveClass_links e.toSetting hcl₀) (by no_record) hcell (VmData.noStatics_of hst) ⟨ks', hks'⟩ ⟨kt', hkt'⟩
    rcases hor with ⟨⟨cc, d, e1, e2, e3⟩, e4⟩ | ⟨⟨cc, d, e1, e2, e3⟩, hrest⟩
    · cases hcl.symm.trans e1
      cases hc'.symm.trans e2
      refine ⟨_, hW', fun Q E d acts => ?_⟩
      have e4 : y.handlerPc = h := e4
      rw [key Q E d acts, if_pos (by rw [hW'.alike.assignable]; exact e3), e4]
    · cases hcl.symm.trans e1
      cases hc'.symm.trans e2
      obtain ⟨vm2, hW2, k2⟩ := ih (S.setVm (S.vm.noted f.method.cls y.catchType (.cls c'))) hcell hW' hrest
      refine ⟨vm2, hW2, fun Q E d acts => ?_⟩
      rw [key Q E d acts, if_neg (by rw [hW'.alike.assignable, e3]; decide), k2 Q E d acts]
      rfl
theorem xt_stepCatch {S : State} {a : Addr} {f : JFrame} {r : List Frame} {pc : Nat} {vm' : Vm} (hfind : ∀ (Q : Handler → Pre) (E : CtlPost) (d : Bool) (acts : List Action), wp (findHandler f a) Q E e d acts S ↔ Q (.found pc) d acts (S.setVm vm')) :
    (stepThrowing e S a (.java f :: r)).Is ((S.setVm vm').setFrames (.java { f with pc := pc, stack := [.ref a] } :: r)) [] := by
  simp only [stepThrowing, searchFrame, vmDo]
  generalize hr : Sem.go _ e false [] S = res
  obtain ⟨as, rfl, ha⟩ := Sem.eq_ok_of hr (a := Handler.found pc) (s' := S.setVm vm') (acts' := []) (by simp [hfind _ _ _ _])
  exact ⟨rfl, ha⟩
/-- into a handler of the method's own -/
theorem xt_catch {own C : String} {hh : List (Nat × Nat × Nat × Nat)} {g : JFrame} {x h : Nat} (hg : g.method = m) (htb : c.exceptionTable.toList.map (fun h => (h.startPc, h.endPc, h.handlerPc, h.catchType)) = hh) (hown : s.vm.findClass own = some m.cls)
    (hthr : ∃ cell : Cell, H[x]? = some cell ∧ cell.vm.isStatics = false ∧ s.vm.findClass C = some cell.cls) (hM : xt_Match s args own C g.pc h hh) (k : W p l e R s m args below meth c H locs cells slots Q { g with pc := h, stack := [.ref x] }) : WX p l e R s m args below meth c H locs cells slots Q g x := by
  intro T hT X
  subst hT; subst hg; subst htb
  obtain ⟨cell, hcell, hst, hcl⟩ := hthr
  have hpl : e.platform.magicAccessors = ({} : Platform).magicAccessors := by rw [X.admits.platform]
  obtain ⟨vm', hW', hf⟩ := xt_find (e := e) (f := g) (x := x) (cell := cell) (h := h) hpl hown hst hcl c.exceptionTable.toList ((T.setTop g).pushFrame (.throwing x)) (by rw [Stand.throwing_heap]; exact hcell) (by rw [Stand.throwing_vm]; exact X.warmed) hM
  obtain ⟨t, a1, b1⟩ := k (T.setVm vm') rfl (X.noted hW')
  refine ⟨t, ?_, b1⟩
  have hAt : At T g.method c below := X.here
  have hfind : ∀ (Q : Handler → Pre) (E : CtlPost) (d : Bool) (acts : List Action), wp (findHandler g x) Q E e d acts ((T.setTop g).pushFrame (.throwing x)) ↔ Q (.found h) d acts (((T.setTop g).pushFrame (.throwing x)).setVm vm') := by
    intro Q E d acts
    rw [W.findHandler_eq (meth := meth) (code := c) (by rw [Stand.throwing_vm]; exact X.method') X.code]
    exact hf Q E d acts
  obtain ⟨hgo, hw⟩ := hAt.throwing x
  refine Steps.head hgo hw ?_
  rw [stepThread_throwing (frames_entered hAt.top _), (xt_stepCatch hfind).1]
  obtain ⟨g₀, hg0⟩ := Option.isSome_iff_exists.mp hAt.top
  obtain ⟨r, hr⟩ := State.topJava?_eq_some.mp hg0
  have hr' : (T.setVm vm').frames = .java g₀ :: r := hr
  rw [State.setTop_of_frames _ hr'] at a1
  have e1 : (((T.setTop g).pushFrame (.throwing x)).setVm vm').setFrames (.java { g with pc := h, stack := [.ref x] } :: T.frames.tail) = (T.setVm vm').setFrames (.java { g with pc := h, stack := [.ref x] } :: r) := by
    rw [hr]
    simp only [State.pushFrame, State.setTop_of_frames _ hr, State.setFrames_setFrames]
    show ((T.setVm vm').setFrames _).setFrames _ = _
    rw [State.setFrames_setFrames]
    rfl
  rw [e1]
  exact a1
end XT3
