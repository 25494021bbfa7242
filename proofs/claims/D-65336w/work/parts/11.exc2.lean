/-! EXCEPTIONS, 2: out of the method; 'throw new X()'; a catch whose class may be cold -/
section XT2
variable {p : Program} {l : Launch} {e : Env} {R : Room} {s : State} {m : MethodId} {args : Array Value} {below : List Frame} {meth : Method} {c : Code} {H : Heap} {locs : List Loc} {cells slots : Nat} {Q : State → Prop}
/-- the thrown object: of the class C -/
def xt_Thr (C : String) (x : Nat) (t : State) : Prop := ∃ cell : Cell, t.heap[x]? = some cell ∧ cell.vm.isStatics = false ∧ t.vm.findClass C = some cell.cls
/-- the note of a throw lies over the method's own frame -/
def WX (p : Program) (l : Launch) (e : Env) (R : Room) (s : State) (m : MethodId) (args : Array Value) (below : List Frame) (meth : Method) (c : Code) (H : Heap) (locs : List Loc) (cells slots : Nat) (Q : State → Prop) (g : JFrame) (x : Addr) : Prop :=
  ∀ T : State, T.heap = H → Stand p l e R s m args below meth c T locs cells slots → ∃ t, Steps p.tables e below ((T.setTop g).pushFrame (.throwing x)) t ∧ Q t
/-- out of a method without handlers -/
theorem xt_out {Qc : Array Value → State → Outcome → State → Prop} {free : Addr → Prop} {g : JFrame} {x : Addr} (htb : c.exceptionTable.toList = []) (hlk : meth.locks = false) (hg : g.method = m) (hlocked : g.locked = none) (hentered : g.entered = [])
    (hq : ∀ t : State, t.heap = H → s.WarmedH t.vm → Qc args s (.threw x) t) (hf : ∀ q ∈ locs, free q.base) : WX p l e R s m args below meth c H locs cells slots (MQT below Qc args s cells slots free) g x := by
  intro T hT X
  obtain ⟨h1, h2, h3, h4, h5⟩ := X.leaveThrown x hg hlocked hentered (fun y hy => by rw [htb] at hy; cases hy) hlk
  exact ⟨_, h1, _, h2, h3, hq _ hT h4, locs, ⟨h4, h5⟩, hf⟩
/-- behind a call that may throw -/
theorem xt_call {Qa : State → Outcome → State → Prop} {free : Addr → Prop} {pc mc ms : Nat} {ls : Array Slot} {rest st0 : List Value} (hr : xt_Run p l e R s m args below meth c H locs cells slots mc ms (F0 m pc ls st0) rest Qa free)
    (kr : ∀ (v : Option Value) (st t : State) (L : List Loc), st.heap = H → s.vm.Alike t.vm → (∀ q ∈ L, free q.base) → Qa st (.returned v) t → W p l e R s m args below meth c t.heap (locs ++ L) (cells + mc) (slots + ms) Q (F0 m (pc + 3) ls (v.toList ++ rest)))
    (kt : ∀ (x : Addr) (st t : State) (L : List Loc), st.heap = H → s.WarmedH t.vm → (∀ q ∈ L, free q.base) → Qa st (.threw x) t → WX p l e R s m args below meth c t.heap (locs ++ L) (cells + mc) (slots + ms) Q (F0 m pc ls rest) x) : W p l e R s m args below meth c H locs cells slots Q (F0 m pc ls st0) := by
  intro T hT X
  obtain ⟨o, st, t, T', L, h0, X', hL, e1, e2, hq, h⟩ := hr T hT X
  rcases h with ⟨v, rfl, hs⟩ | ⟨x, rfl, hs⟩
  · obtain ⟨t2, a1, b1⟩ := kr v st t L h0 (by rw [← e2]; exact X'.warmed.alike) hL hq T' e1 X'
    exact ⟨t2, hs _ a1, b1⟩
  · obtain ⟨t2, a1, b1⟩ := kt x st t L h0 (by rw [← e2]; exact X'.warmed) hL hq T' e1 X'
    exact ⟨t2, hs _ a1, b1⟩
/-- new X(); throw: four instructions -/
theorem xt_throw {cc : ByteArray} {Qc : Array Value → State → Outcome → State → Prop} {free : Addr → Prop} {own cls : String} {names : List String} {index ic pc : Nat} {ls : Array Slot} {rest : List Value} (hexec : p.tables.exec = Jvm.exec) (hb : c.code = cc) (hl : l.stackTraces = false) (hown : s.vm.findClass own = some m.cls)
    (hcls : Bundle.fit cls = true) (hnames : ∀ n ∈ names, Bundle.fit n = true) (h : ∀ a ∈ Bundle.ownAtoms0 own ic cls names, a.before args s = true) (hclink : (Cond.classLink own index cls).before args s = true) (hini : (Cond.initialized cls).before args s = true)
    (hlocs : ∀ x ∈ locs, s.heap.size ≤ x.base) (htb : c.exceptionTable.toList = []) (hlk : meth.locks = false) (hsize : ls.size = c.maxLocals)
    (hd0 : decode cc pc = .ok (.new index, 3)) (hd3 : decode cc (pc + 3) = .ok (.dup, 1)) (hd4 : decode cc (pc + 4) = .ok (.invokespecial ic, 3)) (hd7 : decode cc (pc + 7) = .ok (.athrow, 1))
    (hcells : cells + 1 ≤ R.cells) (hslots : slots + 6 ≤ R.slots) (hRf : names.length + 3 < R.frames) (hRl : (rest.map fun v => v.category).sum + (13 * (names.length + 1) + 42) ≤ R.locals)
    (hHs : s.heap.size ≤ H.size)
    (hq : ∀ (x : Nat) (t : State), s.heap.size ≤ t.heap.size → (∀ q : Nat, q < s.heap.size → t.heap[q]? = s.heap[q]?) → s.WarmedH t.vm → xt_Thr cls x t → Qc args s (.threw x) t) (hf : ∀ q ∈ locs, free q.base) :
    W p l e R s m args below meth c H locs cells slots (MQT below Qc args s (cells + 1) (slots + 6) free) (F0 m pc ls rest) := by
  refine W.newc hexec hb hown hclink (h (.instantiable cls 6) (by simp [Bundle.ownAtoms0])) hini rfl hd0 hcells hslots fun cC kC h1 h2 h3 h4 => ?_
  refine W.eq (g2 := F0 m (pc + 3) ls (.ref H.size :: rest)) rfl ?_
  refine lv_dup hexec hb hd3 rfl ?_
  intro T hT X
  subst hb
  have htr : e.platform.stackTraces = false := by rw [X.admits.platform]; exact hl
  obtain ⟨U, g1, g2, g3, g4, g5, ce, g6, g7⟩ := X.ctorThrow0 hexec htr hown hcls hnames h (fun x hx cell hc => by
      have := (Array.getElem?_eq_some_iff.mp hc).1
      have := hlocs x hx
      omega) h1 h2 (a := H.size) (by rw [hT]; simp) hHs (g := F0 m (pc + 4) ls (.ref H.size :: .ref H.size :: rest)) rfl hsize rfl rfl (rest := rest) rfl hd4 hd7 (fun y hy => by rw [htb] at hy; cases hy) hRf (by show 2 * 0 + (1 + (rest.map fun v => v.category).sum) + _ ≤ _; omega) hlk
  have hold : ∀ q : Nat, q < s.heap.size → U.heap[q]? = s.heap[q]? := by
    intro q hlt
    obtain ⟨cell, hc⟩ : ∃ cell, s.heap[q]? = some cell := ⟨_, Array.getElem?_eq_getElem hlt⟩
    obtain ⟨c', k1, k2, k3, k4⟩ := g5.2.2.2.2.2 q cell hc
    have k5 : U.heap[q]? = some c' := k1
    rw [k5, hc, k2]
    have : c'.slots = cell.slots := by
      apply Array.ext_getElem?
      intro i
      exact k4 i (fun hm => by have := hlocs _ hm; simp at this; omega)
    rw [this]
  have hcls2 : U.vm.findClass cls = some ce.cls := by rw [g4.alike.findClass]; exact g7.cls
  exact ⟨U, g1, _, g2, g3, hq _ U g5.2.1 hold g4 ⟨ce, g6, by rw [g7.vm]; rfl, hcls2⟩, locs, ⟨g4, g5⟩, hf⟩
/-! the cold catch -/
theorem xt_goCold {E : CtlPost} {d : Bool} {acts : List Action} {S : State} {f : JFrame} {a : Addr} {Q : Handler → Pre} {x : ExceptionTableEntry} {t : List ExceptionTableEntry} {cT : ClassId} {vm' : Vm} {cell : Cell} (hx : covers x f.pc = true) (h0 : x.catchType ≠ 0)
    (hg : (Jvm.resolveClass f.method.cls x.catchType).Gives e.toSetting S.vm (.ok cT) vm') (hsz : vm'.classes.size ≤ S.vm.classes.size) (hcell : S.heap[a]? = some cell) (hobj : ∀ k, cell.vm ≠ .statics k)
    (hk : ∃ k, vm'.classes[cell.cls]? = some k) (hc : ∃ k, vm'.classes[cT]? = some k) :
    wp (findHandler.go f a (x :: t)) Q E e d acts S ↔
      if vm'.assignable cell.cls cT = true then Q (.found x.handlerPc) d acts (S.setVm vm') else wp (findHandler.go f a t) Q E e d acts (S.setVm vm') := by
  simp only [covers] at hx
  obtain ⟨ha, ht⟩ := hg.op (op := VmOp.resolveClass f.method.cls x.catchType) rfl
  have hcell' : (S.setVm vm').heap[a]? = some cell := hcell
  cases hfit : vm'.assignable cell.cls cT <;>
    simp [findHandler.go, hx, h0, ha, VmOp.lands_eq (s := S) ht hsz, hcell, hobj, hk, hc, hfit, VmOp.dirties, VmOp.acts]
end XT2
