/-! rows for references that may be null; the class's contracts -/
section LWQ
variable {p : Program} {l : Launch} {e : Env} {R : Room} {s : State} {m : MethodId} {args : Array Value} {below : List Frame} {meth : Method} {c : Code} {H : Heap} {locs : List Loc} {cells slots : Nat} {Q : State → Prop}
variable {cc : ByteArray} {nL pc : Nat} {ls : Array Slot} {rest : List Value} {off : Int} {tgt : Nat} {x : Option Nat}
theorem lw_cat (x : Option Nat) : (va_rf x).category = 1 := by cases x <;> rfl
theorem lw_aload_n (hx : p.tables.exec = Jvm.exec) (hb : c.code = cc) {k : Fin 4} {i : Nat} (hdg : decode cc pc = .ok (.aload_n k, 1)) (hi : (k : Nat) = i) (hl : ls[i]? = some (.val (va_rf x))) (kk : W p l e R s m args below meth c H locs cells slots Q (F0 m (pc + 1) ls (va_rf x :: rest))) : W p l e R s m args below meth c H locs cells slots Q (F0 m pc ls rest) := by
  cases x with
  | none => exact lv_aload_nN hx hb hdg hi hl kk
  | some a => exact lv_aload_n hx hb hdg hi hl kk
theorem lw_aload (hx : p.tables.exec = Jvm.exec) (hb : c.code = cc) {i : Nat} (hdg : decode cc pc = .ok (.aload i, 2)) (hl : ls[i]? = some (.val (va_rf x))) (kk : W p l e R s m args below meth c H locs cells slots Q (F0 m (pc + 2) ls (va_rf x :: rest))) : W p l e R s m args below meth c H locs cells slots Q (F0 m pc ls rest) := by
  cases x with
  | none => exact lv_aloadN hx hb hdg hl kk
  | some a => exact lv_aload hx hb hdg hl kk
theorem lw_astore_n (hx : p.tables.exec = Jvm.exec) (hb : c.code = cc) {k : Fin 4} {i : Nat} {lv lv' : List (Nat × Value)} (hdg : decode cc pc = .ok (.astore_n k, 1)) (hi : (k : Nat) = i) (h : lv_has ls nL lv) (hn : i < nL) (hl : (i, va_rf x) :: lv.filter (fun q => !(q.1 == i) && !(q.1 + 1 == i && q.2.category == 2)) = lv') (kk : ∀ ls' : Array Slot, lv_has ls' nL lv' → W p l e R s m args below meth c H locs cells slots Q (F0 m (pc + 1) ls' rest)) : W p l e R s m args below meth c H locs cells slots Q (F0 m pc ls (va_rf x :: rest)) := by
  cases x with
  | none => exact lv_astore_nN hx hb hdg hi h hn hl kk
  | some a => exact lv_astore_n hx hb hdg hi h hn hl kk
theorem lw_astore (hx : p.tables.exec = Jvm.exec) (hb : c.code = cc) {i : Nat} {lv lv' : List (Nat × Value)} (hdg : decode cc pc = .ok (.astore i, 2)) (h : lv_has ls nL lv) (hn : i < nL) (hl : (i, va_rf x) :: lv.filter (fun q => !(q.1 == i) && !(q.1 + 1 == i && q.2.category == 2)) = lv') (kk : ∀ ls' : Array Slot, lv_has ls' nL lv' → W p l e R s m args below meth c H locs cells slots Q (F0 m (pc + 2) ls' rest)) : W p l e R s m args below meth c H locs cells slots Q (F0 m pc ls (va_rf x :: rest)) := by
  cases x with
  | none => exact lv_astoreN hx hb hdg h hn hl kk
  | some a => exact lv_astore hx hb hdg h hn hl kk
theorem lw_ifnull (hx : p.tables.exec = Jvm.exec) (hb : c.code = cc) (hdg : decode cc pc = .ok (.ifnull off, 3)) (ht : (pc : Int) + off = (tgt : Int)) (kt : x = none → W p l e R s m args below meth c H locs cells slots Q (F0 m tgt ls rest)) (kf : ¬ x = none → W p l e R s m args below meth c H locs cells slots Q (F0 m (pc + 3) ls rest)) : W p l e R s m args below meth c H locs cells slots Q (F0 m pc ls (va_rf x :: rest)) := by
  cases x with
  | none => exact lv_ifnullN hx hb hdg ht (kt rfl)
  | some a => exact lv_ifnull hx hb hdg (kf (fun z => by cases z))
theorem lw_ifnonnull (hx : p.tables.exec = Jvm.exec) (hb : c.code = cc) (hdg : decode cc pc = .ok (.ifnonnull off, 3)) (ht : (pc : Int) + off = (tgt : Int)) (kt : ¬ x = none → W p l e R s m args below meth c H locs cells slots Q (F0 m tgt ls rest)) (kf : x = none → W p l e R s m args below meth c H locs cells slots Q (F0 m (pc + 3) ls rest)) : W p l e R s m args below meth c H locs cells slots Q (F0 m pc ls (va_rf x :: rest)) := by
  cases x with
  | none => exact lv_ifnonnullN hx hb hdg (kf rfl)
  | some a => exact lv_ifnonnull hx hb hdg ht (kt (fun z => by cases z))
/-- the top of the stack under another name -/
theorem lw_eqv {v w : Value} (h : v = w) (k : W p l e R s m args below meth c H locs cells slots Q (F0 m pc ls (w :: rest))) : W p l e R s m args below meth c H locs cells slots Q (F0 m pc ls (v :: rest)) := by rw [h]; exact k
end LWQ
/-- a contract of a method that only looks -/
def HR (l : Launch) (D : va_G) (cs : Nat → ClassId) (y : MethodName) (cc : ByteArray) (nL : Nat) (ret : Option FieldType) (rm : Room) (ad : Nat → Nat) (st : St) (av : List Value) (v : Option Value) : Prop :=
  ∀ (L : List Nat) (f : Nat → va_E), HF cs ad st L f → PM l D cs y cc nL ret rm av L f (pRd L f v)
/-- .. that throws, and leaves the world -/
def pTh (L : List Nat) (f : Nat → va_E) (C : String) : pR → List Nat → (Nat → va_E) → Prop := fun r L' f' => r = .inr C ∧ L' = L ∧ f' = f
def HT (l : Launch) (D : va_G) (cs : Nat → ClassId) (y : MethodName) (cc : ByteArray) (nL : Nat) (ret : Option FieldType) (rm : Room) (ad : Nat → Nat) (st : St) (av : List Value) (C : String) : Prop :=
  ∀ (L : List Nat) (f : Nat → va_E), HF cs ad st L f → PM l D cs y cc nL ret rm av L f (pTh L f C)
/-- a contract's end: the outcome, and a graph that pictures st'; what was not the graph's is as it was -/
def hPost (cs : Nat → ClassId) (ad : Nat → Nat) (st : St) (L : List Nat) (f : Nat → va_E) (o : pR) (st' : St) : pR → List Nat → (Nat → va_E) → Prop := fun r L' f' =>
  r = o ∧ ∃ ad' : Nat → Nat, HF cs ad' st' L' f' ∧ (∀ i, i < 34 → hLive st i → ad' i = ad i) ∧ (∀ a, a ∈ L → a ∈ L') ∧ ∀ a, a ∈ L → ¬ hOwn st ad a → f' a = f a ∧ ¬ hOwn st' ad' a
def HM (l : Launch) (D : va_G) (cs : Nat → ClassId) (y : MethodName) (cc : ByteArray) (nL : Nat) (ret : Option FieldType) (rm : Room) (ad : Nat → Nat) (st : St) (av : List Value) (o : pR) (st' : St) : Prop :=
  ∀ (L : List Nat) (f : Nat → va_E), HF cs ad st L f → PM l D cs y cc nL ret rm av L f (hPost cs ad st L f o st')
section HWC
variable {p : Program} {l : Launch} {e : Env} {R : Room} {s : State} {m : MethodId} {args : Array Value} {below : List Frame} {meth : Method} {c : Code} {H : Heap} {locs : List Loc} {cells slots : Nat} {Q : State → Prop}
variable {cc : ByteArray} {nL pc : Nat} {ls : Array Slot} {rest : List Value} {D : va_G} {cs : Nat → ClassId} {A : Nat → Prop} {a : Nat} {L : List Nat} {f : Nat → va_E} {own : String}
/-- a call that throws, in a method without handlers -/
theorem pw_callT {y : MethodName} {cc' : ByteArray} {nL' sz mc ms : Nat} {L0 : List Nat} {post : pR → List Nat → (Nat → va_E) → Prop} {ret' : Option FieldType} {rm : Room} {av st0 : List Value} {C : String} (S : CallFix p m c cc nL s args lw_all own) (P : PW D cs (pA L0 sz) s L f H locs) (hQ : Q = MQT below (PQ D L0 sz post) args s mc ms (pA L0 sz)) (hM : PM l D cs y cc' nL' ret' rm av L f (pTh L f C)) (hq : Cond.code y cc' nL' ret' ∈ lw_all) (hini : Cond.initialized y.cls ∈ lw_all)
    (hE : xt_Ent p l e R s m args below meth c H locs cells slots (F0 m pc ls st0) rest y av.toArray) (htb : c.exceptionTable.toList = []) (hlk : meth.locks = false) (hls : ls.size = nL) (hroom : (rest.map fun v => v.category).sum ≤ 8) (hR : rm.frames + 1 ≤ R.frames ∧ 8 + (nL' + 11) + rm.locals ≤ R.locals) (hf : cells + rm.cells ≤ R.cells ∧ slots + rm.slots ≤ R.slots) (hw : cells + rm.cells ≤ mc ∧ slots + rm.slots ≤ ms)
    (hp : post (.inr C) L f) : W p l e R s m args below meth c H locs cells slots Q (F0 m pc ls st0) := by
  subst hQ
  refine pw_call S P hM hq hini hE hls hroom hR hf (fun v' L' f' H1 locs1 h P1 => ?_) (fun C' x L' f' H1 locs1 h P1 ht => ?_)
  · obtain ⟨h1, -, -⟩ := h
    cases h1
  · obtain ⟨h1, rfl, rfl⟩ := h
    cases h1
    intro T hT X
    obtain ⟨t, g1, g2⟩ := pw_out (R := R) (args := args) (below := below) (pc := pc) (ls := ls) (rest := rest) (post := post) (cells := mc) (slots := ms) P1 htb hlk ht hp T hT (stand_widen X hw.1 hw.2)
    exact ⟨t, g1, g2⟩
/-! returns; the room is rounded up -/
variable {sz mc ms : Nat} {L0 : List Nat} {post : pR → List Nat → (Nat → va_E) → Prop}
theorem gw_iret {v : Int32} (S : CallFix p m c cc nL s args lw_all own) (P : PW D cs (pA L0 sz) s L f H locs) (hQ : Q = MQT below (PQ D L0 sz post) args s mc ms (pA L0 sz)) (hr : meth.sig.returnType = some .int) (hlk : meth.locks = false) (hw : cells ≤ mc ∧ slots ≤ ms) (hdg : decode cc pc = .ok (.ireturn, 1)) (hp : post (.inl (some (.int v))) L f) : W p l e R s m args below meth c H locs cells slots Q (F0 m pc ls [.int v]) := by
  subst hQ
  exact W.widen hw.1 hw.2 (pw_iret S P hr hlk hdg hp)
theorem gw_zret {v : Int32} (S : CallFix p m c cc nL s args lw_all own) (P : PW D cs (pA L0 sz) s L f H locs) (hQ : Q = MQT below (PQ D L0 sz post) args s mc ms (pA L0 sz)) (hr : meth.sig.returnType = some .boolean) (hlk : meth.locks = false) (hw : cells ≤ mc ∧ slots ≤ ms) (hdg : decode cc pc = .ok (.ireturn, 1)) (h01 : v = 0 ∨ v = 1) (hp : post (.inl (some (.int v))) L f) : W p l e R s m args below meth c H locs cells slots Q (F0 m pc ls [.int v]) := by
  subst hQ
  exact W.widen hw.1 hw.2 (pw_zret S P hr hlk h01 hdg hp)
theorem gw_dret {v : UInt64} (S : CallFix p m c cc nL s args lw_all own) (P : PW D cs (pA L0 sz) s L f H locs) (hQ : Q = MQT below (PQ D L0 sz post) args s mc ms (pA L0 sz)) (hr : meth.sig.returnType = some .double) (hlk : meth.locks = false) (hw : cells ≤ mc ∧ slots ≤ ms) (hdg : decode cc pc = .ok (.dreturn, 1)) (hp : post (.inl (some (.double v))) L f) : W p l e R s m args below meth c H locs cells slots Q (F0 m pc ls [.double v]) := by
  subst hQ
  exact W.widen hw.1 hw.2 (pw_dret S P hr hlk hdg hp)
theorem gw_vret (S : CallFix p m c cc nL s args lw_all own) (P : PW D cs (pA L0 sz) s L f H locs) (hQ : Q = MQT below (PQ D L0 sz post) args s mc ms (pA L0 sz)) (hr : meth.sig.returnType = none) (hlk : meth.locks = false) (hw : cells ≤ mc ∧ slots ≤ ms) (hdg : decode cc pc = .ok (.return_, 1)) (hp : post (.inl none) L f) : W p l e R s m args below meth c H locs cells slots Q (F0 m pc ls []) := by
  subst hQ
  exact W.widen hw.1 hw.2 (pw_vret S P hr hlk hdg hp)
theorem gw_aret {v : Value} {C : String} (S : CallFix p m c cc nL s args lw_all own) (P : PW D cs (pA L0 sz) s L f H locs) (hQ : Q = MQT below (PQ D L0 sz post) args s mc ms (pA L0 sz)) (hr : meth.sig.returnType = some (.object C)) (hlk : meth.locks = false) (hw : cells ≤ mc ∧ slots ≤ ms) (hdg : decode cc pc = .ok (.areturn, 1)) (hv : v = .null ∨ ∃ a, v = .ref a) (hp : post (.inl (some v)) L f) : W p l e R s m args below meth c H locs cells slots Q (F0 m pc ls [v]) := by
  subst hQ
  exact W.widen hw.1 hw.2 (pw_aret S P hr hlk hv hdg hp)
theorem pRd_i {v v' : Int32} (h : v = v') : pRd L f (some (.int v')) (.inl (some (.int v))) L f := by subst h; exact ⟨rfl, rfl, rfl⟩
theorem pRd_d {v v' : UInt64} (h : v = v') : pRd L f (some (.double v')) (.inl (some (.double v))) L f := by subst h; exact ⟨rfl, rfl, rfl⟩
theorem pRd_a {v v' : Value} (h : v = v') : pRd L f (some v') (.inl (some v)) L f := by subst h; exact ⟨rfl, rfl, rfl⟩
end HWC
section HRS
variable {l : Launch} {D : va_G} {cs : Nat → ClassId} {ad : Nat → Nat}
/-- a method's start, with the end under a name -/
theorem hm_of {y : MethodName} {cc : ByteArray} {nL : Nat} {ret : Option FieldType} {rm : Room} {av : List Value} {L : List Nat} {f : Nat → va_E} {post : pR → List Nat → (Nat → va_E) → Prop} (own : String) (hown : y.cls = own) (hy : plainName y.cls = true) (hlen : (lg_sl av).length ≤ nL)
    (body : ∀ (sz : Nat) (p : Program) (e : Env) (s : State) (m : MethodId) (below : List Frame) (meth : Method) (c : Code), CallFix p m c cc nL s av.toArray lw_all own → PW D cs (pA L sz) s L f s.heap [] → s.heap.size = sz → meth.sig.returnType = ret → meth.locks = false → meth.name = y.name → c.exceptionTable.toList = [] → ∀ ls : Array Slot, lv_has ls nL (lv_args 0 av) → ∀ Q : State → Prop, Q = MQT below (PQ D L sz post) av.toArray s rm.cells rm.slots (pA L sz) →
      W p l e rm s m av.toArray below meth c s.heap [] 0 0 Q (F0 m 0 ls [])) : PM l D cs y cc nL ret rm av L f post :=
  pm_of own hown hy hlen (fun sz p e s m below meth c S P hsz hr hlk hnm htb ls hl => body sz p e s m below meth c S P hsz hr hlk hnm htb ls hl _ rfl)
end HRS
