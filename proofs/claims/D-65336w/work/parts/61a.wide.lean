/-! calls with a deep stack below (tools: from xt_run, pw_call, with the depth as a number) -/
section XTW
variable {p : Program} {l : Launch} {e : Env} {R : Room} {s : State} {m : MethodId} {args : Array Value} {below : List Frame} {meth : Method} {c : Code} {H : Heap} {locs : List Loc} {cells slots : Nat} {Q Q' : State → Prop}
variable {y : MethodName} {bytes cc : ByteArray} {maxL nL mc ms n index : Nat} {ret : Option FieldType} {ws : List Cond} {rm : Room} {Pc : Array Value → State → Prop} {Qc : Array Value → State → Outcome → State → Prop} {free : Addr → Prop} {Ts : List Cond} {own C : String} {b : Addr} {As rest : List Value} {g : JFrame}
theorem xt_runW {Wd : Nat} {a : Array Value} (hM : MetT l y ws rm Pc Qc mc ms free) (hbl : FrameBlind Pc)
    (cb : rm.cells = mc ∧ rm.slots = ms ∧ rm.frames + 1 ≤ R.frames ∧ Wd + (maxL + 11) + rm.locals ≤ R.locals ∧ (∀ w ∈ ws, ∀ (a' : Array Value) (U : State), s.WarmedH U.vm → w.before a' U = true) ∧ Cond.code y bytes maxL ret ∈ ws) (hini : (Cond.initialized y.cls).before args s = true)
    (hE : xt_Ent p l e R s m args below meth c H locs cells slots g rest y a) (hPc : ∀ U : State, U.heap = H → s.WarmedH U.vm → Pc a U)
    (hg : g.method = m) (hsize : g.locals.size = c.maxLocals) (hW : 2 * g.monitorRoom + (rest.map fun v => v.category).sum ≤ Wd) (hf : cells + mc ≤ R.cells ∧ slots + ms ≤ R.slots) :
    xt_Run p l e R s m args below meth c H locs cells slots mc ms g rest (Qc a) free := by
  obtain ⟨hrc, hrs, hfr, hlo, hws, hcw⟩ := cb
  intro T hT X
  obtain ⟨vm₁, mk, ig, X₁, hn, hdg, st⟩ := hE T hT X
  obtain ⟨methY, cY, hmY, hcY, -, hlY, -, -, -, -⟩ := Cond.code_spec hn (hws _ hcw a _ X₁.warmed)
  obtain ⟨kY, hkY, -⟩ := className_of_methodNamed hn
  have hinitY : kY.init = .initialized := Cond.initialized_spec (findClass_of_methodNamed hn) hkY (word_at X₁.warmed (a' := a) (Or.inl (by first | rfl | simp [Cond.onTables, Cond.keeps, Cond.steady])) hini)
  have h : At (T.setVm vm₁) ({ g with stack := rest } : JFrame).method c below := by rw [show ({ g with stack := rest } : JFrame).method = m from hg]; exact X₁.here
  have happ : (headSpec ws rm).appliesLoose y e.platform ((T.setVm vm₁).calling { g with stack := rest } mk a) = true :=
    Spec.appliesLoose_calling (g := { g with stack := rest }) h hdg hn hkY hinitY
      (X₁.room_calling (g := { g with stack := rest }) (R' := rm) hsize hmY hcY hfr (by rw [hlY]; show 2 * g.monitorRoom + (rest.map fun v => v.category).sum + _ + _ ≤ _; omega) (by rw [hrc]; exact hf.1) (by rw [hrs]; exact hf.2)) (atoms_intro fun w hw => hws w hw _ _ X₁.warmed)
  obtain ⟨mid, hmid⟩ := h.above
  have hfr : ((T.setVm vm₁).setTop { g with stack := rest }).frames = (.java { g with stack := rest } :: mid) ++ below := by rw [State.frames_setTop' _ h.top, hmid]; rfl
  obtain ⟨o, s₂, hsteps, -, hend, ⟨hq, L, ⟨hW2, hsame⟩, hL⟩⟩ := Steps.callFree hM p X.admits X.cas X.clock (acts := []) hfr happ (hbl _ _ _ _ (hPc _ hT X₁.warmed)) trivial
  rw [State.frames_setTop' _ h.top, X₁.tail] at hend
  cases o with
  | returned v =>
    obtain ⟨T', X', -, -, ht⟩ := X₁.outOf (g := { g with stack := rest }) hg hdg hend hW2 hsame
    refine ⟨.returned v, (T.setVm vm₁).calling { g with stack := rest } mk a, s₂, T', L, hT, X', hL, by rw [ht]; rfl, by rw [ht]; rfl, hq, Or.inl ⟨v, rfl, fun tg h1 => st _ (hsteps.trans ?_)⟩⟩
    rw [ht]
    exact h1
  | threw x =>
    obtain ⟨T', X', -, -, ht⟩ := X₁.outOfThrown (g := { g with stack := rest }) hg hend hW2 hsame
    refine ⟨.threw x, (T.setVm vm₁).calling { g with stack := rest } mk a, s₂, T', L, hT, X', hL, by rw [ht, Stand.throwing_heap], by rw [ht, Stand.throwing_vm], hq, Or.inr ⟨x, rfl, fun tg h1 => st _ (hsteps.trans ?_)⟩⟩
    rw [ht]
    exact h1
end XTW
section PWW
variable {p : Program} {l : Launch} {e : Env} {R : Room} {s : State} {m : MethodId} {args : Array Value} {below : List Frame} {meth : Method} {c : Code} {H : Heap} {locs : List Loc} {cells slots : Nat} {Q : State → Prop}
variable {cc : ByteArray} {nL pc : Nat} {ls : Array Slot} {rest : List Value} {D : va_G} {cs : Nat → ClassId} {A : Nat → Prop} {a : Nat} {L : List Nat} {f : Nat → va_E} {own : String}
theorem pw_callW {Wd : Nat} {y : MethodName} {cc' : ByteArray} {nL' : Nat} {ret' : Option FieldType} {rm : Room} {av st0 : List Value} {post : pR → List Nat → (Nat → va_E) → Prop} (S : CallFix p m c cc nL s args lw_all own) (P : PW D cs A s L f H locs) (hM : PM l D cs y cc' nL' ret' rm av L f post) (hq : Cond.code y cc' nL' ret' ∈ lw_all) (hini : Cond.initialized y.cls ∈ lw_all)
    (hE : xt_Ent p l e R s m args below meth c H locs cells slots (F0 m pc ls st0) rest y av.toArray) (hls : ls.size = nL) (hroom : (rest.map fun v => v.category).sum ≤ Wd) (hR : rm.frames + 1 ≤ R.frames ∧ Wd + (nL' + 11) + rm.locals ≤ R.locals) (hf : cells + rm.cells ≤ R.cells ∧ slots + rm.slots ≤ R.slots)
    (kr : ∀ (v : Option Value) (L' : List Nat) (f' : Nat → va_E) (H1 : Heap) (locs1 : List Loc), post (.inl v) L' f' → PW D cs A s L' f' H1 locs1 → W p l e R s m args below meth c H1 locs1 (cells + rm.cells) (slots + rm.slots) Q (F0 m (pc + 3) ls (v.toList ++ rest)))
    (kt : ∀ (C : String) (x : Nat) (L' : List Nat) (f' : Nat → va_E) (H1 : Heap) (locs1 : List Loc), post (.inr C) L' f' → PW D cs A s L' f' H1 locs1 → (∃ cell : Cell, H1[x]? = some cell ∧ cell.vm.isStatics = false ∧ s.vm.findClass C = some cell.cls) → WX p l e R s m args below meth c H1 locs1 (cells + rm.cells) (slots + rm.slots) Q (F0 m pc ls rest) x) : W p l e R s m args below meth c H locs cells slots Q (F0 m pc ls st0) := by
  have key : ∀ (st t : State) (o : Outcome) (Lc : List Loc), st.heap = H → (∀ q ∈ Lc, pA L H.size q.base) → PQ D L H.size post av.toArray st o t → ∃ (r : pR) (L' : List Nat) (f' : Nat → va_E), pIs o r t ∧ post r L' f' ∧ PW D cs A s L' f' t.heap (locs ++ Lc) := by
    intro st t o Lc hst hLc hq
    obtain ⟨⟨r, L', f', h1, h2, h3, h4⟩, h5, h6⟩ := hq
    rw [hst] at h5 h6
    refine ⟨r, L', f', h1, h2, P.to h3 (h4.weaken (fun k q _ h => P.pA _ h)) ⟨Nat.le_trans P.2.2.1.1 h5, fun q g1 g2 => ?_, fun q hq => ?_⟩⟩
    · rw [h6 q (Nat.lt_of_lt_of_le g1 P.2.2.1.1) (fun z => g2 (P.pA q z))]
      exact P.2.2.1.2.1 q g1 g2
    · rcases List.mem_append.mp hq with h | h
      · exact P.2.2.1.2.2 q h
      · exact P.pA _ (hLc q h)
  refine xt_call (xt_runW (Wd := Wd) (hM H.size) PC.blind ⟨rfl, rfl, hR.1, hR.2, pay_in S.2.2.2.2 (lw_meth hq), List.mem_cons_self⟩ (S.2.2.2.2 _ hini) hE (fun U hU hW => ⟨rfl, by rw [hU], by rw [hU]; exact P.1, P.2.1.weaken (fun _ _ _ _ => trivial), va_K.moved hW.alike P.2.2.2.2.2.2, P.2.2.2.2.1.moved hW, by rw [hU]; exact P.2.2.2.2.2.1.moved P.2.2.1 hW.alike (fun q _ h => P.pA q h)⟩) rfl (hls.trans S.2.2.1.symm) (by show 2 * 0 + _ ≤ Wd; omega) hf) ?_ ?_
  · intro v st t Lc hst hvm hLc hq
    obtain ⟨r, L', f', h1, h2, h3⟩ := key st t _ Lc hst hLc hq
    cases r with
    | inl v' =>
      have h1 : Outcome.returned v = .returned v' := h1
      cases h1
      exact kr v L' f' _ _ h2 h3
    | inr C =>
      obtain ⟨x, h1, -⟩ := h1
      cases h1
  · intro x st t Lc hst hW hLc hq
    obtain ⟨r, L', f', h1, h2, h3⟩ := key st t _ Lc hst hLc hq
    cases r with
    | inl v' =>
      have h1 : Outcome.threw x = .returned v' := h1
      cases h1
    | inr C =>
      obtain ⟨x', h1, cell, k1, k2, k3⟩ := h1
      cases h1
      exact kt C x L' f' _ _ h2 h3 ⟨cell, k1, k2, by rw [← hW.alike.findClass]; exact k3⟩
theorem pw_callRW {Wd : Nat} {y : MethodName} {cc' : ByteArray} {nL' : Nat} {ret' : Option FieldType} {rm : Room} {av st0 : List Value} {v : Option Value} (S : CallFix p m c cc nL s args lw_all own) (P : PW D cs A s L f H locs) (hM : PM l D cs y cc' nL' ret' rm av L f (pRd L f v)) (hq : Cond.code y cc' nL' ret' ∈ lw_all) (hini : Cond.initialized y.cls ∈ lw_all)
    (hE : xt_Ent p l e R s m args below meth c H locs cells slots (F0 m pc ls st0) rest y av.toArray) (hls : ls.size = nL) (hroom : (rest.map fun v => v.category).sum ≤ Wd) (hR : rm.frames + 1 ≤ R.frames ∧ Wd + (nL' + 11) + rm.locals ≤ R.locals) (hf : cells + rm.cells ≤ R.cells ∧ slots + rm.slots ≤ R.slots)
    (kr : ∀ (H1 : Heap) (locs1 : List Loc), PW D cs A s L f H1 locs1 → W p l e R s m args below meth c H1 locs1 (cells + rm.cells) (slots + rm.slots) Q (F0 m (pc + 3) ls (v.toList ++ rest))) : W p l e R s m args below meth c H locs cells slots Q (F0 m pc ls st0) := by
  refine pw_callW S P hM hq hini hE hls hroom hR hf (fun v' L' f' H1 locs1 h P1 => ?_) (fun C x L' f' H1 locs1 h _ _ => ?_)
  · obtain ⟨h1, rfl, rfl⟩ := h
    cases h1
    exact kr H1 locs1 P1
  · obtain ⟨h1, -, -⟩ := h
    cases h1
end PWW
section PWS
variable {p : Program} {l : Launch} {e : Env} {R : Room} {u : State} {m : MethodId} {args : Array Value} {below : List Frame} {meth : Method} {c : Code} {H : Heap} {locs : List Loc} {cells slots : Nat} {Q : State → Prop}
variable {cc : ByteArray} {nL pc : Nat} {ls : Array Slot} {rest : List Value} {D : va_G} {cs : Nat → ClassId} {A : Nat → Prop} {L : List Nat} {f : Nat → va_E} {own : String} {ad : Nat → Nat} {st st' : St}
theorem pw_callSW {Wd : Nat} {y : MethodName} {cc' : ByteArray} {nL' : Nat} {ret' : Option FieldType} {rm : Room} {av st0 : List Value} {v : Option Value} (S : CallFix p m c cc nL u args lw_all own) (P : PW D cs A u L f H locs) (hM : PM l D cs y cc' nL' ret' rm av L f (hPostS cs ad st L f (.inl v) st')) (hq : Cond.code y cc' nL' ret' ∈ lw_all) (hini : Cond.initialized y.cls ∈ lw_all)
    (hE : xt_Ent p l e R u m args below meth c H locs cells slots (F0 m pc ls st0) rest y av.toArray) (hls : ls.size = nL) (hroom : (rest.map fun v => v.category).sum ≤ Wd) (hR : rm.frames + 1 ≤ R.frames ∧ Wd + (nL' + 11) + rm.locals ≤ R.locals) (hf : cells + rm.cells ≤ R.cells ∧ slots + rm.slots ≤ R.slots)
    (kr : ∀ (H1 : Heap) (locs1 : List Loc) (f' : Nat → va_E), PW D cs A u L f' H1 locs1 → HF cs ad st' L f' → (∀ r, hLive st' r → hLive st r) → (∀ a, ¬ hOwn st ad a → f' a = f a) → W p l e R u m args below meth c H1 locs1 (cells + rm.cells) (slots + rm.slots) Q (F0 m (pc + 3) ls (v.toList ++ rest))) : W p l e R u m args below meth c H locs cells slots Q (F0 m pc ls st0) := by
  refine pw_callW S P hM hq hini hE hls hroom hR hf (fun v' L' f' H1 locs1 h P1 => ?_) (fun C x L' f' H1 locs1 h _ _ => ?_)
  · obtain ⟨h1, rfl, h2, h3, h4⟩ := h
    cases h1
    exact kr H1 locs1 f' P1 h2 h3 h4
  · obtain ⟨h1, -⟩ := h
    cases h1
end PWS
