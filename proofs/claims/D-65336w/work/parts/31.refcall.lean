/-! numbers that are Nats; the reference's contracts, calls, returns -/
section NIR
variable {p : Program} {l : Launch} {e : Env} {R : Room} {s : State} {m : MethodId} {args : Array Value} {below : List Frame} {meth : Method} {c : Code} {H : Heap} {locs : List Loc} {cells slots : Nat} {Q : State → Prop}
variable {cc : ByteArray} {nL pc : Nat} {ls : Array Slot} {rest : List Value} {a b : Nat}
theorem ni_iadd (hx : p.tables.exec = Jvm.exec) (hb : c.code = cc) (hdg : decode cc pc = .ok (.iadd, 1)) (k : W p l e R s m args below meth c H locs cells slots Q (F0 m (pc + 1) ls (.int (nI (a + b)) :: rest))) : W p l e R s m args below meth c H locs cells slots Q (F0 m pc ls (.int (nI b) :: .int (nI a) :: rest)) :=
  lv_iadd hx hb hdg (by rw [nI_add]; exact k)
theorem ni_imul (hx : p.tables.exec = Jvm.exec) (hb : c.code = cc) (hdg : decode cc pc = .ok (.imul, 1)) (k : W p l e R s m args below meth c H locs cells slots Q (F0 m (pc + 1) ls (.int (nI (a * b)) :: rest))) : W p l e R s m args below meth c H locs cells slots Q (F0 m pc ls (.int (nI b) :: .int (nI a) :: rest)) :=
  lv_imul hx hb hdg (by rw [pk_mul]; exact k)
theorem ni_isub (hx : p.tables.exec = Jvm.exec) (hb : c.code = cc) (h : b ≤ a) (hdg : decode cc pc = .ok (.isub, 1)) (k : W p l e R s m args below meth c H locs cells slots Q (F0 m (pc + 1) ls (.int (nI (a - b)) :: rest))) : W p l e R s m args below meth c H locs cells slots Q (F0 m pc ls (.int (nI b) :: .int (nI a) :: rest)) :=
  lv_isub hx hb hdg (by rw [pk_sub h]; exact k)
variable {off : Int} {tgt : Nat}
theorem ni_icmp_lt (hx : p.tables.exec = Jvm.exec) (hb : c.code = cc) (h1 : a < 2 ^ 31) (h2 : b < 2 ^ 31) (hdg : decode cc pc = .ok (.if_icmp .lt off, 3)) (ht : (pc : Int) + off = (tgt : Int)) (kt : a < b → W p l e R s m args below meth c H locs cells slots Q (F0 m tgt ls rest)) (kf : ¬ a < b → W p l e R s m args below meth c H locs cells slots Q (F0 m (pc + 3) ls rest)) : W p l e R s m args below meth c H locs cells slots Q (F0 m pc ls (.int (nI b) :: .int (nI a) :: rest)) :=
  lv_icmp_lt hx hb hdg ht (fun q => kt ((nI_ltI h1 h2).mp q)) (fun q => kf (fun z => q ((nI_ltI h1 h2).mpr z)))
theorem ni_icmp_ge (hx : p.tables.exec = Jvm.exec) (hb : c.code = cc) (h1 : a < 2 ^ 31) (h2 : b < 2 ^ 31) (hdg : decode cc pc = .ok (.if_icmp .ge off, 3)) (ht : (pc : Int) + off = (tgt : Int)) (kt : ¬ a < b → W p l e R s m args below meth c H locs cells slots Q (F0 m tgt ls rest)) (kf : a < b → W p l e R s m args below meth c H locs cells slots Q (F0 m (pc + 3) ls rest)) : W p l e R s m args below meth c H locs cells slots Q (F0 m pc ls (.int (nI b) :: .int (nI a) :: rest)) :=
  lv_icmp_ge hx hb hdg ht (fun q => kt (by have := (nI_leI h2 h1).mp q; omega)) (fun q => kf (by
    rcases Nat.lt_or_ge a b with z | z
    · exact z
    · exact absurd ((nI_leI h2 h1).mpr z) q))
theorem ni_icmp_gt (hx : p.tables.exec = Jvm.exec) (hb : c.code = cc) (h1 : a < 2 ^ 31) (h2 : b < 2 ^ 31) (hdg : decode cc pc = .ok (.if_icmp .gt off, 3)) (ht : (pc : Int) + off = (tgt : Int)) (kt : b < a → W p l e R s m args below meth c H locs cells slots Q (F0 m tgt ls rest)) (kf : ¬ b < a → W p l e R s m args below meth c H locs cells slots Q (F0 m (pc + 3) ls rest)) : W p l e R s m args below meth c H locs cells slots Q (F0 m pc ls (.int (nI b) :: .int (nI a) :: rest)) :=
  lv_icmp_gt hx hb hdg ht (fun q => kt ((nI_ltI h2 h1).mp q)) (fun q => kf (fun z => q ((nI_ltI h2 h1).mpr z)))
theorem ni_icmp_le (hx : p.tables.exec = Jvm.exec) (hb : c.code = cc) (h1 : a < 2 ^ 31) (h2 : b < 2 ^ 31) (hdg : decode cc pc = .ok (.if_icmp .le off, 3)) (ht : (pc : Int) + off = (tgt : Int)) (kt : a ≤ b → W p l e R s m args below meth c H locs cells slots Q (F0 m tgt ls rest)) (kf : ¬ a ≤ b → W p l e R s m args below meth c H locs cells slots Q (F0 m (pc + 3) ls rest)) : W p l e R s m args below meth c H locs cells slots Q (F0 m pc ls (.int (nI b) :: .int (nI a) :: rest)) :=
  lv_icmp_le hx hb hdg ht (fun q => kt ((nI_leI h1 h2).mp q)) (fun q => kf (fun z => q ((nI_leI h1 h2).mpr z)))
theorem ni_icmp_eq (hx : p.tables.exec = Jvm.exec) (hb : c.code = cc) (h1 : a < 2 ^ 31) (h2 : b < 2 ^ 31) (hdg : decode cc pc = .ok (.if_icmp .eq off, 3)) (ht : (pc : Int) + off = (tgt : Int)) (kt : a = b → W p l e R s m args below meth c H locs cells slots Q (F0 m tgt ls rest)) (kf : ¬ a = b → W p l e R s m args below meth c H locs cells slots Q (F0 m (pc + 3) ls rest)) : W p l e R s m args below meth c H locs cells slots Q (F0 m pc ls (.int (nI b) :: .int (nI a) :: rest)) :=
  lv_icmp_eq hx hb hdg ht (fun q => kt ((nI_eq h1 h2).mp q)) (fun q => kf (fun z => q ((nI_eq h1 h2).mpr z)))
theorem ni_icmp_ne (hx : p.tables.exec = Jvm.exec) (hb : c.code = cc) (h1 : a < 2 ^ 31) (h2 : b < 2 ^ 31) (hdg : decode cc pc = .ok (.if_icmp .ne off, 3)) (ht : (pc : Int) + off = (tgt : Int)) (kt : ¬ a = b → W p l e R s m args below meth c H locs cells slots Q (F0 m tgt ls rest)) (kf : a = b → W p l e R s m args below meth c H locs cells slots Q (F0 m (pc + 3) ls rest)) : W p l e R s m args below meth c H locs cells slots Q (F0 m pc ls (.int (nI b) :: .int (nI a) :: rest)) :=
  lv_icmp_ne hx hb hdg ht (fun q => kt (fun z => q ((nI_eq h1 h2).mpr z))) (fun q => kf ((nI_eq h1 h2).mp q))
end NIR
section LWR
variable {p : Program} {l : Launch} {e : Env} {R : Room} {s : State} {m : MethodId} {args : Array Value} {below : List Frame} {meth : Method} {c : Code} {H : Heap} {locs : List Loc} {cells slots : Nat} {Q : State → Prop}
variable {cc : ByteArray} {nL pc : Nat} {ls : Array Slot} {rest : List Value} {off : Int} {tgt : Nat} {x y : Int32}
theorem lw_le {a b : Int32} : a ≤ b ↔ ¬ b < a := by rw [Int32.not_lt]
theorem lw_if_ge (hx : p.tables.exec = Jvm.exec) (hb : c.code = cc) (hdg : decode cc pc = .ok (.ifCond .ge off, 3)) (ht : (pc : Int) + off = (tgt : Int)) (kt : ¬ x < 0 → W p l e R s m args below meth c H locs cells slots Q (F0 m tgt ls rest)) (kf : x < 0 → W p l e R s m args below meth c H locs cells slots Q (F0 m (pc + 3) ls rest)) : W p l e R s m args below meth c H locs cells slots Q (F0 m pc ls (.int x :: rest)) :=
  lv_if_ge hx hb hdg ht (fun q => kt (lw_le.mp q)) (fun q => kf (Decidable.not_not.mp (fun z => q (lw_le.mpr z))))
theorem lw_if_le (hx : p.tables.exec = Jvm.exec) (hb : c.code = cc) (hdg : decode cc pc = .ok (.ifCond .le off, 3)) (ht : (pc : Int) + off = (tgt : Int)) (kt : ¬ 0 < x → W p l e R s m args below meth c H locs cells slots Q (F0 m tgt ls rest)) (kf : 0 < x → W p l e R s m args below meth c H locs cells slots Q (F0 m (pc + 3) ls rest)) : W p l e R s m args below meth c H locs cells slots Q (F0 m pc ls (.int x :: rest)) :=
  lv_if_le hx hb hdg ht (fun q => kt (lw_le.mp q)) (fun q => kf (Decidable.not_not.mp (fun z => q (lw_le.mpr z))))
theorem lw_icmp_ge (hx : p.tables.exec = Jvm.exec) (hb : c.code = cc) (hdg : decode cc pc = .ok (.if_icmp .ge off, 3)) (ht : (pc : Int) + off = (tgt : Int)) (kt : ¬ x < y → W p l e R s m args below meth c H locs cells slots Q (F0 m tgt ls rest)) (kf : x < y → W p l e R s m args below meth c H locs cells slots Q (F0 m (pc + 3) ls rest)) : W p l e R s m args below meth c H locs cells slots Q (F0 m pc ls (.int y :: .int x :: rest)) :=
  lv_icmp_ge hx hb hdg ht (fun q => kt (lw_le.mp q)) (fun q => kf (Decidable.not_not.mp (fun z => q (lw_le.mpr z))))
theorem lw_icmp_le (hx : p.tables.exec = Jvm.exec) (hb : c.code = cc) (hdg : decode cc pc = .ok (.if_icmp .le off, 3)) (ht : (pc : Int) + off = (tgt : Int)) (kt : ¬ y < x → W p l e R s m args below meth c H locs cells slots Q (F0 m tgt ls rest)) (kf : y < x → W p l e R s m args below meth c H locs cells slots Q (F0 m (pc + 3) ls rest)) : W p l e R s m args below meth c H locs cells slots Q (F0 m pc ls (.int y :: .int x :: rest)) :=
  lv_icmp_le hx hb hdg ht (fun q => kt (lw_le.mp q)) (fun q => kf (Decidable.not_not.mp (fun z => q (lw_le.mpr z))))
end LWR
/-- rooms by levels -/
abbrev rmL (d mc ms : Nat) : Room := { frames := d, cells := mc, slots := ms, locals := 64 * d }
def bI (b : Bool) : Int32 := if b = true then 1 else 0
theorem bI_or (b : Bool) : bI b = 0 ∨ bI b = 1 := by cases b <;> simp [bI]
def rPost (cs : Nat → ClassId) (r : Nat) (ad : Nat → Nat) (L : List Nat) (f : Nat → va_E) (v : Option Value) (st' : St) (fl' : Int32) : pR → List Nat → (Nat → va_E) → Prop := fun o L' f' =>
  o = .inl v ∧ L' = L ∧ (∀ a, ¬ rOwn r ad a → f' a = f a) ∧ ∃ x', RF cs r ad (gz st' x') f' ∧ Rows st' x' ∧ x' 0 0 = fl'
/-- a contract of the reference: the state st goes to st', the mark 'failed' from fl to fl' -/
def RM (l : Launch) (D : va_G) (cs : Nat → ClassId) (y : MethodName) (cc : ByteArray) (nL : Nat) (ret : Option FieldType) (rm : Room) (r : Nat) (ad : Nat → Nat) (L : List Nat) (av : List Value) (st : St) (fl : Int32) (v : Option Value) (st' : St) (fl' : Int32) : Prop :=
  ∀ (f : Nat → va_E) (x : Nat → Nat → Int32), RS r ad L → RF cs r ad (gz st x) f → Rows st x → x 0 0 = fl → PM l D cs y cc nL ret rm av L f (rPost cs r ad L f v st' fl')
def rQ (below : List Frame) (D : va_G) (cs : Nat → ClassId) (L : List Nat) (sz r : Nat) (ad : Nat → Nat) (f0 : Nat → va_E) (v : Option Value) (st' : St) (fl' : Int32) (args : Array Value) (s : State) (mc ms : Nat) : State → Prop := MQT below (PQ D L sz (rPost cs r ad L f0 v st' fl')) args s mc ms (pA L sz)
section RMS
variable {l : Launch} {D : va_G} {cs : Nat → ClassId} {r : Nat} {ad : Nat → Nat} {L : List Nat}
theorem rm_of {y : MethodName} {cc : ByteArray} {nL : Nat} {ret : Option FieldType} {rm : Room} {av : List Value} {st st' : St} {fl fl' : Int32} {v : Option Value} (hy : y.cls = "SyncHallModel") (hlen : (lg_sl av).length ≤ nL)
    (body : ∀ (f0 : Nat → va_E) (x : Nat → Nat → Int32) (sz : Nat) (p : Program) (e : Env) (s : State) (m : MethodId) (below : List Frame) (meth : Method) (c : Code), CallFix p m c cc nL s av.toArray lw_all "SyncHallModel" → RX D cs (pA L sz) s r ad L f0 st x s.heap [] → Rows st x → x 0 0 = fl → meth.sig.returnType = ret → meth.locks = false → ∀ ls : Array Slot, lv_has ls nL (lv_args 0 av) → ∀ Q : State → Prop, Q = rQ below D cs L sz r ad f0 v st' fl' av.toArray s rm.cells rm.slots →
      W p l e rm s m av.toArray below meth c s.heap [] 0 0 Q (F0 m 0 ls [])) : RM l D cs y cc nL ret rm r ad L av st fl v st' fl' := by
  intro f x hS hF hR hfl
  refine pm_of "SyncHallModel" hy (by rw [hy]; decide +kernel) hlen ?_
  intro sz p e s m below meth c S P hsz hr hlk hnm htb ls hl
  exact body f x sz p e s m below meth c S ⟨hS, f, P, hF, fun _ _ => rfl⟩ hR hfl hr hlk ls hl _ rfl
end RMS
section RMC
variable {p : Program} {l : Launch} {e : Env} {R : Room} {s : State} {m : MethodId} {args : Array Value} {below : List Frame} {meth : Method} {c : Code} {H : Heap} {locs : List Loc} {cells slots : Nat} {Q : State → Prop}
variable {cc : ByteArray} {nL pc : Nat} {ls : Array Slot} {rest : List Value} {D : va_G} {cs : Nat → ClassId} {A : Nat → Prop} {L : List Nat} {f0 : Nat → va_E} {r : Nat} {ad : Nat → Nat} {st : St} {x : Nat → Nat → Int32}
theorem rx_call {y : MethodName} {cc' : ByteArray} {nL' index : Nat} {ret' : Option FieldType} {rm : Room} {v : Option Value} {st' : St} {fl fl' : Int32} (As : List Value) (S : CallFix p m c cc nL s args lw_all "SyncHallModel") (P : RX D cs A s r ad L f0 st x H locs) (hRw : Rows st x) (hfl : x 0 0 = fl) (hM : RM l D cs y cc' nL' ret' rm r ad L (.ref r :: As) st fl v st' fl')
    (q1 : Cond.methodLink "SyncHallModel" index y ∈ lw_all) (q2 : Cond.instanceMethod y ∈ lw_all) (q3 : Cond.selects "SyncHallModel" y y ∈ lw_all) (q5 : Cond.code y cc' nL' ret' ∈ lw_all) (hini : Cond.initialized y.cls ∈ lw_all)
    (hd : y.cls ≠ "java/lang/invoke/MethodHandle" ∧ y.cls ≠ "java/lang/invoke/VarHandle" ∧ (parseMethodDescriptor y.desc).map (fun d => d.parameters.length) = some As.length) (hdg : decode cc pc = .ok (.invokevirtual index, 3)) (hls : ls.size = nL) (hroom : (rest.map fun v => v.category).sum ≤ 8) (hR : rm.frames + 1 ≤ R.frames ∧ 8 + (nL' + 11) + rm.locals ≤ R.locals) (hf : cells + rm.cells ≤ R.cells ∧ slots + rm.slots ≤ R.slots)
    (kr : ∀ (H1 : Heap) (locs1 : List Loc) (x' : Nat → Nat → Int32), RX D cs A s r ad L f0 st' x' H1 locs1 → Rows st' x' → x' 0 0 = fl' → W p l e R s m args below meth c H1 locs1 (cells + rm.cells) (slots + rm.slots) Q (F0 m (pc + 3) ls (v.toList ++ rest))) : W p l e R s m args below meth c H locs cells slots Q (F0 m pc ls (As.reverse ++ .ref r :: rest)) := by
  obtain ⟨hS, f, hP, hF, hO⟩ := P
  refine pw_call S hP (hM f x hS hF hRw hfl) q5 hini (pw_entV (q := (RX3, TX3, 26)) As S hP hS.1 hF.1 rfl q1 q2 q3 q5 hd hdg) hls hroom hR hf (fun v1 L1 f1 H1 locs1 h P1 => ?_) (fun C x1 L1 f1 H1 locs1 h _ _ => ?_)
  · obtain ⟨h1, rfl, h3, x', h4, h5, h6⟩ := h
    cases h1
    exact kr H1 locs1 x' ⟨hS, f1, P1, h4, fun a ha => (h3 a ha).trans (hO a ha)⟩ h5 h6
  · obtain ⟨h1, -⟩ := h
    cases h1
theorem rx_c {y : MethodName} {cc' : ByteArray} {nL' index d : Nat} {ret' : Option FieldType} {v : Option Value} {st' : St} {fl fl' : Int32} (As : List Value) (S : CallFix p m c cc nL s args lw_all "SyncHallModel") (P : RX D cs A s r ad L f0 st x H locs) (hRw : Rows st x) (hfl : x 0 0 = fl) (hM : RM l D cs y cc' nL' ret' (rmL d 0 0) r ad L (.ref r :: As) st fl v st' fl')
    (q1 : Cond.methodLink "SyncHallModel" index y ∈ lw_all) (q2 : Cond.instanceMethod y ∈ lw_all) (q3 : Cond.selects "SyncHallModel" y y ∈ lw_all) (q5 : Cond.code y cc' nL' ret' ∈ lw_all) (hini : Cond.initialized y.cls ∈ lw_all)
    (hd : y.cls ≠ "java/lang/invoke/MethodHandle" ∧ y.cls ≠ "java/lang/invoke/VarHandle" ∧ (parseMethodDescriptor y.desc).map (fun d => d.parameters.length) = some As.length) (hdg : decode cc pc = .ok (.invokevirtual index, 3)) (hls : ls.size = nL) (hroom : (rest.map fun v => v.category).sum ≤ 8) (hR : d + 1 ≤ R.frames ∧ 8 + (nL' + 11) + 64 * d ≤ R.locals) (hf : cells ≤ R.cells ∧ slots ≤ R.slots)
    (kr : ∀ (H1 : Heap) (locs1 : List Loc) (x' : Nat → Nat → Int32), RX D cs A s r ad L f0 st' x' H1 locs1 → Rows st' x' → x' 0 0 = fl' → W p l e R s m args below meth c H1 locs1 cells slots Q (F0 m (pc + 3) ls (v.toList ++ rest))) : W p l e R s m args below meth c H locs cells slots Q (F0 m pc ls (As.reverse ++ .ref r :: rest)) :=
  rx_call As S P hRw hfl hM q1 q2 q3 q5 hini hd hdg hls hroom hR hf kr
theorem rx_F {sz : Nat} {v : Option Value} {st' : St} {fl' : Int32} (P : RX D cs (pA L sz) s r ad L f0 st x H locs) (hst : st = st') (hRw : Rows st x) (hfl : x 0 0 = fl') : ∃ f', PW D cs (pA L sz) s L f' H locs ∧ rPost cs r ad L f0 v st' fl' (.inl v) L f' := by
  obtain ⟨hS, f, hP, hF, hO⟩ := P
  subst hst
  exact ⟨f, hP, rfl, rfl, hO, x, hF, hRw, hfl⟩
theorem rx_iret {sz : Nat} {st' : St} {fl' : Int32} {v v' : Int32} (S : CallFix p m c cc nL s args lw_all "SyncHallModel") (P : RX D cs (pA L sz) s r ad L f0 st x H locs) (hQ : Q = rQ below D cs L sz r ad f0 (some (.int v')) st' fl' args s cells slots) (hr : meth.sig.returnType = some .int) (hlk : meth.locks = false) (hdg : decode cc pc = .ok (.ireturn, 1)) (hRw : Rows st x) (hfl : x 0 0 = fl') (hv : v = v') (hst : st = st') : W p l e R s m args below meth c H locs cells slots Q (F0 m pc ls [.int v]) := by
  obtain ⟨f', P', hp⟩ := rx_F (v := some (.int v')) P hst hRw hfl
  subst hQ; subst hv
  exact pw_iret S P' hr hlk hdg hp
theorem rx_zret {sz : Nat} {st' : St} {fl' : Int32} {v v' : Int32} (S : CallFix p m c cc nL s args lw_all "SyncHallModel") (P : RX D cs (pA L sz) s r ad L f0 st x H locs) (hQ : Q = rQ below D cs L sz r ad f0 (some (.int v')) st' fl' args s cells slots) (hr : meth.sig.returnType = some .boolean) (hlk : meth.locks = false) (hdg : decode cc pc = .ok (.ireturn, 1)) (hRw : Rows st x) (hfl : x 0 0 = fl') (h01 : v' = 0 ∨ v' = 1) (hv : v = v') (hst : st = st') : W p l e R s m args below meth c H locs cells slots Q (F0 m pc ls [.int v]) := by
  obtain ⟨f', P', hp⟩ := rx_F (v := some (.int v')) P hst hRw hfl
  subst hQ; subst hv
  exact pw_zret S P' hr hlk h01 hdg hp
theorem rx_dret {sz : Nat} {st' : St} {fl' : Int32} {v v' : UInt64} (S : CallFix p m c cc nL s args lw_all "SyncHallModel") (P : RX D cs (pA L sz) s r ad L f0 st x H locs) (hQ : Q = rQ below D cs L sz r ad f0 (some (.double v')) st' fl' args s cells slots) (hr : meth.sig.returnType = some .double) (hlk : meth.locks = false) (hdg : decode cc pc = .ok (.dreturn, 1)) (hRw : Rows st x) (hfl : x 0 0 = fl') (hv : v = v') (hst : st = st') : W p l e R s m args below meth c H locs cells slots Q (F0 m pc ls [.double v]) := by
  obtain ⟨f', P', hp⟩ := rx_F (v := some (.double v')) P hst hRw hfl
  subst hQ; subst hv
  exact pw_dret S P' hr hlk hdg hp
theorem rx_vret {sz : Nat} {st' : St} {fl' : Int32} (S : CallFix p m c cc nL s args lw_all "SyncHallModel") (P : RX D cs (pA L sz) s r ad L f0 st x H locs) (hQ : Q = rQ below D cs L sz r ad f0 none st' fl' args s cells slots) (hr : meth.sig.returnType = none) (hlk : meth.locks = false) (hdg : decode cc pc = .ok (.return_, 1)) (hRw : Rows st x) (hfl : x 0 0 = fl') (hst : st = st') : W p l e R s m args below meth c H locs cells slots Q (F0 m pc ls []) := by
  obtain ⟨f', P', hp⟩ := rx_F (v := none) P hst hRw hfl
  subst hQ
  exact pw_vret S P' hr hlk hdg hp
end RMC
theorem rw_fl {D : va_G} {cs : Nat → ClassId} {A : Nat → Prop} {s : State} {r : Nat} {ad : Nat → Nat} {L : List Nat} {f0 : Nat → va_E} {st : St} {x : Nat → Nat → Int32} {H : Heap} {locs : List Loc} {v : Int32} (P : RX D cs A s r ad L f0 st (va_up x 0 (upd (x 0) 0 v)) H locs) (h : Rows st x) : ∃ x', RX D cs A s r ad L f0 st x' H locs ∧ Rows st x' ∧ x' 0 0 = v :=
  ⟨_, P, fun s hs => by simpa [va_up] using h s hs, by simp [va_up, upd]⟩
