/-! POOLED WORLDS: a world is a list L of addresses and what each holds, f; classes by number; rows over them -/
abbrev vwCl : List vw_C := [(RX1, TX1, 6), (RX2, TX2, 5), (RX10, TX10, 8), (RX5, TX5, 6), (RX6, TX6, 5), (RX7, TX7, 4), (RX8, TX8, 6), (RX9, TX9, 4), (RX3, TX3, 26)]
def clT : Nat → Nat → FieldType := fun ci => match ci with
  | 0 => tyX1
  | 1 => tyX2
  | 2 => tyX10
  | 3 => tyX5
  | 4 => tyX6
  | 5 => tyX7
  | 6 => tyX8
  | 7 => tyX9
  | _ => tyX3
theorem cl_in {ci : Nat} {q : vw_C} (h : vwCl[ci]? = some q) : ∀ w ∈ u_ws q.1 q.2.1 q.2.2, w ∈ lw_all := by
  match ci, h with
  | 0, h => cases h; exact in_X1
  | 1, h => cases h; exact in_X2
  | 2, h => cases h; exact in_X10
  | 3, h => cases h; exact in_X5
  | 4, h => cases h; exact in_X6
  | 5, h => cases h; exact in_X7
  | 6, h => cases h; exact in_X8
  | 7, h => cases h; exact in_X9
  | 8, h => cases h; exact in_X3
  | k + 9, h => simp [vwCl] at h
theorem cl_ty {ci : Nat} {q : vw_C} (h : vwCl[ci]? = some q) : ∀ k, k < q.2.2 → parseFieldDescriptor (q.2.1 k).2.2.1 = some (clT ci k) := by
  match ci, h with
  | 0, h => cases h; exact tyX1_ok
  | 1, h => cases h; exact tyX2_ok
  | 2, h => cases h; exact tyX10_ok
  | 3, h => cases h; exact tyX5_ok
  | 4, h => cases h; exact tyX6_ok
  | 5, h => cases h; exact tyX7_ok
  | 6, h => cases h; exact tyX8_ok
  | 7, h => cases h; exact tyX9_ok
  | 8, h => cases h; exact tyX3_ok
  | k + 9, h => simp [vwCl] at h
theorem cl_nm {ci : Nat} {q : vw_C} (h : vwCl[ci]? = some q) : ∀ a, a < q.2.2 → ∀ b, b < q.2.2 → a ≠ b → (q.2.1 a).2.1 ≠ (q.2.1 b).2.1 := by
  match ci, h with
  | 0, h => cases h; exact nmX1
  | 1, h => cases h; exact nmX2
  | 2, h => cases h; exact nmX10
  | 3, h => cases h; exact nmX5
  | 4, h => cases h; exact nmX6
  | 5, h => cases h; exact nmX7
  | 6, h => cases h; exact nmX8
  | 7, h => cases h; exact nmX9
  | 8, h => cases h; exact nmX3
  | k + 9, h => simp [vwCl] at h
/-- the array classes: int, boolean, double, Task, Sync, boolean[], long -/
def tyL (cs : Nat → ClassId) : List (ClassId × FieldType) := [(cs 0, .int), (cs 1, .boolean), (cs 2, .double), (cs 3, .object "SyncHall$Task"), (cs 4, .object "SyncHall$Sync"), (cs 5, .array .boolean), (cs 6, .long)]
/-- the cells that a method with the world L may write: L's, and new ones -/
def pA (L : List Nat) (sz : Nat) : Nat → Prop := fun q => q ∈ L ∨ sz ≤ q
/-- the world of a walk -/
def PW (D : va_G) (cs : Nat → ClassId) (A : Nat → Prop) (s : State) (L : List Nat) (f : Nat → va_E) (H : Heap) (locs : List Loc) : Prop :=
  va_P D vwCl (va_pl L f) H ∧ va_D A (va_pl L f) ∧ va_S A s.heap H locs ∧ (∀ q : Nat, s.heap.size ≤ q → A q) ∧ Gw s ∧ Xs A s s.heap ∧ va_K D vwCl (tyL cs) s
/-- a contract's start -/
def PC (D : va_G) (cs : Nat → ClassId) (av : List Value) (sz : Nat) (L : List Nat) (f : Nat → va_E) : Array Value → State → Prop :=
  va_Pc av (fun U => U.heap.size = sz ∧ va_P D vwCl (va_pl L f) U.heap ∧ va_D (fun _ => True) (va_pl L f) ∧ va_K D vwCl (tyL cs) U ∧ Gw U ∧ Xs (pA L sz) U U.heap)
abbrev pR : Type := Option Value ⊕ String
def pIs (o : Outcome) (r : pR) (t : State) : Prop := match r with
  | .inl v => o = .returned v
  | .inr C => ∃ x, o = .threw x ∧ xt_Thr C x t
/-- a contract's end: returned (.inl v) or thrown (.inr class) -/
def PQ (D : va_G) (L : List Nat) (sz : Nat) (post : pR → List Nat → (Nat → va_E) → Prop) : Array Value → State → Outcome → State → Prop := fun _ st o t =>
  (∃ (r : pR) (L' : List Nat) (f' : Nat → va_E), pIs o r t ∧ post r L' f' ∧ va_P D vwCl (va_pl L' f') t.heap ∧ va_D (pA L sz) (va_pl L' f')) ∧ va_F (pA L sz) st t
/-- a contract over pooled worlds -/
def PM (l : Launch) (D : va_G) (cs : Nat → ClassId) (y : MethodName) (cc : ByteArray) (nL : Nat) (ret : Option FieldType) (rm : Room) (av : List Value) (L : List Nat) (f : Nat → va_E) (post : pR → List Nat → (Nat → va_E) → Prop) : Prop :=
  ∀ sz : Nat, MetT l y (ws_ y cc nL ret) rm (PC D cs av sz L f) (PQ D L sz post) rm.cells rm.slots (pA L sz)
theorem PC.blind {D : va_G} {cs : Nat → ClassId} {av : List Value} {sz : Nat} {L : List Nat} {f : Nat → va_E} : FrameBlind (PC D cs av sz L f) := by
  intro a U g mk h
  obtain ⟨h0, h1, h2, h3, h4, h5, h6⟩ := h
  exact ⟨h0, h1, h2, h3, va_K.moved (u := U) (U := U.calling g mk a) (Vm.Alike.refl U.vm) h4, h5, Xs.blind h6 rfl⟩
theorem PM.mono {l : Launch} {D : va_G} {cs : Nat → ClassId} {y : MethodName} {cc : ByteArray} {nL : Nat} {ret : Option FieldType} {rm : Room} {av : List Value} {L : List Nat} {f : Nat → va_E} {post post' : pR → List Nat → (Nat → va_E) → Prop} (h : PM l D cs y cc nL ret rm av L f post) (hp : ∀ r L' f', post r L' f' → post' r L' f') : PM l D cs y cc nL ret rm av L f post' := by
  intro sz p e h1 h2 h3 s m args below h4 h5 h6 h7
  obtain ⟨n, o, g1, g2, g3, ⟨⟨⟨r, L', f', q1, q2, q3⟩, g5⟩, g6⟩⟩ := h sz p e h1 h2 h3 s m args below h4 h5 h6 h7
  exact ⟨n, o, g1, g2, g3, ⟨⟨⟨r, L', f', q1, hp _ _ _ q2, q3⟩, g5⟩, g6⟩⟩
section PWR
variable {p : Program} {l : Launch} {e : Env} {R : Room} {s : State} {m : MethodId} {args : Array Value} {below : List Frame} {meth : Method} {c : Code} {H : Heap} {locs : List Loc} {cells slots : Nat} {Q : State → Prop}
variable {cc : ByteArray} {nL pc : Nat} {ls : Array Slot} {rest : List Value} {D : va_G} {cs : Nat → ClassId} {A : Nat → Prop} {a : Nat} {L : List Nat} {f : Nat → va_E} {own : String}
theorem PW.get (P : PW D cs A s L f H locs) (ha : a ∈ L) : ∃ k : Nat, (va_pl L f)[k]? = some (a, f a) := va_pl_get (X := []) ha
theorem PW.set {k : Nat} {x : va_E} (P : PW D cs A s L f H locs) (ha : a ∈ L) (hk : (va_pl L f)[k]? = some (a, f a)) : (va_pl L f).set k (a, x) = va_pl L (va_up f a x) := va_pl_set (X := []) P.2.1 ha hk
theorem PW.to {f' : Nat → va_E} {H1 : Heap} {locs1 : List Loc} {L' : List Nat} (P : PW D cs A s L f H locs) (h1 : va_P D vwCl (va_pl L' f') H1) (h2 : va_D A (va_pl L' f')) (h3 : va_S A s.heap H1 locs1) : PW D cs A s L' f' H1 locs1 := ⟨h1, h2, h3, P.2.2.2⟩
/-- equal contents -/
theorem PW.congr {f' : Nat → va_E} (P : PW D cs A s L f H locs) (h : ∀ a ∈ L, f a = f' a) : PW D cs A s L f' H locs := by
  have e : va_pl L f = va_pl L f' := List.map_congr_left fun a ha => by rw [h a ha]
  have h1 := P.1
  have h2 := P.2.1
  rw [e] at h1 h2
  exact P.to h1 h2 P.2.2.1
theorem pw_get (S : CallFix p m c cc nL s args lw_all own) (P : PW D cs A s L f H locs) (ha : a ∈ L) {ci k idx : Nat} {ref : String} {fs : List Value} {q : vw_C} {v : Value} (hf : f a = .inr (ci, fs)) (hc : vwCl[ci]? = some q) (hk : k < q.2.2) (hlink : Cond.fieldLink own idx ref (q.2.1 k).2.1 (q.2.1 k).2.2.1 ∈ lw_all) (hs : (q.2.1 k).1 = ref ∨ Cond.sameField ref (q.2.1 k).1 (q.2.1 k).2.1 (q.2.1 k).2.2.1 ∈ lw_all) (hv : fs[k]? = some v) (hdg : decode cc pc = .ok (.getfield idx, 3))
    (kk : W p l e R s m args below meth c H locs cells slots Q (F0 m (pc + 3) ls (v :: rest))) : W p l e R s m args below meth c H locs cells slots Q (F0 m pc ls (.ref a :: rest)) := by
  obtain ⟨i, hi⟩ := P.get ha
  obtain ⟨C, T, N⟩ := q
  rw [hf] at hi
  exact va_get S.1 S.2.1 S.2.2.2.2 (cl_in hc) S.2.2.2.1 P.2.2.2.2.2.2 P.1 i hi hc k hk (S.2.2.2.2 _ hlink) (fun x hx => by
    rcases hs with rfl | hs
    · exact hx
    · exact u_same (S.2.2.2.2 _ hs) x hx) hv hdg kk
theorem pw_put (S : CallFix p m c cc nL s args lw_all own) (P : PW D cs A s L f H locs) (ha : a ∈ L) {ci k idx : Nat} {ref : String} {fs : List Value} {q : vw_C} {v : Value} (hf : f a = .inr (ci, fs)) (hc : vwCl[ci]? = some q) (hk : k < q.2.2) (hlink : Cond.fieldLink own idx ref (q.2.1 k).2.1 (q.2.1 k).2.2.1 ∈ lw_all) (hs : (q.2.1 k).1 = ref ∨ Cond.sameField ref (q.2.1 k).1 (q.2.1 k).2.1 (q.2.1 k).2.2.1 ∈ lw_all) (hfin : (q.2.1 k).2.2.2 = false) (hn : narrow (clT ci k) v = v) (hfit : fits (clT ci k) v = true) (hl : k < fs.length) (hdg : decode cc pc = .ok (.putfield idx, 3))
    (kk : ∀ (H1 : Heap) (locs1 : List Loc), PW D cs A s L (va_up f a (.inr (ci, fs.set k v))) H1 locs1 → W p l e R s m args below meth c H1 locs1 cells slots Q (F0 m (pc + 3) ls rest)) : W p l e R s m args below meth c H locs cells slots Q (F0 m pc ls (v :: .ref a :: rest)) := by
  obtain ⟨i, hi⟩ := P.get ha
  obtain ⟨C, T, N⟩ := q
  have hi' := hi
  rw [hf] at hi
  refine va_put S.1 S.2.1 S.2.2.2.2 (cl_in hc) (clT ci) (cl_ty hc) (cl_nm hc) S.2.2.2.1 P.2.2.2.2.2.2 P.1 P.2.1 P.2.2.1 i hi hc k hk (S.2.2.2.2 _ hlink) (fun x hx => by
    rcases hs with rfl | hs
    · exact hx
    · exact u_same (S.2.2.2.2 _ hs) x hx) hfin (cl_ty hc k hk) hn hfit hl hdg (fun H1 locs1 h1 h2 h3 => ?_)
  rw [P.set ha hi'] at h1 h2
  exact kk H1 locs1 (P.to h1 h2 h3)
/-- a final field, in the constructor of the class that declares it -/
theorem pw_putF (S : CallFix p m c cc nL s args lw_all own) (P : PW D cs A s L f H locs) (ha : a ∈ L) {ci k idx : Nat} {ref : String} {fs : List Value} {q : vw_C} {v : Value} (hf : f a = .inr (ci, fs)) (hc : vwCl[ci]? = some q) (hk : k < q.2.2) (hlink : Cond.fieldLink own idx ref (q.2.1 k).2.1 (q.2.1 k).2.2.1 ∈ lw_all) (hs : (q.2.1 k).1 = ref) (hfin : (q.2.1 k).2.2.2 = true) (hin2 : meth.name = "<init>") (hdecl : (q.2.1 k).1 = own) (hn : narrow (clT ci k) v = v) (hfit : fits (clT ci k) v = true) (hl : k < fs.length) (hdg : decode cc pc = .ok (.putfield idx, 3))
    (kk : ∀ (H1 : Heap) (locs1 : List Loc), PW D cs A s L (va_up f a (.inr (ci, fs.set k v))) H1 locs1 → W p l e R s m args below meth c H1 locs1 cells slots Q (F0 m (pc + 3) ls rest)) : W p l e R s m args below meth c H locs cells slots Q (F0 m pc ls (v :: .ref a :: rest)) := by
  obtain ⟨i, hi⟩ := P.get ha
  obtain ⟨C, T, N⟩ := q
  have hi' := hi
  rw [hf] at hi
  refine va_putF S.1 S.2.1 S.2.2.2.2 (cl_in hc) (clT ci) (cl_ty hc) (cl_nm hc) S.2.2.2.1 P.2.2.2.2.2.2 P.1 P.2.1 P.2.2.1 i hi hc k hk (S.2.2.2.2 _ hlink) (fun x hx => by
    subst hs
    exact hx) hfin hin2 hdecl (cl_ty hc k hk) hn hfit hl hdg (fun H1 locs1 h1 h2 h3 => ?_)
  rw [P.set ha hi'] at h1 h2
  exact kk H1 locs1 (P.to h1 h2 h3)
/-! arrays: the index is nI j -/
theorem pw_cl {j n : Nat} {i : Int32} (hi : i = nI j) (hj : j < n) (hn : n < 2 ^ 31) : vp_in i n ∧ i.toNatClampNeg = j := by
  subst hi
  exact ⟨vp_in_nI hj hn, nI_clamp (by omega)⟩
theorem pw_iald (S : CallFix p m c cc nL s args lw_all own) (P : PW D cs A s L f H locs) (ha : a ∈ L) {n j : Nat} {g : Nat → Int32} {i : Int32} (hf : f a = .inl (cs 0, n, .inl g)) (hi : i = nI j) (hj : j < n) (hn : n < 2 ^ 31) (hdg : decode cc pc = .ok (.iaload, 1))
    (kk : W p l e R s m args below meth c H locs cells slots Q (F0 m (pc + 1) ls (.int (g j) :: rest))) : W p l e R s m args below meth c H locs cells slots Q (F0 m pc ls (.int i :: .ref a :: rest)) := by
  obtain ⟨k, hk⟩ := P.get ha
  rw [hf] at hk
  obtain ⟨h1, h2⟩ := pw_cl hi hj hn
  exact va_iald S.1 S.2.1 P.2.2.2.2.2.2 P.1 k 0 hk rfl h1 hdg (by rw [h2]; exact kk)
theorem pw_zald (S : CallFix p m c cc nL s args lw_all own) (P : PW D cs A s L f H locs) (ha : a ∈ L) {n j : Nat} {g : Nat → Int32} {i : Int32} (hf : f a = .inl (cs 1, n, .inl g)) (hi : i = nI j) (hj : j < n) (hn : n < 2 ^ 31) (hdg : decode cc pc = .ok (.baload, 1))
    (kk : W p l e R s m args below meth c H locs cells slots Q (F0 m (pc + 1) ls (.int (g j) :: rest))) : W p l e R s m args below meth c H locs cells slots Q (F0 m pc ls (.int i :: .ref a :: rest)) := by
  obtain ⟨k, hk⟩ := P.get ha
  rw [hf] at hk
  obtain ⟨h1, h2⟩ := pw_cl hi hj hn
  exact va_zald S.1 S.2.1 P.2.2.2.2.2.2 P.1 k 1 hk rfl h1 hdg (by rw [h2]; exact kk)
theorem pw_dald (S : CallFix p m c cc nL s args lw_all own) (P : PW D cs A s L f H locs) (ha : a ∈ L) {n j : Nat} {g : Nat → UInt64} {i : Int32} (hf : f a = .inl (cs 2, n, .inr (.inr (.inr (.inl g))))) (hi : i = nI j) (hj : j < n) (hn : n < 2 ^ 31) (hdg : decode cc pc = .ok (.daload, 1))
    (kk : W p l e R s m args below meth c H locs cells slots Q (F0 m (pc + 1) ls (.double (g j) :: rest))) : W p l e R s m args below meth c H locs cells slots Q (F0 m pc ls (.int i :: .ref a :: rest)) := by
  obtain ⟨k, hk⟩ := P.get ha
  rw [hf] at hk
  obtain ⟨h1, h2⟩ := pw_cl hi hj hn
  exact va_dald S.1 S.2.1 P.2.2.2.2.2.2 P.1 k 2 hk rfl h1 hdg (by rw [h2]; exact kk)
theorem pw_lald (S : CallFix p m c cc nL s args lw_all own) (P : PW D cs A s L f H locs) (ha : a ∈ L) {n j : Nat} {g : Nat → Int64} {i : Int32} (hf : f a = .inl (cs 6, n, .inr (.inl g))) (hi : i = nI j) (hj : j < n) (hn : n < 2 ^ 31) (hdg : decode cc pc = .ok (.laload, 1))
    (kk : W p l e R s m args below meth c H locs cells slots Q (F0 m (pc + 1) ls (.long (g j) :: rest))) : W p l e R s m args below meth c H locs cells slots Q (F0 m pc ls (.int i :: .ref a :: rest)) := by
  obtain ⟨k, hk⟩ := P.get ha
  rw [hf] at hk
  obtain ⟨h1, h2⟩ := pw_cl hi hj hn
  exact va_lald S.1 S.2.1 P.2.2.2.2.2.2 P.1 k 6 hk rfl h1 hdg (by rw [h2]; exact kk)
/-- an array of references: Task (3), Sync (4), boolean[] (5) -/
theorem pw_aald (t0 : Nat) {ty : FieldType} (S : CallFix p m c cc nL s args lw_all own) (P : PW D cs A s L f H locs) (ha : a ∈ L) {n j : Nat} {g : Nat → Option Nat} {i : Int32} (hf : f a = .inl (cs t0, n, .inr (.inr (.inr (.inr g))))) (ht : (tyL cs)[t0]? = some (cs t0, ty)) (hty : ty.isReference = true) (hi : i = nI j) (hj : j < n) (hn : n < 2 ^ 31) (hdg : decode cc pc = .ok (.aaload, 1))
    (kk : W p l e R s m args below meth c H locs cells slots Q (F0 m (pc + 1) ls (va_rf (g j) :: rest))) : W p l e R s m args below meth c H locs cells slots Q (F0 m pc ls (.int i :: .ref a :: rest)) := by
  obtain ⟨k, hk⟩ := P.get ha
  rw [hf] at hk
  obtain ⟨h1, h2⟩ := pw_cl hi hj hn
  have hlt : i.toNatClampNeg < n := Nat.not_le.mp fun q => h1 (Or.inr q)
  exact W.aald (v := va_rf (g i.toNatClampNeg)) (ty := ty) S.1 S.2.1 (P.1 k _ hk) ((P.2.2.2.2.2.2.2 t0 _ ht).1 n (fun j => va_rf (g j))) hty (fun q => by cases q) (by show ¬ (i < 0 ∨ (arrV _ _ _).slots.size ≤ _); rw [arrV_size]; exact h1) (by show (arrV _ _ _).slots[_]? = _; rw [arrV_read _ _ hlt]) rfl rfl hdg (by rw [h2]; exact kk)
theorem pw_alen (t0 : Nat) {ty : FieldType} (S : CallFix p m c cc nL s args lw_all own) (P : PW D cs A s L f H locs) (ha : a ∈ L) {x : vp_A} (hf : f a = .inl (cs t0, x)) (ht : (tyL cs)[t0]? = some (cs t0, ty)) (hdg : decode cc pc = .ok (.arraylength, 1))
    (kk : W p l e R s m args below meth c H locs cells slots Q (F0 m (pc + 1) ls (.int (nI x.1) :: rest))) : W p l e R s m args below meth c H locs cells slots Q (F0 m pc ls (.ref a :: rest)) := by
  obtain ⟨k, hk⟩ := P.get ha
  rw [hf] at hk
  exact va_alen S.1 S.2.1 P.2.2.2.2.2.2 P.1 k t0 hk ht rfl hdg kk
theorem pw_iast (S : CallFix p m c cc nL s args lw_all own) (P : PW D cs A s L f H locs) (ha : a ∈ L) {n j : Nat} {g : Nat → Int32} {i x : Int32} (hf : f a = .inl (cs 0, n, .inl g)) (hi : i = nI j) (hj : j < n) (hn : n < 2 ^ 31) (hdg : decode cc pc = .ok (.iastore, 1))
    (kk : ∀ (H1 : Heap) (locs1 : List Loc), PW D cs A s L (va_up f a (.inl (cs 0, n, .inl (upd g j x)))) H1 locs1 → W p l e R s m args below meth c H1 locs1 cells slots Q (F0 m (pc + 1) ls rest)) : W p l e R s m args below meth c H locs cells slots Q (F0 m pc ls (.int x :: .int i :: .ref a :: rest)) := by
  obtain ⟨k, hk⟩ := P.get ha
  have hk' := hk
  rw [hf] at hk
  obtain ⟨h1, h2⟩ := pw_cl hi hj hn
  refine va_iast S.1 S.2.1 P.2.2.2.2.2.2 P.1 P.2.1 P.2.2.1 k 0 hk rfl h1 hdg (fun H1 locs1 g1 g2 g3 => ?_)
  rw [h2, P.set ha hk'] at g1 g2
  exact kk H1 locs1 (P.to g1 g2 g3)
theorem pw_zast (S : CallFix p m c cc nL s args lw_all own) (P : PW D cs A s L f H locs) (ha : a ∈ L) {n j : Nat} {g : Nat → Int32} {i x : Int32} (hf : f a = .inl (cs 1, n, .inl g)) (hi : i = nI j) (hj : j < n) (hn : n < 2 ^ 31) (hx : vp_nar .boolean x = x) (hdg : decode cc pc = .ok (.bastore, 1))
    (kk : ∀ (H1 : Heap) (locs1 : List Loc), PW D cs A s L (va_up f a (.inl (cs 1, n, .inl (upd g j x)))) H1 locs1 → W p l e R s m args below meth c H1 locs1 cells slots Q (F0 m (pc + 1) ls rest)) : W p l e R s m args below meth c H locs cells slots Q (F0 m pc ls (.int x :: .int i :: .ref a :: rest)) := by
  obtain ⟨k, hk⟩ := P.get ha
  have hk' := hk
  rw [hf] at hk
  obtain ⟨h1, h2⟩ := pw_cl hi hj hn
  refine va_zast S.1 S.2.1 P.2.2.2.2.2.2 P.1 P.2.1 P.2.2.1 k 1 hk rfl h1 hdg (fun H1 locs1 g1 g2 g3 => ?_)
  rw [h2, hx, P.set ha hk'] at g1 g2
  exact kk H1 locs1 (P.to g1 g2 g3)
theorem pw_dast (S : CallFix p m c cc nL s args lw_all own) (P : PW D cs A s L f H locs) (ha : a ∈ L) {n j : Nat} {g : Nat → UInt64} {i : Int32} {x : UInt64} (hf : f a = .inl (cs 2, n, .inr (.inr (.inr (.inl g))))) (hi : i = nI j) (hj : j < n) (hn : n < 2 ^ 31) (hdg : decode cc pc = .ok (.dastore, 1))
    (kk : ∀ (H1 : Heap) (locs1 : List Loc), PW D cs A s L (va_up f a (.inl (cs 2, n, .inr (.inr (.inr (.inl (vf_upd g j x))))))) H1 locs1 → W p l e R s m args below meth c H1 locs1 cells slots Q (F0 m (pc + 1) ls rest)) : W p l e R s m args below meth c H locs cells slots Q (F0 m pc ls (.double x :: .int i :: .ref a :: rest)) := by
  obtain ⟨k, hk⟩ := P.get ha
  have hk' := hk
  rw [hf] at hk
  obtain ⟨h1, h2⟩ := pw_cl hi hj hn
  refine va_dast S.1 S.2.1 P.2.2.2.2.2.2 P.1 P.2.1 P.2.2.1 k 2 hk rfl h1 hdg (fun H1 locs1 g1 g2 g3 => ?_)
  rw [h2, P.set ha hk'] at g1 g2
  exact kk H1 locs1 (P.to g1 g2 g3)
theorem pw_last (S : CallFix p m c cc nL s args lw_all own) (P : PW D cs A s L f H locs) (ha : a ∈ L) {n j : Nat} {g : Nat → Int64} {i : Int32} {x : Int64} (hf : f a = .inl (cs 6, n, .inr (.inl g))) (hi : i = nI j) (hj : j < n) (hn : n < 2 ^ 31) (hdg : decode cc pc = .ok (.lastore, 1))
    (kk : ∀ (H1 : Heap) (locs1 : List Loc), PW D cs A s L (va_up f a (.inl (cs 6, n, .inr (.inl (vp_updL g j x))))) H1 locs1 → W p l e R s m args below meth c H1 locs1 cells slots Q (F0 m (pc + 1) ls rest)) : W p l e R s m args below meth c H locs cells slots Q (F0 m pc ls (.long x :: .int i :: .ref a :: rest)) := by
  obtain ⟨k, hk⟩ := P.get ha
  have hk' := hk
  rw [hf] at hk
  obtain ⟨h1, h2⟩ := pw_cl hi hj hn
  refine va_last S.1 S.2.1 P.2.2.2.2.2.2 P.1 P.2.1 P.2.2.1 k 6 hk rfl h1 hdg (fun H1 locs1 g1 g2 g3 => ?_)
  rw [h2, P.set ha hk'] at g1 g2
  exact kk H1 locs1 (P.to g1 g2 g3)
/-- a new object -/
theorem pw_new (S : CallFix p m c cc nL s args lw_all own) (P : PW D cs A s L f H locs) {ci idx : Nat} {q : vw_C} {fs : List Value} (hc : vwCl[ci]? = some q) (hcl : Cond.classLink own idx q.1 ∈ lw_all) (hinst : Cond.instantiable q.1 q.2.2 ∈ lw_all) (hini : Cond.initialized q.1 ∈ lw_all) (hfs : ∀ j, j < q.2.2 → defaultValue (clT ci j) = vp_V fs j) (hcells : cells + 1 ≤ R.cells) (hslots : slots + q.2.2 ≤ R.slots) (hdg : decode cc pc = .ok (.new idx, 3))
    (kk : ∀ (x : Nat) (H1 : Heap), x ∉ L → PW D cs A s (L ++ [x]) (va_up f x (.inr (ci, fs))) H1 locs → W p l e R s m args below meth c H1 locs (cells + 1) (slots + q.2.2) Q (F0 m (pc + 3) ls (.ref x :: rest))) : W p l e R s m args below meth c H locs cells slots Q (F0 m pc ls rest) := by
  obtain ⟨C, T, N⟩ := q
  refine va_new S.1 S.2.1 S.2.2.2.2 (cl_in hc) (clT ci) (cl_ty hc) S.2.2.2.1 (S.2.2.2.2 _ hcl) (S.2.2.2.2 _ hinst) (S.2.2.2.2 _ hini) P.2.2.2.2.2.2 P.1 P.2.1 P.2.2.1 P.2.2.2.1 hc hfs hcells hslots hdg (fun x H1 g1 g2 g3 => ?_)
  have hx : x ∉ L := va_pl_fresh2 (X := []) g2
  rw [va_pl_push hx] at g1 g2
  exact kk x H1 hx (P.to g1 g2 g3)
/-! returns -/
theorem pw_F {sz : Nat} {L0 : List Nat} {post : pR → List Nat → (Nat → va_E) → Prop} {v : Option Value} (P : PW D cs (pA L0 sz) s L f H locs) (hp : post (.inl v) L f) : ∀ t : State, t.heap = H → s.WarmedH t.vm → PQ D L0 sz post args s (.returned v) t :=
  fun t ht hW => ⟨⟨.inl v, L, f, rfl, hp, by rw [ht]; exact P.1, P.2.1⟩, P.2.2.1.F ht⟩
theorem pw_iret {sz : Nat} {L0 : List Nat} {post : pR → List Nat → (Nat → va_E) → Prop} {v : Int32} (S : CallFix p m c cc nL s args lw_all own) (P : PW D cs (pA L0 sz) s L f H locs) (hr : meth.sig.returnType = some .int) (hlk : meth.locks = false) (hdg : decode cc pc = .ok (.ireturn, 1)) (hp : post (.inl (some (.int v))) L f) : W p l e R s m args below meth c H locs cells slots (MQT below (PQ D L0 sz post) args s cells slots (pA L0 sz)) (F0 m pc ls [.int v]) :=
  W.toT (W.iret S.1 S.2.1 hr (pw_F P hp) P.2.2.1.2.2 hdg hlk)
theorem pw_zret {sz : Nat} {L0 : List Nat} {post : pR → List Nat → (Nat → va_E) → Prop} {v : Int32} (S : CallFix p m c cc nL s args lw_all own) (P : PW D cs (pA L0 sz) s L f H locs) (hr : meth.sig.returnType = some .boolean) (hlk : meth.locks = false) (hv : v = 0 ∨ v = 1) (hdg : decode cc pc = .ok (.ireturn, 1)) (hp : post (.inl (some (.int v))) L f) : W p l e R s m args below meth c H locs cells slots (MQT below (PQ D L0 sz post) args s cells slots (pA L0 sz)) (F0 m pc ls [.int v]) :=
  W.toT (W.zret S.1 S.2.1 hr (by rcases hv with rfl | rfl <;> decide) (pw_F P hp) P.2.2.1.2.2 hdg hlk)
theorem pw_dret {sz : Nat} {L0 : List Nat} {post : pR → List Nat → (Nat → va_E) → Prop} {v : UInt64} (S : CallFix p m c cc nL s args lw_all own) (P : PW D cs (pA L0 sz) s L f H locs) (hr : meth.sig.returnType = some .double) (hlk : meth.locks = false) (hdg : decode cc pc = .ok (.dreturn, 1)) (hp : post (.inl (some (.double v))) L f) : W p l e R s m args below meth c H locs cells slots (MQT below (PQ D L0 sz post) args s cells slots (pA L0 sz)) (F0 m pc ls [.double v]) :=
  W.toT (W.dret S.1 S.2.1 hr (pw_F P hp) P.2.2.1.2.2 hdg hlk)
theorem pw_vret {sz : Nat} {L0 : List Nat} {post : pR → List Nat → (Nat → va_E) → Prop} (S : CallFix p m c cc nL s args lw_all own) (P : PW D cs (pA L0 sz) s L f H locs) (hr : meth.sig.returnType = none) (hlk : meth.locks = false) (hdg : decode cc pc = .ok (.return_, 1)) (hp : post (.inl none) L f) : W p l e R s m args below meth c H locs cells slots (MQT below (PQ D L0 sz post) args s cells slots (pA L0 sz)) (F0 m pc ls []) :=
  W.toT (W.vret S.1 S.2.1 hr (pw_F P hp) P.2.2.1.2.2 hdg hlk)
theorem pw_aret {sz : Nat} {L0 : List Nat} {post : pR → List Nat → (Nat → va_E) → Prop} {v : Value} {C : String} (S : CallFix p m c cc nL s args lw_all own) (P : PW D cs (pA L0 sz) s L f H locs) (hr : meth.sig.returnType = some (.object C)) (hlk : meth.locks = false) (hv : v = .null ∨ ∃ a, v = .ref a) (hdg : decode cc pc = .ok (.areturn, 1)) (hp : post (.inl (some v)) L f) : W p l e R s m args below meth c H locs cells slots (MQT below (PQ D L0 sz post) args s cells slots (pA L0 sz)) (F0 m pc ls [v]) :=
  W.toT (W.aret S.1 S.2.1 hr (Or.inl ⟨C, rfl⟩) hv (pw_F P hp) P.2.2.1.2.2 hdg hlk)
/-- the room is rounded up at the end -/
theorem pw_widen {Qc : Array Value → State → Outcome → State → Prop} {free : Addr → Prop} {g : JFrame} {mc ms : Nat} (h1 : cells ≤ mc) (h2 : slots ≤ ms) (k : W p l e R s m args below meth c H locs mc ms Q g) : W p l e R s m args below meth c H locs cells slots Q g := W.widen h1 h2 k
end PWR
