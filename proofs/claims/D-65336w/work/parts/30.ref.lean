/-! THE STATE that both sides picture; the reference's world and rows -/
abbrev St : Type := (Nat → Nat → Int32) × (Nat → Nat → UInt64) × (Nat → List Nat)
abbrev Qt : Type := (Nat → Nat → Int32) × (Nat → Nat → UInt64)
def sI (st : St) (k j : Nat) (v : Int32) : St := (va_up st.1 k (upd (st.1 k) j v), st.2)
def sD (st : St) (k j : Nat) (v : UInt64) : St := (st.1, va_up st.2.1 k (vf_upd (st.2.1 k) j v), st.2.2)
def sR (st : St) (s : Nat) (l : List Nat) : St := (st.1, st.2.1, va_up st.2.2 s l)
def sA (st : St) (k : Nat) (g : Nat → Int32) : St := (va_up st.1 k g, st.2)
def qI (q : Qt) (k j : Nat) (v : Int32) : Qt := (va_up q.1 k (upd (q.1 k) j v), q.2)
def qD (q : Qt) (k j : Nat) (v : UInt64) : Qt := (q.1, va_up q.2 k (vf_upd (q.2 k) j v))
/-- kinds of the reference's fields: int[] 0, boolean[] 1, double[] 2, int 3, double 4 -/
def rT (k : Nat) : Nat := match k with
  | 0 => 3 | 1 => 1 | 2 => 1 | 3 => 2 | 4 => 0 | 5 => 0 | 6 => 0 | 7 => 2 | 8 => 2 | 9 => 0 | 10 => 0 | 11 => 4 | 12 => 0 | 13 => 0 | 14 => 0 | 15 => 0 | 16 => 0 | 17 => 0 | 18 => 0 | 19 => 0 | 20 => 2 | 21 => 0 | 22 => 1 | 23 => 1 | 24 => 3 | 25 => 3 | _ => 5
def rN (k : Nat) : Nat := match k with
  | 1 => 6 | 2 => 6 | 3 => 6 | 4 => 6 | 5 => 6 | 6 => 6 | 7 => 6 | 8 => 6 | 9 => 6 | 10 => 6 | 12 => 8 | 13 => 8 | 14 => 8 | 15 => 8 | 16 => 8 | 17 => 48 | 18 => 48 | 19 => 8 | 20 => 8 | 21 => 8 | 22 => 64 | 23 => 8 | _ => 0
/-- fields that are not of the state: failed, row, waiters, reached -/
def rG (k : Nat) : Bool := match k with
  | 0 => true | 18 => true | 19 => true | 23 => true | _ => false
def gz (st : St) (x : Nat → Nat → Int32) : Qt := (fun k => if rG k = true then x k else st.1 k, st.2.1)
def rCont (cs : Nat → ClassId) (q : Qt) (k : Nat) : va_E := match rT k with
  | 2 => .inl (cs 2, rN k, .inr (.inr (.inr (.inl (q.2 k)))))
  | 1 => .inl (cs 1, rN k, .inl (q.1 k))
  | _ => .inl (cs 0, rN k, .inl (q.1 k))
def rFld (ad : Nat → Nat) (q : Qt) (k : Nat) : Value := match rT k with
  | 3 => .int (q.1 k 0)
  | 4 => .double (q.2 k 0)
  | _ => .ref (ad k)
def rObj (ad : Nat → Nat) (q : Qt) : va_E := .inr (8, (List.range 26).map (rFld ad q))
def RF (cs : Nat → ClassId) (r : Nat) (ad : Nat → Nat) (q : Qt) (f : Nat → va_E) : Prop := f r = rObj ad q ∧ ∀ k, rT k < 3 → f (ad k) = rCont cs q k
def RS (r : Nat) (ad : Nat → Nat) (L : List Nat) : Prop := r ∈ L ∧ (∀ k, rT k < 3 → ad k ∈ L ∧ ad k ≠ r) ∧ ∀ k k', rT k < 3 → rT k' < 3 → ad k = ad k' → k = k'
def rOwn (r : Nat) (ad : Nat → Nat) (a : Nat) : Prop := a = r ∨ ∃ k, rT k < 3 ∧ a = ad k
def RQ (D : va_G) (cs : Nat → ClassId) (A : Nat → Prop) (s : State) (r : Nat) (ad : Nat → Nat) (L : List Nat) (f0 : Nat → va_E) (q : Qt) (H : Heap) (locs : List Loc) : Prop :=
  RS r ad L ∧ ∃ f, PW D cs A s L f H locs ∧ RF cs r ad q f ∧ ∀ a, ¬ rOwn r ad a → f a = f0 a
def RX (D : va_G) (cs : Nat → ClassId) (A : Nat → Prop) (s : State) (r : Nat) (ad : Nat → Nat) (L : List Nat) (f0 : Nat → va_E) (st : St) (x : Nat → Nat → Int32) (H : Heap) (locs : List Loc) : Prop := RQ D cs A s r ad L f0 (gz st x) H locs
/-- the rows' arrays hold the lists -/
def Rows (st : St) (x : Nat → Nat → Int32) : Prop := ∀ s, s < 8 → x 19 s = nI (st.2.2 s).length ∧ ∀ i, i < (st.2.2 s).length → x 18 (6 * s + i) = nI ((st.2.2 s).getD i 0)
theorem rT_lt {k : Nat} (h : rT k < 5) : k < 26 := by
  rcases Nat.lt_or_ge k 26 with q | q
  · exact q
  · exfalso
    match k, q with
    | k + 26, _ => simp [rT] at h
theorem TX3_own (k : Nat) : (TX3 k).1 = "SyncHallModel" := by unfold TX3; split <;> rfl
theorem rFld_get {ad : Nat → Nat} {q : Qt} {k : Nat} (h : k < 26) : ((List.range 26).map (rFld ad q))[k]? = some (rFld ad q k) := by
  rw [List.getElem?_map, List.getElem?_range h]; rfl
theorem rFld_set {ad : Nat → Nat} {q q' : Qt} {k : Nat} (h : k < 26) (hn : ∀ i, i ≠ k → rFld ad q i = rFld ad q' i) : ((List.range 26).map (rFld ad q)).set k (rFld ad q' k) = (List.range 26).map (rFld ad q') := by
  apply List.ext_getElem?
  intro i
  rw [List.getElem?_set]
  by_cases hi : k = i
  · subst hi
    rw [if_pos rfl, if_pos (by simpa using h), rFld_get h]
  · rw [if_neg hi, List.getElem?_map, List.getElem?_map]
    cases hr : (List.range 26)[i]? with
    | none => rfl
    | some j =>
      have : j = i := by
        have h2 := List.getElem?_eq_some_iff.mp hr
        obtain ⟨h3, h4⟩ := h2
        rw [List.getElem_range] at h4
        exact h4.symm
      subst this
      show some (rFld ad q j) = some (rFld ad q' j)
      rw [hn j (fun e => hi e.symm)]
theorem RF.setA {cs : Nat → ClassId} {r : Nat} {ad : Nat → Nat} {L : List Nat} {q q' : Qt} {f : Nat → va_E} {k : Nat} (hS : RS r ad L) (h : RF cs r ad q f) (hk : rT k < 3) (h1 : ∀ i, rFld ad q' i = rFld ad q i) (h2 : ∀ i, i ≠ k → rT i < 3 → rCont cs q' i = rCont cs q i) : RF cs r ad q' (va_up f (ad k) (rCont cs q' k)) := by
  refine ⟨?_, fun i hi => ?_⟩
  · have : r ≠ ad k := fun e => (hS.2.1 k hk).2 e.symm
    simp only [va_up, if_neg this]
    rw [h.1]
    unfold rObj
    congr 2
    exact List.map_congr_left fun i _ => (h1 i).symm
  · by_cases e : i = k
    · subst e; simp [va_up]
    · have : ad i ≠ ad k := fun z => e (hS.2.2 i k hi hk z)
      simp only [va_up, if_neg this]
      rw [h.2 i hi, h2 i e hi]
theorem RF.setO {cs : Nat → ClassId} {r : Nat} {ad : Nat → Nat} {L : List Nat} {q q' : Qt} {f : Nat → va_E} (hS : RS r ad L) (h : RF cs r ad q f) (h2 : ∀ i, rT i < 3 → rCont cs q' i = rCont cs q i) : RF cs r ad q' (va_up f r (rObj ad q')) := by
  refine ⟨by simp [va_up], fun i hi => ?_⟩
  have : ad i ≠ r := (hS.2.1 i hi).2
  simp only [va_up, if_neg this]
  rw [h.2 i hi, h2 i hi]
theorem rCont_I {cs : Nat → ClassId} {q : Qt} {k i j : Nat} {v : Int32} (h : i ≠ k) : rCont cs (qI q k j v) i = rCont cs q i := by
  unfold rCont qI
  split <;> simp [va_up, h]
theorem rCont_D {cs : Nat → ClassId} {q : Qt} {k i j : Nat} {v : UInt64} (h : i ≠ k) : rCont cs (qD q k j v) i = rCont cs q i := by
  unfold rCont qD
  split <;> simp [va_up, h]
theorem rFld_I {ad : Nat → Nat} {q : Qt} {k i j : Nat} {v : Int32} (h : rT k < 3 ∨ i ≠ k) : rFld ad (qI q k j v) i = rFld ad q i := by
  unfold rFld qI
  split
  · rename_i hh
    have : i ≠ k := by rcases h with h | h; · intro e; subst e; omega
                       · exact h
    simp [va_up, this]
  · rfl
  · rfl
theorem rFld_D {ad : Nat → Nat} {q : Qt} {k i j : Nat} {v : UInt64} (h : rT k < 3 ∨ i ≠ k) : rFld ad (qD q k j v) i = rFld ad q i := by
  unfold rFld qD
  split
  · rfl
  · rename_i hh
    have : i ≠ k := by rcases h with h | h; · intro e; subst e; omega
                       · exact h
    simp [va_up, this]
  · rfl
theorem gz_I {st : St} {x : Nat → Nat → Int32} {k j : Nat} {v : Int32} (h : rG k = false) : gz (sI st k j v) x = qI (gz st x) k j v := by
  unfold gz qI sI
  refine Prod.ext (funext fun i => ?_) rfl
  by_cases e : i = k
  · subst e; simp [va_up, h]
  · simp [va_up, e]
theorem gz_D {st : St} {x : Nat → Nat → Int32} {k j : Nat} {v : UInt64} : gz (sD st k j v) x = qD (gz st x) k j v := rfl
theorem gz_x {st : St} {x : Nat → Nat → Int32} {k j : Nat} {v : Int32} (h : rG k = true) : gz st (va_up x k (upd (x k) j v)) = qI (gz st x) k j v := by
  unfold gz qI
  refine Prod.ext (funext fun i => ?_) rfl
  by_cases e : i = k
  · subst e; simp [va_up, h]
  · simp [va_up, e]
theorem gz_at {st : St} {x : Nat → Nat → Int32} {k : Nat} (h : rG k = false) : (gz st x).1 k = st.1 k := by simp [gz, h]
theorem gz_atG {st : St} {x : Nat → Nat → Int32} {k : Nat} (h : rG k = true) : (gz st x).1 k = x k := by simp [gz, h]
section RRW
variable {p : Program} {l : Launch} {e : Env} {R : Room} {s : State} {m : MethodId} {args : Array Value} {below : List Frame} {meth : Method} {c : Code} {H : Heap} {locs : List Loc} {cells slots : Nat} {Q : State → Prop}
variable {cc : ByteArray} {nL pc : Nat} {ls : Array Slot} {rest : List Value} {D : va_G} {cs : Nat → ClassId} {A : Nat → Prop} {L : List Nat} {f0 : Nat → va_E} {q : Qt} {r : Nat} {ad : Nat → Nat} {st : St} {x : Nat → Nat → Int32}
theorem rq_fld (k : Nat) {idx : Nat} (S : CallFix p m c cc nL s args lw_all "SyncHallModel") (P : RQ D cs A s r ad L f0 q H locs) (hk : rT k < 5) (hlink : Cond.fieldLink "SyncHallModel" idx "SyncHallModel" (TX3 k).2.1 (TX3 k).2.2.1 ∈ lw_all) (hdg : decode cc pc = .ok (.getfield idx, 3))
    (kk : W p l e R s m args below meth c H locs cells slots Q (F0 m (pc + 3) ls (rFld ad q k :: rest))) : W p l e R s m args below meth c H locs cells slots Q (F0 m pc ls (.ref r :: rest)) := by
  obtain ⟨hS, f, hP, hF, hO⟩ := P
  exact pw_get (q := (RX3, TX3, 26)) S hP hS.1 hF.1 rfl (rT_lt hk) hlink (Or.inl (TX3_own k)) (rFld_get (rT_lt hk)) hdg kk
theorem rx_ref (k : Nat) {idx : Nat} (S : CallFix p m c cc nL s args lw_all "SyncHallModel") (P : RX D cs A s r ad L f0 st x H locs) (hk : rT k < 3) (hlink : Cond.fieldLink "SyncHallModel" idx "SyncHallModel" (TX3 k).2.1 (TX3 k).2.2.1 ∈ lw_all) (hdg : decode cc pc = .ok (.getfield idx, 3))
    (kk : W p l e R s m args below meth c H locs cells slots Q (F0 m (pc + 3) ls (.ref (ad k) :: rest))) : W p l e R s m args below meth c H locs cells slots Q (F0 m pc ls (.ref r :: rest)) := by
  refine rq_fld k S P (by omega) hlink hdg ?_
  have : rFld ad (gz st x) k = .ref (ad k) := by
    unfold rFld
    split
    · omega
    · omega
    · rfl
  rw [this]
  exact kk
theorem rx_getI (k : Nat) {idx : Nat} (S : CallFix p m c cc nL s args lw_all "SyncHallModel") (P : RX D cs A s r ad L f0 st x H locs) (hk : rT k = 3) (hG : rG k = false) (hlink : Cond.fieldLink "SyncHallModel" idx "SyncHallModel" (TX3 k).2.1 (TX3 k).2.2.1 ∈ lw_all) (hdg : decode cc pc = .ok (.getfield idx, 3))
    (kk : W p l e R s m args below meth c H locs cells slots Q (F0 m (pc + 3) ls (.int (st.1 k 0) :: rest))) : W p l e R s m args below meth c H locs cells slots Q (F0 m pc ls (.ref r :: rest)) := by
  refine rq_fld k S P (by omega) hlink hdg ?_
  have : rFld ad (gz st x) k = .int (st.1 k 0) := by
    unfold rFld
    rw [hk]
    show Value.int ((gz st x).1 k 0) = _
    rw [gz_at hG]
  rw [this]
  exact kk
theorem rx_getF (k : Nat) {idx : Nat} (S : CallFix p m c cc nL s args lw_all "SyncHallModel") (P : RX D cs A s r ad L f0 st x H locs) (hk : rT k = 3) (hG : rG k = true) (hlink : Cond.fieldLink "SyncHallModel" idx "SyncHallModel" (TX3 k).2.1 (TX3 k).2.2.1 ∈ lw_all) (hdg : decode cc pc = .ok (.getfield idx, 3))
    (kk : W p l e R s m args below meth c H locs cells slots Q (F0 m (pc + 3) ls (.int (x k 0) :: rest))) : W p l e R s m args below meth c H locs cells slots Q (F0 m pc ls (.ref r :: rest)) := by
  refine rq_fld k S P (by omega) hlink hdg ?_
  have : rFld ad (gz st x) k = .int (x k 0) := by
    unfold rFld
    rw [hk]
    show Value.int ((gz st x).1 k 0) = _
    rw [gz_atG hG]
  rw [this]
  exact kk
theorem rx_getD (k : Nat) {idx : Nat} (S : CallFix p m c cc nL s args lw_all "SyncHallModel") (P : RX D cs A s r ad L f0 st x H locs) (hk : rT k = 4) (hlink : Cond.fieldLink "SyncHallModel" idx "SyncHallModel" (TX3 k).2.1 (TX3 k).2.2.1 ∈ lw_all) (hdg : decode cc pc = .ok (.getfield idx, 3))
    (kk : W p l e R s m args below meth c H locs cells slots Q (F0 m (pc + 3) ls (.double (st.2.1 k 0) :: rest))) : W p l e R s m args below meth c H locs cells slots Q (F0 m pc ls (.ref r :: rest)) := by
  refine rq_fld k S P (by omega) hlink hdg ?_
  have : rFld ad (gz st x) k = .double (st.2.1 k 0) := by
    unfold rFld
    rw [hk]
    rfl
  rw [this]
  exact kk
theorem RQ.setO {q' : Qt} {f : Nat → va_E} {H1 : Heap} {locs1 : List Loc} (hS : RS r ad L) (hF : RF cs r ad q f) (hO : ∀ a, ¬ rOwn r ad a → f a = f0 a) (h2 : ∀ i, rT i < 3 → rCont cs q' i = rCont cs q i) (P : PW D cs A s L (va_up f r (rObj ad q')) H1 locs1) : RQ D cs A s r ad L f0 q' H1 locs1 :=
  ⟨hS, _, P, RF.setO hS hF h2, fun a ha => by
    have : a ≠ r := fun e => ha (Or.inl e)
    simp only [va_up, if_neg this]
    exact hO a ha⟩
theorem RQ.setA {q' : Qt} {f : Nat → va_E} {k : Nat} {H1 : Heap} {locs1 : List Loc} (hS : RS r ad L) (hF : RF cs r ad q f) (hO : ∀ a, ¬ rOwn r ad a → f a = f0 a) (hk : rT k < 3) (h1 : ∀ i, rFld ad q' i = rFld ad q i) (h2 : ∀ i, i ≠ k → rT i < 3 → rCont cs q' i = rCont cs q i) (P : PW D cs A s L (va_up f (ad k) (rCont cs q' k)) H1 locs1) : RQ D cs A s r ad L f0 q' H1 locs1 :=
  ⟨hS, _, P, RF.setA hS hF hk h1 h2, fun a ha => by
    have : a ≠ ad k := fun e => ha (Or.inr ⟨k, hk, e⟩)
    simp only [va_up, if_neg this]
    exact hO a ha⟩
theorem rq_putI (k : Nat) {idx : Nat} {v : Int32} (S : CallFix p m c cc nL s args lw_all "SyncHallModel") (P : RQ D cs A s r ad L f0 q H locs) (hk : rT k = 3) (hty : clT 8 k = .int) (hfin : (TX3 k).2.2.2 = false) (hlink : Cond.fieldLink "SyncHallModel" idx "SyncHallModel" (TX3 k).2.1 (TX3 k).2.2.1 ∈ lw_all) (hdg : decode cc pc = .ok (.putfield idx, 3))
    (kk : ∀ (H1 : Heap) (locs1 : List Loc), RQ D cs A s r ad L f0 (qI q k 0 v) H1 locs1 → W p l e R s m args below meth c H1 locs1 cells slots Q (F0 m (pc + 3) ls rest)) : W p l e R s m args below meth c H locs cells slots Q (F0 m pc ls (.int v :: .ref r :: rest)) := by
  obtain ⟨hS, f, hP, hF, hO⟩ := P
  have hk26 : k < 26 := rT_lt (by omega)
  refine pw_put (q := (RX3, TX3, 26)) S hP hS.1 hF.1 rfl hk26 hlink (Or.inl (TX3_own k)) hfin (by rw [hty]; rfl) (by rw [hty]; rfl) (by simpa using hk26) hdg (fun H1 locs1 P1 => kk H1 locs1 ?_)
  have hv : Value.int v = rFld ad (qI q k 0 v) k := by
    unfold rFld
    rw [hk]
    simp [qI, va_up, upd]
  rw [hv, rFld_set hk26 (fun i hi => (rFld_I (Or.inr hi)).symm)] at P1
  exact RQ.setO hS hF hO (fun i hi => rCont_I (fun e => by subst e; omega)) P1
theorem rx_putI (k : Nat) {idx : Nat} {v : Int32} (S : CallFix p m c cc nL s args lw_all "SyncHallModel") (P : RX D cs A s r ad L f0 st x H locs) (hk : rT k = 3) (hG : rG k = false) (hty : clT 8 k = .int) (hfin : (TX3 k).2.2.2 = false) (hlink : Cond.fieldLink "SyncHallModel" idx "SyncHallModel" (TX3 k).2.1 (TX3 k).2.2.1 ∈ lw_all) (hdg : decode cc pc = .ok (.putfield idx, 3))
    (kk : ∀ (H1 : Heap) (locs1 : List Loc), RX D cs A s r ad L f0 (sI st k 0 v) x H1 locs1 → W p l e R s m args below meth c H1 locs1 cells slots Q (F0 m (pc + 3) ls rest)) : W p l e R s m args below meth c H locs cells slots Q (F0 m pc ls (.int v :: .ref r :: rest)) :=
  rq_putI k S P hk hty hfin hlink hdg (fun H1 locs1 P1 => kk H1 locs1 (by unfold RX; rw [gz_I hG]; exact P1))
theorem rx_putF (k : Nat) {idx : Nat} {v : Int32} (S : CallFix p m c cc nL s args lw_all "SyncHallModel") (P : RX D cs A s r ad L f0 st x H locs) (hk : rT k = 3) (hG : rG k = true) (hty : clT 8 k = .int) (hfin : (TX3 k).2.2.2 = false) (hlink : Cond.fieldLink "SyncHallModel" idx "SyncHallModel" (TX3 k).2.1 (TX3 k).2.2.1 ∈ lw_all) (hdg : decode cc pc = .ok (.putfield idx, 3))
    (kk : ∀ (H1 : Heap) (locs1 : List Loc), RX D cs A s r ad L f0 st (va_up x k (upd (x k) 0 v)) H1 locs1 → W p l e R s m args below meth c H1 locs1 cells slots Q (F0 m (pc + 3) ls rest)) : W p l e R s m args below meth c H locs cells slots Q (F0 m pc ls (.int v :: .ref r :: rest)) :=
  rq_putI k S P hk hty hfin hlink hdg (fun H1 locs1 P1 => kk H1 locs1 (by unfold RX; rw [gz_x hG]; exact P1))
theorem rx_putD (k : Nat) {idx : Nat} {v : UInt64} (S : CallFix p m c cc nL s args lw_all "SyncHallModel") (P : RX D cs A s r ad L f0 st x H locs) (hk : rT k = 4) (hty : clT 8 k = .double) (hfin : (TX3 k).2.2.2 = false) (hlink : Cond.fieldLink "SyncHallModel" idx "SyncHallModel" (TX3 k).2.1 (TX3 k).2.2.1 ∈ lw_all) (hdg : decode cc pc = .ok (.putfield idx, 3))
    (kk : ∀ (H1 : Heap) (locs1 : List Loc), RX D cs A s r ad L f0 (sD st k 0 v) x H1 locs1 → W p l e R s m args below meth c H1 locs1 cells slots Q (F0 m (pc + 3) ls rest)) : W p l e R s m args below meth c H locs cells slots Q (F0 m pc ls (.double v :: .ref r :: rest)) := by
  obtain ⟨hS, f, hP, hF, hO⟩ := P
  have hk26 : k < 26 := rT_lt (by omega)
  refine pw_put (q := (RX3, TX3, 26)) S hP hS.1 hF.1 rfl hk26 hlink (Or.inl (TX3_own k)) hfin (by rw [hty]; rfl) (by rw [hty]; rfl) (by simpa using hk26) hdg (fun H1 locs1 P1 => kk H1 locs1 ?_)
  have hv : Value.double v = rFld ad (qD (gz st x) k 0 v) k := by
    unfold rFld
    rw [hk]
    simp [qD, va_up, vf_upd]
  rw [hv, rFld_set hk26 (fun i hi => (rFld_D (Or.inr hi)).symm)] at P1
  exact RQ.setO (q' := qD (gz st x) k 0 v) hS hF hO (fun i hi => rCont_D (fun e => by subst e; omega)) P1
/-! arrays -/
theorem rN_lt (k : Nat) : rN k < 2 ^ 31 := by unfold rN; split <;> decide
theorem rCont0 {k : Nat} (hT : rT k = 0) : rCont cs q k = .inl (cs 0, rN k, .inl (q.1 k)) := by unfold rCont; rw [hT]; rfl
theorem rCont1 {k : Nat} (hT : rT k = 1) : rCont cs q k = .inl (cs 1, rN k, .inl (q.1 k)) := by unfold rCont; rw [hT]; rfl
theorem rCont2 {k : Nat} (hT : rT k = 2) : rCont cs q k = .inl (cs 2, rN k, .inr (.inr (.inr (.inl (q.2 k))))) := by unfold rCont; rw [hT]; rfl
theorem rx_iald (k j : Nat) (S : CallFix p m c cc nL s args lw_all "SyncHallModel") (P : RX D cs A s r ad L f0 st x H locs) (hT : rT k = 0) (hG : rG k = false) (hj : j < rN k) (hdg : decode cc pc = .ok (.iaload, 1))
    (kk : W p l e R s m args below meth c H locs cells slots Q (F0 m (pc + 1) ls (.int (st.1 k j) :: rest))) : W p l e R s m args below meth c H locs cells slots Q (F0 m pc ls (.int (nI j) :: .ref (ad k) :: rest)) := by
  obtain ⟨hS, f, hP, hF, hO⟩ := P
  refine pw_iald S hP (hS.2.1 k (by omega)).1 ((hF.2 k (by omega)).trans (rCont0 hT)) rfl hj (rN_lt k) hdg ?_
  rw [gz_at hG]; exact kk
theorem rx_ialdG (k j : Nat) (S : CallFix p m c cc nL s args lw_all "SyncHallModel") (P : RX D cs A s r ad L f0 st x H locs) (hT : rT k = 0) (hG : rG k = true) (hj : j < rN k) (hdg : decode cc pc = .ok (.iaload, 1))
    (kk : W p l e R s m args below meth c H locs cells slots Q (F0 m (pc + 1) ls (.int (x k j) :: rest))) : W p l e R s m args below meth c H locs cells slots Q (F0 m pc ls (.int (nI j) :: .ref (ad k) :: rest)) := by
  obtain ⟨hS, f, hP, hF, hO⟩ := P
  refine pw_iald S hP (hS.2.1 k (by omega)).1 ((hF.2 k (by omega)).trans (rCont0 hT)) rfl hj (rN_lt k) hdg ?_
  rw [gz_atG hG]; exact kk
theorem rx_zald (k j : Nat) (S : CallFix p m c cc nL s args lw_all "SyncHallModel") (P : RX D cs A s r ad L f0 st x H locs) (hT : rT k = 1) (hG : rG k = false) (hj : j < rN k) (hdg : decode cc pc = .ok (.baload, 1))
    (kk : W p l e R s m args below meth c H locs cells slots Q (F0 m (pc + 1) ls (.int (st.1 k j) :: rest))) : W p l e R s m args below meth c H locs cells slots Q (F0 m pc ls (.int (nI j) :: .ref (ad k) :: rest)) := by
  obtain ⟨hS, f, hP, hF, hO⟩ := P
  refine pw_zald S hP (hS.2.1 k (by omega)).1 ((hF.2 k (by omega)).trans (rCont1 hT)) rfl hj (rN_lt k) hdg ?_
  rw [gz_at hG]; exact kk
theorem rx_zaldG (k j : Nat) (S : CallFix p m c cc nL s args lw_all "SyncHallModel") (P : RX D cs A s r ad L f0 st x H locs) (hT : rT k = 1) (hG : rG k = true) (hj : j < rN k) (hdg : decode cc pc = .ok (.baload, 1))
    (kk : W p l e R s m args below meth c H locs cells slots Q (F0 m (pc + 1) ls (.int (x k j) :: rest))) : W p l e R s m args below meth c H locs cells slots Q (F0 m pc ls (.int (nI j) :: .ref (ad k) :: rest)) := by
  obtain ⟨hS, f, hP, hF, hO⟩ := P
  refine pw_zald S hP (hS.2.1 k (by omega)).1 ((hF.2 k (by omega)).trans (rCont1 hT)) rfl hj (rN_lt k) hdg ?_
  rw [gz_atG hG]; exact kk
theorem rx_dald (k j : Nat) (S : CallFix p m c cc nL s args lw_all "SyncHallModel") (P : RX D cs A s r ad L f0 st x H locs) (hT : rT k = 2) (hj : j < rN k) (hdg : decode cc pc = .ok (.daload, 1))
    (kk : W p l e R s m args below meth c H locs cells slots Q (F0 m (pc + 1) ls (.double (st.2.1 k j) :: rest))) : W p l e R s m args below meth c H locs cells slots Q (F0 m pc ls (.int (nI j) :: .ref (ad k) :: rest)) := by
  obtain ⟨hS, f, hP, hF, hO⟩ := P
  exact pw_dald S hP (hS.2.1 k (by omega)).1 ((hF.2 k (by omega)).trans (rCont2 hT)) rfl hj (rN_lt k) hdg kk
theorem rq_iast (k j : Nat) {v : Int32} (S : CallFix p m c cc nL s args lw_all "SyncHallModel") (P : RQ D cs A s r ad L f0 q H locs) (hT : rT k = 0) (hj : j < rN k) (hdg : decode cc pc = .ok (.iastore, 1))
    (kk : ∀ (H1 : Heap) (locs1 : List Loc), RQ D cs A s r ad L f0 (qI q k j v) H1 locs1 → W p l e R s m args below meth c H1 locs1 cells slots Q (F0 m (pc + 1) ls rest)) : W p l e R s m args below meth c H locs cells slots Q (F0 m pc ls (.int v :: .int (nI j) :: .ref (ad k) :: rest)) := by
  obtain ⟨hS, f, hP, hF, hO⟩ := P
  have hk : rT k < 3 := by omega
  refine pw_iast S hP (hS.2.1 k hk).1 ((hF.2 k hk).trans (rCont0 hT)) rfl hj (rN_lt k) hdg (fun H1 locs1 P1 => kk H1 locs1 ?_)
  have hc : (Sum.inl (cs 0, rN k, .inl (upd (q.1 k) j v)) : va_E) = rCont cs (qI q k j v) k := by
    rw [rCont0 hT]; simp [qI, va_up]
  rw [hc] at P1
  exact RQ.setA hS hF hO hk (fun i => rFld_I (Or.inl hk)) (fun i hi _ => rCont_I hi) P1
theorem rq_zast (k j : Nat) {v : Int32} (S : CallFix p m c cc nL s args lw_all "SyncHallModel") (P : RQ D cs A s r ad L f0 q H locs) (hT : rT k = 1) (hj : j < rN k) (hv : vp_nar .boolean v = v) (hdg : decode cc pc = .ok (.bastore, 1))
    (kk : ∀ (H1 : Heap) (locs1 : List Loc), RQ D cs A s r ad L f0 (qI q k j v) H1 locs1 → W p l e R s m args below meth c H1 locs1 cells slots Q (F0 m (pc + 1) ls rest)) : W p l e R s m args below meth c H locs cells slots Q (F0 m pc ls (.int v :: .int (nI j) :: .ref (ad k) :: rest)) := by
  obtain ⟨hS, f, hP, hF, hO⟩ := P
  have hk : rT k < 3 := by omega
  refine pw_zast S hP (hS.2.1 k hk).1 ((hF.2 k hk).trans (rCont1 hT)) rfl hj (rN_lt k) hv hdg (fun H1 locs1 P1 => kk H1 locs1 ?_)
  have hc : (Sum.inl (cs 1, rN k, .inl (upd (q.1 k) j v)) : va_E) = rCont cs (qI q k j v) k := by
    rw [rCont1 hT]; simp [qI, va_up]
  rw [hc] at P1
  exact RQ.setA hS hF hO hk (fun i => rFld_I (Or.inl hk)) (fun i hi _ => rCont_I hi) P1
theorem rx_iast (k j : Nat) {v : Int32} (S : CallFix p m c cc nL s args lw_all "SyncHallModel") (P : RX D cs A s r ad L f0 st x H locs) (hT : rT k = 0) (hG : rG k = false) (hj : j < rN k) (hdg : decode cc pc = .ok (.iastore, 1))
    (kk : ∀ (H1 : Heap) (locs1 : List Loc), RX D cs A s r ad L f0 (sI st k j v) x H1 locs1 → W p l e R s m args below meth c H1 locs1 cells slots Q (F0 m (pc + 1) ls rest)) : W p l e R s m args below meth c H locs cells slots Q (F0 m pc ls (.int v :: .int (nI j) :: .ref (ad k) :: rest)) :=
  rq_iast k j S P hT hj hdg (fun H1 locs1 P1 => kk H1 locs1 (by unfold RX; rw [gz_I hG]; exact P1))
theorem rx_iastG (k j : Nat) {v : Int32} (S : CallFix p m c cc nL s args lw_all "SyncHallModel") (P : RX D cs A s r ad L f0 st x H locs) (hT : rT k = 0) (hG : rG k = true) (hj : j < rN k) (hdg : decode cc pc = .ok (.iastore, 1))
    (kk : ∀ (H1 : Heap) (locs1 : List Loc), RX D cs A s r ad L f0 st (va_up x k (upd (x k) j v)) H1 locs1 → W p l e R s m args below meth c H1 locs1 cells slots Q (F0 m (pc + 1) ls rest)) : W p l e R s m args below meth c H locs cells slots Q (F0 m pc ls (.int v :: .int (nI j) :: .ref (ad k) :: rest)) :=
  rq_iast k j S P hT hj hdg (fun H1 locs1 P1 => kk H1 locs1 (by unfold RX; rw [gz_x hG]; exact P1))
theorem rx_zast (k j : Nat) {v : Int32} (S : CallFix p m c cc nL s args lw_all "SyncHallModel") (P : RX D cs A s r ad L f0 st x H locs) (hT : rT k = 1) (hG : rG k = false) (hj : j < rN k) (hv : vp_nar .boolean v = v) (hdg : decode cc pc = .ok (.bastore, 1))
    (kk : ∀ (H1 : Heap) (locs1 : List Loc), RX D cs A s r ad L f0 (sI st k j v) x H1 locs1 → W p l e R s m args below meth c H1 locs1 cells slots Q (F0 m (pc + 1) ls rest)) : W p l e R s m args below meth c H locs cells slots Q (F0 m pc ls (.int v :: .int (nI j) :: .ref (ad k) :: rest)) :=
  rq_zast k j S P hT hj hv hdg (fun H1 locs1 P1 => kk H1 locs1 (by unfold RX; rw [gz_I hG]; exact P1))
theorem rx_zastG (k j : Nat) {v : Int32} (S : CallFix p m c cc nL s args lw_all "SyncHallModel") (P : RX D cs A s r ad L f0 st x H locs) (hT : rT k = 1) (hG : rG k = true) (hj : j < rN k) (hv : vp_nar .boolean v = v) (hdg : decode cc pc = .ok (.bastore, 1))
    (kk : ∀ (H1 : Heap) (locs1 : List Loc), RX D cs A s r ad L f0 st (va_up x k (upd (x k) j v)) H1 locs1 → W p l e R s m args below meth c H1 locs1 cells slots Q (F0 m (pc + 1) ls rest)) : W p l e R s m args below meth c H locs cells slots Q (F0 m pc ls (.int v :: .int (nI j) :: .ref (ad k) :: rest)) :=
  rq_zast k j S P hT hj hv hdg (fun H1 locs1 P1 => kk H1 locs1 (by unfold RX; rw [gz_x hG]; exact P1))
theorem rx_dast (k j : Nat) {v : UInt64} (S : CallFix p m c cc nL s args lw_all "SyncHallModel") (P : RX D cs A s r ad L f0 st x H locs) (hT : rT k = 2) (hj : j < rN k) (hdg : decode cc pc = .ok (.dastore, 1))
    (kk : ∀ (H1 : Heap) (locs1 : List Loc), RX D cs A s r ad L f0 (sD st k j v) x H1 locs1 → W p l e R s m args below meth c H1 locs1 cells slots Q (F0 m (pc + 1) ls rest)) : W p l e R s m args below meth c H locs cells slots Q (F0 m pc ls (.double v :: .int (nI j) :: .ref (ad k) :: rest)) := by
  obtain ⟨hS, f, hP, hF, hO⟩ := P
  have hk : rT k < 3 := by omega
  refine pw_dast S hP (hS.2.1 k hk).1 ((hF.2 k hk).trans (rCont2 hT)) rfl hj (rN_lt k) hdg (fun H1 locs1 P1 => kk H1 locs1 ?_)
  have hc : (Sum.inl (cs 2, rN k, .inr (.inr (.inr (.inl (vf_upd ((gz st x).2 k) j v))))) : va_E) = rCont cs (qD (gz st x) k j v) k := by
    rw [rCont2 hT]; simp [qD, va_up]
  rw [hc] at P1
  exact RQ.setA (q' := qD (gz st x) k j v) hS hF hO hk (fun i => rFld_D (Or.inl hk)) (fun i hi _ => rCont_D hi) P1
end RRW
