/-! WHAT BOTH SIDES COMPUTE: pure functions on the state. Fields by the reference's numbers: 1 blocked, 2 flag, 3 priority (D), 4 outcome, 5 waitsFor, 6 mode, 7 end (D), 8 since (D), 9 back, 10 after, 11 time (D), 12 kind, 13 owner, 14 depth, 15 permits, 16 lock, 17 reads, 20 waitedSum (D), 21 waitedCount, 22 before, 24 policy, 25 warnings; rows as lists -/
abbrev cM1 : UInt64 := 13830554455654793216
abbrev cK : UInt64 := 4652007308841189376
abbrev cMK : UInt64 := 13875379345695965184
def iN (x : Int32) : Nat := x.toNatClampNeg
def isOut (v n : Int32) : Bool := decide (v < 0 ∨ ¬ v < n)
def inR (lo hi v : UInt64) : Bool := decide ((FP.dcmp v lo = some .gt ∨ FP.dcmp v lo = some .eq) ∧ (FP.dcmp v hi = some .lt ∨ FP.dcmp v hi = some .eq))
def s_addW (st : St) (t s : Nat) : St := sI (sD st 20 s (FP.dadd (st.2.1 20 s) (FP.dsub (st.2.1 11 0) (st.2.1 8 t)))) 21 s (st.1 21 s + 1)
def s_enter (st : St) (t s : Nat) : St := sI (sD (sI (sR st s (st.2.2 s ++ [t])) 5 t (nI s)) 8 t (st.2.1 11 0)) 1 t 1
def s_remove (st : St) (t s : Nat) : St := sI (sR st s ((st.2.2 s).erase t)) 5 t (-1)
def s_others (st : St) (t s : Nat) : Bool := (List.range 6).any (fun o => decide (o ≠ t ∧ 0 < st.1 17 (6 * s + o)))
def s_canTake (st : St) (t s : Nat) (m : Int32) : Bool :=
  if st.1 12 s = 0 then decide (st.1 13 s < 0)
  else if st.1 12 s = 1 then decide (st.1 13 s < 0 ∨ st.1 13 s = nI t)
  else if st.1 12 s = 2 ∨ st.1 12 s = 3 then decide (0 < st.1 15 s)
  else if st.1 12 s = 4 then decide (st.1 15 s = 0)
  else if ¬ st.1 13 s < 0 ∧ ¬ st.1 13 s = nI t then false
  else !(decide (m = 1) && s_others st t s)
def s_take (st : St) (t s : Nat) (m : Int32) : St :=
  if st.1 12 s = 2 ∨ st.1 12 s = 3 then sI st 15 s (st.1 15 s - 1)
  else if st.1 12 s = 5 ∧ m = 0 then sI st 17 (6 * s + t) (st.1 17 (6 * s + t) + 1)
  else if st.1 12 s = 4 then st
  else sI (sI st 13 s (nI t)) 14 s (st.1 14 s + 1)
def s_mustQueue (st : St) (t s : Nat) (m : Int32) : Bool :=
  if st.1 12 s = 4 ∨ (st.1 12 s = 1 ∧ st.1 13 s = nI t) then false
  else if ¬ st.1 12 s = 5 then !(st.2.2 s).isEmpty
  else if 0 < st.1 17 (6 * s + t) ∨ st.1 13 s = nI t then false
  else (st.2.2 s).any (fun u => decide (m = 1 ∨ st.1 6 u = 1))
def s_better (st : St) (s best t : Nat) : Bool := decide ((st.1 12 s = 3 ∧ FP.dcmp (st.2.1 3 t) (st.2.1 3 best) = some .gt) ∨ (st.1 12 s = 5 ∧ st.1 6 best = 0 ∧ st.1 6 t = 1))
def s_nextF (st : St) (s : Nat) (best : Nat) : List Nat → Nat
  | [] => best
  | t :: ts => s_nextF st s (if s_better st s best t = true then t else best) ts
def s_next (st : St) (s : Nat) : Nat := match st.2.2 s with
  | [] => 0
  | t :: ts => s_nextF st s t ts
def s_serve1 (st : St) (t s : Nat) : St :=
  if 0 < st.1 9 t then sI (sI (sI (sI (sI (s_addW (s_remove st t s) t s) 1 t 0) 4 t (st.1 10 t)) 13 s (nI t)) 14 s (st.1 9 t)) 9 t 0
  else s_take (sI (sI (s_addW (s_remove st t s) t s) 1 t 0) 4 t 1) t s (st.1 6 t)
def s_goes (st : St) (s : Nat) : Bool := decide (¬ st.1 12 s = 6) && (!(st.2.2 s).isEmpty && s_canTake st (s_next st s) s (st.1 6 (s_next st s)))
def s_serveN : Nat → St → Nat → St
  | 0, st, _ => st
  | n + 1, st, s => if s_goes st s = true then s_serveN n (s_serve1 st (s_next st s) s) s else st
def s_serve (st : St) (s : Nat) : St := s_serveN (st.2.2 s).length st s
def s_lk (st : St) (c : Nat) : Nat := iN (st.1 16 c)
def s_queue0 (st : St) (t c : Nat) (why : Int32) : St :=
  if st.1 5 t = nI c then (if why = 1 then s_remove (s_addW st t c) t c else s_remove st t c) else st
def s_queue (st : St) (t c : Nat) (why : Int32) : St :=
  s_serve (s_enter (sI (sD (sI (s_queue0 st t c why) 10 t why) 7 t cM1) 6 t 0) t (s_lk st c)) (s_lk st c)
def s_isLock (st : St) (s : Nat) : Bool := decide (st.1 12 s = 0 ∨ st.1 12 s = 1)
def s_edge (st : St) (i j : Nat) : Prop := i < 8 ∧ j < 8 ∧ ¬ st.1 22 (8 * i + j) = 0
noncomputable def s_leads (st : St) (a b : Nat) : Bool := @decide (Relation.TransGen (s_edge st) a b) (Classical.propDecidable _)
def s_owns (st : St) (t o : Nat) : Bool := s_isLock st o && decide (st.1 13 o = nI t)
noncomputable def s_warnN (st : St) (t s : Nat) : Nat → Bool
  | 0 => false
  | n + 1 => s_warnN st t s n || (s_owns st t n && s_leads st s n)
noncomputable def s_warn (st : St) (t s : Nat) : Bool := s_warnN st t s 8
def s_markN (st : St) (t s n : Nat) : St := sA st 22 (fun j => if j % 8 = s ∧ j / 8 < n ∧ s_owns st t (j / 8) = true then 1 else st.1 22 j)
def s_mark (st : St) (t s : Nat) : St := s_markN st t s 8
def s_free (st : St) (t s : Nat) : Bool := decide (st.1 24 0 = 0 ∨ s_isLock st s = false ∨ st.1 13 s = nI t)
noncomputable def s_ordered (st : St) (t s : Nat) : Bool × St :=
  if s_free st t s = true then (true, st)
  else if s_warn st t s = true then (if st.1 24 0 = 2 then (false, sI st 25 0 (st.1 25 0 + 1)) else (true, s_mark (sI st 25 0 (st.1 25 0 + 1)) t s))
  else (true, s_mark st t s)
/-! the operations: the code of what is thrown (0: nothing), the answer, the new state -/
def s_cnt (st : St) : Nat → Int32
  | 0 => 0
  | n + 1 => s_cnt st n + (if ¬ st.1 12 n < 0 then 1 else 0)
def s_most (k : Int32) : Int32 := if ¬ k < 2 ∧ ¬ 4 < k then 5 else if k = 6 then 7 else 0
def s_make (st : St) (s k a : Int32) : Int32 × Int32 × St :=
  if isOut s 8 = true ∨ isOut k 7 = true ∨ isOut a (s_most k + 1) = true then (1, 0, st)
  else if k = 6 ∧ ¬ st.1 12 (iN a) = 0 ∧ ¬ st.1 12 (iN a) = 1 then (2, 0, st)
  else if ¬ st.1 12 (iN s) < 0 then (3, 0, st)
  else (0, s_cnt (sI (sI (sI st 12 (iN s) k) 15 (iN s) (if ¬ k < 2 ∧ ¬ 4 < k then a else 0)) 16 (iN s) (if k = 6 then a else -1)) 8, sI (sI (sI st 12 (iN s) k) 15 (iN s) (if ¬ k < 2 ∧ ¬ 4 < k then a else 0)) 16 (iN s) (if k = 6 then a else -1))
def s_rank (st : St) (t : Int32) (v : UInt64) : Int32 × Int32 × St :=
  if isOut t 6 = true ∨ inR cMK cK v = false then (1, 0, st) else (0, 0, sD st 3 (iN t) v)
def s_check (st : St) (t s : Nat) : Int32 := if st.1 12 s < 0 then 2 else if ¬ st.1 1 t = 0 then 3 else 0
def s_settle (st : St) (t : Nat) (v : Int32) : St := sI st 4 t v
def s_end (st : St) (lim : UInt64) : UInt64 := if FP.dcmp lim FP.dconst0 = some .gt then FP.dadd (st.2.1 11 0) lim else cM1
def s_wait (st : St) (t s : Nat) (m : Int32) (lim : UInt64) : St := s_enter (sI (sD (sI st 6 t m) 7 t (s_end st lim)) 9 t 0) t s
noncomputable def s_acq (st : St) (t s : Nat) (m : Int32) (lim : UInt64) : Int32 × Int32 × St :=
  if ¬ s_check st t s = 0 then (s_check st t s, 0, st)
  else if st.1 12 s = 6 then (4, 0, st)
  else if ¬ st.1 2 t = 0 then (0, 3, sI (sI st 2 t 0) 4 t 3)
  else if (s_ordered st t s).1 = false then (4, 0, (s_ordered st t s).2)
  else if (s_ordered st t s).2.1 12 s = 5 ∧ m = 1 ∧ 0 < (s_ordered st t s).2.1 17 (6 * s + t) ∧ ¬ (s_ordered st t s).2.1 13 s = nI t then (4, 0, (s_ordered st t s).2)
  else if s_mustQueue (s_ordered st t s).2 t s m = false ∧ s_canTake (s_ordered st t s).2 t s m = true then (0, 1, sI (s_take (s_ordered st t s).2 t s m) 4 t 1)
  else if FP.dcmp lim FP.dconst0 = some .eq then (0, 2, sI (s_ordered st t s).2 4 t 2)
  else (0, 0, sI (s_wait (s_ordered st t s).2 t s m lim) 4 t 0)
noncomputable def s_acquire (st : St) (t s m : Int32) (lim : UInt64) : Int32 × Int32 × St :=
  if isOut t 6 = true ∨ isOut s 8 = true ∨ isOut m 2 = true ∨ inR cM1 cK lim = false then (1, 0, st) else s_acq st (iN t) (iN s) m lim
def s_rel (st : St) (t s : Nat) (m : Int32) : Int32 × Int32 × St :=
  if ¬ s_check st t s = 0 then (s_check st t s, 0, st)
  else if st.1 12 s = 6 ∨ ((st.1 12 s = 2 ∨ st.1 12 s = 3) ∧ st.1 15 s = 100) then (4, 0, st)
  else if st.1 12 s = 5 ∧ m = 0 then
    (if st.1 17 (6 * s + t) = 0 then (3, 0, st) else (0, nI (st.2.2 s).length, s_serve (sI st 17 (6 * s + t) (st.1 17 (6 * s + t) - 1)) s))
  else if st.1 12 s = 2 ∨ st.1 12 s = 3 then (0, nI (st.2.2 s).length, s_serve (sI st 15 s (st.1 15 s + 1)) s)
  else if st.1 12 s = 4 then (0, nI (st.2.2 s).length, s_serve (sI st 15 s (if 0 < st.1 15 s then st.1 15 s - 1 else 0)) s)
  else if ¬ st.1 13 s = nI t then (3, 0, st)
  else (0, nI (st.2.2 s).length, s_serve (if st.1 14 s - 1 = 0 then sI (sI st 14 s (st.1 14 s - 1)) 13 s (-1) else sI st 14 s (st.1 14 s - 1)) s)
def s_release (st : St) (t s m : Int32) : Int32 × Int32 × St :=
  if isOut t 6 = true ∨ isOut s 8 = true ∨ isOut m 2 = true then (1, 0, st) else s_rel st (iN t) (iN s) m
def s_checkC (st : St) (t s : Nat) : Int32 := if ¬ s_check st t s = 0 then s_check st t s else if ¬ st.1 12 s = 6 then 4 else if ¬ st.1 13 (s_lk st s) = nI t then 3 else 0
def s_aw0 (st : St) (t c : Nat) : St := sI (sI (sI (sI st 9 t (st.1 14 (s_lk st c))) 13 (s_lk st c) (-1)) 14 (s_lk st c) 0) 4 t 0
def s_aw1 (st : St) (t c : Nat) (lim : UInt64) : St :=
  if FP.dcmp lim FP.dconst0 = some .eq then s_queue (s_aw0 st t c) t c 2
  else s_serve (s_enter (sI (sD (s_aw0 st t c) 7 t (s_end st lim)) 6 t 0) t c) (s_lk st c)
def s_aw (st : St) (t c : Nat) (lim : UInt64) : Int32 × Int32 × St :=
  if ¬ s_checkC st t c = 0 then (s_checkC st t c, 0, st)
  else if ¬ st.1 2 t = 0 then (0, 3, sI (sI st 2 t 0) 4 t 3)
  else (0, (s_aw1 st t c lim).1 4 t, s_aw1 st t c lim)
def s_await (st : St) (t s : Int32) (lim : UInt64) : Int32 × Int32 × St :=
  if isOut t 6 = true ∨ isOut s 8 = true ∨ inR cM1 cK lim = false then (1, 0, st) else s_aw st (iN t) (iN s) lim
def s_hd (st : St) (c : Nat) : Nat := (st.2.2 c).headD 0
def s_sigN : Nat → St → Nat → Bool → Nat → Nat × St
  | 0, st, _, _, k => (k, st)
  | n + 1, st, c, all, k => if (st.2.2 c).isEmpty = false ∧ (all = true ∨ k = 0) then s_sigN n (s_queue st (s_hd st c) c 1) c all (k + 1) else (k, st)
def s_sig (st : St) (t c : Nat) (all : Bool) : Int32 × Int32 × St :=
  if ¬ s_checkC st t c = 0 then (s_checkC st t c, 0, st)
  else (0, nI (s_sigN (st.2.2 c).length st c all 0).1, (s_sigN (st.2.2 c).length st c all 0).2)
def s_signal (st : St) (t s : Int32) (all : Bool) : Int32 × Int32 × St :=
  if isOut t 6 = true ∨ isOut s 8 = true then (1, 0, st) else s_sig st (iN t) (iN s) all
def s_giveUp (st : St) (t s : Nat) (why : Int32) : St :=
  if st.1 12 s = 6 then s_queue st t s why else s_serve (sI (sI (s_remove st t s) 1 t 0) 4 t why) s
def s_wf (st : St) (t : Nat) : Nat := iN (st.1 5 t)
def s_intr (st : St) (t : Nat) : St :=
  if st.1 1 t = 0 ∨ (¬ st.1 12 (s_wf st t) = 6 ∧ 0 < st.1 9 t) then sI st 2 t 1 else s_giveUp st t (s_wf st t) 3
def s_interrupt (st : St) (t : Int32) : Int32 × Int32 × St :=
  if isOut t 6 = true then (1, 0, st) else (0, (s_intr st (iN t)).1 4 (iN t), s_intr st (iN t))
def s_over (st : St) (t : Nat) : Bool := decide (¬ st.1 1 t = 0 ∧ (FP.dcmp (st.2.1 7 t) FP.dconst0 = some .gt ∨ FP.dcmp (st.2.1 7 t) FP.dconst0 = some .eq) ∧ (FP.dcmp (st.2.1 7 t) (st.2.1 11 0) = some .lt ∨ FP.dcmp (st.2.1 7 t) (st.2.1 11 0) = some .eq))
/-- the thread whose time ends first, of those below n -/
def s_latest (st : St) : Nat → Option Nat
  | 0 => none
  | n + 1 => if s_over st n = true then (match s_latest st n with
      | none => some n
      | some b => if FP.dcmp (st.2.1 7 n) (st.2.1 7 b) = some .lt then some n else some b) else s_latest st n
def s_tickN : Nat → St → Nat → Nat × St
  | 0, st, k => (k, st)
  | n + 1, st, k => match s_latest st 6 with
    | none => (k, st)
    | some t => s_tickN n (s_giveUp st t (s_wf st t) 2) (k + 1)
def s_tick (st : St) (v : UInt64) : Int32 × Int32 × St :=
  if inR FP.dconst0 cK v = false then (1, 0, st)
  else (0, nI (s_tickN 6 (sD st 11 0 (FP.dadd (st.2.1 11 0) v)) 0).1, (s_tickN 6 (sD st 11 0 (FP.dadd (st.2.1 11 0) v)) 0).2)
def s_policy (st : St) (v : Int32) : Int32 × Int32 × St := if isOut v 3 = true then (1, 0, st) else (0, st.1 25 0, sI st 24 0 v)
def s_thr (st : St) (t : Nat) (w : Int32) : Int32 :=
  if w = 0 then (if ¬ st.1 1 t = 0 then 1 else 0) else if w = 1 then st.1 4 t else if w = 2 then (if ¬ st.1 2 t = 0 then 1 else 0)
  else (if st.1 13 (iN w - 3) = nI t then st.1 14 (iN w - 3) else 0) + st.1 17 (6 * (iN w - 3) + t)
def s_thread (st : St) (t w : Int32) : Int32 × Int32 × St := if isOut t 6 = true ∨ isOut w 11 = true then (1, 0, st) else (0, s_thr st (iN t) w, st)
def s_syn (st : St) (s : Nat) (w : Int32) : Int32 :=
  if w = 0 then st.1 12 s else if w = 1 then nI (st.2.2 s).length else if w = 8 then st.1 15 s
  else (match (st.2.2 s)[iN w - 2]? with | some t => nI t | none => -1)
def s_sync (st : St) (s w : Int32) : Int32 × Int32 × St :=
  if isOut s 8 = true ∨ isOut w 9 = true then (1, 0, st) else if st.1 12 (iN s) < 0 then (2, 0, st) else (0, s_syn st (iN s) w, st)
def s_waited (st : St) (s : Int32) : Int32 × UInt64 :=
  if isOut s 8 = true then (1, FP.i2d 0) else if st.1 12 (iN s) < 0 then (2, FP.i2d 0) else if st.1 21 (iN s) = 0 then (3, FP.i2d 0)
  else (0, FP.ddiv (st.2.1 20 (iN s)) (FP.i2d (st.1 21 (iN s))))
/-! comparisons of doubles -/
theorem cv_l_gt0 (o : Option Ordering) : 0 < Op.cmpValue o .l ↔ o = some .gt := by
  rcases o with _ | o
  · decide
  · cases o <;> decide
theorem cv_l_lt0 (o : Option Ordering) : Op.cmpValue o .l < 0 ↔ ¬ (o = some .gt ∨ o = some .eq) := by
  rcases o with _ | o
  · decide
  · cases o <;> decide
theorem cv_g_gt0 (o : Option Ordering) : 0 < Op.cmpValue o .g ↔ ¬ (o = some .lt ∨ o = some .eq) := by
  rcases o with _ | o
  · decide
  · cases o <;> decide
theorem cv_g_lt0 (o : Option Ordering) : Op.cmpValue o .g < 0 ↔ o = some .lt := by
  rcases o with _ | o
  · decide
  · cases o <;> decide
theorem cv_l_eq0 (o : Option Ordering) : Op.cmpValue o .l = 0 ↔ o = some .eq := by
  rcases o with _ | o
  · decide
  · cases o <;> decide
