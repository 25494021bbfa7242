/-! instanceof, checkcast over a sync; by gen_h10.py -/
def hSyR (st : St) (ad : Nat → Nat) (s : Nat) : Option Nat := (hSy st s).map (fun s => ad (18 + s))
section INS
variable {p : Program} {l : Launch} {e : Env} {R : Room} {u : State} {m : MethodId} {args : Array Value} {below : List Frame} {meth : Method} {c : Code} {H : Heap} {locs : List Loc} {cells slots : Nat} {Q : State → Prop}
variable {cc : ByteArray} {nL pc : Nat} {ls : Array Slot} {rest : List Value} {D : va_G} {cs : Nat → ClassId} {A : Nat → Prop} {L : List Nat} {f : Nat → va_E} {own : String} {ad : Nat → Nat} {st : St} {n : Nat}
theorem hSyR_some {s : Nat} (h : ¬ st.1 12 s = -1) : hSyR st ad s = some (ad (18 + s)) := by unfold hSyR hSy; rw [if_neg h]; rfl
theorem hSyR_none {s : Nat} : hSyR st ad s = none ↔ st.1 12 s = -1 := by
  unfold hSyR hSy
  split <;> simp_all

theorem hs_isLock {s idx : Nat} (S : CallFix p m c cc nL u args lw_all own) (P : PW D cs A u L f H locs) (hF : HF cs ad st L f) (hs : s < 8) (hk : hKd st s) (hq : Cond.classLink own idx "SyncHall$Lock" ∈ lw_all) (hdg : decode cc pc = .ok (.instanceof idx, 3))
    (kk : W p l e R u m args below meth c H locs cells slots Q (F0 m (pc + 3) ls (.int (bI (s_isLock st s)) :: rest))) : W p l e R u m args below meth c H locs cells slots Q (F0 m pc ls (.ref (ad (18 + s)) :: rest)) := by
  rcases hk with hk | hk | hk | hk | hk
  · refine va_instS S.1 S.2.1 S.2.2.2.1 (S.2.2.2.2 _ hq) (P.2.2.2.2.2.2.1 3 _ rfl).2 (P.recv (hF.lk hs hk).1 (hF.lk hs hk).2 rfl) hdg ?_
    rw [show bI (s_isLock st s) = 1 from by rcases hk with z | z <;> simp [s_isLock, z, bI]] at kk
    exact kk
  · refine va_instNo S.1 S.2.1 S.2.2.2.1 (S.2.2.2.2 _ hq) (P.2.2.2.2.1.nc (C := "SyncHall$Semaphore") (D := "SyncHall$Lock") (by decide +kernel)) (P.recv (hF.sm hs hk).1 (hF.sm hs hk).2 rfl) hdg ?_
    rw [show bI (s_isLock st s) = 0 from by rcases hk with z | z <;> simp [s_isLock, z, bI]] at kk
    exact kk
  · refine va_instNo S.1 S.2.1 S.2.2.2.1 (S.2.2.2.2 _ hq) (P.2.2.2.2.1.nc (C := "SyncHall$Latch") (D := "SyncHall$Lock") (by decide +kernel)) (P.recv (hF.la hs hk).1 (hF.la hs hk).2 rfl) hdg ?_
    rw [show bI (s_isLock st s) = 0 from by simp [s_isLock, hk, bI]] at kk
    exact kk
  · refine va_instNo S.1 S.2.1 S.2.2.2.1 (S.2.2.2.2 _ hq) (P.2.2.2.2.1.nc (C := "SyncHall$Shared") (D := "SyncHall$Lock") (by decide +kernel)) (P.recv (hF.sh hs hk).1 (hF.sh hs hk).2 rfl) hdg ?_
    rw [show bI (s_isLock st s) = 0 from by simp [s_isLock, hk, bI]] at kk
    exact kk
  · refine va_instNo S.1 S.2.1 S.2.2.2.1 (S.2.2.2.2 _ hq) (P.2.2.2.2.1.nc (C := "SyncHall$Condition") (D := "SyncHall$Lock") (by decide +kernel)) (P.recv (hF.cd hs hk).1 (hF.cd hs hk).2 rfl) hdg ?_
    rw [show bI (s_isLock st s) = 0 from by simp [s_isLock, hk, bI]] at kk
    exact kk

theorem hx_isLock {s idx : Nat} (S : CallFix p m c cc nL u args lw_all own) (P : PW D cs A u L f H locs) (ho : Ok n st) (hF : HF cs ad st L f) (hs : s < 8) (hq : Cond.classLink own idx "SyncHall$Lock" ∈ lw_all) (hdg : decode cc pc = .ok (.instanceof idx, 3))
    (kk : W p l e R u m args below meth c H locs cells slots Q (F0 m (pc + 3) ls (.int (bI (s_isLock st s)) :: rest))) : W p l e R u m args below meth c H locs cells slots Q (F0 m pc ls (va_rf (hSyR st ad s) :: rest)) := by
  by_cases hk : st.1 12 s = -1
  · rw [hSyR_none.mpr hk]
    rw [show bI (s_isLock st s) = 0 from by simp [s_isLock, hk, bI]] at kk
    exact lv_instN S.1 S.2.1 hdg kk
  · rw [hSyR_some hk]
    exact hs_isLock S P hF hs (ho.kd hs hk) hq hdg kk

theorem hs_cast_lk {s idx : Nat} (S : CallFix p m c cc nL u args lw_all own) (P : PW D cs A u L f H locs) (hF : HF cs ad st L f) (hs : s < 8) (hk : st.1 12 s = 0 ∨ st.1 12 s = 1) (hq : Cond.classLink own idx "SyncHall$Lock" ∈ lw_all) (hdg : decode cc pc = .ok (.checkcast idx, 3))
    (kk : W p l e R u m args below meth c H locs cells slots Q (F0 m (pc + 3) ls (.ref (ad (18 + s)) :: rest))) : W p l e R u m args below meth c H locs cells slots Q (F0 m pc ls (.ref (ad (18 + s)) :: rest)) :=
  va_castS S.1 S.2.1 S.2.2.2.1 (S.2.2.2.2 _ hq) (P.2.2.2.2.2.2.1 3 _ rfl).2 (P.recv (hF.lk hs hk).1 (hF.lk hs hk).2 rfl) hdg kk

theorem hs_isCond {s idx : Nat} (S : CallFix p m c cc nL u args lw_all own) (P : PW D cs A u L f H locs) (hF : HF cs ad st L f) (hs : s < 8) (hk : hKd st s) (hq : Cond.classLink own idx "SyncHall$Condition" ∈ lw_all) (hdg : decode cc pc = .ok (.instanceof idx, 3))
    (kk : W p l e R u m args below meth c H locs cells slots Q (F0 m (pc + 3) ls (.int (bI (decide (st.1 12 s = 6))) :: rest))) : W p l e R u m args below meth c H locs cells slots Q (F0 m pc ls (.ref (ad (18 + s)) :: rest)) := by
  rcases hk with hk | hk | hk | hk | hk
  · refine va_instNo S.1 S.2.1 S.2.2.2.1 (S.2.2.2.2 _ hq) (P.2.2.2.2.1.nc (C := "SyncHall$Lock") (D := "SyncHall$Condition") (by decide +kernel)) (P.recv (hF.lk hs hk).1 (hF.lk hs hk).2 rfl) hdg ?_
    rw [show bI (decide (st.1 12 s = 6)) = 0 from by rcases hk with z | z <;> simp [s_isLock, z, bI]] at kk
    exact kk
  · refine va_instNo S.1 S.2.1 S.2.2.2.1 (S.2.2.2.2 _ hq) (P.2.2.2.2.1.nc (C := "SyncHall$Semaphore") (D := "SyncHall$Condition") (by decide +kernel)) (P.recv (hF.sm hs hk).1 (hF.sm hs hk).2 rfl) hdg ?_
    rw [show bI (decide (st.1 12 s = 6)) = 0 from by rcases hk with z | z <;> simp [s_isLock, z, bI]] at kk
    exact kk
  · refine va_instNo S.1 S.2.1 S.2.2.2.1 (S.2.2.2.2 _ hq) (P.2.2.2.2.1.nc (C := "SyncHall$Latch") (D := "SyncHall$Condition") (by decide +kernel)) (P.recv (hF.la hs hk).1 (hF.la hs hk).2 rfl) hdg ?_
    rw [show bI (decide (st.1 12 s = 6)) = 0 from by simp [s_isLock, hk, bI]] at kk
    exact kk
  · refine va_instNo S.1 S.2.1 S.2.2.2.1 (S.2.2.2.2 _ hq) (P.2.2.2.2.1.nc (C := "SyncHall$Shared") (D := "SyncHall$Condition") (by decide +kernel)) (P.recv (hF.sh hs hk).1 (hF.sh hs hk).2 rfl) hdg ?_
    rw [show bI (decide (st.1 12 s = 6)) = 0 from by simp [s_isLock, hk, bI]] at kk
    exact kk
  · refine va_instS S.1 S.2.1 S.2.2.2.1 (S.2.2.2.2 _ hq) (P.2.2.2.2.2.2.1 7 _ rfl).2 (P.recv (hF.cd hs hk).1 (hF.cd hs hk).2 rfl) hdg ?_
    rw [show bI (decide (st.1 12 s = 6)) = 1 from by simp [s_isLock, hk, bI]] at kk
    exact kk

theorem hs_cast_cd {s idx : Nat} (S : CallFix p m c cc nL u args lw_all own) (P : PW D cs A u L f H locs) (hF : HF cs ad st L f) (hs : s < 8) (hk : st.1 12 s = 6) (hq : Cond.classLink own idx "SyncHall$Condition" ∈ lw_all) (hdg : decode cc pc = .ok (.checkcast idx, 3))
    (kk : W p l e R u m args below meth c H locs cells slots Q (F0 m (pc + 3) ls (.ref (ad (18 + s)) :: rest))) : W p l e R u m args below meth c H locs cells slots Q (F0 m pc ls (.ref (ad (18 + s)) :: rest)) :=
  va_castS S.1 S.2.1 S.2.2.2.1 (S.2.2.2.2 _ hq) (P.2.2.2.2.2.2.1 7 _ rfl).2 (P.recv (hF.cd hs hk).1 (hF.cd hs hk).2 rfl) hdg kk

theorem hs_isShared {s idx : Nat} (S : CallFix p m c cc nL u args lw_all own) (P : PW D cs A u L f H locs) (hF : HF cs ad st L f) (hs : s < 8) (hk : hKd st s) (hq : Cond.classLink own idx "SyncHall$Shared" ∈ lw_all) (hdg : decode cc pc = .ok (.instanceof idx, 3))
    (kk : W p l e R u m args below meth c H locs cells slots Q (F0 m (pc + 3) ls (.int (bI (decide (st.1 12 s = 5))) :: rest))) : W p l e R u m args below meth c H locs cells slots Q (F0 m pc ls (.ref (ad (18 + s)) :: rest)) := by
  rcases hk with hk | hk | hk | hk | hk
  · refine va_instNo S.1 S.2.1 S.2.2.2.1 (S.2.2.2.2 _ hq) (P.2.2.2.2.1.nc (C := "SyncHall$Lock") (D := "SyncHall$Shared") (by decide +kernel)) (P.recv (hF.lk hs hk).1 (hF.lk hs hk).2 rfl) hdg ?_
    rw [show bI (decide (st.1 12 s = 5)) = 0 from by rcases hk with z | z <;> simp [s_isLock, z, bI]] at kk
    exact kk
  · refine va_instNo S.1 S.2.1 S.2.2.2.1 (S.2.2.2.2 _ hq) (P.2.2.2.2.1.nc (C := "SyncHall$Semaphore") (D := "SyncHall$Shared") (by decide +kernel)) (P.recv (hF.sm hs hk).1 (hF.sm hs hk).2 rfl) hdg ?_
    rw [show bI (decide (st.1 12 s = 5)) = 0 from by rcases hk with z | z <;> simp [s_isLock, z, bI]] at kk
    exact kk
  · refine va_instNo S.1 S.2.1 S.2.2.2.1 (S.2.2.2.2 _ hq) (P.2.2.2.2.1.nc (C := "SyncHall$Latch") (D := "SyncHall$Shared") (by decide +kernel)) (P.recv (hF.la hs hk).1 (hF.la hs hk).2 rfl) hdg ?_
    rw [show bI (decide (st.1 12 s = 5)) = 0 from by simp [s_isLock, hk, bI]] at kk
    exact kk
  · refine va_instS S.1 S.2.1 S.2.2.2.1 (S.2.2.2.2 _ hq) (P.2.2.2.2.2.2.1 6 _ rfl).2 (P.recv (hF.sh hs hk).1 (hF.sh hs hk).2 rfl) hdg ?_
    rw [show bI (decide (st.1 12 s = 5)) = 1 from by simp [s_isLock, hk, bI]] at kk
    exact kk
  · refine va_instNo S.1 S.2.1 S.2.2.2.1 (S.2.2.2.2 _ hq) (P.2.2.2.2.1.nc (C := "SyncHall$Condition") (D := "SyncHall$Shared") (by decide +kernel)) (P.recv (hF.cd hs hk).1 (hF.cd hs hk).2 rfl) hdg ?_
    rw [show bI (decide (st.1 12 s = 5)) = 0 from by simp [s_isLock, hk, bI]] at kk
    exact kk

end INS
