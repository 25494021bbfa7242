/-! acquire: what its parts say -/
section ACQ
variable {cs : Nat → ClassId} {ad : Nat → Nat} {st st1 : St} {L : List Nat} {f : Nat → va_E} {n t s w : Nat} {mm : Int32} {lim : UInt64}
theorem hLive_eq {r : Nat} (h1 : st1.1 1 = st.1 1) (h12 : st1.1 12 = st.1 12) : hLive st1 r ↔ hLive st r := by unfold hLive; rw [h1, h12]
theorem aq_mq (hm : mm = 0 ∨ mm = 1) : s_mustQueue st t s (bI (decide (st.1 12 s = 5 ∧ mm = 1))) = s_mustQueue st t s mm := by
  by_cases h5 : st.1 12 s = 5
  · have e : bI (decide (st.1 12 s = 5 ∧ mm = 1)) = mm := by rcases hm with q | q <;> simp [h5, q, bI]
    rw [e]
  · unfold s_mustQueue
    simp [h5]
theorem aq_ct (hk : hK4 st s) (hm : mm = 0 ∨ mm = 1) : s_canTake st t s (bI (decide (st.1 12 s = 5 ∧ mm = 1))) = s_canTake st t s mm := by
  by_cases h5 : st.1 12 s = 5
  · have e : bI (decide (st.1 12 s = 5 ∧ mm = 1)) = mm := by rcases hm with q | q <;> simp [h5, q, bI]
    rw [e]
  · unfold s_canTake
    rcases hk with (q | q) | (q | q) | q | q
    · simp [q]
    · simp [q]
    · simp [q]
    · simp [q]
    · simp [q]
    · exact absurd q h5
theorem aq_tk (hm : mm = 0 ∨ mm = 1) : s_take st t s (bI (decide (st.1 12 s = 5 ∧ mm = 1))) = s_take st t s mm := by
  by_cases h5 : st.1 12 s = 5
  · have e : bI (decide (st.1 12 s = 5 ∧ mm = 1)) = mm := by rcases hm with q | q <;> simp [h5, q, bI]
    rw [e]
  · unfold s_take
    simp [h5]
theorem aq_d : wDiff st (s_wait st t s mm lim) t s := (((wq.rf.I (by omega)).D (by omega)).I (by omega)).ent
theorem aq_wait (ho : Ok n st) (hs : s < 8) (hb : st.1 1 t = 0) (hk : hK4 st s) : hWait (s_wait st t s mm lim) (va_up ad (34 + t) w) t = .inr (2, [.ref (ad (12 + t)), .ref (ad (18 + s)), .int (bI (decide (st.1 12 s = 5 ∧ mm = 1))), .double (s_end st lim), .double (st.2.1 11 0), .int 0, .int 1, .null]) := by
  have hwf : s_wf (s_wait st t s mm lim) t = s := aq_d.wf_t hs
  have hnx := (aq_d (st := st) (t := t) (s := s) (mm := mm) (lim := lim)).nx_t (ad := ad) (w := w) ho hs hb
  have h9 : (s_wait st t s mm lim).1 9 t = 0 := by show upd _ t 0 t = _; exact pk_us
  have h6 : (s_wait st t s mm lim).1 6 t = mm := by show upd _ t mm t = _; exact pk_us
  have h7 : (s_wait st t s mm lim).2.1 7 t = s_end st lim := by show vf_upd _ t _ t = _; exact vf_us
  have h8 : (s_wait st t s mm lim).2.1 8 t = st.2.1 11 0 := by show vf_upd _ t _ t = _; exact vf_us
  have h12 : (s_wait st t s mm lim).1 12 s = st.1 12 s := rfl
  have hn6 : ¬ st.1 12 s = 6 := by rcases hk with (q | q) | (q | q) | q | q <;> rw [q] <;> decide
  unfold hWait hWr hWb hWo
  rw [hwf, h12, h6, h9, if_neg hn6, if_neg (by decide), h7, h8, hnx, adw (by omega), adw (by omega)]
  rfl
theorem aq6 (hc : s_check st t s = 0) (h6 : st.1 12 s = 6) : s_acq st t s mm lim = (4, 0, st) := by unfold s_acq; rw [if_neg (fun z => z hc), if_pos h6]
theorem aq_fl (hc : s_check st t s = 0) (h6 : ¬ st.1 12 s = 6) (hf : ¬ st.1 2 t = 0) : s_acq st t s mm lim = (0, 3, sI (sI st 2 t 0) 4 t 3) := by unfold s_acq; rw [if_neg (fun z => z hc), if_neg h6, if_pos hf]
theorem aq_od (hc : s_check st t s = 0) (h6 : ¬ st.1 12 s = 6) (hf : st.1 2 t = 0) (ho : (s_ordered st t s).1 = false) : s_acq st t s mm lim = (4, 0, (s_ordered st t s).2) := by unfold s_acq; rw [if_neg (fun z => z hc), if_neg h6, if_neg (fun z => z hf), if_pos ho]
/-- behind watch -/
def s_acq2 (st : St) (t s : Nat) (m : Int32) (lim : UInt64) : Int32 × Int32 × St :=
  if st.1 12 s = 5 ∧ m = 1 ∧ 0 < st.1 17 (6 * s + t) ∧ ¬ st.1 13 s = nI t then (4, 0, st)
  else if s_mustQueue st t s m = false ∧ s_canTake st t s m = true then (0, 1, sI (s_take st t s m) 4 t 1)
  else if FP.dcmp lim FP.dconst0 = some .eq then (0, 2, sI st 4 t 2)
  else (0, 0, sI (s_wait st t s m lim) 4 t 0)
theorem aq_2 (hc : s_check st t s = 0) (h6 : ¬ st.1 12 s = 6) (hf : st.1 2 t = 0) (ho : (s_ordered st t s).1 = true) : s_acq st t s mm lim = s_acq2 (s_ordered st t s).2 t s mm lim := by unfold s_acq s_acq2; rw [if_neg (fun z => z hc), if_neg h6, if_neg (fun z => z hf), if_neg (by rw [ho]; decide)]
end ACQ
