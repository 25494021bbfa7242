/-! Condition.queue: the states between -/
section QUE
variable {cs : Nat → ClassId} {ad : Nat → Nat} {st : St} {L : List Nat} {f : Nat → va_E} {n t s c w : Nat} {why : Int32} {X Y : St}
/-- X is Y but for what t's waiting changes -/
def wq (Y X : St) (t : Nat) : Prop := (∀ k, k ≠ 1 → k ≠ 5 → k ≠ 6 → k ≠ 9 → k ≠ 10 → X.1 k = Y.1 k) ∧ (∀ k i, i ≠ t → X.1 k i = Y.1 k i) ∧ (∀ k, k ≠ 7 → k ≠ 8 → X.2.1 k = Y.2.1 k) ∧ (∀ k i, i ≠ t → X.2.1 k i = Y.2.1 k i) ∧ X.2.2 = Y.2.2
theorem wq.rf : wq Y Y t := ⟨fun _ _ _ _ _ _ => rfl, fun _ _ _ => rfl, fun _ _ _ => rfl, fun _ _ _ => rfl, rfl⟩
theorem sI_o {k j i : Nat} {v : Int32} (h : k ≠ j) : (sI X j i v).1 k = X.1 k := by show va_up X.1 j _ k = _; simp [va_up, h]
theorem sI_i {k j i i' : Nat} {v : Int32} (h : i' ≠ i) : (sI X j i v).1 k i' = X.1 k i' := by
  show va_up X.1 j (upd (X.1 j) i v) k i' = _
  unfold va_up
  split
  · rename_i e; subst e; exact pk_un h
  · rfl
theorem wq.I {k : Nat} {v : Int32} (h : wq Y X t) (hk : k = 1 ∨ k = 5 ∨ k = 6 ∨ k = 9 ∨ k = 10) : wq Y (sI X k t v) t :=
  ⟨fun j h1 h2 h3 h4 h5 => by rw [sI_o (by omega)]; exact h.1 j h1 h2 h3 h4 h5, fun j i hi => by rw [sI_i hi]; exact h.2.1 j i hi, h.2.2.1, h.2.2.2.1, h.2.2.2.2⟩
theorem wq.Il {k : Nat} {v : Int32} (h : wq Y X t) (hk : k = 1 ∨ k = 5 ∨ k = 6 ∨ k = 9 ∨ k = 10) : wq (sI Y k t v) X t :=
  ⟨fun j h1 h2 h3 h4 h5 => by rw [sI_o (by omega)]; exact h.1 j h1 h2 h3 h4 h5, fun j i hi => by rw [sI_i hi]; exact h.2.1 j i hi, h.2.2.1, h.2.2.2.1, h.2.2.2.2⟩
theorem wq.D {k : Nat} {v : UInt64} (h : wq Y X t) (hk : k = 7 ∨ k = 8) : wq Y (sD X k t v) t := by
  refine ⟨h.1, h.2.1, fun j h1 h2 => ?_, fun j i hi => ?_, h.2.2.2.2⟩
  · show va_up X.2.1 k _ j = _
    simp only [va_up, if_neg (show j ≠ k by omega)]
    exact h.2.2.1 j h1 h2
  · rw [← h.2.2.2.1 j i hi]
    show va_up X.2.1 k (vf_upd (X.2.1 k) t v) j i = _
    unfold va_up
    split
    · rename_i e; subst e; simp [vf_upd, hi]
    · rfl
theorem wq.ent (h : wq Y X t) : wDiff Y (s_enter X t s) t s := by
  have h2 : wq Y (sI (sD (sI X 5 t (nI s)) 8 t (X.2.1 11 0)) 1 t 1) t := ((h.I (by omega)).D (by omega)).I (by omega)
  refine ⟨h2.1, h2.2.1, h2.2.2.1, h2.2.2.2.1, ?_, pk_us, ?_⟩
  · show va_up X.2.2 s (X.2.2 s ++ [t]) = _
    rw [h.2.2.2.2]
  · show upd (X.1 5) t (nI s) t = _
    exact pk_us
/-- behind remove and note -/
def hQ1 (st : St) (t c : Nat) (why : Int32) : St := if why = 1 then hNote (sI (s_remove st t c) 1 t 0) c (FP.dsub (st.2.1 11 0) (st.2.1 8 t)) else sI (s_remove st t c) 1 t 0
theorem q0_note {S : St} {v : UInt64} : s_remove (hNote S c v) t c = hNote (s_remove S t c) c v := by
  unfold s_remove
  rw [note_I (by decide)]
  rfl
theorem hQ1_wq (h5 : st.1 5 t = nI c) : wq (hQ1 st t c why) (s_queue0 st t c why) t := by
  unfold hQ1 s_queue0
  rw [if_pos h5]
  split
  · rw [note_I (by decide), show s_remove (s_addW st t c) t c = hNote (s_remove st t c) c (FP.dsub (st.2.1 11 0) (st.2.1 8 t)) from q0_note]
    exact wq.rf.Il (by omega)
  · exact wq.rf.Il (by omega)
theorem hQ1_d (h5 : st.1 5 t = nI c) : wDiff (hQ1 st t c why) (s_qpre st t c why) t (s_lk st c) :=
  ((((hQ1_wq h5).I (by omega)).D (by omega)).I (by omega)).ent
theorem hQ1_b : (hQ1 st t c why).1 1 t = 0 := by
  unfold hQ1
  split
  · rw [note_I (by decide)]; exact pk_us
  · exact pk_us
theorem hNote_o {S : St} {v : UInt64} {k : Nat} (h : k ≠ 21) : (hNote S c v).1 k = S.1 k := sI_o h
theorem hQ1_I {k : Nat} (h1 : k ≠ 1) (h2 : k ≠ 5) (h3 : k ≠ 21) : (hQ1 st t c why).1 k = st.1 k := by
  unfold hQ1
  split
  · rw [hNote_o h3, sI_o h1]; unfold s_remove; exact sI_o h2
  · rw [sI_o h1]; unfold s_remove; exact sI_o h2
theorem Ok.q1 (ho : Ok n st) (hc : c < 8) (hm : t ∈ st.2.2 c) : Ok n (hQ1 st t c why) := by
  have h1 := (ho.rmB hc hm).1
  unfold hQ1
  split
  · have := h1.addW (t := t) (s := c) (ho.row hc hm).1 hc (ho.made hc hm)
    exact this
  · exact h1
theorem que_wait (ho : Ok n st) (hc : c < 8) (hm : t ∈ st.2.2 c) (hk : st.1 12 c = 6) (hn : n ≤ 100) : hWait (s_qpre st t c why) (va_up ad (34 + t) w) t = .inr (2, [.ref (ad (12 + t)), .ref (ad (18 + s_lk st c)), .int (bI false), .double cM1, .double (st.2.1 11 0), .int (st.1 9 t), .int why, .null]) := by
  have h5 := (ho.row hc hm).2.1
  have hd := hQ1_d (why := why) h5
  have hlk := (ho.lkc hc hk).2
  have hlkk := ((ho.1 c hc).1.2.2.2.1 hk).2.2
  have hb := hQ1_b (st := st) (t := t) (c := c) (why := why)
  have hwf : s_wf (s_qpre st t c why) t = s_lk st c := hd.wf_t hlk
  have hnx := hd.nx_t (ad := ad) (w := w) (ho.q1 (why := why) hc hm) hlk hb
  have h12 : (s_qpre st t c why).1 12 = st.1 12 := by
    rw [hd.1 12 (by decide) (by decide) (by decide) (by decide) (by decide)]
    exact hQ1_I (by decide) (by decide) (by decide)
  have h10 : (s_qpre st t c why).1 10 t = why := by
    show upd ((s_queue0 st t c why).1 10) t why t = _
    exact pk_us
  have h9 : (s_qpre st t c why).1 9 t = st.1 9 t := by
    show (s_queue0 st t c why).1 9 t = _
    unfold s_queue0
    rw [if_pos h5]
    split <;> rfl
  have h7 : (s_qpre st t c why).2.1 7 t = cM1 := by
    show vf_upd _ t cM1 t = _
    exact vf_us
  have h11 : (s_queue0 st t c why).2.1 11 = st.2.1 11 := by
    unfold s_queue0
    rw [if_pos h5]
    split <;> rfl
  have h8 : (s_qpre st t c why).2.1 8 t = st.2.1 11 0 := by
    show vf_upd _ t ((s_queue0 st t c why).2.1 11 0) t = _
    rw [h11]
    exact vf_us
  have hwr : hWr (s_qpre st t c why) t = bI false := by
    unfold hWr hWb
    rw [hwf, h12]
    rcases hlkk with q | q <;> simp [q]
  have hpos : 0 < st.1 9 t := by
    obtain ⟨d, hd1, hd2, hd3, -⟩ := (ho.row hc hm).2.2.2.1
    rw [hd2]
    rw [nI_gt0 (by omega)]
    exact hd3 hk
  have hwo : hWo (s_qpre st t c why) t = why := by
    unfold hWo
    rw [hwf, h12, h9, h10, if_neg (by rcases hlkk with q | q <;> rw [q] <;> decide), if_pos hpos]
  unfold hWait
  rw [hwf, hwr, hwo, h7, h8, h9, hnx, adw (by omega), adw (by omega)]
  rfl
theorem hQ1_live {r : Nat} (hr : hLive (hQ1 st t c why) r) : hLive st r := by
  unfold hQ1 at hr
  split at hr
  · exact (rv_live (st := st) (t := t) (s := c) hr).1
  · exact (rv_live hr).1
theorem qpre_I {k : Nat} (h5 : st.1 5 t = nI c) (h : k ≠ 1 ∧ k ≠ 5 ∧ k ≠ 6 ∧ k ≠ 9 ∧ k ≠ 10 ∧ k ≠ 21) : (s_qpre st t c why).1 k = st.1 k := by
  rw [(hQ1_d h5).1 k h.1 h.2.1 h.2.2.1 h.2.2.2.1 h.2.2.2.2.1]
  exact hQ1_I h.1 h.2.1 h.2.2.2.2.2
theorem qpre_now (h5 : st.1 5 t = nI c) : (s_qpre st t c why).2.1 11 0 = st.2.1 11 0 := by
  show (s_queue0 st t c why).2.1 11 0 = _
  unfold s_queue0
  rw [if_pos h5]
  split <;> rfl
end QUE
