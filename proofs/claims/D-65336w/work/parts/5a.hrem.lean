/-! Sync.remove: what the cells hold behind it -/
section HRE
variable {cs : Nat → ClassId} {ad : Nat → Nat} {st : St} {L : List Nat} {f : Nat → va_E} {n t s : Nat}
theorem hAt_is (hF : HF cs ad st L f) (ho : Ok n st) (hs : s < 8) (hm : t ∈ st.2.2 s) {i : Nat} : hAt st ad s i = some (ad (34 + t)) ↔ (st.2.2 s)[i]? = some t := by
  unfold hAt
  constructor
  · intro h
    cases hq : (st.2.2 s)[i]? with
    | none => rw [hq] at h; cases h
    | some v =>
      rw [hq] at h
      have hv := ho.row hs (List.mem_of_getElem? hq)
      have ht := ho.row hs hm
      have := hF.winj hv.1 ht.1 (by rw [hv.2.2.1]; decide) (by rw [ht.2.2.1]; decide) (Option.some.inj h)
      rw [this]
  · intro h
    rw [h]; rfl
theorem wf_of (ho : Ok n st) (hs : s < 8) (hm : t ∈ st.2.2 s) : s_wf st t = s := by
  unfold s_wf
  rw [(ho.row hs hm).2.1]
  exact iN_nI hs (by decide)
theorem rv_first (ho : Ok n st) (hs : s < 8) (hm : t ∈ st.2.2 s) (hh : (st.2.2 s).head? = some t) : hSync (sI (s_remove st t s) 1 t 0) ad s = hSyncV st ad s (va_rf (hNx st ad t)) := by
  have hfi : hFi (sI (s_remove st t s) 1 t 0) ad s = hNx st ad t := by
    unfold hFi hAt hNx
    rw [rm_R, if_pos rfl, ← List.head?_eq_getElem?, head_erase, if_pos hh, wf_of ho hs hm]
  unfold hSync
  rw [hfi]
  rfl
theorem rv_pred (ho : Ok n st) (hs : s < 8) (hm : t ∈ st.2.2 s) {v : Nat} (hv : v ∈ st.2.2 s) (hvt : v ≠ t) (hn : nxt (st.2.2 s) v = some t) : hWait (sI (s_remove st t s) 1 t 0) ad v = .inr (2, [.ref (ad (12 + v)), .ref (ad (18 + s_wf st v)), .int (hWr st v), .double (st.2.1 7 v), .double (st.2.1 8 v), .int (st.1 9 v), .int (hWo st v), va_rf (hNx st ad t)]) := by
  have hnx : hNx (sI (s_remove st t s) 1 t 0) ad v = hNx st ad t := by
    unfold hNx
    rw [rm_wf hvt, wf_of ho hs hv, wf_of ho hs hm, rm_R, if_pos rfl, nxt_erase (ho.1 s hs).2.2.1 hvt, if_pos hn]
  unfold hWait hWr hWb hWo
  rw [rm_wf hvt, hnx]
  rfl
theorem rv_task (ht : t < 6) : hTask (sI (s_remove st t s) 1 t 0) ad t = .inr (1, [.int (nI t), .double (st.2.1 3 t), .int (st.1 4 t), .int (st.1 2 t), .null]) := by
  unfold hTask hPl
  rw [show (sI (s_remove st t s) 1 t 0).1 1 t = 0 from pk_us, if_pos rfl]
  rfl
/-- a contract's end: t waits no more; its waiter's cell is as it was -/
def hPostR (cs : Nat → ClassId) (ad : Nat → Nat) (st : St) (L : List Nat) (f : Nat → va_E) (t s : Nat) : pR → List Nat → (Nat → va_E) → Prop := fun r L' f' =>
  r = .inl none ∧ L' = L ∧ HF cs ad (sI (s_remove st t s) 1 t 0) L f' ∧ f' (ad (34 + t)) = f (ad (34 + t)) ∧ ∀ a, ¬ hOwn st ad a → f' a = f a
theorem rv_live {r : Nat} (hr : hLive (sI (s_remove st t s) 1 t 0) r) : hLive st r ∧ r ≠ 34 + t := by
  rcases hr with q | ⟨q1, q2, q3⟩ | ⟨q1, q2, q3⟩ | ⟨q1, q2, q3⟩
  · exact ⟨Or.inl q, by omega⟩
  · exact ⟨Or.inr (Or.inl ⟨q1, q2, q3⟩), by omega⟩
  · exact ⟨Or.inr (Or.inr (Or.inl ⟨q1, q2, q3⟩)), by omega⟩
  · have q3 : ¬ upd (st.1 1) t 0 (r - 34) = 0 := q3
    by_cases e : r - 34 = t
    · rw [e, pk_us] at q3; exact absurd rfl q3
    · rw [pk_un e] at q3
      exact ⟨Or.inr (Or.inr (Or.inr ⟨q1, q2, q3⟩)), by omega⟩
theorem rv_own (hF : HF cs ad st L f) (ht : t < 6) (hb : ¬ st.1 1 t = 0) : ¬ hOwn (sI (s_remove st t s) 1 t 0) ad (ad (34 + t)) := by
  rintro ⟨r, hr, e⟩
  obtain ⟨h1, h2⟩ := rv_live hr
  exact h2 (hF.2 _ _ h1 (hl_wt ht hb) e.symm)
theorem rv_own2 {a : Nat} (h : ¬ hOwn st ad a) : ¬ hOwn (sI (s_remove st t s) 1 t 0) ad a := fun ⟨r, hr, e⟩ => h ⟨r, (rv_live hr).1, e⟩
end HRE
