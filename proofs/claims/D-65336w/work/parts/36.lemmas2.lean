/-! more pure facts: rows and doubles through enter and queue -/
theorem s_q0_I {st : St} {t c k : Nat} {why : Int32} (h5 : k ≠ 5) (h21 : k ≠ 21) : (s_queue0 st t c why).1 k = st.1 k := by
  unfold s_queue0
  split
  · split
    · show va_up (va_up st.1 21 _) 5 _ k = _
      simp [va_up, h5, h21]
    · show va_up st.1 5 _ k = _
      simp [va_up, h5]
  · rfl
theorem s_enter_wf {st : St} {t s : Nat} (h : RWf st) (ht : t < 6) (hl : (st.2.2 s).length < 6) : RWf (s_enter st t s) := by
  intro s' hs'
  show (va_up st.2.2 s (st.2.2 s ++ [t]) s').length ≤ 6 ∧ ∀ u, u ∈ va_up st.2.2 s (st.2.2 s ++ [t]) s' → u < 6
  by_cases e : s' = s
  · subst e
    simp only [va_up, if_true]
    refine ⟨by simp; omega, fun u hu => ?_⟩
    rcases List.mem_append.mp hu with hu | hu
    · exact (h s' hs').2 u hu
    · rw [List.mem_singleton.mp hu]; exact ht
  · simp only [va_up, if_neg e]
    exact h s' hs'
theorem s_enter_db {st : St} {t s : Nat} (h : DBd st) (ht : t < 6) : DBd (s_enter st t s) := by
  refine ⟨h.1, fun t' ht' => ?_, h.2.2⟩
  show fb 1200 (vf_upd (st.2.1 8) t (st.2.1 11 0) t')
  by_cases e : t' = t
  · subst e; simp only [vf_upd, if_true]; exact h.1
  · simp only [vf_upd, if_neg e]; exact h.2.1 t' ht'
theorem nar01 {v : Int32} (h : v = 0 ∨ v = 1) : vp_nar .boolean v = v := by rcases h with rfl | rfl <;> decide
def oI (o : Option Nat) : Int32 := match o with
  | none => -1
  | some b => nI b
