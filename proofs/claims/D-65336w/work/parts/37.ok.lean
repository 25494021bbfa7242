/-! THE INVARIANT of the state, after at most n calls -/
def Ok1 (st : St) (s : Nat) : Prop := (st.1 12 s = -1 ∨ ∃ k : Nat, k < 7 ∧ st.1 12 s = nI k) ∧ (st.1 13 s = -1 ∨ ∃ t : Nat, t < 6 ∧ st.1 13 s = nI t) ∧ (¬ st.1 12 s = 0 → ¬ st.1 12 s = 1 → ¬ st.1 12 s = 5 → st.1 13 s = -1) ∧ (st.1 12 s = 6 → s_lk st s < 8 ∧ st.1 16 s = nI (s_lk st s) ∧ (st.1 12 (s_lk st s) = 0 ∨ st.1 12 (s_lk st s) = 1)) ∧ (∃ p : Nat, p ≤ 100 ∧ st.1 15 s = nI p ∧ (¬ st.1 12 s = 2 → ¬ st.1 12 s = 3 → ¬ st.1 12 s = 4 → p = 0)) ∧ (st.1 12 s = -1 → st.2.1 20 s = FP.dconst0 ∧ st.1 21 s = 0 ∧ st.2.2 s = [])
def Ok2 (n : Nat) (st : St) (s t : Nat) : Prop := ∃ d : Nat, st.1 17 (6 * s + t) = nI d ∧ d + (if st.1 1 t = 0 then 0 else 1) ≤ n ∧ (¬ st.1 12 s = 5 → d = 0)
def Ok3 (n : Nat) (st : St) (s : Nat) : Prop := (st.1 12 s = -1 ∨ st.1 12 s = 0 ∨ st.1 12 s = 1) → (st.1 13 s = -1 ∧ st.1 14 s = 0) ∨ (¬ st.1 13 s = -1 ∧ ∃ d : Nat, 0 < d ∧ d ≤ n ∧ st.1 14 s = nI d)
def Ok4 (n : Nat) (st : St) (s t : Nat) : Prop := t < 6 ∧ st.1 5 t = nI s ∧ st.1 1 t = 1 ∧ (∃ d : Nat, d ≤ n ∧ st.1 9 t = nI d ∧ (st.1 12 s = 6 → 0 < d) ∧ (¬ st.1 12 s = 0 → ¬ st.1 12 s = 1 → ¬ st.1 12 s = 6 → d = 0)) ∧ (st.1 12 s = 1 → ¬ st.1 13 s = nI t) ∧ (st.1 12 s = 6 → ¬ st.1 13 (s_lk st s) = nI t)
def Ok5 (st : St) (t : Nat) : Prop := ((st.1 1 t = 0 ∧ st.1 5 t = -1) ∨ (st.1 1 t = 1 ∧ ∃ s, s < 8 ∧ t ∈ st.2.2 s)) ∧ (st.1 6 t = 0 ∨ st.1 6 t = 1)
def Ok (n : Nat) (st : St) : Prop := (∀ s, s < 8 → Ok1 st s ∧ Ok3 n st s ∧ (st.2.2 s).Nodup ∧ (∀ t, t < 6 → Ok2 n st s t) ∧ ∀ t, t ∈ st.2.2 s → Ok4 n st s t) ∧ (∀ t, t < 6 → Ok5 st t) ∧ (∀ j, j < 64 → st.1 22 j = 0 ∨ st.1 22 j = 1) ∧ (st.1 24 0 = 0 ∨ st.1 24 0 = 1 ∨ st.1 24 0 = 2) ∧ DBd st
theorem ls_short {l : List Nat} (hn : l.Nodup) (h : ∀ t, t ∈ l → t < 6) : l.length ≤ 6 := by
  have := List.Nodup.length_le_of_subset hn (l₂ := List.range 6) (fun t ht => List.mem_range.mpr (h t ht))
  simpa using this
theorem ls_short' {l : List Nat} {t : Nat} (hn : l.Nodup) (h : ∀ t, t ∈ l → t < 6) (ht : t < 6) (hm : t ∉ l) : l.length < 6 := by
  have := ls_short (l := t :: l) (List.nodup_cons.mpr ⟨hm, hn⟩) (fun u hu => by
    rcases List.mem_cons.mp hu with rfl | hu
    · exact ht
    · exact h u hu)
  simp at this
  omega
section OKS
variable {n : Nat} {st : St}
theorem Ok.wf (h : Ok n st) : RWf st := fun s hs => ⟨ls_short (h.1 s hs).2.2.1 (fun t ht => ((h.1 s hs).2.2.2.2 t ht).1), fun t ht => ((h.1 s hs).2.2.2.2 t ht).1⟩
theorem Ok.db (h : Ok n st) : DBd st := h.2.2.2.2
theorem Ok.bf (h : Ok n st) : ∀ j, j < 64 → st.1 22 j = 0 ∨ st.1 22 j = 1 := h.2.2.1
theorem Ok.row (h : Ok n st) {s t : Nat} (hs : s < 8) (ht : t ∈ st.2.2 s) : Ok4 n st s t := (h.1 s hs).2.2.2.2 t ht
theorem Ok.mono {m : Nat} (h : Ok n st) (hm : n ≤ m) : Ok m st := by
  refine ⟨fun s hs => ?_, h.2⟩
  obtain ⟨h1, h3, hN, h2, h4⟩ := h.1 s hs
  refine ⟨h1, fun hk => ?_, hN, fun t ht => ?_, fun t ht => ?_⟩
  · rcases h3 hk with q | ⟨q, d, q1, q2, q3⟩
    · exact Or.inl q
    · exact Or.inr ⟨q, d, q1, by omega, q3⟩
  · obtain ⟨d, q1, q2, q3⟩ := h2 t ht
    exact ⟨d, q1, by omega, q3⟩
  · obtain ⟨q1, q2, q3, ⟨d, q4, q5⟩, q6⟩ := h4 t ht
    exact ⟨q1, q2, q3, ⟨d, by omega, q5⟩, q6⟩
theorem nIj {a b : Nat} (ha : a < 2 ^ 31) (hb : b < 2 ^ 31) (h : nI a = nI b) : a = b := (nI_eq ha hb).mp h
theorem nI_m1 {a : Nat} (ha : a < 2 ^ 31) : ¬ nI a = -1 := by
  intro h
  have := nI_pos ha
  rw [h] at this
  exact this (by decide)
theorem Ok.out (h : Ok n st) {s t : Nat} (hs : s < 8) (hb : st.1 1 t = 0) : t ∉ st.2.2 s := by
  intro hm
  have := (h.row hs hm).2.2.1
  rw [hb] at this
  exact absurd this (by decide)
theorem Ok.one (h : Ok n st) {s s' t : Nat} (hs : s < 8) (hs' : s' < 8) (h1 : t ∈ st.2.2 s) (h2 : t ∈ st.2.2 s') : s = s' :=
  nIj (by omega) (by omega) ((h.row hs h1).2.1.symm.trans (h.row hs' h2).2.1)
theorem Ok.room (h : Ok n st) {s t : Nat} (hs : s < 8) (ht : t < 6) (hb : st.1 1 t = 0) : (st.2.2 s).length < 6 :=
  ls_short' (h.1 s hs).2.2.1 (fun t ht => (h.row hs ht).1) ht (h.out hs hb)
/-- the fields that the invariant speaks of -/
theorem Ok.congr {st' : St} (h : Ok n st) (h1 : st'.1 1 = st.1 1) (h5 : st'.1 5 = st.1 5) (h6 : st'.1 6 = st.1 6) (h9 : st'.1 9 = st.1 9) (h12 : st'.1 12 = st.1 12) (h13 : st'.1 13 = st.1 13) (h14 : st'.1 14 = st.1 14) (h15 : st'.1 15 = st.1 15) (h16 : st'.1 16 = st.1 16) (h17 : st'.1 17 = st.1 17) (h22 : st'.1 22 = st.1 22) (h24 : st'.1 24 = st.1 24) (hR : st'.2.2 = st.2.2) (hd : DBd st') (hW : ∀ s, s < 8 → st.1 12 s = -1 → st'.2.1 20 s = st.2.1 20 s ∧ st'.1 21 s = st.1 21 s) : Ok n st' := by
  have hlk : ∀ s, s_lk st' s = s_lk st s := fun s => by unfold s_lk; rw [h16]
  refine ⟨fun s hs => ?_, fun t ht => ?_, ?_, ?_, hd⟩
  · obtain ⟨a1, a3, aN, a2, a4⟩ := h.1 s hs
    refine ⟨?_, ?_, by rw [hR]; exact aN, fun t ht => ?_, fun t ht => ?_⟩
    · unfold Ok1
      rw [hlk, h12, h13, h15, h16, hR]
      refine ⟨a1.1, a1.2.1, a1.2.2.1, a1.2.2.2.1, a1.2.2.2.2.1, fun hk => ?_⟩
      rw [(hW s hs hk).1, (hW s hs hk).2]
      exact a1.2.2.2.2.2 hk
    · unfold Ok3
      rw [h12, h13, h14]; exact a3
    · unfold Ok2
      rw [h17, h1, h12]; exact a2 t ht
    · rw [hR] at ht
      unfold Ok4
      rw [hlk, h5, h1, h9, h12, h13]; exact a4 t ht
  · unfold Ok5
    rw [h1, h5, h6, hR]; exact h.2.1 t ht
  · rw [h22]; exact h.2.2.1
  · rw [h24]; exact h.2.2.2.1
/-- t leaves its row, and runs -/
theorem Ok.rmB (h : Ok n st) {s t : Nat} (hs : s < 8) (hm : t ∈ st.2.2 s) : Ok n (sI (s_remove st t s) 1 t 0) ∧ ∀ s', s' < 8 → ∃ d : Nat, st.1 17 (6 * s' + t) = nI d ∧ d + 1 ≤ n ∧ (¬ st.1 12 s' = 5 → d = 0) := by
  have ht := (h.row hs hm).1
  have hR : (sI (s_remove st t s) 1 t 0).2.2 = va_up st.2.2 s ((st.2.2 s).erase t) := rfl
  have hmem : ∀ s' u, s' < 8 → u ∈ (sI (s_remove st t s) 1 t 0).2.2 s' → u ∈ st.2.2 s' ∧ u ≠ t := by
    intro s' u hs' hu
    rw [hR] at hu
    by_cases e : s' = s
    · subst e
      simp only [va_up, if_true] at hu
      have hN := (h.1 s' hs').2.2.1
      exact ⟨List.mem_of_mem_erase hu, fun q => by subst q; exact (List.Nodup.not_mem_erase hN) hu⟩
    · simp only [va_up, if_neg e] at hu
      exact ⟨hu, fun q => by subst q; exact e (h.one hs' hs hu hm)⟩
  refine ⟨⟨fun s' hs' => ?_, fun u hu => ?_, h.2.2.1, h.2.2.2.1, h.2.2.2.2⟩, fun s' hs' => ?_⟩
  · obtain ⟨a1, a3, aN, a2, a4⟩ := h.1 s' hs'
    refine ⟨⟨a1.1, a1.2.1, a1.2.2.1, a1.2.2.2.1, a1.2.2.2.2.1, fun hk => ⟨(a1.2.2.2.2.2 hk).1, (a1.2.2.2.2.2 hk).2.1, ?_⟩⟩, a3, ?_, fun u hu => ?_, fun u hu => ?_⟩
    · have := (a1.2.2.2.2.2 hk).2.2
      rw [hR]
      by_cases e : s' = s
      · subst e; simp only [va_up, if_true]; rw [this]; rfl
      · simp only [va_up, if_neg e]; exact this
    · rw [hR]
      by_cases e : s' = s
      · subst e; simp only [va_up, if_true]; exact List.Nodup.erase t aN
      · simp only [va_up, if_neg e]; exact aN
    · obtain ⟨d, q1, q2, q3⟩ := a2 u hu
      refine ⟨d, q1, ?_, q3⟩
      show d + (if upd (st.1 1) t 0 u = 0 then 0 else 1) ≤ n
      by_cases e : u = t
      · subst e; rw [pk_us]; simp; split at q2 <;> omega
      · rw [pk_un e]; exact q2
    · obtain ⟨m1, m2⟩ := hmem s' u hs' hu
      obtain ⟨q1, q2, q3, q4⟩ := a4 u m1
      exact ⟨q1, (pk_un m2).trans q2, (pk_un m2).trans q3, q4⟩
  · have h5 := h.2.1 u hu
    refine ⟨?_, h5.2⟩
    by_cases e : u = t
    · subst e; exact Or.inl ⟨pk_us, pk_us⟩
    · rcases h5.1 with ⟨q1, q2⟩ | ⟨q1, s', q2, q3⟩
      · exact Or.inl ⟨(pk_un e).trans q1, (pk_un e).trans q2⟩
      · refine Or.inr ⟨(pk_un e).trans q1, s', q2, ?_⟩
        rw [hR]
        by_cases e2 : s' = s
        · subst e2; simp only [va_up, if_true]; exact (List.mem_erase_of_ne e).mpr q3
        · simp only [va_up, if_neg e2]; exact q3
  · obtain ⟨d, q1, q2, q3⟩ := (h.1 s' hs').2.2.2.1 t ht
    refine ⟨d, q1, ?_, q3⟩
    rw [(h.row hs hm).2.2.1] at q2
    simpa using q2
/-- t, that runs, enters a row -/
theorem Ok.enter (h : Ok n st) {s t : Nat} (hs : s < 8) (ht : t < 6) (hb : st.1 1 t = 0) (hk : ¬ st.1 12 s = -1) (hr : ∀ s', s' < 8 → ∃ d : Nat, st.1 17 (6 * s' + t) = nI d ∧ d + 1 ≤ n ∧ (¬ st.1 12 s' = 5 → d = 0)) (h9 : ∃ d : Nat, d ≤ n ∧ st.1 9 t = nI d ∧ (st.1 12 s = 6 → 0 < d) ∧ (¬ st.1 12 s = 0 → ¬ st.1 12 s = 1 → ¬ st.1 12 s = 6 → d = 0)) (ho : st.1 12 s = 1 → ¬ st.1 13 s = nI t) (ho2 : st.1 12 s = 6 → ¬ st.1 13 (s_lk st s) = nI t) : Ok n (s_enter st t s) := by
  have hR : (s_enter st t s).2.2 = va_up st.2.2 s (st.2.2 s ++ [t]) := rfl
  have hmem : ∀ s' u, u ∈ (s_enter st t s).2.2 s' → u ∈ st.2.2 s' ∨ (s' = s ∧ u = t) := by
    intro s' u hu
    rw [hR] at hu
    by_cases e : s' = s
    · subst e
      simp only [va_up, if_true] at hu
      rcases List.mem_append.mp hu with hu | hu
      · exact Or.inl hu
      · exact Or.inr ⟨rfl, List.mem_singleton.mp hu⟩
    · simp only [va_up, if_neg e] at hu
      exact Or.inl hu
  refine ⟨fun s' hs' => ?_, fun u hu => ?_, h.2.2.1, h.2.2.2.1, s_enter_db h.2.2.2.2 ht⟩
  · obtain ⟨a1, a3, aN, a2, a4⟩ := h.1 s' hs'
    refine ⟨⟨a1.1, a1.2.1, a1.2.2.1, a1.2.2.2.1, a1.2.2.2.2.1, fun hk' => ⟨(a1.2.2.2.2.2 hk').1, (a1.2.2.2.2.2 hk').2.1, ?_⟩⟩, a3, ?_, fun u hu => ?_, fun u hu => ?_⟩
    · rw [hR]
      by_cases e : s' = s
      · subst e; exact absurd hk' hk
      · simp only [va_up, if_neg e]; exact (a1.2.2.2.2.2 hk').2.2
    · rw [hR]
      by_cases e : s' = s
      · subst e
        simp only [va_up, if_true]
        rw [List.nodup_append]
        refine ⟨aN, by simp, fun a ha b hb2 => ?_⟩
        rw [List.mem_singleton.mp hb2]
        intro q
        subst q
        exact h.out hs' hb ha
      · simp only [va_up, if_neg e]; exact aN
    · by_cases e : u = t
      · subst e
        obtain ⟨d, q1, q2, q3⟩ := hr s' hs'
        refine ⟨d, q1, ?_, q3⟩
        split <;> omega
      · obtain ⟨d, q1, q2, q3⟩ := a2 u hu
        refine ⟨d, q1, ?_, q3⟩
        show d + (if upd (st.1 1) t 1 u = 0 then 0 else 1) ≤ n
        rw [pk_un e]; exact q2
    · rcases hmem s' u hu with hu2 | ⟨rfl, rfl⟩
      · have e : u ≠ t := fun q => by subst q; exact h.out hs' hb hu2
        obtain ⟨q1, q2, q3, q4⟩ := a4 u hu2
        exact ⟨q1, (pk_un e).trans q2, (pk_un e).trans q3, q4⟩
      · exact ⟨ht, pk_us, pk_us, h9, ho, ho2⟩
  · have h5 := h.2.1 u hu
    refine ⟨?_, h5.2⟩
    by_cases e : u = t
    · subst e
      refine Or.inr ⟨pk_us, s, hs, ?_⟩
      rw [hR]; simp [va_up]
    · rcases h5.1 with ⟨q1, q2⟩ | ⟨q1, s', q2, q3⟩
      · exact Or.inl ⟨(pk_un e).trans q1, (pk_un e).trans q2⟩
      · refine Or.inr ⟨(pk_un e).trans q1, s', q2, ?_⟩
        rw [hR]
        by_cases e2 : s' = s
        · subst e2; simp only [va_up, if_true]; exact List.mem_append_left _ q3
        · simp only [va_up, if_neg e2]; exact q3
/-- a change of one sync's owner and depth -/
theorem Ok.own (h : Ok n st) {s : Nat} {v w : Int32} (hs : s < 8) (hv : v = -1 ∨ ∃ t : Nat, t < 6 ∧ v = nI t ∧ st.1 1 t = 0) (hk : st.1 12 s = 0 ∨ st.1 12 s = 1 ∨ st.1 12 s = 5) (hd : st.1 12 s = 5 ∨ (v = -1 ∧ w = 0) ∨ (¬ v = -1 ∧ ∃ d : Nat, 0 < d ∧ d ≤ n ∧ w = nI d)) : Ok n (sI (sI st 13 s v) 14 s w) := by
  have hout : ∀ s' u, s' < 8 → u ∈ st.2.2 s' → ¬ v = nI u := by
    intro s' u hs' hu e
    rcases hv with q | ⟨t, q1, q2, q3⟩
    · rw [q] at e
      exact nI_m1 (a := u) (by have := (h.row hs' hu).1; omega) e.symm
    · rw [q2] at e
      have := nIj (by omega) (by have := (h.row hs' hu).1; omega) e
      subst this
      exact h.out hs' q3 hu
  refine ⟨fun s' hs' => ?_, h.2⟩
  obtain ⟨a1, a3, aN, a2, a4⟩ := h.1 s' hs'
  have e13 : ∀ a, (sI (sI st 13 s v) 14 s w).1 13 a = if a = s then v else st.1 13 a := fun a => rfl
  have e14 : ∀ a, (sI (sI st 13 s v) 14 s w).1 14 a = if a = s then w else st.1 14 a := fun a => rfl
  refine ⟨⟨a1.1, ?_, ?_, a1.2.2.2⟩, ?_, aN, a2, fun u hu => ?_⟩
  · rw [e13]
    by_cases e : s' = s
    · rw [if_pos e]
      rcases hv with q | ⟨t, q1, q2, q3⟩
      · exact Or.inl q
      · exact Or.inr ⟨t, q1, q2⟩
    · rw [if_neg e]; exact a1.2.1
  · intro k0 k1 k5
    rw [e13]
    by_cases e : s' = s
    · subst e
      rcases hk with q | q | q
      · exact absurd q k0
      · exact absurd q k1
      · exact absurd q k5
    · rw [if_neg e]; exact a1.2.2.1 k0 k1 k5
  · intro hk2
    rw [e13, e14]
    by_cases e : s' = s
    · rw [if_pos e, if_pos e]
      subst e
      rcases hd with q | q
      · have hk2 : st.1 12 s' = -1 ∨ st.1 12 s' = 0 ∨ st.1 12 s' = 1 := hk2
        rw [q] at hk2
        exact absurd hk2 (by decide)
      · exact q
    · rw [if_neg e, if_neg e]; exact a3 hk2
  · obtain ⟨q1, q2, q3, q4, q5, q6⟩ := a4 u hu
    refine ⟨q1, q2, q3, q4, fun hk1 => ?_, fun hk6 => ?_⟩
    · rw [e13]
      by_cases e : s' = s
      · rw [if_pos e]; exact hout s' u hs' hu
      · rw [if_neg e]; exact q5 hk1
    · show ¬ (sI (sI st 13 s v) 14 s w).1 13 (s_lk st s') = _
      rw [e13]
      by_cases e : s_lk st s' = s
      · rw [if_pos e]; exact hout s' u hs' hu
      · rw [if_neg e]; exact q6 hk6
theorem Ok.perm (h : Ok n st) {s p : Nat} {w : Int32} (hs : s < 8) (hp : p ≤ 100) (hw : w = nI p) (hk : st.1 12 s = 2 ∨ st.1 12 s = 3 ∨ st.1 12 s = 4) : Ok n (sI st 15 s w) := by
  refine ⟨fun s' hs' => ?_, h.2⟩
  obtain ⟨a1, a3, aN, a2, a4⟩ := h.1 s' hs'
  have e15 : ∀ a, (sI st 15 s w).1 15 a = if a = s then w else st.1 15 a := fun a => rfl
  refine ⟨⟨a1.1, a1.2.1, a1.2.2.1, a1.2.2.2.1, ?_, a1.2.2.2.2.2⟩, a3, aN, a2, a4⟩
  rw [e15]
  by_cases e : s' = s
  · rw [if_pos e]
    subst e
    exact ⟨p, hp, hw, fun k2 k3 k4 => by
      rcases hk with q | q | q
      · exact absurd q k2
      · exact absurd q k3
      · exact absurd q k4⟩
  · rw [if_neg e]; exact a1.2.2.2.2.1
theorem Ok.reads (h : Ok n st) {s t d : Nat} {w : Int32} (hs : s < 8) (ht : t < 6) (hb : st.1 1 t = 0) (hd : d ≤ n) (hw : w = nI d) (hk : st.1 12 s = 5) : Ok n (sI st 17 (6 * s + t) w) := by
  refine ⟨fun s' hs' => ?_, h.2⟩
  obtain ⟨a1, a3, aN, a2, a4⟩ := h.1 s' hs'
  have e17 : ∀ a, (sI st 17 (6 * s + t) w).1 17 a = if a = 6 * s + t then w else st.1 17 a := fun a => rfl
  refine ⟨a1, a3, aN, fun u hu => ?_, a4⟩
  unfold Ok2
  rw [e17]
  by_cases e : 6 * s' + u = 6 * s + t
  · have e1 : s' = s := by omega
    have e2 : u = t := by omega
    subst e1; subst e2
    rw [if_pos rfl]
    refine ⟨d, hw, ?_, fun q => absurd hk q⟩
    show d + (if st.1 1 u = 0 then 0 else 1) ≤ n
    rw [if_pos hb]; exact hd
  · rw [if_neg e]; exact a2 u hu
/-- what is not of the invariant -/
theorem Ok.I {k j : Nat} {v : Int32} (h : Ok n st) (hk : k = 2 ∨ k = 4 ∨ k = 10 ∨ k = 25 ∨ k = 3) : Ok n (sI st k j v) := by
  have hne : ∀ i, i = 1 ∨ i = 5 ∨ i = 6 ∨ i = 9 ∨ i = 12 ∨ i = 13 ∨ i = 14 ∨ i = 15 ∨ i = 16 ∨ i = 17 ∨ i = 21 ∨ i = 22 ∨ i = 24 → (sI st k j v).1 i = st.1 i := fun i hi => by
    show va_up st.1 k _ i = _
    unfold va_up
    rw [if_neg (by omega)]
  exact h.congr (hne 1 (by omega)) (hne 5 (by omega)) (hne 6 (by omega)) (hne 9 (by omega)) (hne 12 (by omega)) (hne 13 (by omega)) (hne 14 (by omega)) (hne 15 (by omega)) (hne 16 (by omega)) (hne 17 (by omega)) (hne 22 (by omega)) (hne 24 (by omega)) rfl h.db (fun s _ _ => ⟨rfl, by rw [hne 21 (by omega)]⟩)
theorem Ok.D {k j : Nat} {v : UInt64} (h : Ok n st) (hk : k = 3 ∨ k = 7) : Ok n (sD st k j v) := by
  have hne : ∀ i, i = 8 ∨ i = 11 ∨ i = 20 → (sD st k j v).2.1 i = st.2.1 i := fun i hi => by
    show va_up st.2.1 k _ i = _
    unfold va_up
    rw [if_neg (by omega)]
  refine h.congr rfl rfl rfl rfl rfl rfl rfl rfl rfl rfl rfl rfl rfl ?_ (fun s _ _ => ⟨by rw [hne 20 (by omega)], rfl⟩)
  unfold DBd
  rw [hne 8 (by omega), hne 11 (by omega), hne 20 (by omega)]
  exact h.db
theorem Ok.addW (h : Ok n st) {t s : Nat} (ht : t < 6) (hs : s < 8) (hk : ¬ st.1 12 s = -1) : Ok n (s_addW st t s) :=
  h.congr rfl rfl rfl rfl rfl rfl rfl rfl rfl rfl rfl rfl rfl (h.db.addW ht hs) (fun s' hs' hk' => by
    have e : s' ≠ s := fun q => by subst q; exact hk hk'
    exact ⟨by show vf_upd _ _ _ _ = _; simp [vf_upd, e], pk_un e⟩)
/-- the mode, and the depth to take back, of a thread -/
theorem Ok.mode (h : Ok n st) {t : Nat} {v : Int32} (hv : v = 0 ∨ v = 1) : Ok n (sI st 6 t v) := by
  refine ⟨h.1, fun u hu => ⟨(h.2.1 u hu).1, ?_⟩, h.2.2⟩
  show upd (st.1 6) t v u = 0 ∨ upd (st.1 6) t v u = 1
  by_cases e : u = t
  · subst e; rw [pk_us]; exact hv
  · rw [pk_un e]; exact (h.2.1 u hu).2
theorem Ok.back (h : Ok n st) {t : Nat} {v : Int32} (hb : st.1 1 t = 0) : Ok n (sI st 9 t v) := by
  refine ⟨fun s hs => ?_, h.2⟩
  obtain ⟨a1, a3, aN, a2, a4⟩ := h.1 s hs
  refine ⟨a1, a3, aN, a2, fun u hu => ?_⟩
  have e : u ≠ t := fun q => by subst q; exact h.out hs hb hu
  obtain ⟨q1, q2, q3, q4, q5⟩ := a4 u hu
  refine ⟨q1, q2, q3, ?_, q5⟩
  have : (sI st 9 t v).1 9 u = st.1 9 u := pk_un e
  rw [this]; exact q4
end OKS
