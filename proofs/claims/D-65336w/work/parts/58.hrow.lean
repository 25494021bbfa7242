/-! ROWS OF WAITERS as linked objects: one comes, one goes -/
theorem nxt_app {l : List Nat} {t u : Nat} (hu : u ∈ l) : nxt (l ++ [t]) u = match nxt l u with
    | none => some t
    | some v => some v := by
  induction l with
  | nil => cases hu
  | cons a l ih =>
    show (if a = u then (l ++ [t]).head? else nxt (l ++ [t]) u) = match (if a = u then l.head? else nxt l u) with | none => some t | some v => some v
    by_cases e : a = u
    · rw [if_pos e, if_pos e]
      cases l <;> rfl
    · rw [if_neg e, if_neg e]
      rcases List.mem_cons.mp hu with q | q
      · exact absurd q.symm e
      · exact ih q
theorem nxt_end {l : List Nat} {t : Nat} (ht : t ∉ l) : nxt (l ++ [t]) t = none := by
  induction l with
  | nil => show (if t = t then _ else _) = _; rw [if_pos rfl]; rfl
  | cons a l ih =>
    show (if a = t then _ else nxt (l ++ [t]) t) = _
    rw [if_neg (fun (e : a = t) => ht (e ▸ List.mem_cons_self))]
    exact ih (fun q => ht (List.mem_cons_of_mem _ q))
theorem nxt_mem {l : List Nat} {t u : Nat} (h : nxt l t = some u) : u ∈ l := by
  induction l with
  | nil => cases h
  | cons a l ih =>
    have h : (if a = t then l.head? else nxt l t) = some u := h
    split at h
    · exact List.mem_cons_of_mem _ (List.mem_of_mem_head? (by rw [h]; rfl))
    · exact List.mem_cons_of_mem _ (ih h)
theorem head_erase {l : List Nat} {t : Nat} : (l.erase t).head? = if l.head? = some t then nxt l t else l.head? := by
  cases l with
  | nil => simp
  | cons a l =>
    by_cases e : a = t
    · subst e
      rw [List.erase_cons_head]
      show _ = if some a = some a then (if a = a then l.head? else nxt l a) else _
      rw [if_pos rfl, if_pos rfl]
    · rw [List.erase_cons_tail (by simpa using e), if_neg (by simpa using e)]
      rfl
theorem nxt_erase {l : List Nat} {t u : Nat} (hn : l.Nodup) (hu : u ≠ t) : nxt (l.erase t) u = if nxt l u = some t then nxt l t else nxt l u := by
  induction l with
  | nil => simp [nxt]
  | cons a l ih =>
    have hn2 := List.nodup_cons.mp hn
    by_cases e : a = t
    · subst e
      rw [List.erase_cons_head]
      have e1 : nxt (a :: l) u = nxt l u := by show (if a = u then _ else _) = _; rw [if_neg (fun z => hu z.symm)]
      rw [e1, if_neg (fun z => hn2.1 (nxt_mem z))]
    · rw [List.erase_cons_tail (by simpa using e)]
      by_cases e2 : a = u
      · subst e2
        have e1 : nxt (a :: l) a = l.head? := by show (if a = a then _ else _) = _; rw [if_pos rfl]
        have e3 : nxt (a :: l.erase t) a = (l.erase t).head? := by show (if a = a then _ else _) = _; rw [if_pos rfl]
        have e4 : nxt (a :: l) t = nxt l t := by show (if a = t then _ else _) = _; rw [if_neg e]
        rw [e1, e3, e4, head_erase]
      · have e1 : nxt (a :: l) u = nxt l u := by show (if a = u then _ else _) = _; rw [if_neg e2]
        have e3 : nxt (a :: l.erase t) u = nxt (l.erase t) u := by show (if a = u then _ else _) = _; rw [if_neg e2]
        have e4 : nxt (a :: l) t = nxt l t := by show (if a = t then _ else _) = _; rw [if_neg e]
        rw [e1, e3, e4, ih hn2.2]
/-- st' is st with t waiting at s, last in the row -/
def wDiff (st st' : St) (t s : Nat) : Prop := (∀ k, k ≠ 1 → k ≠ 5 → k ≠ 6 → k ≠ 9 → k ≠ 10 → st'.1 k = st.1 k) ∧ (∀ k i, i ≠ t → st'.1 k i = st.1 k i) ∧ (∀ k, k ≠ 7 → k ≠ 8 → st'.2.1 k = st.2.1 k) ∧ (∀ k i, i ≠ t → st'.2.1 k i = st.2.1 k i) ∧ st'.2.2 = va_up st.2.2 s (st.2.2 s ++ [t]) ∧ st'.1 1 t = 1 ∧ st'.1 5 t = nI s
section HRW
variable {cs : Nat → ClassId} {ad : Nat → Nat} {st st' : St} {L : List Nat} {f f2 : Nat → va_E} {n t s w : Nat}
theorem adw {r : Nat} (h : r ≠ 34 + t) : va_up ad (34 + t) w r = ad r := by simp [va_up, h]
theorem hAt_w {s' i : Nat} (hR : st'.2.2 s' = st.2.2 s') (hn : t ∉ st.2.2 s') : hAt st' (va_up ad (34 + t) w) s' i = hAt st ad s' i := by
  unfold hAt
  rw [hR]
  cases hq : (st.2.2 s')[i]? with
  | none => rfl
  | some u =>
    have hne : u ≠ t := fun e => hn (e ▸ List.mem_of_getElem? hq)
    show some (va_up ad (34 + t) w (34 + u)) = some (ad (34 + u))
    rw [adw (by omega)]
theorem wDiff.low (h : wDiff st st' t s) {r : Nat} (hr : r < 12) : hC cs st' (va_up ad (34 + t) w) r = hC cs st ad r := by
  have e : ∀ k, k = 12 ∨ k = 22 ∨ k = 24 ∨ k = 25 → st'.1 k = st.1 k := fun k hk => h.1 k (by omega) (by omega) (by omega) (by omega) (by omega)
  have ea : ∀ r, r < 34 → va_up ad (34 + t) w r = ad r := fun r hr => adw (by omega)
  unfold hC
  split
  · unfold hHall; rw [e 24 (by omega), e 25 (by omega), h.2.2.1 11 (by decide) (by decide), ea 1 (by decide), ea 2 (by decide), ea 3 (by decide)]
  · split
    · unfold hTasks
      congr 7
      funext t'
      split
      · rw [ea _ (by omega)]
      · rfl
    · split
      · unfold hSyncs hSy
        rw [e 12 (by omega)]
        congr 7
        funext s'
        split
        · split
          · rfl
          · show some (va_up ad (34 + t) w (18 + s')) = some (ad (18 + s')); rw [ea _ (by omega)]
        · rfl
      · split
        · unfold hBef
          congr 7
          funext i
          split
          · rw [ea _ (by omega)]
          · rfl
        · unfold hRow; rw [e 22 (by omega)]
theorem wDiff.task (h : wDiff st st' t s) {t' : Nat} (hne : t' ≠ t) : hTask st' (va_up ad (34 + t) w) t' = hTask st ad t' := by
  unfold hTask hPl
  rw [h.2.1 1 t' hne, h.2.1 4 t' hne, h.2.1 2 t' hne, h.2.2.2.1 3 t' hne, adw (by omega)]
theorem wDiff.sync (h : wDiff st st' t s) {s' : Nat} (hs' : s' < 8) (ho : Ok n st) (hk : hKd st s') (hfi : hFi st' (va_up ad (34 + t) w) s' = hFi st ad s') : hSync st' (va_up ad (34 + t) w) s' = hSync st ad s' := by
  have e : ∀ k, k = 12 ∨ k = 13 ∨ k = 14 ∨ k = 15 ∨ k = 16 ∨ k = 21 → st'.1 k = st.1 k := fun k hk => h.1 k (by omega) (by omega) (by omega) (by omega) (by omega)
  have e12 : st'.1 12 s' = st.1 12 s' := by rw [e 12 (by omega)]
  have hlk : s_lk st' s' = s_lk st s' := by unfold s_lk; rw [e 16 (by omega)]
  have e20 := h.2.2.1 20 (by decide) (by decide)
  have how : hOw st' (va_up ad (34 + t) w) s' = hOw st ad s' := by
    unfold hOw
    rw [e 13 (by omega)]
    rcases (ho.1 s' hs').1.2.1 with q | ⟨u, hu, q⟩
    · rw [q, if_pos rfl, if_pos rfl]
    · rw [q, if_neg (nI_m1 (by omega)), if_neg (nI_m1 (by omega)), iN_nI hu (by decide), adw (by omega)]
  rcases hk with hk | hk | hk | hk | hk
  · rw [hSync_lk hk, hSync_lk (st := st') (by rw [e12]; exact hk), hfi, how, e20, e 21 (by omega), e 14 (by omega), e 12 (by omega)]
  · rw [hSync_sm hk, hSync_sm (st := st') (by rw [e12]; exact hk), hfi, e20, e 21 (by omega), e 15 (by omega), e 12 (by omega)]
  · rw [hSync_la hk, hSync_la (st := st') (by rw [e12]; exact hk), hfi, e20, e 21 (by omega), e 15 (by omega)]
  · rw [hSync_sh hk, hSync_sh (st := st') (by rw [e12]; exact hk), hfi, how, e20, e 21 (by omega), e 14 (by omega), adw (by omega)]
  · have := ((ho.1 s' hs').1.2.2.2.1 hk).1
    rw [hSync_cd hk, hSync_cd (st := st') (by rw [e12]; exact hk), hfi, e20, e 21 (by omega), hlk, adw (by omega)]
theorem wDiff.rd (h : wDiff st st' t s) {s' : Nat} : hRd cs st' s' = hRd cs st s' := by
  unfold hRd
  rw [h.1 17 (by decide) (by decide) (by decide) (by decide) (by decide)]
theorem wDiff.wf (h : wDiff st st' t s) {u : Nat} (hu : u ≠ t) : s_wf st' u = s_wf st u := by
  unfold s_wf
  rw [h.2.1 5 u hu]
theorem wDiff.wait (h : wDiff st st' t s) (ho : Ok n st) {u : Nat} (hu : u ≠ t) (hu6 : u < 6) (hub : ¬ st.1 1 u = 0) (hnx : hNx st' (va_up ad (34 + t) w) u = hNx st ad u) : hWait st' (va_up ad (34 + t) w) u = hWait st ad u := by
  have hw8 := (ho.wfs hu6 hub).1
  unfold hWait hWr hWb hWo
  rw [h.wf hu, hnx, h.1 12 (by decide) (by decide) (by decide) (by decide) (by decide), h.2.1 6 u hu, h.2.1 9 u hu, h.2.1 10 u hu, h.2.2.2.1 7 u hu, h.2.2.2.1 8 u hu, adw (by omega), adw (by omega)]
/-- the link of another waiter -/
theorem wDiff.nx (h : wDiff st st' t s) (ho : Ok n st) (hs : s < 8) (hb : st.1 1 t = 0) {u : Nat} (hu : u ≠ t) (hu6 : u < 6) (hub : ¬ st.1 1 u = 0) (hlast : s_wf st u = s → ¬ nxt (st.2.2 s) u = none) : hNx st' (va_up ad (34 + t) w) u = hNx st ad u := by
  obtain ⟨hw8, hm, -⟩ := ho.wfs hu6 hub
  have hnt : ∀ s', s' < 8 → t ∉ st.2.2 s' := fun s' hs' => ho.out hs' hb
  unfold hNx
  rw [h.wf hu, h.2.2.2.2.1]
  have key : ∀ v, nxt (st.2.2 (s_wf st u)) u = some v → va_up ad (34 + t) w (34 + v) = ad (34 + v) := fun v hv => by
    have : v ≠ t := fun e => hnt _ hw8 (e ▸ nxt_mem hv)
    exact adw (by omega)
  by_cases e : s_wf st u = s
  · have e2 : va_up st.2.2 s (st.2.2 s ++ [t]) (s_wf st u) = st.2.2 s ++ [t] := by rw [e]; simp [va_up]
    rw [e2, nxt_app (by rw [← e]; exact hm), e]
    cases hq : nxt (st.2.2 s) u with
    | none => exact absurd hq (hlast e)
    | some v =>
      show some (va_up ad (34 + t) w (34 + v)) = some (ad (34 + v))
      rw [key v (by rw [e]; exact hq)]
  · have e2 : va_up st.2.2 s (st.2.2 s ++ [t]) (s_wf st u) = st.2.2 (s_wf st u) := by simp [va_up, e]
    rw [e2]
    cases hq : nxt (st.2.2 (s_wf st u)) u with
    | none => rfl
    | some v =>
      show some (va_up ad (34 + t) w (34 + v)) = some (ad (34 + v))
      rw [key v hq]
theorem wDiff.fi (h : wDiff st st' t s) (ho : Ok n st) (hb : st.1 1 t = 0) {s' : Nat} (hs' : s' < 8) (hne : s' = s → 0 < (st.2.2 s).length) : hFi st' (va_up ad (34 + t) w) s' = hFi st ad s' := by
  have hnt := ho.out hs' hb
  by_cases e : s' = s
  · subst e
    have hl := hne rfl
    unfold hFi hAt
    rw [h.2.2.2.2.1]
    have e2 : va_up st.2.2 s' (st.2.2 s' ++ [t]) s' = st.2.2 s' ++ [t] := by simp [va_up]
    rw [e2, List.getElem?_append_left hl, List.getElem?_eq_getElem hl]
    have : (st.2.2 s')[0] ≠ t := fun z => hnt (z ▸ List.getElem_mem hl)
    show some (va_up ad (34 + t) w (34 + (st.2.2 s')[0])) = some (ad (34 + (st.2.2 s')[0]))
    rw [adw (by omega)]
  · exact hAt_w (by rw [h.2.2.2.2.1]; simp [va_up, e]) hnt
/-- the role whose cell takes the new link -/
def lastR (st : St) (s : Nat) : Nat := if (st.2.2 s).isEmpty = true then 18 + s else 34 + (st.2.2 s).getD ((st.2.2 s).length - 1) 0
theorem nxt_none {l : List Nat} (hn : l.Nodup) {u : Nat} (hu : u ∈ l) (h : nxt l u = none) : u = l.getD (l.length - 1) 0 := by
  obtain ⟨i, hi, rfl⟩ := ls_has hu
  rw [nxt_at hn hi] at h
  have := List.getElem?_eq_none_iff.mp h
  rw [show l.length - 1 = i by omega]
theorem lastR_live (ho : Ok n st) (hs : s < 8) (hk : ¬ st.1 12 s = -1) : hLive st (lastR st s) := by
  unfold lastR
  split
  · exact hl_sy hs hk
  · rename_i h
    have hl : 0 < (st.2.2 s).length := by
      cases hq : st.2.2 s with
      | nil => rw [hq] at h; exact absurd rfl h
      | cons a l => simp
    have := ho.rowx (i := (st.2.2 s).length - 1) hs (by omega)
    exact hl_wt this.1 this.2.1
/-- ADDED: what the cells must hold behind it -/
theorem HF.added (h : HF cs ad st L f) (ho : Ok n st) (hs : s < 8) (ht : t < 6) (hk : ¬ st.1 12 s = -1) (hb : st.1 1 t = 0) (hd : wDiff st st' t s) (hw : w ∈ L) (hwo : ¬ hOwn st ad w) (hfw : f w = hWait st' (va_up ad (34 + t) w) t)
    (h1 : f2 (ad (12 + t)) = hTask st' (va_up ad (34 + t) w) t) (h2 : f2 (ad (lastR st s)) = hC cs st' (va_up ad (34 + t) w) (lastR st s)) (h3 : ∀ a, a ≠ ad (12 + t) → a ≠ ad (lastR st s) → f2 a = f a) : HF cs (va_up ad (34 + t) w) st' L f2 := by
  have hll := lastR_live ho hs hk
  have hne : ∀ r, hLive st r → ad r ≠ w := fun r hr e => hwo ⟨r, hr, e.symm⟩
  have hlv : ∀ r, hLive st' r → r ≠ 34 + t → hLive st r := by
    intro r hr hr2
    rcases hr with q | ⟨q1, q2, q3⟩ | ⟨q1, q2, q3⟩ | ⟨q1, q2, q3⟩
    · exact Or.inl q
    · exact Or.inr (Or.inl ⟨q1, q2, by rw [← hd.1 12 (by decide) (by decide) (by decide) (by decide) (by decide)]; exact q3⟩)
    · exact Or.inr (Or.inr (Or.inl ⟨q1, q2, by rw [← hd.1 12 (by decide) (by decide) (by decide) (by decide) (by decide)]; exact q3⟩))
    · exact Or.inr (Or.inr (Or.inr ⟨q1, q2, by rw [← hd.2.1 1 (r - 34) (by omega)]; exact q3⟩))
  have hself : va_up ad (34 + t) w (34 + t) = w := by simp [va_up]
  have hw2 : f2 w = f w := h3 w (fun e => hne _ (hl_lo (by omega)) e.symm) (fun e => hne _ hll e.symm)
  refine ⟨fun r hr => ?_, fun r r' hr hr' e => ?_⟩
  · by_cases e : r = 34 + t
    · subst e
      rw [hself]
      exact ⟨hw, by rw [hw2, hfw, hC_wt]⟩
    · have hr0 := hlv r hr e
      rw [adw e]
      refine ⟨h.mem hr0, ?_⟩
      by_cases e1 : r = 12 + t
      · subst e1; rw [h1, hC_tk ht]
      · by_cases e2 : r = lastR st s
        · rw [e2]; exact h2
        · rw [h3 _ (fun z => e1 (h.2 _ _ hr0 (hl_lo (by omega)) z)) (fun z => e2 (h.2 _ _ hr0 hll z)), h.eq hr0]
          symm
          rcases hr0 with q | ⟨q1, q2, q3⟩ | ⟨q1, q2, q3⟩ | ⟨q1, q2, q3⟩
          · by_cases q12 : r < 12
            · exact hd.low q12
            · obtain ⟨t', rfl⟩ : ∃ t', r = 12 + t' := ⟨r - 12, by omega⟩
              rw [hC_tk (by omega), hC_tk (by omega)]
              exact hd.task (by omega)
          · obtain ⟨s', rfl⟩ : ∃ s', r = 18 + s' := ⟨r - 18, by omega⟩
            rw [Nat.add_sub_cancel_left] at q3
            rw [hC_sy (by omega), hC_sy (by omega)]
            refine hd.sync (by omega) ho (ho.kd (by omega) q3) (hd.fi ho hb (by omega) (fun z => ?_))
            subst z
            unfold lastR at e2
            cases hq : st.2.2 s' with
            | nil => rw [hq] at e2; exact absurd rfl e2
            | cons a l => simp
          · obtain ⟨s', rfl⟩ : ∃ s', r = 26 + s' := ⟨r - 26, by omega⟩
            rw [hC_rd (by omega), hC_rd (by omega)]
            exact hd.rd
          · obtain ⟨u, rfl⟩ : ∃ u, r = 34 + u := ⟨r - 34, by omega⟩
            rw [Nat.add_sub_cancel_left] at q3
            rw [hC_wt, hC_wt]
            refine hd.wait ho (by omega) (by omega) q3 (hd.nx ho hs hb (by omega) (by omega) q3 (fun ew hz => ?_))
            obtain ⟨hw8, hm, -⟩ := ho.wfs (show u < 6 by omega) q3
            rw [ew] at hm
            apply e2
            unfold lastR
            rw [if_neg (by rw [ls_ie1 (List.length_pos_of_mem hm)]; decide), ← nxt_none (ho.1 s hs).2.2.1 hm hz]
  · by_cases e1 : r = 34 + t
    · by_cases e2 : r' = 34 + t
      · rw [e1, e2]
      · rw [e1, hself, adw e2] at e
        exact absurd e.symm (hne _ (hlv r' hr' e2))
    · by_cases e2 : r' = 34 + t
      · rw [e2, hself, adw e1] at e
        exact absurd e (hne _ (hlv r hr e1))
      · rw [adw e1, adw e2] at e
        exact h.2 r r' (hlv r hr e1) (hlv r' hr' e2) e
/-! one goes -/
theorem rm_R {s' : Nat} : (sI (s_remove st t s) 1 t 0).2.2 s' = if s' = s then (st.2.2 s).erase t else st.2.2 s' := rfl
theorem rm_wf {u : Nat} (hu : u ≠ t) : s_wf (sI (s_remove st t s) 1 t 0) u = s_wf st u := by
  unfold s_wf
  rw [show (sI (s_remove st t s) 1 t 0).1 5 u = st.1 5 u from pk_un hu]
theorem rm_nx (ho : Ok n st) {u : Nat} (hu : u ≠ t) (hu6 : u < 6) (hub : ¬ st.1 1 u = 0) (hs : s < 8) (hp : s_wf st u = s → ¬ nxt (st.2.2 s) u = some t) : hNx (sI (s_remove st t s) 1 t 0) ad u = hNx st ad u := by
  unfold hNx
  rw [rm_wf hu, rm_R]
  split
  · rename_i e
    rw [e, nxt_erase (ho.1 s hs).2.2.1 hu, if_neg (hp e)]
  · rfl
theorem rm_low {r : Nat} (hr : r < 12) : hC cs (sI (s_remove st t s) 1 t 0) ad r = hC cs st ad r := by
  unfold hC
  split
  · rfl
  · split
    · rfl
    · split
      · rfl
      · split
        · rfl
        · rfl
theorem rv_sync {s' : Nat} (hfi : hFi (sI (s_remove st t s) 1 t 0) ad s' = hFi st ad s') : hSync (sI (s_remove st t s) 1 t 0) ad s' = hSync st ad s' := by
  unfold hSync
  rw [hfi]
  rfl
theorem rm_fi {s' : Nat} (h : s' = s → ¬ (st.2.2 s).head? = some t) : hFi (sI (s_remove st t s) 1 t 0) ad s' = hFi st ad s' := by
  unfold hFi hAt
  rw [rm_R]
  split
  · rename_i e
    rw [← List.head?_eq_getElem?, head_erase, if_neg (h e), e, List.head?_eq_getElem?]
  · rfl
theorem rm_wait (ho : Ok n st) {u : Nat} (hu : u ≠ t) (hnx : hNx (sI (s_remove st t s) 1 t 0) ad u = hNx st ad u) : hWait (sI (s_remove st t s) 1 t 0) ad u = hWait st ad u := by
  unfold hWait hWr hWb hWo
  rw [rm_wf hu, hnx]
  rfl
theorem HF.removed {r0 : Nat} (h : HF cs ad st L f) (ho : Ok n st) (hs : s < 8) (hm : t ∈ st.2.2 s) (hr0 : ((st.2.2 s).head? = some t ∧ r0 = 18 + s) ∨ (¬ (st.2.2 s).head? = some t ∧ ∃ v, v ∈ st.2.2 s ∧ v ≠ t ∧ nxt (st.2.2 s) v = some t ∧ r0 = 34 + v))
    (h1 : f2 (ad (12 + t)) = hTask (sI (s_remove st t s) 1 t 0) ad t) (h2 : f2 (ad r0) = hC cs (sI (s_remove st t s) 1 t 0) ad r0) (h3 : ∀ a, a ≠ ad (12 + t) → a ≠ ad r0 → f2 a = f a) : HF cs ad (sI (s_remove st t s) 1 t 0) L f2 := by
  have ht := (ho.row hs hm).1
  have hll : hLive st r0 := by
    rcases hr0 with ⟨-, rfl⟩ | ⟨-, v, hv, -, -, rfl⟩
    · exact hl_sy hs (ho.made hs hm)
    · have := ho.row hs hv
      exact hl_wt this.1 (by rw [this.2.2.1]; decide)
  have hlv : ∀ r, hLive (sI (s_remove st t s) 1 t 0) r → hLive st r ∧ r ≠ 34 + t := by
    intro r hr
    rcases hr with q | ⟨q1, q2, q3⟩ | ⟨q1, q2, q3⟩ | ⟨q1, q2, q3⟩
    · exact ⟨Or.inl q, by omega⟩
    · exact ⟨Or.inr (Or.inl ⟨q1, q2, q3⟩), by omega⟩
    · exact ⟨Or.inr (Or.inr (Or.inl ⟨q1, q2, q3⟩)), by omega⟩
    · have q3 : ¬ upd (st.1 1) t 0 (r - 34) = 0 := q3
      by_cases e : r - 34 = t
      · rw [e, pk_us] at q3; exact absurd rfl q3
      · rw [pk_un e] at q3
        exact ⟨Or.inr (Or.inr (Or.inr ⟨q1, q2, q3⟩)), by omega⟩
  refine ⟨fun r hr => ?_, fun r r' hr hr' e => h.2 r r' (hlv r hr).1 (hlv r' hr').1 e⟩
  obtain ⟨hr1, hrt⟩ := hlv r hr
  refine ⟨h.mem hr1, ?_⟩
  by_cases e1 : r = 12 + t
  · subst e1; rw [h1, hC_tk ht]
  · by_cases e2 : r = r0
    · rw [e2]; exact h2
    · rw [h3 _ (fun z => e1 (h.2 _ _ hr1 (hl_lo (by omega)) z)) (fun z => e2 (h.2 _ _ hr1 hll z)), h.eq hr1]
      symm
      rcases hr1 with q | ⟨q1, q2, q3⟩ | ⟨q1, q2, q3⟩ | ⟨q1, q2, q3⟩
      · by_cases q12 : r < 12
        · exact rm_low q12
        · obtain ⟨t', rfl⟩ : ∃ t', r = 12 + t' := ⟨r - 12, by omega⟩
          rw [hC_tk (by omega), hC_tk (by omega)]
          unfold hTask hPl
          rw [show (sI (s_remove st t s) 1 t 0).1 1 t' = st.1 1 t' from pk_un (by omega)]
          rfl
      · obtain ⟨s', rfl⟩ : ∃ s', r = 18 + s' := ⟨r - 18, by omega⟩
        rw [hC_sy (by omega), hC_sy (by omega)]
        refine rv_sync (rm_fi (fun z => ?_))
        subst z
        rcases hr0 with ⟨-, q⟩ | ⟨q, -⟩
        · exact absurd q.symm e2
        · exact q
      · obtain ⟨s', rfl⟩ : ∃ s', r = 26 + s' := ⟨r - 26, by omega⟩
        rw [hC_rd (by omega), hC_rd (by omega)]
        rfl
      · obtain ⟨u, rfl⟩ : ∃ u, r = 34 + u := ⟨r - 34, by omega⟩
        rw [Nat.add_sub_cancel_left] at q3
        rw [hC_wt, hC_wt]
        refine rm_wait ho (by omega) (rm_nx ho (by omega) (by omega) q3 hs (fun ew hz => ?_))
        obtain ⟨hw8, hm2, -⟩ := ho.wfs (show u < 6 by omega) q3
        rw [ew] at hm2
        have hN := (ho.1 s hs).2.2.1
        -- u is the one before t
        obtain ⟨i, hi, ei⟩ := ls_has hm2
        rw [← ei, nxt_at hN hi] at hz
        rcases hr0 with ⟨q, -⟩ | ⟨-, v, hv, hvt, hvn, rfl⟩
        · obtain ⟨hi1, hz1⟩ := List.getElem?_eq_some_iff.mp hz
          rw [List.head?_eq_getElem?] at q
          obtain ⟨h01, h02⟩ := List.getElem?_eq_some_iff.mp q
          have := (List.getElem_inj hN).mp (hz1.trans h02.symm)
          omega
        · obtain ⟨j, hj, ej⟩ := ls_has hv
          rw [← ej, nxt_at hN hj] at hvn
          obtain ⟨hi1, hz1⟩ := List.getElem?_eq_some_iff.mp hz
          obtain ⟨hj1, hz2⟩ := List.getElem?_eq_some_iff.mp hvn
          have := (List.getElem_inj hN).mp (hz1.trans hz2.symm)
          apply e2
          rw [← ej, ← ei, show i = j by omega]
end HRW
