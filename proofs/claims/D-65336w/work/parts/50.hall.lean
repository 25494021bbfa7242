/-! THE CLASS's OBJECT GRAPH as a picture of the state. Roles: 0 the hall, 1 tasks[], 2 syncs[], 3 before[][], 4.. its rows, 12.. tasks, 18.. syncs, 26.. reads[] of the shared ones, 34.. waiters by thread -/
def nxt : List Nat → Nat → Option Nat
  | [], _ => none
  | a :: l, t => if a = t then l.head? else nxt l t
def hOw (st : St) (ad : Nat → Nat) (s : Nat) : Option Nat := if st.1 13 s = -1 then none else some (ad (12 + iN (st.1 13 s)))
def hAt (st : St) (ad : Nat → Nat) (s i : Nat) : Option Nat := ((st.2.2 s)[i]?).map (fun t => ad (34 + t))
def hFi (st : St) (ad : Nat → Nat) (s : Nat) : Option Nat := hAt st ad s 0
def hPl (st : St) (ad : Nat → Nat) (t : Nat) : Option Nat := if st.1 1 t = 0 then none else some (ad (34 + t))
def hNx (st : St) (ad : Nat → Nat) (t : Nat) : Option Nat := (nxt (st.2.2 (s_wf st t)) t).map (fun u => ad (34 + u))
def hWb (st : St) (t : Nat) : Bool := decide (st.1 12 (s_wf st t) = 5 ∧ st.1 6 t = 1)
def hWr (st : St) (t : Nat) : Int32 := bI (hWb st t)
def hWo (st : St) (t : Nat) : Int32 := if st.1 12 (s_wf st t) = 6 then 0 else if 0 < st.1 9 t then st.1 10 t else 1
def hSy (st : St) (s : Nat) : Option Nat := if st.1 12 s = -1 then none else some s
def hHall (st : St) (ad : Nat → Nat) : va_E := .inr (0, [.ref (ad 1), .ref (ad 2), .ref (ad 3), .int (st.1 24 0), .int (st.1 25 0), .double (st.2.1 11 0)])
def hTasks (cs : Nat → ClassId) (ad : Nat → Nat) : va_E := .inl (cs 3, 6, .inr (.inr (.inr (.inr (fun t => if t < 6 then some (ad (12 + t)) else none)))))
def hSyncs (cs : Nat → ClassId) (st : St) (ad : Nat → Nat) : va_E := .inl (cs 4, 8, .inr (.inr (.inr (.inr (fun s => if s < 8 then (hSy st s).map (fun s => ad (18 + s)) else none)))))
def hBef (cs : Nat → ClassId) (ad : Nat → Nat) : va_E := .inl (cs 5, 8, .inr (.inr (.inr (.inr (fun i => if i < 8 then some (ad (4 + i)) else none)))))
def hRow (cs : Nat → ClassId) (st : St) (i : Nat) : va_E := .inl (cs 1, 8, .inl (fun j => if j < 8 then st.1 22 (8 * i + j) else 0))
def hTask (st : St) (ad : Nat → Nat) (t : Nat) : va_E := .inr (1, [.int (nI t), .double (st.2.1 3 t), .int (st.1 4 t), .int (st.1 2 t), va_rf (hPl st ad t)])
def hSync (st : St) (ad : Nat → Nat) (s : Nat) : va_E :=
  if st.1 12 s = 0 ∨ st.1 12 s = 1 then .inr (3, [va_rf (hFi st ad s), .double (st.2.1 20 s), .int (st.1 21 s), .int (bI (decide (st.1 12 s = 1))), va_rf (hOw st ad s), .int (st.1 14 s)])
  else if st.1 12 s = 2 ∨ st.1 12 s = 3 then .inr (4, [va_rf (hFi st ad s), .double (st.2.1 20 s), .int (st.1 21 s), .int (bI (decide (st.1 12 s = 3))), .int (st.1 15 s)])
  else if st.1 12 s = 4 then .inr (5, [va_rf (hFi st ad s), .double (st.2.1 20 s), .int (st.1 21 s), .int (st.1 15 s)])
  else if st.1 12 s = 5 then .inr (6, [va_rf (hFi st ad s), .double (st.2.1 20 s), .int (st.1 21 s), va_rf (hOw st ad s), .int (st.1 14 s), .ref (ad (26 + s))])
  else .inr (7, [va_rf (hFi st ad s), .double (st.2.1 20 s), .int (st.1 21 s), .ref (ad (18 + s_lk st s))])
def hRd (cs : Nat → ClassId) (st : St) (s : Nat) : va_E := .inl (cs 0, 6, .inl (fun t => if t < 6 then st.1 17 (6 * s + t) else 0))
def hWait (st : St) (ad : Nat → Nat) (t : Nat) : va_E := .inr (2, [.ref (ad (12 + t)), .ref (ad (18 + s_wf st t)), .int (hWr st t), .double (st.2.1 7 t), .double (st.2.1 8 t), .int (st.1 9 t), .int (hWo st t), va_rf (hNx st ad t)])
/-- what a role's cell holds -/
def hC (cs : Nat → ClassId) (st : St) (ad : Nat → Nat) (r : Nat) : va_E :=
  if r = 0 then hHall st ad else if r = 1 then hTasks cs ad else if r = 2 then hSyncs cs st ad else if r = 3 then hBef cs ad else if r < 12 then hRow cs st (r - 4) else if r < 18 then hTask st ad (r - 12) else if r < 26 then hSync st ad (r - 18) else if r < 34 then hRd cs st (r - 26) else hWait st ad (r - 34)
/-- the roles that are filled -/
def hLive (st : St) (r : Nat) : Prop := r < 18 ∨ (18 ≤ r ∧ r < 26 ∧ ¬ st.1 12 (r - 18) = -1) ∨ (26 ≤ r ∧ r < 34 ∧ st.1 12 (r - 26) = 5) ∨ (34 ≤ r ∧ r < 40 ∧ ¬ st.1 1 (r - 34) = 0)
def hOwn (st : St) (ad : Nat → Nat) (a : Nat) : Prop := ∃ r, hLive st r ∧ a = ad r
def HF (cs : Nat → ClassId) (ad : Nat → Nat) (st : St) (L : List Nat) (f : Nat → va_E) : Prop :=
  (∀ r, hLive st r → ad r ∈ L ∧ f (ad r) = hC cs st ad r) ∧ ∀ r r', hLive st r → hLive st r' → ad r = ad r' → r = r'
section HFS
variable {cs : Nat → ClassId} {ad : Nat → Nat} {st : St} {L : List Nat} {f : Nat → va_E}
theorem hl_lo {r : Nat} (h : r < 18) : hLive st r := Or.inl h
theorem hl_sy {s : Nat} (hs : s < 8) (hk : ¬ st.1 12 s = -1) : hLive st (18 + s) := Or.inr (Or.inl ⟨by omega, by omega, by rw [Nat.add_sub_cancel_left]; exact hk⟩)
theorem hl_rd {s : Nat} (hs : s < 8) (hk : st.1 12 s = 5) : hLive st (26 + s) := Or.inr (Or.inr (Or.inl ⟨by omega, by omega, by rw [Nat.add_sub_cancel_left]; exact hk⟩))
theorem hl_wt {t : Nat} (ht : t < 6) (hb : ¬ st.1 1 t = 0) : hLive st (34 + t) := Or.inr (Or.inr (Or.inr ⟨by omega, by omega, by rw [Nat.add_sub_cancel_left]; exact hb⟩))
theorem hl_sy' {s : Nat} (h : hLive st (18 + s)) (hs : s < 8) : ¬ st.1 12 s = -1 := by
  rcases h with h | ⟨_, _, h⟩ | ⟨h, _⟩ | ⟨h, _⟩
  · omega
  · rwa [Nat.add_sub_cancel_left] at h
  · omega
  · omega
theorem hl_wt' {t : Nat} (h : hLive st (34 + t)) : t < 6 ∧ ¬ st.1 1 t = 0 := by
  rcases h with h | ⟨_, h, _⟩ | ⟨_, h, _⟩ | ⟨_, h2, h⟩
  · omega
  · omega
  · omega
  · rw [Nat.add_sub_cancel_left] at h; exact ⟨by omega, h⟩
theorem HF.mem (h : HF cs ad st L f) {r : Nat} (hr : hLive st r) : ad r ∈ L := (h.1 r hr).1
theorem HF.eq (h : HF cs ad st L f) {r : Nat} (hr : hLive st r) : f (ad r) = hC cs st ad r := (h.1 r hr).2
theorem hC_0 : hC cs st ad 0 = hHall st ad := rfl
theorem hC_row {i : Nat} (hi : i < 8) : hC cs st ad (4 + i) = hRow cs st i := by
  unfold hC
  rw [if_neg (by omega), if_neg (by omega), if_neg (by omega), if_neg (by omega), if_pos (by omega), Nat.add_sub_cancel_left]
theorem hC_tk {t : Nat} (ht : t < 6) : hC cs st ad (12 + t) = hTask st ad t := by
  unfold hC
  rw [if_neg (by omega), if_neg (by omega), if_neg (by omega), if_neg (by omega), if_neg (by omega), if_pos (by omega), Nat.add_sub_cancel_left]
theorem hC_sy {s : Nat} (hs : s < 8) : hC cs st ad (18 + s) = hSync st ad s := by
  unfold hC
  rw [if_neg (by omega), if_neg (by omega), if_neg (by omega), if_neg (by omega), if_neg (by omega), if_neg (by omega), if_pos (by omega), Nat.add_sub_cancel_left]
theorem hC_rd {s : Nat} (hs : s < 8) : hC cs st ad (26 + s) = hRd cs st s := by
  unfold hC
  rw [if_neg (by omega), if_neg (by omega), if_neg (by omega), if_neg (by omega), if_neg (by omega), if_neg (by omega), if_neg (by omega), if_pos (by omega), Nat.add_sub_cancel_left]
theorem hC_wt {t : Nat} : hC cs st ad (34 + t) = hWait st ad t := by
  unfold hC
  rw [if_neg (by omega), if_neg (by omega), if_neg (by omega), if_neg (by omega), if_neg (by omega), if_neg (by omega), if_neg (by omega), if_neg (by omega), Nat.add_sub_cancel_left]
theorem HF.hall (h : HF cs ad st L f) : f (ad 0) = hHall st ad := h.eq (hl_lo (by decide))
theorem HF.tasks (h : HF cs ad st L f) : f (ad 1) = hTasks cs ad := h.eq (hl_lo (by decide))
theorem HF.syncs (h : HF cs ad st L f) : f (ad 2) = hSyncs cs st ad := h.eq (hl_lo (by decide))
theorem HF.bef (h : HF cs ad st L f) : f (ad 3) = hBef cs ad := h.eq (hl_lo (by decide))
theorem HF.row (h : HF cs ad st L f) {i : Nat} (hi : i < 8) : f (ad (4 + i)) = hRow cs st i := (h.eq (hl_lo (by omega))).trans (hC_row hi)
theorem HF.tk (h : HF cs ad st L f) {t : Nat} (ht : t < 6) : f (ad (12 + t)) = hTask st ad t := (h.eq (hl_lo (by omega))).trans (hC_tk ht)
theorem HF.sy (h : HF cs ad st L f) {s : Nat} (hs : s < 8) (hk : ¬ st.1 12 s = -1) : f (ad (18 + s)) = hSync st ad s := (h.eq (hl_sy hs hk)).trans (hC_sy hs)
theorem HF.rd (h : HF cs ad st L f) {s : Nat} (hs : s < 8) (hk : st.1 12 s = 5) : f (ad (26 + s)) = hRd cs st s := (h.eq (hl_rd hs hk)).trans (hC_rd hs)
theorem HF.wt (h : HF cs ad st L f) {t : Nat} (ht : t < 6) (hb : ¬ st.1 1 t = 0) : f (ad (34 + t)) = hWait st ad t := (h.eq (hl_wt ht hb)).trans hC_wt
theorem HF.m (h : HF cs ad st L f) {r : Nat} (hr : r < 18) : ad r ∈ L := h.mem (hl_lo hr)
theorem hSync_lk {s : Nat} (hk : st.1 12 s = 0 ∨ st.1 12 s = 1) : hSync st ad s = .inr (3, [va_rf (hFi st ad s), .double (st.2.1 20 s), .int (st.1 21 s), .int (bI (decide (st.1 12 s = 1))), va_rf (hOw st ad s), .int (st.1 14 s)]) := if_pos hk
theorem hSync_sm {s : Nat} (hk : st.1 12 s = 2 ∨ st.1 12 s = 3) : hSync st ad s = .inr (4, [va_rf (hFi st ad s), .double (st.2.1 20 s), .int (st.1 21 s), .int (bI (decide (st.1 12 s = 3))), .int (st.1 15 s)]) := by
  unfold hSync
  rw [if_neg (by rcases hk with q | q <;> rw [q] <;> decide), if_pos hk]
theorem hSync_la {s : Nat} (hk : st.1 12 s = 4) : hSync st ad s = .inr (5, [va_rf (hFi st ad s), .double (st.2.1 20 s), .int (st.1 21 s), .int (st.1 15 s)]) := by
  unfold hSync
  rw [if_neg (by rw [hk]; decide), if_neg (by rw [hk]; decide), if_pos hk]
theorem hSync_sh {s : Nat} (hk : st.1 12 s = 5) : hSync st ad s = .inr (6, [va_rf (hFi st ad s), .double (st.2.1 20 s), .int (st.1 21 s), va_rf (hOw st ad s), .int (st.1 14 s), .ref (ad (26 + s))]) := by
  unfold hSync
  rw [if_neg (by rw [hk]; decide), if_neg (by rw [hk]; decide), if_neg (by rw [hk]; decide), if_pos hk]
theorem hSync_cd {s : Nat} (hk : st.1 12 s = 6) : hSync st ad s = .inr (7, [va_rf (hFi st ad s), .double (st.2.1 20 s), .int (st.1 21 s), .ref (ad (18 + s_lk st s))]) := by
  unfold hSync
  rw [if_neg (by rw [hk]; decide), if_neg (by rw [hk]; decide), if_neg (by rw [hk]; decide), if_neg (by rw [hk]; decide)]
theorem hk_of {x : Int32} (h : x = 0 ∨ x = 1 ∨ x = 2 ∨ x = 3 ∨ x = 4 ∨ x = 5 ∨ x = 6) : ¬ x = -1 := by rcases h with q | q | q | q | q | q | q <;> rw [q] <;> decide
theorem HF.lk (h : HF cs ad st L f) {s : Nat} (hs : s < 8) (hk : st.1 12 s = 0 ∨ st.1 12 s = 1) : ad (18 + s) ∈ L ∧ f (ad (18 + s)) = .inr (3, [va_rf (hFi st ad s), .double (st.2.1 20 s), .int (st.1 21 s), .int (bI (decide (st.1 12 s = 1))), va_rf (hOw st ad s), .int (st.1 14 s)]) :=
  have hm : ¬ st.1 12 s = -1 := by rcases hk with q | q <;> rw [q] <;> decide
  ⟨h.mem (hl_sy hs hm), (h.sy hs hm).trans (hSync_lk hk)⟩
theorem HF.sm (h : HF cs ad st L f) {s : Nat} (hs : s < 8) (hk : st.1 12 s = 2 ∨ st.1 12 s = 3) : ad (18 + s) ∈ L ∧ f (ad (18 + s)) = .inr (4, [va_rf (hFi st ad s), .double (st.2.1 20 s), .int (st.1 21 s), .int (bI (decide (st.1 12 s = 3))), .int (st.1 15 s)]) :=
  have hm : ¬ st.1 12 s = -1 := by rcases hk with q | q <;> rw [q] <;> decide
  ⟨h.mem (hl_sy hs hm), (h.sy hs hm).trans (hSync_sm hk)⟩
theorem HF.la (h : HF cs ad st L f) {s : Nat} (hs : s < 8) (hk : st.1 12 s = 4) : ad (18 + s) ∈ L ∧ f (ad (18 + s)) = .inr (5, [va_rf (hFi st ad s), .double (st.2.1 20 s), .int (st.1 21 s), .int (st.1 15 s)]) :=
  have hm : ¬ st.1 12 s = -1 := by rw [hk]; decide
  ⟨h.mem (hl_sy hs hm), (h.sy hs hm).trans (hSync_la hk)⟩
theorem HF.sh (h : HF cs ad st L f) {s : Nat} (hs : s < 8) (hk : st.1 12 s = 5) : ad (18 + s) ∈ L ∧ f (ad (18 + s)) = .inr (6, [va_rf (hFi st ad s), .double (st.2.1 20 s), .int (st.1 21 s), va_rf (hOw st ad s), .int (st.1 14 s), .ref (ad (26 + s))]) :=
  have hm : ¬ st.1 12 s = -1 := by rw [hk]; decide
  ⟨h.mem (hl_sy hs hm), (h.sy hs hm).trans (hSync_sh hk)⟩
theorem HF.cd (h : HF cs ad st L f) {s : Nat} (hs : s < 8) (hk : st.1 12 s = 6) : ad (18 + s) ∈ L ∧ f (ad (18 + s)) = .inr (7, [va_rf (hFi st ad s), .double (st.2.1 20 s), .int (st.1 21 s), .ref (ad (18 + s_lk st s))]) :=
  have hm : ¬ st.1 12 s = -1 := by rw [hk]; decide
  ⟨h.mem (hl_sy hs hm), (h.sy hs hm).trans (hSync_cd hk)⟩
/-- two tasks by their cells -/
theorem HF.tinj (h : HF cs ad st L f) {t u : Nat} (ht : t < 6) (hu : u < 6) (e : ad (12 + t) = ad (12 + u)) : t = u := by
  have := h.2 _ _ (hl_lo (by omega)) (hl_lo (by omega)) e
  omega
theorem HF.winj (h : HF cs ad st L f) {t u : Nat} (ht : t < 6) (hu : u < 6) (hbt : ¬ st.1 1 t = 0) (hbu : ¬ st.1 1 u = 0) (e : ad (34 + t) = ad (34 + u)) : t = u := by
  have := h.2 _ _ (hl_wt ht hbt) (hl_wt hu hbu) e
  omega
theorem hOw_none {n : Nat} (ho : Ok n st) {s : Nat} (hs : s < 8) : hOw st ad s = none ↔ st.1 13 s < 0 := by
  unfold hOw
  rw [ho.oneg hs]
  split
  · simp_all
  · simp_all
theorem hOw_some (h : HF cs ad st L f) {n : Nat} (ho : Ok n st) {s t : Nat} (hs : s < 8) (ht : t < 6) : hOw st ad s = some (ad (12 + t)) ↔ st.1 13 s = nI t := by
  unfold hOw
  rcases (ho.1 s hs).1.2.1 with q | ⟨u, hu, q⟩
  · rw [q, if_pos rfl]
    exact ⟨fun z => by (cases z), fun z => absurd z.symm (nI_m1 (by omega))⟩
  · rw [q, if_neg (nI_m1 (by omega)), iN_nI hu (by decide)]
    constructor
    · intro z
      have := h.tinj hu ht (Option.some.inj z)
      rw [this]
    · intro z
      rw [nIj (by omega) (by omega) z]
theorem nxt_at {l : List Nat} (hn : l.Nodup) : ∀ {i : Nat}, i < l.length → nxt l (l.getD i 0) = l[i + 1]? := by
  induction l with
  | nil => intro i h; simp at h
  | cons a l ih =>
    intro i h
    cases i with
    | zero =>
      show (if a = a then l.head? else _) = _
      rw [if_pos rfl]
      cases l <;> rfl
    | succ i =>
      have h2 : i < l.length := by simpa using h
      have e : (a :: l).getD (i + 1) 0 = l.getD i 0 := rfl
      rw [e]
      have hne : ¬ a = l.getD i 0 := fun z => (List.nodup_cons.mp hn).1 (z ▸ ls_mem h2)
      show (if a = l.getD i 0 then _ else nxt l (l.getD i 0)) = _
      rw [if_neg hne, ih (List.nodup_cons.mp hn).2 h2]
      rfl
theorem hAt_some {s i : Nat} (h : i < (st.2.2 s).length) : hAt st ad s i = some (ad (34 + (st.2.2 s).getD i 0)) := by
  unfold hAt
  rw [List.getElem?_eq_getElem h, ls_getD h]
  rfl
theorem hAt_none {s i : Nat} (h : ¬ i < (st.2.2 s).length) : hAt st ad s i = none := by
  unfold hAt
  rw [List.getElem?_eq_none (by omega)]
  rfl
theorem hNx_at {n : Nat} (ho : Ok n st) {s i : Nat} (hs : s < 8) (h : i < (st.2.2 s).length) : hNx st ad ((st.2.2 s).getD i 0) = hAt st ad s (i + 1) := by
  have hw : s_wf st ((st.2.2 s).getD i 0) = s := by
    unfold s_wf
    rw [(ho.row hs (ls_mem h)).2.1]
    exact iN_nI hs (by decide)
  unfold hNx hAt
  rw [hw, nxt_at (ho.1 s hs).2.2.1 h]
theorem Ok.rowx {n : Nat} (ho : Ok n st) {s i : Nat} (hs : s < 8) (h : i < (st.2.2 s).length) : (st.2.2 s).getD i 0 < 6 ∧ ¬ st.1 1 ((st.2.2 s).getD i 0) = 0 ∧ s_wf st ((st.2.2 s).getD i 0) = s := by
  have hr := ho.row hs (ls_mem h)
  refine ⟨hr.1, by rw [hr.2.2.1]; decide, ?_⟩
  unfold s_wf
  rw [hr.2.1]
  exact iN_nI hs (by decide)
end HFS
