/-! lists and the rows -/
theorem ls_getD {l : List Nat} {i : Nat} (h : i < l.length) : l.getD i 0 = l[i] := by
  rw [List.getD_eq_getElem?_getD, List.getElem?_eq_getElem h]; rfl
def RWf (st : St) : Prop := ∀ s, s < 8 → (st.2.2 s).length ≤ 6 ∧ ∀ t, t ∈ st.2.2 s → t < 6
theorem RWf.at {st : St} (h : RWf st) {s i : Nat} (hs : s < 8) (hi : i < (st.2.2 s).length) : (st.2.2 s).getD i 0 < 6 := by
  rw [ls_getD hi]
  exact (h s hs).2 _ (List.getElem_mem hi)
/-- the doubles of the state are numbers in their bounds -/
def DBd (st : St) : Prop := fb 1200 (st.2.1 11 0) ∧ (∀ t, t < 6 → fb 1200 (st.2.1 8 t)) ∧ ∀ s, s < 8 → fb 1400 (st.2.1 20 s)
theorem s_others_t {st : St} {t s o : Nat} (ho : o < 6) (h : ¬ o = t) (h2 : 0 < st.1 17 (6 * s + o)) : s_others st t s = true :=
  List.any_eq_true.mpr ⟨o, List.mem_range.mpr ho, decide_eq_true ⟨h, h2⟩⟩
theorem s_others_f {st : St} {t s : Nat} (h : ∀ j, j < 6 → ¬ (j ≠ t ∧ 0 < st.1 17 (6 * s + j))) : s_others st t s = false := by
  unfold s_others
  rw [List.any_eq_false]
  intro j hj
  have := h j (List.mem_range.mp hj)
  simpa using this
theorem ls_drop {l : List Nat} {i : Nat} (h : i < l.length) : l.drop i = l.getD i 0 :: l.drop (i + 1) := by
  rw [ls_getD h]
  exact List.drop_eq_getElem_cons h
theorem ls_mem {l : List Nat} {i : Nat} (h : i < l.length) : l.getD i 0 ∈ l := by
  rw [ls_getD h]
  exact List.getElem_mem h
theorem ls_app {l : List Nat} {t i : Nat} (h : i < (l ++ [t]).length) : (l ++ [t]).getD i 0 = if i = l.length then t else l.getD i 0 := by
  rw [List.length_append, List.length_singleton] at h
  simp only [List.getD_eq_getElem?_getD]
  split
  · rename_i e
    subst e
    simp
  · rw [List.getElem?_append_left (by omega)]
/-- the place of a member -/
theorem ls_idx {l : List Nat} {t i : Nat} (h : i < l.length) (ht : l.getD i 0 = t) (hn : ∀ j, j < i → ¬ l.getD j 0 = t) : l.erase t = l.eraseIdx i := by
  induction l generalizing i with
  | nil => simp at h
  | cons a l ih =>
    cases i with
    | zero =>
      have : a = t := ht
      subst this
      simp
    | succ i =>
      have h0 : ¬ a = t := hn 0 (by omega)
      rw [List.erase_cons_tail (by simpa using h0), List.eraseIdx_cons_succ]
      rw [ih (by simpa using h) ht (fun j hj => hn (j + 1) (by omega))]
theorem ls_ei {l : List Nat} {i j : Nat} : (l.eraseIdx i).getD j 0 = if j < i then l.getD j 0 else l.getD (j + 1) 0 := by
  simp only [List.getD_eq_getElem?_getD, List.getElem?_eraseIdx]
  split <;> rfl
theorem ls_has {l : List Nat} {t : Nat} (h : t ∈ l) : ∃ i, i < l.length ∧ l.getD i 0 = t := by
  obtain ⟨i, hi, e⟩ := List.getElem_of_mem h
  exact ⟨i, hi, by rw [ls_getD hi]; exact e⟩
theorem nI_gt0 {n : Nat} (h : n < 2 ^ 31) : 0 < nI n ↔ 0 < n := by
  have := nI_ltI (a := 0) (b := n) (by decide) h
  exact this
section NIR2
variable {p : Program} {l : Launch} {e : Env} {R : Room} {s : State} {m : MethodId} {args : Array Value} {below : List Frame} {meth : Method} {c : Code} {H : Heap} {locs : List Loc} {cells slots : Nat} {Q : State → Prop}
variable {cc : ByteArray} {nL pc : Nat} {ls : Array Slot} {rest : List Value} {a : Nat} {off : Int} {tgt : Nat}
theorem ni_if_gt (hx : p.tables.exec = Jvm.exec) (hb : c.code = cc) (h1 : a < 2 ^ 31) (hdg : decode cc pc = .ok (.ifCond .gt off, 3)) (ht : (pc : Int) + off = (tgt : Int)) (kt : 0 < a → W p l e R s m args below meth c H locs cells slots Q (F0 m tgt ls rest)) (kf : ¬ 0 < a → W p l e R s m args below meth c H locs cells slots Q (F0 m (pc + 3) ls rest)) : W p l e R s m args below meth c H locs cells slots Q (F0 m pc ls (.int (nI a) :: rest)) :=
  lv_if_gt hx hb hdg ht (fun q => kt ((nI_gt0 h1).mp q)) (fun q => kf (fun z => q ((nI_gt0 h1).mpr z)))
theorem ni_if_le (hx : p.tables.exec = Jvm.exec) (hb : c.code = cc) (h1 : a < 2 ^ 31) (hdg : decode cc pc = .ok (.ifCond .le off, 3)) (ht : (pc : Int) + off = (tgt : Int)) (kt : ¬ 0 < a → W p l e R s m args below meth c H locs cells slots Q (F0 m tgt ls rest)) (kf : 0 < a → W p l e R s m args below meth c H locs cells slots Q (F0 m (pc + 3) ls rest)) : W p l e R s m args below meth c H locs cells slots Q (F0 m pc ls (.int (nI a) :: rest)) :=
  lw_if_le hx hb hdg ht (fun q => kt (fun z => q ((nI_gt0 h1).mpr z))) (fun q => kf ((nI_gt0 h1).mp q))
theorem ni_if_eq (hx : p.tables.exec = Jvm.exec) (hb : c.code = cc) (h1 : a < 2 ^ 31) (hdg : decode cc pc = .ok (.ifCond .eq off, 3)) (ht : (pc : Int) + off = (tgt : Int)) (kt : a = 0 → W p l e R s m args below meth c H locs cells slots Q (F0 m tgt ls rest)) (kf : ¬ a = 0 → W p l e R s m args below meth c H locs cells slots Q (F0 m (pc + 3) ls rest)) : W p l e R s m args below meth c H locs cells slots Q (F0 m pc ls (.int (nI a) :: rest)) :=
  lv_if_eq hx hb hdg ht (fun q => kt ((nI_eq (b := 0) h1 (by decide)).mp q)) (fun q => kf (fun z => q ((nI_eq (b := 0) h1 (by decide)).mpr z)))
theorem ni_if_ne (hx : p.tables.exec = Jvm.exec) (hb : c.code = cc) (h1 : a < 2 ^ 31) (hdg : decode cc pc = .ok (.ifCond .ne off, 3)) (ht : (pc : Int) + off = (tgt : Int)) (kt : ¬ a = 0 → W p l e R s m args below meth c H locs cells slots Q (F0 m tgt ls rest)) (kf : a = 0 → W p l e R s m args below meth c H locs cells slots Q (F0 m (pc + 3) ls rest)) : W p l e R s m args below meth c H locs cells slots Q (F0 m pc ls (.int (nI a) :: rest)) :=
  lv_if_ne hx hb hdg ht (fun q => kt (fun z => q ((nI_eq (b := 0) h1 (by decide)).mpr z))) (fun q => kf ((nI_eq (b := 0) h1 (by decide)).mp q))
theorem lw_eqi {x y : Int32} (h : x = y) (k : W p l e R s m args below meth c H locs cells slots Q (F0 m pc ls (.int y :: rest))) : W p l e R s m args below meth c H locs cells slots Q (F0 m pc ls (.int x :: rest)) := by rw [h]; exact k
end NIR2
theorem rw_enter {st : St} {x : Nat → Nat → Int32} {t s : Nat} (h : Rows st x) (hs : s < 8) (hlen : (st.2.2 s).length < 6) (hwf : ∀ s, s < 8 → (st.2.2 s).length ≤ 6) : Rows (s_enter st t s) (va_up (va_up x 18 (upd (x 18) (6 * s + (st.2.2 s).length) (nI t))) 19 (upd (x 19) s (nI ((st.2.2 s).length + 1)))) := by
  intro s' hs'
  have h2 := h s' hs'
  show _ = nI ((va_up st.2.2 s (st.2.2 s ++ [t])) s').length ∧ ∀ i, i < ((va_up st.2.2 s (st.2.2 s ++ [t])) s').length → _ = nI (((va_up st.2.2 s (st.2.2 s ++ [t])) s').getD i 0)
  by_cases e : s' = s
  · subst e
    have e0 : va_up st.2.2 s' (st.2.2 s' ++ [t]) s' = st.2.2 s' ++ [t] := if_pos rfl
    rw [e0]
    refine ⟨?_, fun i hi => ?_⟩
    · show upd (x 19) s' _ s' = _
      rw [pk_us, List.length_append, List.length_singleton]
    · show upd (x 18) (6 * s' + (st.2.2 s').length) _ (6 * s' + i) = _
      rw [ls_app hi]
      simp only [List.length_append, List.length_singleton] at hi
      by_cases e2 : i = (st.2.2 s').length
      · rw [if_pos e2, e2, pk_us]
      · rw [if_neg e2, pk_un (by omega)]
        exact h2.2 i (by omega)
  · have e0 : va_up st.2.2 s (st.2.2 s ++ [t]) s' = st.2.2 s' := if_neg e
    rw [e0]
    have h3 := hwf s' hs'
    refine ⟨?_, fun i hi => ?_⟩
    · show upd (x 19) s _ s' = _
      rw [pk_un e]
      exact h2.1
    · show upd (x 18) (6 * s + (st.2.2 s).length) _ (6 * s' + i) = _
      rw [pk_un (by omega)]
      exact h2.2 i hi
/-- the rows while one is being closed up: up to j done -/
def rmv (st : St) (x y : Nat → Nat → Int32) (t s i j : Nat) : Prop :=
  y 0 = x 0 ∧ (∀ s', s' < 8 → y 19 s' = if s' = s then nI ((st.2.2 s).length - 1) else x 19 s') ∧ (∀ s', s' < 8 → ∀ k, k < 6 → s' ≠ s → y 18 (6 * s' + k) = x 18 (6 * s' + k)) ∧
  (∀ k, k < 6 → k < j → y 18 (6 * s + k) = nI (((st.2.2 s).eraseIdx i).getD k 0)) ∧ ∀ k, k < (st.2.2 s).length → j ≤ k → y 18 (6 * s + k) = nI ((st.2.2 s).getD k 0)
theorem rmv_0 {st : St} {x : Nat → Nat → Int32} {t s i : Nat} (h : Rows st x) (hs : s < 8) (hi : i < (st.2.2 s).length) : rmv st x (va_up x 19 (upd (x 19) s (nI ((st.2.2 s).length - 1)))) t s i i := by
  refine ⟨rfl, fun s' _ => rfl, fun s' _ k _ _ => rfl, fun k _ hk => ?_, fun k hk _ => ?_⟩
  · rw [ls_ei, if_pos hk]
    exact (h s hs).2 k (by omega)
  · exact (h s hs).2 k hk
theorem rmv_s {st : St} {x y : Nat → Nat → Int32} {t s i j : Nat} (h : rmv st x y t s i j) (hij : i ≤ j) (hs : s < 8) (hj : j + 1 < (st.2.2 s).length) (hl : (st.2.2 s).length ≤ 6) : rmv st x (va_up y 18 (upd (y 18) (6 * s + j) (y 18 (6 * s + j + 1)))) t s i (j + 1) := by
  obtain ⟨h1, h2, h3, h4, h5⟩ := h
  refine ⟨h1, fun s' hs' => h2 s' hs', fun s' hs' k hk hn => ?_, fun k hk6 hk => ?_, fun k hk hjk => ?_⟩
  · show upd (y 18) (6 * s + j) _ (6 * s' + k) = _
    rw [pk_un (by omega)]
    exact h3 s' hs' k hk hn
  · show upd (y 18) (6 * s + j) _ (6 * s + k) = _
    by_cases e : k = j
    · subst e
      rw [pk_us, Nat.add_assoc, h5 (k + 1) (by omega) (by omega), ls_ei, if_neg (by omega)]
    · rw [pk_un (by omega)]
      exact h4 k hk6 (by omega)
  · show upd (y 18) (6 * s + j) _ (6 * s + k) = _
    rw [pk_un (by omega)]
    exact h5 k hk (by omega)
theorem rmv_e {st : St} {x y : Nat → Nat → Int32} {t s i j : Nat} (h : rmv st x y t s i j) (hx : Rows st x) (hs : s < 8) (hj : ¬ j + 1 < (st.2.2 s).length) (hl : ∀ s, s < 8 → (st.2.2 s).length ≤ 6) (he : (st.2.2 s).erase t = (st.2.2 s).eraseIdx i) (hi : i < (st.2.2 s).length) : Rows (s_remove st t s) y := by
  obtain ⟨h1, h2, h3, h4, h5⟩ := h
  intro s' hs'
  show _ = nI ((va_up st.2.2 s ((st.2.2 s).erase t)) s').length ∧ ∀ i, i < ((va_up st.2.2 s ((st.2.2 s).erase t)) s').length → _ = nI (((va_up st.2.2 s ((st.2.2 s).erase t)) s').getD i 0)
  rw [h2 s' hs']
  have hl6 := hl s' hs'
  by_cases e : s' = s
  · subst e
    simp only [va_up, if_true]
    rw [he]
    have hlen : ((st.2.2 s').eraseIdx i).length = (st.2.2 s').length - 1 := List.length_eraseIdx_of_lt hi
    exact ⟨by rw [hlen], fun k hk => h4 k (by omega) (by omega)⟩
  · simp only [va_up, if_neg e]
    exact ⟨(hx s' hs').1, fun k hk => by rw [h3 s' hs' k (by omega) e]; exact (hx s' hs').2 k hk⟩
theorem s_next_0 {st : St} {s : Nat} (h : 0 < (st.2.2 s).length) : s_next st s = s_nextF st s ((st.2.2 s).getD 0 0) ((st.2.2 s).drop 1) := by
  unfold s_next
  cases hr : st.2.2 s with
  | nil => rw [hr] at h; simp at h
  | cons a l => rfl
theorem s_nextF_mem {st : St} {s : Nat} : ∀ (l : List Nat) (b : Nat), s_nextF st s b l = b ∨ s_nextF st s b l ∈ l := by
  intro l
  induction l with
  | nil => intro b; exact Or.inl rfl
  | cons a l ih =>
    intro b
    unfold s_nextF
    rcases ih (if s_better st s b a = true then a else b) with h | h
    · rw [h]
      split
      · exact Or.inr List.mem_cons_self
      · exact Or.inl rfl
    · exact Or.inr (List.mem_cons_of_mem _ h)
theorem s_next_mem {st : St} {s : Nat} (h : 0 < (st.2.2 s).length) : s_next st s ∈ st.2.2 s := by
  unfold s_next
  cases hr : st.2.2 s with
  | nil => rw [hr] at h; simp at h
  | cons a l =>
    rcases s_nextF_mem (st := st) (s := s) l a with h | h
    · show s_nextF st s a l ∈ _
      rw [h]; exact List.mem_cons_self
    · exact List.mem_cons_of_mem _ h
theorem ls_ie1 {l : List Nat} (h : 0 < l.length) : l.isEmpty = false := by cases l <;> simp at h ⊢
theorem ls_ie0 {l : List Nat} (h : ¬ 0 < l.length) : l.isEmpty = true := by cases l <;> simp at h ⊢
theorem ls_any_t {l : List Nat} {f : Nat → Bool} {i : Nat} (hi : i < l.length) (h : f (l.getD i 0) = true) : l.any f = true := List.any_eq_true.mpr ⟨_, ls_mem hi, h⟩
theorem ls_any_f {l : List Nat} {f : Nat → Bool} (h : ∀ i, i < l.length → ¬ f (l.getD i 0) = true) : l.any f = false := by
  rw [List.any_eq_false]
  intro x hx
  obtain ⟨i, hi, rfl⟩ := ls_has hx
  exact h i hi
theorem s_mq5 {st : St} {t s : Nat} {m : Int32} (h5 : st.1 12 s = 5) (h1 : ¬ 0 < st.1 17 (6 * s + t)) (h2 : ¬ st.1 13 s = nI t) : s_mustQueue st t s m = (st.2.2 s).any (fun u => decide (m = 1 ∨ st.1 6 u = 1)) := by
  simp [s_mustQueue, h5, h1, h2]
