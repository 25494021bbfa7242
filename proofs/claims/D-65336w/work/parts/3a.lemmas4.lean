/-! readings of the public methods' answers -/
theorem s_thread_in {st : St} {t : Nat} {w : Int32} (ht : iN (nI t) = t) (h1 : isOut (nI t) 6 = false) (h2 : isOut w 11 = false) : s_thread st (nI t) w = (0, s_thr st t w, st) := by simp [s_thread, h1, h2, ht]
theorem s_thr1 {st : St} {t : Nat} : s_thr st t (nI 1) = st.1 4 t := by
  unfold s_thr
  rw [if_neg (by decide), if_pos (by decide)]
theorem s_thr2 {st : St} {t : Nat} : s_thr st t (nI 2) = if ¬ st.1 2 t = 0 then 1 else 0 := by
  unfold s_thr
  rw [if_neg (by decide), if_neg (by decide), if_pos (by decide)]
theorem nI_nel {w k : Nat} {x : Int32} (hx : x = nI k) (hw : w < 2 ^ 31) (hk : k < 2 ^ 31) (h : ¬ w = k) : ¬ nI w = x := by
  rw [hx]; exact fun z => h ((nI_eq hw hk).mp z)
theorem s_thr3 {st : St} {t w : Nat} (hw : w < 11) (h0 : ¬ w = 0) (h1 : ¬ w = 1) (h2 : ¬ w = 2) : s_thr st t (nI w) = (if st.1 13 (w - 3) = nI t then st.1 14 (w - 3) else 0) + st.1 17 (6 * (w - 3) + t) := by
  unfold s_thr
  rw [if_neg (nI_nel (x := 0) (k := 0) rfl (by omega) (by decide) h0), if_neg (nI_nel (x := 1) (k := 1) rfl (by omega) (by decide) h1), if_neg (nI_nel (x := 2) (k := 2) rfl (by omega) (by decide) h2), iN_nI hw (by decide)]
theorem s_syn2 {st : St} {s w : Nat} (hw : w < 9) (h0 : ¬ w = 0) (h1 : ¬ w = 1) (h8 : ¬ w = 8) : s_syn st s (nI w) = (if w - 2 < (st.2.2 s).length then nI ((st.2.2 s).getD (w - 2) 0) else -1) := by
  unfold s_syn
  rw [if_neg (nI_nel (x := 0) (k := 0) rfl (by omega) (by decide) h0), if_neg (nI_nel (x := 1) (k := 1) rfl (by omega) (by decide) h1), if_neg (nI_nel (x := 8) (k := 8) rfl (by omega) (by decide) h8), iN_nI hw (by decide)]
  split
  · rename_i t h
    have hl := (List.getElem?_eq_some_iff.mp h).1
    rw [if_pos hl, List.getD_eq_getElem?_getD, h]; rfl
  · rename_i h
    rw [if_neg (by have := List.getElem?_eq_none_iff.mp h; omega)]
theorem s_sync_in {st : St} {s : Nat} {w : Int32} (hs : iN (nI s) = s) (h1 : isOut (nI s) 8 = false) (h2 : isOut w 9 = false) (h3 : ¬ st.1 12 s < 0) : s_sync st (nI s) w = (0, s_syn st s w, st) := by simp [s_sync, h1, h2, hs, h3]
theorem s_check_0 {st : St} {t s : Nat} (h : s_check st t s = 0) : ¬ st.1 12 s < 0 ∧ st.1 1 t = 0 := by
  unfold s_check at h
  split at h
  · exact absurd h (by decide)
  · rename_i h1
    split at h
    · exact absurd h (by decide)
    · rename_i h2
      exact ⟨h1, Decidable.not_not.mp h2⟩
theorem s_checkC_pos (st : St) (t s : Nat) : 0 < s_checkC st t s ↔ ¬ s_checkC st t s = 0 := by
  unfold s_checkC
  split
  · exact s_check_pos st t s
  · split
    · decide
    · split <;> decide
theorem s_checkC_0 {st : St} {t s : Nat} (h : s_checkC st t s = 0) : ¬ st.1 12 s < 0 ∧ st.1 1 t = 0 ∧ st.1 12 s = 6 ∧ st.1 13 (s_lk st s) = nI t := by
  unfold s_checkC at h
  split at h
  · rename_i h1; exact absurd h h1
  · rename_i h1
    have h1 := s_check_0 (Decidable.not_not.mp h1)
    split at h
    · exact absurd h (by decide)
    · rename_i h2
      split at h
      · exact absurd h (by decide)
      · rename_i h3
        exact ⟨h1.1, h1.2, Decidable.not_not.mp h2, Decidable.not_not.mp h3⟩
theorem Ok.lkc {n : Nat} {st : St} {s : Nat} (h : Ok n st) (hs : s < 8) : st.1 12 s = 6 → st.1 16 s = nI (s_lk st s) ∧ s_lk st s < 8 := fun hk => ⟨((h.1 s hs).1.2.2.2.1 hk).2.1, ((h.1 s hs).1.2.2.2.1 hk).1⟩
theorem Ok.time {n : Nat} {st : St} {v : UInt64} (h : Ok n st) (hv : fb 1034 v) : Ok n (sD st 11 0 (FP.dadd (st.2.1 11 0) v)) :=
  h.congr rfl rfl rfl rfl rfl rfl rfl rfl rfl rfl rfl rfl rfl ⟨(fb_time h.db.1 hv).1, h.db.2.1, h.db.2.2⟩ (fun s _ _ => ⟨rfl, rfl⟩)
/-! await -/
theorem Ok.aw0 {n : Nat} {st : St} {t c : Nat} (h : Ok n st) (hc : c < 8) (hk : st.1 12 c = 6) (hb : st.1 1 t = 0) : Ok n (s_aw0 st t c) := by
  obtain ⟨hl8, hlk, hll⟩ := (h.1 c hc).1.2.2.2.1 hk
  have h1 : Ok n (sI st 9 t (st.1 14 (s_lk st c))) := h.back hb
  exact (h1.own (v := -1) (w := 0) hl8 (Or.inl rfl) (by rcases hll with q | q; exact Or.inl q; exact Or.inr (Or.inl q)) (Or.inr (Or.inl ⟨rfl, rfl⟩))).I (by omega)
theorem Ok.un5 {n : Nat} {st : St} {t s : Nat} (h : Ok n st) (ht : t < 6) (hb : st.1 1 t = 0) (hs : s < 8) : ¬ st.1 5 t = nI s := by
  rcases (h.2.1 t ht).1 with ⟨-, q⟩ | ⟨q, -⟩
  · rw [q]; exact fun z => nI_m1 (a := s) (by omega) z.symm
  · rw [hb] at q; exact absurd q (by decide)
theorem aw_q0 {n : Nat} {st : St} {t c : Nat} {why : Int32} (h : Ok n st) (hc : c < 8) (ht : t < 6) (hb : st.1 1 t = 0) : s_queue0 (s_aw0 st t c) t c why = s_aw0 st t c := by
  unfold s_queue0
  exact if_neg (h.un5 ht hb hc)
/-- the state before the serving, in await with a limit of 0 -/
theorem Ok.awq {n : Nat} {st : St} {t c : Nat} {why : Int32} (h : Ok n st) (hc : c < 8) (ht : t < 6) (hb : st.1 1 t = 0) (hk : st.1 12 c = 6) (ho : st.1 13 (s_lk st c) = nI t) (hr : ∀ s', s' < 8 → ∃ d : Nat, st.1 17 (6 * s' + t) = nI d ∧ d + 1 ≤ n ∧ (¬ st.1 12 s' = 5 → d = 0)) : Ok n (s_qpre (s_aw0 st t c) t c why) := by
  obtain ⟨hl8, hlk, hll⟩ := (h.1 c hc).1.2.2.2.1 hk
  have h0 := h.aw0 (t := t) hc hk hb
  unfold s_qpre
  rw [aw_q0 h hc ht hb]
  have h2 : Ok n (sI (sD (sI (s_aw0 st t c) 10 t why) 7 t cM1) 6 t 0) := ((h0.I (by omega)).D (by omega)).mode (Or.inl rfl)
  have hk6 : ¬ st.1 12 (s_lk st c) = 6 := by rcases hll with q | q <;> rw [q] <;> decide
  obtain ⟨d, d1, d2, d3⟩ : ∃ d : Nat, 0 < d ∧ d ≤ n ∧ st.1 14 (s_lk st c) = nI d := by
    rcases (h.1 _ hl8).2.1 (Or.inr hll) with ⟨q, -⟩ | ⟨-, q⟩
    · rw [ho] at q; exact absurd q (nI_m1 (by omega))
    · exact q
  refine Ok.enter (st := sI (sD (sI (s_aw0 st t c) 10 t why) 7 t cM1) 6 t 0) (s := s_lk st c) h2 hl8 ht hb ?_ hr ⟨d, d2, pk_us.trans d3, fun _ => d1, fun k0 k1 _ => ?_⟩ (fun _ => ?_) (fun q => absurd q hk6)
  · show ¬ st.1 12 (s_lk st c) = -1
    rcases hll with q | q <;> rw [q] <;> decide
  · have k0 : ¬ st.1 12 (s_lk st c) = 0 := k0
    have k1 : ¬ st.1 12 (s_lk st c) = 1 := k1
    rcases hll with q | q
    · exact absurd q k0
    · exact absurd q k1
  · show ¬ upd (st.1 13) (s_lk st c) (-1) (s_lk st c) = nI t
    rw [pk_us]
    exact fun z => nI_m1 (a := t) (by omega) z.symm
/-- the state before the serving, in await with another limit -/
theorem Ok.awe {n : Nat} {st : St} {t c : Nat} {v : UInt64} (h : Ok n st) (hc : c < 8) (ht : t < 6) (hb : st.1 1 t = 0) (hk : st.1 12 c = 6) (ho : st.1 13 (s_lk st c) = nI t) (hr : ∀ s', s' < 8 → ∃ d : Nat, st.1 17 (6 * s' + t) = nI d ∧ d + 1 ≤ n ∧ (¬ st.1 12 s' = 5 → d = 0)) : Ok n (s_enter (sI (sD (s_aw0 st t c) 7 t v) 6 t 0) t c) := by
  obtain ⟨hl8, hlk, hll⟩ := (h.1 c hc).1.2.2.2.1 hk
  have h0 := h.aw0 (t := t) hc hk hb
  have h2 : Ok n (sI (sD (s_aw0 st t c) 7 t v) 6 t 0) := (h0.D (by omega)).mode (Or.inl rfl)
  obtain ⟨d, d1, d2, d3⟩ : ∃ d : Nat, 0 < d ∧ d ≤ n ∧ st.1 14 (s_lk st c) = nI d := by
    rcases (h.1 _ hl8).2.1 (Or.inr hll) with ⟨q, -⟩ | ⟨-, q⟩
    · rw [ho] at q; exact absurd q (nI_m1 (by omega))
    · exact q
  refine Ok.enter (st := sI (sD (s_aw0 st t c) 7 t v) 6 t 0) (s := c) h2 hc ht hb ?_ hr ⟨d, d2, pk_us.trans d3, fun _ => d1, fun _ _ k => absurd hk k⟩ (fun q => ?_) (fun _ => ?_)
  · show ¬ st.1 12 c = -1
    rw [hk]; decide
  · have q : st.1 12 c = 1 := q
    rw [hk] at q; exact absurd q (by decide)
  · show ¬ upd (st.1 13) (s_lk st c) (-1) (s_lk st c) = nI t
    rw [pk_us]
    exact fun z => nI_m1 (a := t) (by omega) z.symm
theorem Ok.rd {n : Nat} {st : St} {t : Nat} (h : Ok n st) (ht : t < 6) (hb : st.1 1 t = 0) : ∀ s', s' < 8 → ∃ d : Nat, st.1 17 (6 * s' + t) = nI d ∧ d + 1 ≤ n + 1 ∧ (¬ st.1 12 s' = 5 → d = 0) := by
  intro s' hs'
  obtain ⟨d, q1, q2, q3⟩ := (h.1 s' hs').2.2.2.1 t ht
  rw [if_pos hb] at q2
  exact ⟨d, q1, by omega, q3⟩
theorem s_int_in {st : St} {t : Nat} (ht : iN (nI t) = t) (h1 : isOut (nI t) 6 = false) : s_interrupt st (nI t) = (0, (s_intr st t).1 4 t, s_intr st t) := by simp [s_interrupt, h1, ht]
theorem isOut02 : isOut 0 2 = false := by decide
theorem isOut12 : isOut 1 2 = false := by decide
