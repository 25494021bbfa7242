/-! the invariant goes through serving, queueing, giving up -/
section OKS2
variable {n : Nat} {st : St}
theorem nI_0' : nI 0 = 0 := nI_0
theorem Ok.kind (h : Ok n st) {s : Nat} (hs : s < 8) : st.1 12 s = -1 ∨ st.1 12 s = 0 ∨ st.1 12 s = 1 ∨ st.1 12 s = 2 ∨ st.1 12 s = 3 ∨ st.1 12 s = 4 ∨ st.1 12 s = 5 ∨ st.1 12 s = 6 := by
  rcases (h.1 s hs).1.1 with q | ⟨k, hk, q⟩
  · exact Or.inl q
  · right
    rw [q]
    match k, hk with
    | 0, _ => decide
    | 1, _ => decide
    | 2, _ => decide
    | 3, _ => decide
    | 4, _ => decide
    | 5, _ => decide
    | 6, _ => decide
theorem Ok.made (h : Ok n st) {s t : Nat} (hs : s < 8) (hm : t ∈ st.2.2 s) : ¬ st.1 12 s = -1 := by
  intro hk
  have := ((h.1 s hs).1.2.2.2.2.2 hk).2.2
  rw [this] at hm
  cases hm
theorem Ok.neg (h : Ok n st) {s : Nat} (hs : s < 8) : st.1 12 s < 0 ↔ st.1 12 s = -1 := by
  constructor
  · intro hk
    rcases h.kind hs with q | q | q | q | q | q | q | q
    · exact q
    all_goals rw [q] at hk; exact absurd hk (by decide)
  · intro hk
    rw [hk]; decide
theorem Ok.oneg (h : Ok n st) {s : Nat} (hs : s < 8) : st.1 13 s < 0 ↔ st.1 13 s = -1 := by
  rcases (h.1 s hs).1.2.1 with q | ⟨t, ht, q⟩
  · rw [q]; decide
  · rw [q]
    exact ⟨fun z => absurd z (nI_pos (by omega)), fun z => absurd z (nI_m1 (by omega))⟩
/-- t, that runs and waits nowhere, is given the sync -/
theorem Ok.take (h : Ok n st) {s t : Nat} {m : Int32} (hs : s < 8) (ht : t < 6) (hb : st.1 1 t = 0) (hk : ¬ st.1 12 s = -1) (hk6 : ¬ st.1 12 s = 6) (hm : m = 0 ∨ m = 1) (hc : s_canTake st t s m = true) (hr : ∃ d : Nat, st.1 17 (6 * s + t) = nI d ∧ d + 1 ≤ n) (hn : n ≤ 100) (ho : st.1 12 s = 1 → st.1 13 s = nI t → ∃ d : Nat, 0 < d ∧ d + 1 ≤ n ∧ st.1 14 s = nI d) : Ok n (s_take st t s m) := by
  obtain ⟨d, hd, hdn⟩ := hr
  unfold s_canTake at hc
  unfold s_take
  have h3 := (h.1 s hs).2.1
  have hlast : st.1 12 s = 0 ∨ st.1 12 s = 1 → Ok n (sI (sI st 13 s (nI t)) 14 s (st.1 14 s + 1)) := by
    intro hl
    refine h.own hs (Or.inr ⟨t, ht, rfl, hb⟩) (by rcases hl with q | q; exact Or.inl q; exact Or.inr (Or.inl q)) (Or.inr (Or.inr ⟨nI_m1 (by omega), ?_⟩))
    have hfree : st.1 13 s = -1 → ∃ d : Nat, 0 < d ∧ d ≤ n ∧ st.1 14 s + 1 = nI d := by
      intro q
      rcases h3 (Or.inr hl) with ⟨q1, q2⟩ | ⟨q1, -⟩
      · exact ⟨1, by omega, by omega, by rw [q2]; rfl⟩
      · exact absurd q q1
    rcases hl with q | q
    · rw [if_pos q] at hc
      exact hfree ((h.oneg hs).mp (of_decide_eq_true hc))
    · rw [if_neg (by rw [q]; decide), if_pos q] at hc
      rcases of_decide_eq_true hc with z | z
      · exact hfree ((h.oneg hs).mp z)
      · obtain ⟨d, d1, d2, d3⟩ := ho q z
        exact ⟨d + 1, by omega, by omega, by rw [d3]; exact nI_1 d⟩
  rcases h.kind hs with q | q | q | q | q | q | q | q
  · exact absurd q hk
  · rw [if_neg (by rw [q]; decide), if_neg (fun z => absurd (q.symm.trans z.1) (by decide)), if_neg (by rw [q]; decide)]
    exact hlast (Or.inl q)
  · rw [if_neg (by rw [q]; decide), if_neg (fun z => absurd (q.symm.trans z.1) (by decide)), if_neg (by rw [q]; decide)]
    exact hlast (Or.inr q)
  all_goals try (
    rw [if_neg (by rw [q]; decide), if_neg (by rw [q]; decide), if_pos (by rw [q]; decide)] at hc
    rw [if_pos (by rw [q]; decide)]
    obtain ⟨p, p1, p2, -⟩ := (h.1 s hs).1.2.2.2.2.1
    have hp := of_decide_eq_true hc
    rw [p2] at hp
    have hp0 := (nI_gt0 (by omega)).mp hp
    refine h.perm hs (p := p - 1) (by omega) (by rw [p2]; exact pk_sub (b := 1) hp0) ?_
    rw [q]; decide)
  · rw [if_neg (by rw [q]; decide), if_neg (fun z => absurd (q.symm.trans z.1) (by decide)), if_pos q]
    exact h
  · rw [if_neg (by rw [q]; decide)]
    by_cases hm0 : m = 0
    · rw [if_pos ⟨q, hm0⟩]
      exact h.reads hs ht hb (d := d + 1) hdn (by rw [hd]; exact nI_1 d) q
    · rw [if_neg (fun z => hm0 z.2), if_neg (by rw [q]; decide)]
      exact h.own hs (Or.inr ⟨t, ht, rfl, hb⟩) (Or.inr (Or.inr q)) (Or.inl q)
  · exact absurd q hk6
theorem s_canTake_rm {st : St} {t s u : Nat} {m : Int32} : s_canTake (sI (sI (s_addW (s_remove st u s) u s) 1 u 0) 4 u 1) t s m = s_canTake st t s m := rfl
theorem Ok.serve1 (h : Ok n st) {s : Nat} (hs : s < 8) (hn : n ≤ 100) (hg : s_goes st s = true) : Ok n (s_serve1 st (s_next st s) s) := by
  have hm := s_next_mem (s_goes_ne hg)
  generalize hte : s_next st s = t at *
  unfold s_goes at hg
  rw [hte] at hg
  simp only [Bool.and_eq_true, decide_eq_true_eq] at hg
  obtain ⟨hk6, -, hc⟩ := hg
  have hk := h.made hs hm
  obtain ⟨ht, q5, q1, ⟨d9, e9, f9, g9, i9⟩, ho, -⟩ := h.row hs hm
  obtain ⟨hrm, hr⟩ := h.rmB hs hm
  have hrm2 : Ok n (sI (s_addW (s_remove st t s) t s) 1 t 0) := Ok.addW (st := sI (s_remove st t s) 1 t 0) hrm ht hs hk
  unfold s_serve1
  split
  · rename_i hb
    rw [f9] at hb
    have hd0 := (nI_gt0 (by omega)).mp hb
    have hkk : st.1 12 s = 0 ∨ st.1 12 s = 1 := by
      by_cases k0 : st.1 12 s = 0
      · exact Or.inl k0
      · by_cases k1 : st.1 12 s = 1
        · exact Or.inr k1
        · exact absurd (i9 k0 k1 hk6) (by omega)
    have h4 : Ok n (sI (sI (s_addW (s_remove st t s) t s) 1 t 0) 4 t (st.1 10 t)) := hrm2.I (by omega)
    have h5 := h4.own (s := s) (v := nI t) (w := st.1 9 t) hs (Or.inr ⟨t, ht, rfl, pk_us⟩) (by rcases hkk with q | q; exact Or.inl q; exact Or.inr (Or.inl q)) (Or.inr (Or.inr ⟨nI_m1 (by omega), d9, hd0, e9, f9⟩))
    exact Ok.back (st := sI (sI (sI (sI (s_addW (s_remove st t s) t s) 1 t 0) 4 t (st.1 10 t)) 13 s (nI t)) 14 s (st.1 9 t)) h5 pk_us
  · have h4 : Ok n (sI (sI (s_addW (s_remove st t s) t s) 1 t 0) 4 t 1) := hrm2.I (by omega)
    obtain ⟨d, hd, hdn, -⟩ := hr s hs
    exact h4.take hs ht pk_us hk hk6 (h.2.1 t ht).2 hc ⟨d, hd, hdn⟩ hn (fun k1 k2 => absurd k2 (ho k1))
theorem Ok.serve (h : Ok n st) {s : Nat} (hs : s < 8) (hn : n ≤ 100) : Ok n (s_serve st s) :=
  s_serve_ind (P := fun st => Ok n st) (fun _ h hg => h.serve1 hs hn hg) _ st h
/-- what serving leaves -/
theorem s_take_I {t s k : Nat} {m : Int32} (h : k ≠ 13 ∧ k ≠ 14 ∧ k ≠ 15 ∧ k ≠ 17) : (s_take st t s m).1 k = st.1 k := by
  unfold s_take
  split
  · show va_up _ _ _ _ = _; simp [va_up, h.2.2.1]
  · split
    · show va_up _ _ _ _ = _; simp [va_up, h.2.2.2]
    · split
      · rfl
      · show va_up (va_up _ _ _) _ _ _ = _; simp [va_up, h.1, h.2.1]
theorem s_serve1_I {t s k : Nat} (h : k ≠ 13 ∧ k ≠ 14 ∧ k ≠ 15 ∧ k ≠ 17 ∧ k ≠ 1 ∧ k ≠ 4 ∧ k ≠ 5 ∧ k ≠ 9 ∧ k ≠ 21) : (s_serve1 st t s).1 k = st.1 k := by
  obtain ⟨h1, h2, h3, h4, h5, h6, h7, h8, h9⟩ := h
  unfold s_serve1
  split
  · show va_up (va_up (va_up (va_up (va_up (va_up (va_up _ _ _) _ _) _ _) _ _) _ _) _ _) _ _ k = _
    simp [va_up, sR, h1, h2, h3, h4, h5, h6, h7, h8, h9]
  · rw [s_take_I ⟨h1, h2, h3, h4⟩]
    show va_up (va_up (va_up (va_up _ _ _) _ _) _ _) _ _ k = _
    simp [va_up, sR, h5, h6, h7, h9]
theorem s_serve_I {s k : Nat} (h : k ≠ 13 ∧ k ≠ 14 ∧ k ≠ 15 ∧ k ≠ 17 ∧ k ≠ 1 ∧ k ≠ 4 ∧ k ≠ 5 ∧ k ≠ 9 ∧ k ≠ 21) : (s_serve st s).1 k = st.1 k :=
  s_serve_ind (P := fun st' => st'.1 k = st.1 k) (fun st' h' _ => by rw [s_serve1_I h]; exact h') _ st rfl
theorem s_enter_I {t s k : Nat} (h : k ≠ 1 ∧ k ≠ 5) : (s_enter st t s).1 k = st.1 k := by
  show va_up (va_up _ _ _) _ _ k = _
  simp [va_up, sR, h.1, h.2]
/-- a thread that waits at a condition goes over to its lock: the state before the serving -/
def s_qpre (st : St) (t c : Nat) (why : Int32) : St := s_enter (sI (sD (sI (s_queue0 st t c why) 10 t why) 7 t cM1) 6 t 0) t (s_lk st c)
theorem s_queue_eq (st : St) (t c : Nat) (why : Int32) : s_queue st t c why = s_serve (s_qpre st t c why) (s_lk st c) := rfl
/-- the same, out of the state in which the thread runs -/
theorem s_qpre_eq {t c : Nat} {why : Int32} (hw : st.1 5 t = nI c) : s_qpre st t c why = s_enter (sI (sD (sI (sI (if why = 1 then s_remove (s_addW st t c) t c else s_remove st t c) 1 t 0) 10 t why) 7 t cM1) 6 t 0) t (s_lk st c) := by
  unfold s_qpre s_queue0
  rw [if_pos hw]
  generalize (if why = 1 then s_remove (s_addW st t c) t c else s_remove st t c) = z
  unfold s_enter sI sD sR
  refine Prod.ext ?_ rfl
  funext k j
  simp only [va_up, upd]
  by_cases e1 : k = 1
  · subst e1; by_cases ej : j = t <;> simp [ej, upd]
  · simp [e1]
theorem Ok.qpre (h : Ok n st) {t c : Nat} {why : Int32} (hc : c < 8) (hm : t ∈ st.2.2 c) (hk : st.1 12 c = 6) : Ok n (s_qpre st t c why) := by
  obtain ⟨ht, q5, q1, ⟨d9, e9, f9, g9, i9⟩, ho, ho2⟩ := h.row hc hm
  obtain ⟨hl8, hlk, hll⟩ := (h.1 c hc).1.2.2.2.1 hk
  rw [s_qpre_eq q5]
  obtain ⟨hrm, hr⟩ := h.rmB hc hm
  have h1 : Ok n (sI (if why = 1 then s_remove (s_addW st t c) t c else s_remove st t c) 1 t 0) := by
    split
    · exact Ok.addW (st := sI (s_remove st t c) 1 t 0) hrm ht hc (by show ¬ st.1 12 c = -1; rw [hk]; decide)
    · exact hrm
  have hI : ∀ k, k ≠ 1 → k ≠ 5 → k ≠ 21 → (sI (if why = 1 then s_remove (s_addW st t c) t c else s_remove st t c) 1 t 0).1 k = st.1 k := by
    intro k k1 k5 k21
    split
    · show va_up (va_up (va_up _ _ _) _ _) _ _ k = _; simp [va_up, sR, sD, k1, k5, k21]
    · show va_up (va_up _ _ _) _ _ k = _; simp [va_up, sR, k1, k5]
  generalize (if why = 1 then s_remove (s_addW st t c) t c else s_remove st t c) = z at *
  have h2 : Ok n (sI (sD (sI (sI z 1 t 0) 10 t why) 7 t cM1) 6 t 0) := ((h1.I (by omega)).D (by omega)).mode (Or.inl rfl)
  have e12 : (sI (sD (sI (sI z 1 t 0) 10 t why) 7 t cM1) 6 t 0).1 12 = st.1 12 := hI 12 (by decide) (by decide) (by decide)
  have e13 : (sI (sD (sI (sI z 1 t 0) 10 t why) 7 t cM1) 6 t 0).1 13 = st.1 13 := hI 13 (by decide) (by decide) (by decide)
  have e17 : (sI (sD (sI (sI z 1 t 0) 10 t why) 7 t cM1) 6 t 0).1 17 = st.1 17 := hI 17 (by decide) (by decide) (by decide)
  have e9' : (sI (sD (sI (sI z 1 t 0) 10 t why) 7 t cM1) 6 t 0).1 9 = st.1 9 := hI 9 (by decide) (by decide) (by decide)
  have hk6 : ¬ st.1 12 (s_lk st c) = 6 := by rcases hll with q | q <;> rw [q] <;> decide
  refine h2.enter hl8 ht pk_us ?_ ?_ ?_ ?_ ?_
  · rw [e12]; rcases hll with q | q <;> rw [q] <;> decide
  · rw [e12, e17]; exact hr
  · rw [e12, e9']
    exact ⟨d9, e9, f9, fun _ => g9 hk, fun k0 k1 _ => by rcases hll with q | q; exact absurd q k0; exact absurd q k1⟩
  · rw [e12, e13]; exact fun _ => ho2 hk
  · rw [e12]; exact fun q => absurd q hk6
theorem Ok.queue (h : Ok n st) {t c : Nat} {why : Int32} (hc : c < 8) (hm : t ∈ st.2.2 c) (hk : st.1 12 c = 6) (hn : n ≤ 100) : Ok n (s_queue st t c why) := by
  rw [s_queue_eq]
  exact (h.qpre hc hm hk).serve ((h.1 c hc).1.2.2.2.1 hk).1 hn
theorem Ok.giveUp (h : Ok n st) {t s : Nat} {why : Int32} (hs : s < 8) (hm : t ∈ st.2.2 s) (hn : n ≤ 100) : Ok n (s_giveUp st t s why) := by
  unfold s_giveUp
  split
  · rename_i hk
    exact h.queue hs hm hk hn
  · exact Ok.serve (st := sI (sI (s_remove st t s) 1 t 0) 4 t why) ((h.rmB hs hm).1.I (by omega)) hs hn
/-- what the reference's 'queue' asks -/
theorem Ok.qh (h : Ok n st) {t c : Nat} {why : Int32} (hc : c < 8) (hm : t ∈ st.2.2 c) (hk : st.1 12 c = 6) : ((s_queue0 st t c why).2.2 (s_lk st c)).length < 6 ∧ RWf (s_queue0 st t c why) ∧ DBd (s_queue0 st t c why) := by
  obtain ⟨ht, q5, q1, -⟩ := h.row hc hm
  obtain ⟨hl8, hlk, hll⟩ := (h.1 c hc).1.2.2.2.1 hk
  have hrm := (h.rmB hc hm).1
  have hR : (s_queue0 st t c why).2.2 = (sI (s_remove st t c) 1 t 0).2.2 := by
    unfold s_queue0
    rw [if_pos q5]
    split <;> rfl
  refine ⟨?_, ?_, ?_⟩
  · rw [hR]
    exact Ok.room hrm hl8 ht pk_us
  · have := hrm.wf
    intro s hs
    rw [hR]; exact this s hs
  · unfold s_queue0
    rw [if_pos q5]
    split
    · exact (h.db.addW ht hc).of rfl
    · exact h.db.of rfl
end OKS2
