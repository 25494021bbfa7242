/-! pure facts for the public methods -/
theorem iN_nI {t N : Nat} (h : t < N) (hN : N ≤ 2 ^ 31) : iN (nI t) = t := nI_clamp (by omega)
theorem isOut_f {v w : Int32} {N : Nat} (hw : w = nI N) (hN : N < 2 ^ 31) (h : isOut v w = false) : ∃ t : Nat, t < N ∧ v = nI t := by
  subst hw
  have h1 : ¬ (v < 0 ∨ ¬ v < nI N) := of_decide_eq_false h
  rcases pk_ix v hN with q | q | q
  · exact absurd (Or.inl q) h1
  · exact absurd (Or.inr (lw_le.mp q)) h1
  · exact q
theorem isOut_2 {v : Int32} (h : isOut v 2 = false) : v = 0 ∨ v = 1 := by
  obtain ⟨t, ht, rfl⟩ := isOut_f (N := 2) rfl (by decide) h
  match t, ht with
  | 0, _ => exact Or.inl rfl
  | 1, _ => exact Or.inr rfl
theorem so_I {st : St} {t s k : Nat} (h : k ≠ 22 ∧ k ≠ 25) : (s_ordered st t s).2.1 k = st.1 k := by
  unfold s_ordered
  split
  · rfl
  · split
    · split
      · show va_up _ _ _ k = _; simp [va_up, h.2]
      · show va_up (va_up _ _ _) _ _ k = _; simp [va_up, h.1, h.2]
    · show va_up _ _ _ k = _; simp [va_up, h.1]
theorem so_R {st : St} {t s : Nat} : (s_ordered st t s).2.2 = st.2 := by
  unfold s_ordered
  split
  · rfl
  · split
    · split <;> rfl
    · rfl
theorem s_markN_01 {st : St} {t s n : Nat} (h : ∀ j, j < 64 → st.1 22 j = 0 ∨ st.1 22 j = 1) : ∀ j, j < 64 → (s_markN st t s n).1 22 j = 0 ∨ (s_markN st t s n).1 22 j = 1 := by
  intro j hj
  show (if _ then (1 : Int32) else _) = 0 ∨ (if _ then (1 : Int32) else _) = 1
  split
  · exact Or.inr rfl
  · exact h j hj
theorem so_bf {st : St} {t s : Nat} (h : ∀ j, j < 64 → st.1 22 j = 0 ∨ st.1 22 j = 1) : ∀ j, j < 64 → (s_ordered st t s).2.1 22 j = 0 ∨ (s_ordered st t s).2.1 22 j = 1 := by
  unfold s_ordered
  split
  · exact h
  · split
    · split
      · exact h
      · exact s_markN_01 (st := sI st 25 0 (st.1 25 0 + 1)) h
    · exact s_markN_01 h
theorem Ok.ordered {n : Nat} {st : St} {t s : Nat} (h : Ok n st) : Ok n (s_ordered st t s).2 := by
  have hI : ∀ k, k ≠ 22 → k ≠ 25 → (s_ordered st t s).2.1 k = st.1 k := fun k a b => so_I ⟨a, b⟩
  have hR : (s_ordered st t s).2.2 = st.2 := so_R
  have h2 : Ok n (sA (s_ordered st t s).2 22 (st.1 22)) := by
    refine h.congr (st' := sA (s_ordered st t s).2 22 (st.1 22)) (hI 1 (by decide) (by decide)) (hI 5 (by decide) (by decide)) (hI 6 (by decide) (by decide)) (hI 9 (by decide) (by decide)) (hI 12 (by decide) (by decide)) (hI 13 (by decide) (by decide)) (hI 14 (by decide) (by decide)) (hI 15 (by decide) (by decide)) (hI 16 (by decide) (by decide)) (hI 17 (by decide) (by decide)) rfl (hI 24 (by decide) (by decide)) ?_ ?_ (fun s' _ _ => ⟨?_, by show (s_ordered st t s).2.1 21 s' = _; rw [hI 21 (by decide) (by decide)]⟩)
    · show (s_ordered st t s).2.2.2 = _; rw [hR]
    · exact h.db.of (by show (s_ordered st t s).2.2.1 = _; rw [hR])
    · show (s_ordered st t s).2.2.1 20 s' = _; rw [hR]
  exact ⟨h2.1, h2.2.1, so_bf h.bf, h2.2.2.2⟩
/-! signal -/
theorem s_serve1_Ro {st : St} {t s s' : Nat} (h : s' ≠ s) : (s_serve1 st t s).2.2 s' = st.2.2 s' := by
  rw [s_serve1_R]; simp [va_up, h]
theorem s_serve_Ro {st : St} {s s' : Nat} (h : s' ≠ s) : (s_serve st s).2.2 s' = st.2.2 s' :=
  s_serve_ind (P := fun st' => st'.2.2 s' = st.2.2 s') (fun st' h' _ => by rw [s_serve1_Ro h]; exact h') _ st rfl
theorem s_queue_Rc {n : Nat} {st : St} {t c : Nat} {why : Int32} (h : Ok n st) (hc : c < 8) (hm : t ∈ st.2.2 c) (hk : st.1 12 c = 6) : (s_queue st t c why).2.2 c = (st.2.2 c).erase t := by
  obtain ⟨hl8, hlk, hll⟩ := (h.1 c hc).1.2.2.2.1 hk
  have hne : c ≠ s_lk st c := fun e => by
    rw [← e, hk] at hll
    exact absurd hll (by decide)
  have q5 := (h.row hc hm).2.1
  rw [s_queue_eq, s_serve_Ro hne]
  show va_up (s_queue0 st t c why).2.2 (s_lk st c) _ c = _
  simp only [va_up, if_neg hne]
  unfold s_queue0
  rw [if_pos q5]
  split
  · show va_up st.2.2 c ((st.2.2 c).erase t) c = _; simp [va_up]
  · show va_up st.2.2 c ((st.2.2 c).erase t) c = _; simp [va_up]
theorem s_queue_I {st : St} {t c k : Nat} {why : Int32} (h : k ≠ 13 ∧ k ≠ 14 ∧ k ≠ 15 ∧ k ≠ 17 ∧ k ≠ 1 ∧ k ≠ 4 ∧ k ≠ 5 ∧ k ≠ 9 ∧ k ≠ 21 ∧ k ≠ 10 ∧ k ≠ 6) : (s_queue st t c why).1 k = st.1 k := by
  obtain ⟨h1, h2, h3, h4, h5, h6, h7, h8, h9, h10, h11⟩ := h
  rw [s_queue_eq, s_serve_I ⟨h1, h2, h3, h4, h5, h6, h7, h8, h9⟩]
  show (s_enter _ _ _).1 k = _
  rw [s_enter_I ⟨h5, h7⟩]
  show va_up (va_up _ _ _) _ _ k = _
  simp only [va_up, if_neg h11, sD, if_neg h10]
  exact congrFun (congrArg (fun f => f) rfl) k |>.trans (by rw [s_q0_I h7 h9])
theorem s_hd_mem {st : St} {c : Nat} (h : 0 < (st.2.2 c).length) : s_hd st c ∈ st.2.2 c ∧ s_hd st c = (st.2.2 c).getD 0 0 := by
  unfold s_hd
  cases hl : st.2.2 c with
  | nil => rw [hl] at h; simp at h
  | cons a l => exact ⟨List.mem_cons_self, rfl⟩
theorem s_sig_len {n : Nat} {st : St} {c : Nat} (h : Ok n st) (hc : c < 8) (hp : 0 < (st.2.2 c).length) (hk : st.1 12 c = 6) : ((s_queue st (s_hd st c) c 1).2.2 c).length + 1 = (st.2.2 c).length := by
  rw [s_queue_Rc h hc (s_hd_mem hp).1 hk]
  have := List.length_erase_of_mem (s_hd_mem hp).1
  omega
theorem s_sigN_go {st : St} {c k m : Nat} {all : Bool} (hl : (st.2.2 c).length = m + 1) (h : all = true ∨ k = 0) : s_sigN (st.2.2 c).length st c all k = s_sigN m (s_queue st (s_hd st c) c 1) c all (k + 1) := by
  rw [hl]
  show (if _ then _ else _) = _
  rw [if_pos ⟨ls_ie1 (by omega), h⟩]
theorem s_sigN_no {st : St} {c k m : Nat} {all : Bool} (h : ¬ ((st.2.2 c).isEmpty = false ∧ (all = true ∨ k = 0))) : s_sigN m st c all k = (k, st) := by
  cases m with
  | zero => rfl
  | succ m => show (if _ then _ else _) = _; rw [if_neg h]
/-! tick -/
def s_hasEnd (st : St) (t : Nat) : Bool := decide (¬ st.1 1 t = 0 ∧ (FP.dcmp (st.2.1 7 t) FP.dconst0 = some .gt ∨ FP.dcmp (st.2.1 7 t) FP.dconst0 = some .eq))
def s_mu (st : St) : Nat := ldN (fun t => bI (s_hasEnd st t)) 6
theorem s_serve1_B {st : St} {t s u : Nat} (h : ¬ (s_serve1 st t s).1 1 u = 0) : ¬ st.1 1 u = 0 := by
  have e : (s_serve1 st t s).1 1 = upd (st.1 1) t 0 := by
    unfold s_serve1
    split
    · rfl
    · rw [s_take_I (by decide)]; rfl
  rw [e] at h
  by_cases q : u = t
  · subst q; rw [pk_us] at h; exact absurd rfl h
  · rw [pk_un q] at h; exact h
theorem s_serve_B {st : St} {s u : Nat} : ¬ (s_serve st s).1 1 u = 0 → ¬ st.1 1 u = 0 :=
  s_serve_ind (P := fun st' => ¬ st'.1 1 u = 0 → ¬ st.1 1 u = 0) (fun st' h' _ h => h' (s_serve1_B h)) _ st (fun h => h)
theorem s_serve_D {st : St} {s k : Nat} (hk : k ≠ 20) : (s_serve st s).2.1 k = st.2.1 k :=
  s_serve_ind (P := fun st' => st'.2.1 k = st.2.1 k) (fun st' h' _ => by
    rw [s_serve1_D]
    show va_up _ _ _ k = _
    simp only [va_up, if_neg hk]
    exact h') _ st rfl
theorem s_latest_over {st : St} : ∀ (n t : Nat), s_latest st n = some t → t < n ∧ s_over st t = true := by
  intro n
  induction n with
  | zero => intro t h; cases h
  | succ n ih =>
    intro t h
    unfold s_latest at h
    split at h
    · rename_i ho
      split at h
      · cases h; exact ⟨by omega, ho⟩
      · rename_i b hb
        split at h
        · cases h; exact ⟨by omega, ho⟩
        · cases h
          have := ih t hb
          exact ⟨by omega, this.2⟩
    · have := ih t h
      exact ⟨by omega, this.2⟩
theorem s_over_end {st : St} {t : Nat} (h : s_over st t = true) : s_hasEnd st t = true := by
  have := of_decide_eq_true h
  exact decide_eq_true ⟨this.1, this.2.1⟩
theorem Ok.wfs {n : Nat} {st : St} {t : Nat} (h : Ok n st) (ht : t < 6) (hb : ¬ st.1 1 t = 0) : s_wf st t < 8 ∧ t ∈ st.2.2 (s_wf st t) ∧ st.1 5 t = nI (s_wf st t) := by
  rcases (h.2.1 t ht).1 with ⟨q, -⟩ | ⟨-, s, hs, hm⟩
  · exact absurd q hb
  · have e := (h.row hs hm).2.1
    have : s_wf st t = s := by unfold s_wf; rw [e]; exact iN_nI hs (by decide)
    rw [this]
    exact ⟨hs, hm, e⟩
theorem fM1_lt : FP.dcmp cM1 FP.dconst0 = some .lt := by decide +kernel
theorem s_giveUp_mu {n : Nat} {st : St} {t s : Nat} {why : Int32} (h : Ok n st) (hs : s < 8) (hm : t ∈ st.2.2 s) (he : s_hasEnd st t = true) : s_mu (s_giveUp st t s why) + 1 ≤ s_mu st := by
  have ht := (h.row hs hm).1
  have q5 := (h.row hs hm).2.1
  have key : ∀ u, s_hasEnd (s_giveUp st t s why) u = true → s_hasEnd st u = true ∧ u ≠ t := by
    intro u hu
    unfold s_hasEnd at hu ⊢
    have hu := of_decide_eq_true hu
    unfold s_giveUp at hu
    by_cases hk : st.1 12 s = 6
    · rw [if_pos hk, s_queue_eq, s_serve_D (by decide)] at hu
      have e7 : (s_qpre st t s why).2.1 7 = vf_upd (st.2.1 7) t cM1 := by
        show vf_upd ((s_queue0 st t s why).2.1 7) t cM1 = _
        unfold s_queue0
        rw [if_pos q5]
        split <;> rfl
      have e1 : (s_qpre st t s why).1 1 = upd (st.1 1) t 1 := by
        show upd ((s_queue0 st t s why).1 1) t 1 = _
        rw [s_q0_I (by decide) (by decide)]
      rw [e7] at hu
      by_cases q : u = t
      · subst q
        simp only [vf_upd, if_true] at hu
        rw [fM1_lt] at hu
        exact absurd hu.2 (by decide)
      · have hb := s_serve_B hu.1
        rw [e1, pk_un q] at hb
        simp only [vf_upd, if_neg q] at hu
        exact ⟨decide_eq_true ⟨hb, hu.2⟩, q⟩
    · rw [if_neg hk, s_serve_D (by decide)] at hu
      have hb := s_serve_B hu.1
      have hb : ¬ upd (st.1 1) t 0 u = 0 := hb
      by_cases q : u = t
      · subst q; rw [pk_us] at hb; exact absurd rfl hb
      · rw [pk_un q] at hb
        exact ⟨decide_eq_true ⟨hb, hu.2⟩, q⟩
  refine ldN_grow (r := t) 6 (fun u _ hu => ?_) ht ?_ ?_
  · have : s_hasEnd (s_giveUp st t s why) u = true := by
      rw [bI_eq0, Bool.not_eq_false] at hu; exact hu
    rw [bI_eq0, Bool.not_eq_false]
    exact (key u this).1
  · rw [bI_eq0]
    cases hq : s_hasEnd (s_giveUp st t s why) t with
    | false => rfl
    | true => exact absurd rfl (key t hq).2
  · rw [bI_eq0, Bool.not_eq_false]; exact he
theorem s_mu_0 {st : St} (h : s_mu st = 0) : s_latest st 6 = none := by
  cases hl : s_latest st 6 with
  | none => rfl
  | some t =>
    obtain ⟨h1, h2⟩ := s_latest_over 6 t hl
    have := ldN_grow (y0 := fun _ => 0) (y := fun t => bI (s_hasEnd st t)) (r := t) 6 (fun _ _ z => absurd rfl z) h1 rfl (by rw [bI_eq0, s_over_end h2]; decide)
    unfold s_mu at h
    omega
theorem s_mu_6 (st : St) : s_mu st ≤ 6 := ldN_le _ 6
theorem s_tickN_go {st : St} {f k t : Nat} (h : s_latest st 6 = some t) : s_tickN (f + 1) st k = s_tickN f (s_giveUp st t (s_wf st t) 2) (k + 1) := by
  show (match s_latest st 6 with | none => _ | some t => _) = _
  rw [h]
theorem s_tickN_no {st : St} {f k : Nat} (h : s_latest st 6 = none) : s_tickN f st k = (k, st) := by
  cases f with
  | zero => rfl
  | succ f =>
    show (match s_latest st 6 with | none => _ | some t => _) = _
    rw [h]
