/-! pure facts for the reference's larger methods -/
theorem bI_eq0 (b : Bool) : bI b = 0 ↔ b = false := by cases b <;> simp [bI]
theorem s_check_pos (st : St) (t s : Nat) : 0 < s_check st t s ↔ ¬ s_check st t s = 0 := by
  unfold s_check
  split
  · decide
  · split <;> decide
/-! serve -/
theorem s_take_R (st : St) (t s : Nat) (m : Int32) : (s_take st t s m).2 = st.2 := by
  unfold s_take
  split
  · rfl
  · split
    · rfl
    · split <;> rfl
theorem s_serve1_R (st : St) (t s : Nat) : (s_serve1 st t s).2.2 = va_up st.2.2 s ((st.2.2 s).erase t) := by
  unfold s_serve1
  split
  · rfl
  · rw [s_take_R]; rfl
theorem s_serve1_D (st : St) (t s : Nat) : (s_serve1 st t s).2.1 = (s_addW st t s).2.1 := by
  unfold s_serve1
  split
  · rfl
  · rw [s_take_R]; rfl
theorem RWf.remove {st : St} (h : RWf st) (t s : Nat) {R' : Nat → List Nat} (e : R' = va_up st.2.2 s ((st.2.2 s).erase t)) (st' : St) (e' : st'.2.2 = R') : RWf st' := by
  intro s' hs'
  rw [e', e]
  by_cases q : s' = s
  · subst q
    simp only [va_up, if_true]
    have h2 := h s' hs'
    have h3 := List.length_erase_le (a := t) (l := st.2.2 s')
    exact ⟨by omega, fun u hu => h2.2 u (List.mem_of_mem_erase hu)⟩
  · simp only [va_up, if_neg q]
    exact h s' hs'
theorem DBd.addW {st : St} (h : DBd st) {t s : Nat} (ht : t < 6) (hs : s < 8) : DBd (s_addW st t s) := by
  refine ⟨h.1, h.2.1, fun s' hs' => ?_⟩
  show fb 1400 (vf_upd (st.2.1 20) s _ s')
  by_cases q : s' = s
  · subst q
    simp only [vf_upd, if_true]
    exact (fb_sum (h.2.2 s' hs') (fb_wait h.1 (h.2.1 t ht)).1).1
  · simp only [vf_upd, if_neg q]
    exact h.2.2 s' hs'
theorem DBd.of {st st' : St} (h : DBd st) (e : st'.2.1 = st.2.1) : DBd st' := by
  unfold DBd at *
  rw [e]; exact h
theorem RWf.serve1 {st : St} (h : RWf st) (t s : Nat) : RWf (s_serve1 st t s) := RWf.remove h t s rfl _ (s_serve1_R st t s)
theorem DBd.serve1 {st : St} (h : DBd st) {t s : Nat} (ht : t < 6) (hs : s < 8) : DBd (s_serve1 st t s) := (h.addW ht hs).of (s_serve1_D st t s)
theorem s_serve1_len {st : St} {t s : Nat} (h : t ∈ st.2.2 s) : ((s_serve1 st t s).2.2 s).length + 1 = (st.2.2 s).length := by
  rw [s_serve1_R]
  simp only [va_up, if_true]
  have := List.length_erase_of_mem h
  have h2 := List.length_pos_of_mem h
  omega
theorem s_serveN_go {st : St} {s : Nat} (h : s_goes st s = true) (hm : s_next st s ∈ st.2.2 s) : s_serveN (st.2.2 s).length st s = s_serveN ((s_serve1 st (s_next st s) s).2.2 s).length (s_serve1 st (s_next st s) s) s := by
  rw [← s_serve1_len hm]
  show (if s_goes st s = true then _ else _) = _
  rw [if_pos h]
theorem s_serveN_no {st : St} {s n : Nat} (h : s_goes st s = false) : s_serveN n st s = st := by
  cases n with
  | zero => rfl
  | succ n =>
    show (if s_goes st s = true then _ else _) = _
    rw [if_neg (by rw [h]; decide)]
theorem s_goes_t {st : St} {s : Nat} (h1 : ¬ st.1 12 s = 6) (h2 : 0 < (st.2.2 s).length) (h3 : s_canTake st (s_next st s) s (st.1 6 (s_next st s)) = true) : s_goes st s = true := by
  simp [s_goes, h1, ls_ie1 h2, h3]
/-- properties that go through the serving -/
theorem s_serve_ind {P : St → Prop} {s : Nat} (h1 : ∀ st, P st → s_goes st s = true → P (s_serve1 st (s_next st s) s)) : ∀ (n : Nat) (st : St), P st → P (s_serveN n st s) := by
  intro n
  induction n with
  | zero => intro st h; exact h
  | succ n ih =>
    intro st h
    show P (if s_goes st s = true then _ else _)
    split
    · rename_i hg
      exact ih _ (h1 st h hg)
    · exact h
theorem s_goes_ne {st : St} {s : Nat} (h : s_goes st s = true) : 0 < (st.2.2 s).length := by
  unfold s_goes at h
  simp only [Bool.and_eq_true, Bool.not_eq_true'] at h
  have := h.2.1
  cases hl : st.2.2 s with
  | nil => rw [hl] at this; simp at this
  | cons a l => simp
theorem s_serve_wf {st : St} {s : Nat} (hs : s < 8) (h : RWf st) (hd : DBd st) : RWf (s_serve st s) ∧ DBd (s_serve st s) :=
  s_serve_ind (P := fun st => RWf st ∧ DBd st) (fun st h hg => ⟨h.1.serve1 _ _, h.2.serve1 ((h.1 s hs).2 _ (s_next_mem (s_goes_ne hg))) hs⟩) _ st ⟨h, hd⟩
/-! the ways between locks -/
def ldI (st : St) (a : Nat) (y : Nat → Int32) : Prop := (∀ i, i < 8 → y i = 0 ∨ y i = 1) ∧ (∀ i, i < 8 → ¬ y i = 0 → Relation.TransGen (s_edge st) a i) ∧ ∀ i, i < 8 → s_edge st a i → ¬ y i = 0
def ldC (st : St) (y : Nat → Int32) : Prop := ∀ i j, i < 8 → j < 8 → ¬ y i = 0 → s_edge st i j → ¬ y j = 0
def ldM (y0 y : Nat → Int32) : Prop := ∀ i, i < 8 → ¬ y0 i = 0 → ¬ y i = 0
def ldR (st : St) (y0 y : Nat → Int32) (s : Nat) : Prop := ldM y0 y ∧ (ldC st y0 → ldM y y0) ∧ ∀ s', s' < s → ∀ r, r < 8 → ¬ y0 s' = 0 → s_edge st s' r → ¬ y r = 0
def ldN (y : Nat → Int32) : Nat → Nat
  | 0 => 0
  | n + 1 => ldN y n + (if y n = 0 then 0 else 1)
theorem ldN_le (y : Nat → Int32) (n : Nat) : ldN y n ≤ n := by
  induction n with
  | zero => exact Nat.le_refl _
  | succ n ih => unfold ldN; split <;> omega
theorem ldN_mono {y0 y : Nat → Int32} (n : Nat) (h : ∀ i, i < n → ¬ y0 i = 0 → ¬ y i = 0) : ldN y0 n ≤ ldN y n := by
  induction n with
  | zero => exact Nat.le_refl _
  | succ n ih =>
    have := ih (fun i hi => h i (by omega))
    have h2 := h n (by omega)
    unfold ldN
    by_cases e : y0 n = 0
    · simp [e]; omega
    · simp [e, h2 e]; omega
theorem ldN_grow {y0 y : Nat → Int32} {r : Nat} (n : Nat) (h : ∀ i, i < n → ¬ y0 i = 0 → ¬ y i = 0) (hr : r < n) (h0 : y0 r = 0) (h1 : ¬ y r = 0) : ldN y0 n + 1 ≤ ldN y n := by
  induction n with
  | zero => omega
  | succ n ih =>
    unfold ldN
    by_cases e : r = n
    · subst e
      have := ldN_mono r (fun i hi => h i (by omega))
      simp [h0, h1]; omega
    · have := ih (fun i hi => h i (by omega)) (by omega)
      have h2 := h n (by omega)
      by_cases e : y0 n = 0
      · simp [e]; omega
      · simp [e, h2 e]; omega
theorem ldN_full {y : Nat → Int32} (n : Nat) (h : n ≤ ldN y n) : ∀ i, i < n → ¬ y i = 0 := by
  induction n with
  | zero => intro i hi; omega
  | succ n ih =>
    have h2 := ldN_le y n
    unfold ldN at h
    intro i hi e
    by_cases q : i = n
    · subst q; simp [e] at h; omega
    · by_cases q2 : y n = 0
      · simp [q2] at h; omega
      · simp [q2] at h; exact ih (by omega) i (by omega) e
theorem ld_0 {st : St} {a : Nat} {y : Nat → Int32} (ha : a < 8) (hbf : ∀ j, j < 64 → st.1 22 j = 0 ∨ st.1 22 j = 1) (h : ∀ j, j < 8 → y j = st.1 22 (8 * a + j)) : ldI st a y := by
  refine ⟨fun i hi => by rw [h i hi]; exact hbf _ (by omega), fun i hi hy => ?_, fun i hi he => ?_⟩
  · rw [h i hi] at hy
    exact Relation.TransGen.single ⟨ha, hi, hy⟩
  · rw [h i hi]; exact he.2.2
theorem ld_set {st : St} {a s r : Nat} {y0 y : Nat → Int32} (hI : ldI st a y) (hM : ldM y0 y) (hC : ldC st y0 → ldM y y0) (hs : s < 8) (hr : r < 8) (hy : ¬ y s = 0) (he : ¬ st.1 22 (8 * s + r) = 0) : ldI st a (upd y r 1) ∧ ldM y0 (upd y r 1) ∧ (ldC st y0 → ldM (upd y r 1) y0) ∧ ldM y (upd y r 1) := by
  have hne : ∀ i, ¬ y i = 0 → ¬ upd y r 1 i = 0 := by
    intro i h
    by_cases e : i = r
    · subst e; rw [pk_us]; decide
    · rw [pk_un e]; exact h
  refine ⟨⟨fun i hi => ?_, fun i hi h => ?_, fun i hi h => hne i (hI.2.2 i hi h)⟩, fun i hi h => hne i (hM i hi h), fun hc i hi h => ?_, fun i hi h => hne i h⟩
  · by_cases e : i = r
    · subst e; rw [pk_us]; exact Or.inr rfl
    · rw [pk_un e]; exact hI.1 i hi
  · by_cases e : i = r
    · subst e
      exact Relation.TransGen.tail (hI.2.1 s hs hy) ⟨hs, hr, he⟩
    · rw [pk_un e] at h; exact hI.2.1 i hi h
  · by_cases e : i = r
    · subst e
      exact hc s i hs hi (hC hc s hs hy) ⟨hs, hi, he⟩
    · rw [pk_un e] at h; exact hC hc i hi h
theorem ld_round {st : St} {y0 y : Nat → Int32} {n : Nat} (hR : ldR st y0 y 8) (h : ldC st y0 ∨ n ≤ ldN y0 8) : ldC st y ∨ n + 1 ≤ ldN y 8 := by
  by_cases hc : ldC st y0
  · left
    intro i j hi hj hy he
    exact hR.1 j hj (hc i j hi hj (hR.2.1 hc i hi hy) he)
  · right
    have hn : n ≤ ldN y0 8 := by
      rcases h with h | h
      · exact absurd h hc
      · exact h
    have : ∃ i j, i < 8 ∧ j < 8 ∧ ¬ y0 i = 0 ∧ s_edge st i j ∧ y0 j = 0 := by
      apply Classical.byContradiction
      intro hne
      apply hc
      intro i j hi hj hy he hz
      exact hne ⟨i, j, hi, hj, hy, he, hz⟩
    obtain ⟨i, j, hi, hj, hy, he, hz⟩ := this
    have := ldN_grow 8 hR.1 hj hz (hR.2.2 i hi j hj hy he)
    omega
theorem ld_end {st : St} {a b : Nat} {y : Nat → Int32} (hI : ldI st a y) (hb : b < 8) (h : ldC st y ∨ 8 ≤ ldN y 8) : y b = bI (s_leads st a b) := by
  have hc : ldC st y := by
    rcases h with h | h
    · exact h
    · exact fun i j hi hj _ _ => ldN_full 8 h j hj
  have key : ∀ b, Relation.TransGen (s_edge st) a b → b < 8 ∧ ¬ y b = 0 := by
    intro b hb
    induction hb with
    | single h => exact ⟨h.2.1, hI.2.2 _ h.2.1 h⟩
    | tail _ h ih => exact ⟨h.2.1, hc _ _ h.1 h.2.1 ih.2 h⟩
  unfold s_leads
  by_cases ht : Relation.TransGen (s_edge st) a b
  · have h1 := (key b ht).2
    have h2 : y b = 1 := by
      rcases hI.1 b hb with h | h
      · exact absurd h h1
      · exact h
    rw [h2]
    simp [bI, ht]
  · have h2 : y b = 0 := by
      apply Classical.byContradiction
      intro h
      exact ht (hI.2.1 b hb h)
    rw [h2]
    simp [bI, ht]
theorem s_isLock_neg {st : St} {o : Nat} (h : st.1 12 o < 0) : s_isLock st o = false := by
  unfold s_isLock
  apply decide_eq_false
  rintro (e | e)
  · rw [e] at h; exact absurd h (by decide)
  · rw [e] at h; exact absurd h (by decide)
theorem s_mark0 (st : St) (t s : Nat) : s_markN st t s 0 = st := by
  unfold s_markN sA
  refine Prod.ext ?_ rfl
  funext k
  by_cases e : k = 22
  · subst e; simp [va_up]
  · simp [va_up, e]
theorem s_markS {st : St} {t s o : Nat} (hs : s < 8) (h : s_owns st t o = true) : sI (s_markN st t s o) 22 (8 * o + s) 1 = s_markN st t s (o + 1) := by
  unfold s_markN sA sI
  refine Prod.ext ?_ rfl
  funext k j
  by_cases e : k = 22
  · subst e
    simp only [va_up, if_true, upd]
    by_cases q : j = 8 * o + s
    · have h1 : (8 * o + s) % 8 = s := by omega
      have h2 : (8 * o + s) / 8 = o := by omega
      subst q
      simp [h1, h2, h]
    · rw [if_neg q]
      by_cases z : j % 8 = s ∧ j / 8 < o ∧ s_owns st t (j / 8) = true
      · rw [if_pos z, if_pos ⟨z.1, by omega, z.2.2⟩]
      · rw [if_neg z, if_neg (fun z2 => z ⟨z2.1, by omega, z2.2.2⟩)]
  · simp [va_up, e]
theorem s_markF {st : St} {t s o : Nat} (h : s_owns st t o = false) : s_markN st t s o = s_markN st t s (o + 1) := by
  unfold s_markN sA
  refine Prod.ext ?_ rfl
  funext k j
  by_cases e : k = 22
  · subst e
    simp only [va_up, if_true]
    by_cases z : j % 8 = s ∧ j / 8 < o ∧ s_owns st t (j / 8) = true
    · rw [if_pos z, if_pos ⟨z.1, by omega, z.2.2⟩]
    · rw [if_neg z, if_neg (fun z2 => ?_)]
      by_cases q : j / 8 = o
      · rw [q, h] at z2; exact absurd z2.2.2 (by decide)
      · exact z ⟨z2.1, by omega, z2.2.2⟩
  · simp [va_up, e]
theorem s_ownsT {st : St} {t o : Nat} (h1 : s_isLock st o = true) (h2 : st.1 13 o = nI t) : s_owns st t o = true := by simp [s_owns, h1, h2]
theorem s_ownsF1 {st : St} {t o : Nat} (h1 : s_isLock st o = false) : s_owns st t o = false := by simp [s_owns, h1]
theorem s_ownsF2 {st : St} {t o : Nat} (h2 : ¬ st.1 13 o = nI t) : s_owns st t o = false := by simp [s_owns, h2]
theorem s_warnS {st : St} {t s o : Nat} (h : s_owns st t o = true) : s_warnN st t s (o + 1) = (s_warnN st t s o || s_leads st s o) := by
  show (s_warnN st t s o || (s_owns st t o && s_leads st s o)) = _
  rw [h]; simp
theorem s_warnF {st : St} {t s o : Nat} (h : s_owns st t o = false) : s_warnN st t s (o + 1) = s_warnN st t s o := by
  show (s_warnN st t s o || (s_owns st t o && s_leads st s o)) = _
  rw [h]; simp
theorem s_isLock_eq {st st' : St} (h : st'.1 12 = st.1 12) (o : Nat) : s_isLock st' o = s_isLock st o := by unfold s_isLock; rw [h]
