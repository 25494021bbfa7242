/-! one service, as the class does it -/
section SV1
variable {cs : Nat → ClassId} {ad : Nat → Nat} {st : St} {L : List Nat} {f : Nat → va_E} {n t s : Nat}
theorem sI_comm {a b i j : Nat} {v w : Int32} (h : a ≠ b) : sI (sI st a i v) b j w = sI (sI st b j w) a i v := by
  have e1 : (sI st a i v).1 b = st.1 b := by show va_up st.1 a _ b = _; simp [va_up, Ne.symm h]
  have e2 : (sI st b j w).1 a = st.1 a := by show va_up st.1 b _ a = _; simp [va_up, h]
  show (va_up (va_up st.1 a (upd (st.1 a) i v)) b (upd ((sI st a i v).1 b) j w), st.2) = (va_up (va_up st.1 b (upd (st.1 b) j w)) a (upd ((sI st b j w).1 a) i v), st.2)
  rw [e1, e2]
  congr 1
  funext k
  simp only [va_up]
  by_cases h1 : k = a
  · subst h1
    simp [h]
  · simp [h1]
/-- what Sync.serve's loop makes of the state behind remove -/
def hTF (st : St) (t s : Nat) (wb : Bool) (dp : Int32) : St := if st.1 12 s = 0 ∨ st.1 12 s = 1 then sI (sI st 13 s (nI t)) 14 s (st.1 14 s + (if 0 < dp then dp else 1)) else s_take st t s (bI wb)
def hNote (st : St) (s : Nat) (v : UInt64) : St := sI (sD st 20 s (FP.dadd (st.2.1 20 s) v)) 21 s (st.1 21 s + 1)
def hS4 (st : St) (t s : Nat) : St := hNote (sI (hTF (sI (s_remove st t s) 1 t 0) t s (hWb st t) (st.1 9 t)) 4 t (hWo st t)) s (FP.dsub (st.2.1 11 0) (st.2.1 8 t))
theorem can_dep (ho : Ok n st) (hs : s < 8) (hm : t ∈ st.2.2 s) (hk : st.1 12 s = 0 ∨ st.1 12 s = 1) {m : Int32} (hc : s_canTake st t s m = true) : st.1 13 s = -1 ∧ st.1 14 s = 0 := by
  have h13 : st.1 13 s = -1 := by
    unfold s_canTake at hc
    rcases hk with hk | hk
    · rw [if_pos hk] at hc
      exact (ho.oneg hs).mp (of_decide_eq_true hc)
    · rw [if_neg (by rw [hk]; decide), if_pos hk] at hc
      rcases of_decide_eq_true hc with q | q
      · exact (ho.oneg hs).mp q
      · exact absurd q ((ho.row hs hm).2.2.2.2.1 hk)
  rcases (ho.1 s hs).2.1 (Or.inr hk) with ⟨_, q⟩ | ⟨q, _⟩
  · exact ⟨h13, q⟩
  · exact absurd h13 q
theorem note_I {S : St} {k j : Nat} {w : Int32} {v : UInt64} (h : k ≠ 21) : hNote (sI S k j w) s v = sI (hNote S s v) k j w := by
  have e1 : (sI S k j w).1 21 s = S.1 21 s := by show va_up S.1 k _ 21 s = _; simp [va_up, Ne.symm h]
  unfold hNote
  rw [e1]
  show sI (sI (sD S 20 s _) k j w) 21 s _ = _
  rw [sI_comm h]
  rfl
theorem take_note {S : St} {v : UInt64} {m o : Int32} : s_take (sI (hNote S s v) 4 t o) t s m = hNote (sI (s_take S t s m) 4 t o) s v := by
  rw [note_I (by decide)]
  unfold s_take
  show (if S.1 12 s = 2 ∨ S.1 12 s = 3 then sI (sI (hNote S s v) 4 t o) 15 s (S.1 15 s - 1) else if S.1 12 s = 5 ∧ m = 0 then sI (sI (hNote S s v) 4 t o) 17 (6 * s + t) (S.1 17 (6 * s + t) + 1) else if S.1 12 s = 4 then sI (hNote S s v) 4 t o else sI (sI (sI (hNote S s v) 4 t o) 13 s (nI t)) 14 s (S.1 14 s + 1)) = _
  split
  · rw [note_I (by decide), sI_comm (by decide)]
  · split
    · rw [note_I (by decide), sI_comm (by decide)]
    · split
      · rfl
      · rw [note_I (by decide), note_I (by decide), sI_comm (b := 13) (by decide), sI_comm (b := 14) (by decide)]
theorem take_mode (ho : Ok n st) (hs : s < 8) (hm : t ∈ st.2.2 s) {S : St} (h12 : S.1 12 = st.1 12) : s_take S t s (bI (hWb st t)) = s_take S t s (st.1 6 t) := by
  have hw : s_wf st t = s := wf_of ho hs hm
  have h6 := (ho.2.1 t (ho.row hs hm).1).2
  unfold s_take
  rw [h12]
  by_cases h5 : st.1 12 s = 5
  · have e : bI (hWb st t) = st.1 6 t := by
      unfold hWb
      rw [hw]
      rcases h6 with q | q <;> simp [q, h5, bI]
    rw [e]
  · simp [h5]
theorem can_mode (ho : Ok n st) (hs : s < 8) (hm : t ∈ st.2.2 s) (h6 : ¬ st.1 12 s = 6) : s_canTake st t s (bI (hWb st t)) = s_canTake st t s (st.1 6 t) := by
  have hw : s_wf st t = s := wf_of ho hs hm
  have hq := (ho.2.1 t (ho.row hs hm).1).2
  by_cases h5 : st.1 12 s = 5
  · have e : bI (hWb st t) = st.1 6 t := by
      unfold hWb
      rw [hw]
      rcases hq with q | q <;> simp [q, h5, bI]
    rw [e]
  · unfold s_canTake
    rcases ho.kd hs (ho.made hs hm) with (q | q) | (q | q) | q | q | q
    · simp [q]
    · simp [q]
    · simp [q]
    · simp [q]
    · simp [q]
    · exact absurd q h5
    · exact absurd q h6
theorem serve1_eq (ho : Ok n st) (hs : s < 8) (hm : t ∈ st.2.2 s) (h6 : ¬ st.1 12 s = 6) (hc : s_canTake st t s (st.1 6 t) = true) : s_serve1 st t s = if 0 < st.1 9 t then sI (hS4 st t s) 9 t 0 else hS4 st t s := by
  have hw : s_wf st t = s := wf_of ho hs hm
  have ha : s_addW (s_remove st t s) t s = hNote (s_remove st t s) s (FP.dsub (st.2.1 11 0) (st.2.1 8 t)) := rfl
  unfold s_serve1
  rw [ha]
  by_cases hb : 0 < st.1 9 t
  · rw [if_pos hb, if_pos hb]
    have hk : st.1 12 s = 0 ∨ st.1 12 s = 1 := by
      obtain ⟨d, -, h9, -, hd⟩ := (ho.row hs hm).2.2.2.1
      by_cases q0 : st.1 12 s = 0
      · exact Or.inl q0
      · by_cases q1 : st.1 12 s = 1
        · exact Or.inr q1
        · have := hd q0 q1 h6
          rw [this] at h9
          rw [h9] at hb
          exact absurd hb (by decide)
    obtain ⟨-, h14⟩ := can_dep ho hs hm hk hc
    have ho' : hWo st t = st.1 10 t := by
      unfold hWo
      rw [hw, if_neg h6, if_pos hb]
    unfold hS4 hTF
    rw [show (sI (s_remove st t s) 1 t 0).1 12 = st.1 12 from rfl, if_pos hk, if_pos hb, ho', show (sI (s_remove st t s) 1 t 0).1 14 = st.1 14 from rfl, h14, Int32.zero_add, note_I (by decide), note_I (by decide), note_I (by decide), note_I (by decide), sI_comm (a := 4) (b := 13) (by decide), sI_comm (a := 4) (b := 14) (by decide)]
  · rw [if_neg hb, if_neg hb]
    have ho' : hWo st t = 1 := by
      unfold hWo
      rw [hw, if_neg h6, if_neg hb]
    unfold hS4
    have e : hTF (sI (s_remove st t s) 1 t 0) t s (hWb st t) (st.1 9 t) = s_take (sI (s_remove st t s) 1 t 0) t s (st.1 6 t) := by
      unfold hTF
      rw [show (sI (s_remove st t s) 1 t 0).1 12 = st.1 12 from rfl]
      by_cases hk : st.1 12 s = 0 ∨ st.1 12 s = 1
      · rw [if_pos hk, if_neg hb]
        unfold s_take
        rw [show (sI (s_remove st t s) 1 t 0).1 12 = st.1 12 from rfl, if_neg (by rcases hk with z | z <;> rw [z] <;> decide), if_neg (by rcases hk with z | z <;> rw [z] <;> rintro ⟨q, -⟩ <;> exact absurd q (by decide)), if_neg (by rcases hk with z | z <;> rw [z] <;> decide)]
      · rw [if_neg hk]
        exact take_mode ho hs hm rfl
    rw [e, ho', ← take_note, note_I (by decide)]
/-- a field that shows in no cell of a thread that runs -/
theorem HF.nine (h : HF cs ad st L f) {v : Int32} (hb : st.1 1 t = 0) : HF cs ad (sI st 9 t v) L f := by
  have hl : ∀ r, hLive (sI st 9 t v) r → hLive st r := fun _ hr => hr
  refine ⟨fun r hr => ⟨h.mem (hl r hr), ?_⟩, fun r r' hr hr' e => h.2 r r' (hl r hr) (hl r' hr') e⟩
  rw [h.eq (hl r hr)]
  by_cases q : r < 34
  · unfold hC
    simp only [if_pos q]
    rfl
  · obtain ⟨w, rfl⟩ : ∃ w, r = 34 + w := ⟨r - 34, by omega⟩
    have hw := hl_wt' (hl _ hr)
    have hne : w ≠ t := fun z => hw.2 (z ▸ hb)
    rw [hC_wt, hC_wt]
    have e : (sI st 9 t v).1 9 w = st.1 9 w := pk_un hne
    unfold hWait hWo
    rw [e]
    rfl
end SV1
