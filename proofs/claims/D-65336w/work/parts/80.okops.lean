/-! THE INVARIANT behind each public operation -/
section OKO
variable {st : St} {n : Nat}
theorem Ok.up (h : Ok n st) : Ok (n + 1) st := h.mono (Nat.le_succ n)
theorem Ok.oRank (h : Ok n st) {t : Int32} {v : UInt64} : Ok (n + 1) (s_rank st t v).2.2 := by
  unfold s_rank
  split
  · exact h.up
  · exact (h.D (Or.inl rfl)).up
theorem Ok.oPolicy (h : Ok n st) {v : Int32} : Ok (n + 1) (s_policy st v).2.2 := by
  unfold s_policy
  split
  · exact h.up
  · rename_i z
    obtain ⟨k, hk, rfl⟩ := isOut_f (N := 3) rfl (by decide) (Bool.eq_false_iff.mpr z)
    have h2 : Ok n (sI st 24 0 (nI k)) := ⟨h.1, h.2.1, h.2.2.1, by
      show upd (st.1 24) 0 (nI k) 0 = 0 ∨ upd (st.1 24) 0 (nI k) 0 = 1 ∨ upd (st.1 24) 0 (nI k) 0 = 2
      rw [pk_us]
      rcases (by omega : k = 0 ∨ k = 1 ∨ k = 2) with rfl | rfl | rfl
      · exact Or.inl rfl
      · exact Or.inr (Or.inl rfl)
      · exact Or.inr (Or.inr rfl), h.2.2.2.2⟩
    exact h2.up
theorem ck_ok (h : Ok n st) {t s : Nat} (hs : s < 8) (hc : s_check st t s = 0) : ¬ st.1 12 s = -1 ∧ st.1 1 t = 0 := by
  unfold s_check at hc
  split at hc
  · exact absurd hc (by decide)
  · rename_i z
    split at hc
    · exact absurd hc (by decide)
    · rename_i z2
      exact ⟨fun q => z ((h.neg hs).mpr q), Classical.not_not.mp z2⟩
theorem Ok.oRelease (h : Ok n st) (hn : n ≤ 100) {t s m : Int32} : Ok (n + 1) (s_release st t s m).2.2 := by
  unfold s_release
  split
  · exact h.up
  · rename_i z
    obtain ⟨t, ht, rfl⟩ := isOut_f (N := 6) rfl (by decide) (Bool.eq_false_iff.mpr (fun q => z (Or.inl q)))
    obtain ⟨s, hs, rfl⟩ := isOut_f (N := 8) rfl (by decide) (Bool.eq_false_iff.mpr (fun q => z (Or.inr (Or.inl q))))
    have hm := isOut_2 (Bool.eq_false_iff.mpr (fun q => z (Or.inr (Or.inr q))))
    rw [iN_nI ht (by decide), iN_nI hs (by decide)]
    by_cases hc : s_check st t s = 0
    · obtain ⟨hk, hb⟩ := ck_ok h hs hc
      rw [s_rel_gb hc]
      split
      · exact h.up
      · rename_i z2
        exact ((h.gb hn hs ht hb (h.kd hs hk) hm (Classical.not_not.mp z2)).serve hs hn).up
    · unfold s_rel
      rw [if_pos hc]
      exact h.up
theorem Ok.oInterrupt (h : Ok n st) (hn : n ≤ 100) {t : Int32} : Ok (n + 1) (s_interrupt st t).2.2 := by
  unfold s_interrupt
  split
  · exact h.up
  · rename_i z
    obtain ⟨t, ht, rfl⟩ := isOut_f (N := 6) rfl (by decide) (Bool.eq_false_iff.mpr z)
    rw [iN_nI ht (by decide)]
    show Ok (n + 1) (s_intr st t)
    unfold s_intr
    split
    · exact (h.I (Or.inl rfl)).up
    · rename_i z2
      obtain ⟨hs, hm, -⟩ := h.wfs ht (fun q => z2 (Or.inl q))
      exact (h.giveUp hs hm hn).up
theorem Ok.tickN (hn : n ≤ 100) : ∀ (f : Nat) (st : St) (k : Nat), Ok n st → Ok n (s_tickN f st k).2 := by
  intro f
  induction f with
  | zero => intro st k h; exact h
  | succ f ih =>
    intro st k h
    cases hl : s_latest st 6 with
    | none => rw [s_tickN_no hl]; exact h
    | some t =>
      rw [s_tickN_go hl]
      obtain ⟨ht, hov⟩ := s_latest_over 6 t hl
      obtain ⟨hs, hm, -⟩ := h.wfs ht (of_decide_eq_true hov).1
      exact ih _ _ (h.giveUp hs hm hn)
theorem Ok.oTick (h : Ok n st) (hn : n ≤ 100) {v : UInt64} : Ok (n + 1) (s_tick st v).2.2 := by
  unfold s_tick
  split
  · exact h.up
  · rename_i z
    exact (Ok.tickN hn 6 _ 0 (h.time (fb_by (by cases hq : inR FP.dconst0 cK v with | true => rfl | false => exact absurd hq z)))).up
theorem Ok.sigN (hn : n ≤ 100) {c : Nat} {all : Bool} (hc : c < 8) : ∀ (f : Nat) (st : St) (k : Nat), Ok n st → st.1 12 c = 6 → Ok n (s_sigN f st c all k).2 := by
  intro f
  induction f with
  | zero => intro st k h _; exact h
  | succ f ih =>
    intro st k h hk
    unfold s_sigN
    split
    · rename_i z
      have hp : 0 < (st.2.2 c).length := by
        cases hq : st.2.2 c with
        | nil => rw [hq] at z; exact absurd z.1 (by decide)
        | cons a l => simp
      exact ih _ _ (h.queue hc (s_hd_mem hp).1 hk hn) (by rw [s_queue_I (by decide)]; exact hk)
    · exact h
theorem Ok.oSignal (h : Ok n st) (hn : n ≤ 100) {t s : Int32} {all : Bool} : Ok (n + 1) (s_signal st t s all).2.2 := by
  unfold s_signal
  split
  · exact h.up
  · rename_i z
    obtain ⟨t, ht, rfl⟩ := isOut_f (N := 6) rfl (by decide) (Bool.eq_false_iff.mpr (fun q => z (Or.inl q)))
    obtain ⟨s, hs, rfl⟩ := isOut_f (N := 8) rfl (by decide) (Bool.eq_false_iff.mpr (fun q => z (Or.inr q)))
    rw [iN_nI ht (by decide), iN_nI hs (by decide)]
    unfold s_sig
    split
    · exact h.up
    · rename_i z2
      obtain ⟨-, -, hk, -⟩ := s_checkC_0 (Classical.not_not.mp z2)
      exact (Ok.sigN hn hs _ _ _ h hk).up
theorem Ok.oAwait (h : Ok n st) (hn : n + 1 ≤ 100) {t s : Int32} {lim : UInt64} : Ok (n + 1) (s_await st t s lim).2.2 := by
  unfold s_await
  split
  · exact h.up
  · rename_i z
    obtain ⟨t, ht, rfl⟩ := isOut_f (N := 6) rfl (by decide) (Bool.eq_false_iff.mpr (fun q => z (Or.inl q)))
    obtain ⟨s, hs, rfl⟩ := isOut_f (N := 8) rfl (by decide) (Bool.eq_false_iff.mpr (fun q => z (Or.inr (Or.inl q))))
    rw [iN_nI ht (by decide), iN_nI hs (by decide)]
    unfold s_aw
    split
    · exact h.up
    · rename_i z2
      obtain ⟨-, hb, hk, ho⟩ := s_checkC_0 (Classical.not_not.mp z2)
      split
      · exact ((h.I (Or.inl rfl)).I (Or.inr (Or.inl rfl))).up
      · show Ok (n + 1) (s_aw1 st t s lim)
        unfold s_aw1
        split
        · rw [s_queue_eq]
          exact (h.up.awq (why := 2) hs ht hb hk ho (h.rd ht hb)).serve ((h.lkc hs hk).2) hn
        · exact (h.up.awe hs ht hb hk ho (h.rd ht hb)).serve ((h.lkc hs hk).2) hn
end OKO
