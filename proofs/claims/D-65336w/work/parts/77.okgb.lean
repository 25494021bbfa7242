/-! the invariant behind giveBack -/
section OGB
variable {st : St} {n t s : Nat} {m : Int32}
theorem Ok.own1 (h : Ok n st) (hs : s < 8) {w : Int32} (ht : t < 6) (how : st.1 13 s = nI t) (hb : st.1 1 t = 0) (hk : st.1 12 s = 0 ∨ st.1 12 s = 1 ∨ st.1 12 s = 5) (hd : st.1 12 s = 5 ∨ ∃ d : Nat, 0 < d ∧ d ≤ n ∧ w = nI d) : Ok n (sI st 14 s w) := by
  have h1 := h.own (v := nI t) (w := w) hs (Or.inr ⟨t, ht, rfl, hb⟩) hk (hd.imp id (fun z => Or.inr ⟨nI_m1 (by omega), z⟩))
  rw [sI_self how] at h1
  exact h1
theorem Ok.own0 (h : Ok n st) (hs : s < 8) {w : Int32} (hk : st.1 12 s = 0 ∨ st.1 12 s = 1 ∨ st.1 12 s = 5) (hw : w = 0) : Ok n (sI (sI st 14 s w) 13 s (-1)) := by
  rw [sI_comm (by decide)]
  exact h.own hs (Or.inl rfl) hk (Or.inr (Or.inl ⟨rfl, hw⟩))
theorem Ok.dep (h : Ok n st) (hs : s < 8) (ht : t < 6) (hb : st.1 1 t = 0) (how : st.1 13 s = nI t) (hk : st.1 12 s = 0 ∨ st.1 12 s = 1 ∨ st.1 12 s = 5) : Ok n (if st.1 14 s - 1 = 0 then sI (sI st 14 s (st.1 14 s - 1)) 13 s (-1) else sI st 14 s (st.1 14 s - 1)) := by
  split
  · rename_i z
    exact h.own0 hs hk z
  · rename_i z
    refine h.own1 hs ht how hb hk ?_
    rcases hk with q | q | q
    · refine Or.inr ?_
      rcases (h.1 s hs).2.1 (Or.inr (Or.inl q)) with ⟨z1, _⟩ | ⟨_, d, hd0, hd1, hd2⟩
      · exact absurd (how.symm.trans z1) (nI_m1 (by omega))
      · obtain ⟨d', rfl⟩ : ∃ d', d = d' + 1 := ⟨d - 1, by omega⟩
        rw [hd2, nI_pred] at z ⊢
        exact ⟨d', Nat.pos_of_ne_zero (fun e => z (by rw [e]; rfl)), by omega, rfl⟩
    · refine Or.inr ?_
      rcases (h.1 s hs).2.1 (Or.inr (Or.inr q)) with ⟨z1, _⟩ | ⟨_, d, hd0, hd1, hd2⟩
      · exact absurd (how.symm.trans z1) (nI_m1 (by omega))
      · obtain ⟨d', rfl⟩ : ∃ d', d = d' + 1 := ⟨d - 1, by omega⟩
        rw [hd2, nI_pred] at z ⊢
        exact ⟨d', Nat.pos_of_ne_zero (fun e => z (by rw [e]; rfl)), by omega, rfl⟩
    · exact Or.inl q
theorem Ok.gb (h : Ok n st) (hn : n ≤ 100) (hs : s < 8) (ht : t < 6) (hb : st.1 1 t = 0) (hk : hKd st s) (hm : m = 0 ∨ m = 1) (hc : hGbC st t s m = 0) : Ok n (hGb st t s m) := by
  rcases hk with hk | hk | hk | hk | hk
  · rw [(gb_lk hk).1] at hc
    rw [(gb_lk hk).2]
    have how : st.1 13 s = nI t := Classical.byContradiction (fun z => by rw [if_pos z] at hc; exact absurd hc (by decide))
    exact h.dep hs ht hb how (by rcases hk with q | q; exact Or.inl q; exact Or.inr (Or.inl q))
  · rw [(gb_sm hk).1] at hc
    rw [(gb_sm hk).2]
    have h100 : ¬ st.1 15 s = 100 := fun z => by rw [if_pos z] at hc; exact absurd hc (by decide)
    obtain ⟨p, hp, h15, -⟩ := (h.1 s hs).1.2.2.2.2.1
    have hp2 : p ≠ 100 := fun z => h100 (by rw [h15, z]; rfl)
    exact h.perm (p := p + 1) hs (by omega) (by rw [h15, nI_1]) (by rcases hk with q | q; exact Or.inl q; exact Or.inr (Or.inl q))
  · rw [(gb_la hk).2]
    obtain ⟨p, hp, h15, -⟩ := (h.1 s hs).1.2.2.2.2.1
    split
    · rename_i z
      rw [h15, nI_gt0 (by omega)] at z
      obtain ⟨p', rfl⟩ : ∃ p', p = p' + 1 := ⟨p - 1, by omega⟩
      exact h.perm (p := p') hs (by omega) (by rw [h15, nI_pred]) (Or.inr (Or.inr hk))
    · exact h.perm (p := 0) hs (by omega) rfl (Or.inr (Or.inr hk))
  · rcases hm with rfl | rfl
    · rw [(gb_sh0 hk).1] at hc
      rw [(gb_sh0 hk).2]
      have h0 : ¬ st.1 17 (6 * s + t) = 0 := fun z => by rw [if_pos z] at hc; exact absurd hc (by decide)
      obtain ⟨d, hd, hd2, -⟩ := (h.1 s hs).2.2.2.1 t ht
      have hdp : d ≠ 0 := fun z => h0 (by rw [hd, z]; rfl)
      obtain ⟨d', rfl⟩ : ∃ d', d = d' + 1 := ⟨d - 1, by omega⟩
      exact h.reads (d := d') hs ht hb (by omega) (by rw [hd, nI_pred]) hk
    · rw [(gb_sh1 hk).1] at hc
      rw [(gb_sh1 hk).2]
      have how : st.1 13 s = nI t := Classical.byContradiction (fun z => by rw [if_pos z] at hc; exact absurd hc (by decide))
      exact h.dep hs ht hb how (Or.inr (Or.inr hk))
  · rw [gb_cd hk] at hc
    exact absurd hc (by decide)
theorem hGb_I {k : Nat} (h : k ≠ 13 ∧ k ≠ 14 ∧ k ≠ 15 ∧ k ≠ 17) : (hGb st t s m).1 k = st.1 k := by
  unfold hGb
  split
  · exact sI_o h.2.2.2
  · split
    · exact sI_o h.2.2.1
    · split
      · exact sI_o h.2.2.1
      · split
        · rw [sI_o h.1, sI_o h.2.1]
        · exact sI_o h.2.1
theorem hGb_D : (hGb st t s m).2 = st.2 := by
  unfold hGb
  split
  · rfl
  · split
    · rfl
    · split
      · rfl
      · split <;> rfl
end OGB
