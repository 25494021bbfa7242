/-! THE INVARIANT behind acquire, make -/
section OKP
variable {st : St} {n : Nat}
theorem Ok.oAcquire (h : Ok n st) (hn : n + 1 ≤ 100) {t s m : Int32} {lim : UInt64} : Ok (n + 1) (s_acquire st t s m lim).2.2 := by
  unfold s_acquire
  split
  · exact h.up
  · rename_i z
    obtain ⟨t, ht, rfl⟩ := isOut_f (N := 6) rfl (by decide) (Bool.eq_false_iff.mpr (fun q => z (Or.inl q)))
    obtain ⟨s, hs, rfl⟩ := isOut_f (N := 8) rfl (by decide) (Bool.eq_false_iff.mpr (fun q => z (Or.inr (Or.inl q))))
    have hm := isOut_2 (Bool.eq_false_iff.mpr (fun q => z (Or.inr (Or.inr (Or.inl q)))))
    rw [iN_nI ht (by decide), iN_nI hs (by decide)]
    by_cases hc : s_check st t s = 0
    · obtain ⟨hk0, hb0⟩ := ck_ok h hs hc
      by_cases h6 : st.1 12 s = 6
      · rw [aq6 hc h6]; exact h.up
      · by_cases hf : st.1 2 t = 0
        · have h1 : Ok n (s_ordered st t s).2 := h.ordered
          have hI : ∀ k, k ≠ 22 ∧ k ≠ 25 → (s_ordered st t s).2.1 k = st.1 k := fun k h => so_I h
          cases ho : (s_ordered st t s).1 with
          | false => rw [aq_od hc h6 hf ho]; exact h1.up
          | true =>
            rw [aq_2 hc h6 hf ho]
            have hb : (s_ordered st t s).2.1 1 t = 0 := by rw [hI 1 (by decide)]; exact hb0
            have hk : ¬ (s_ordered st t s).2.1 12 s = -1 := by rw [hI 12 (by decide)]; exact hk0
            have hk6 : ¬ (s_ordered st t s).2.1 12 s = 6 := by rw [hI 12 (by decide)]; exact h6
            generalize (s_ordered st t s).2 = st1 at h1 hb hk hk6
            unfold s_acq2
            split
            · exact h1.up
            · split
              · rename_i _ z2
                refine Ok.I (k := 4) ?_ (by decide)
                refine h1.up.take hs ht hb hk hk6 hm z2.2 ?_ hn (fun q1 q2 => ?_)
                · obtain ⟨d, hd1, hd2, -⟩ := (h1.1 s hs).2.2.2.1 t ht
                  exact ⟨d, hd1, by omega⟩
                · rcases (h1.1 s hs).2.1 (Or.inr (Or.inr q1)) with ⟨q3, _⟩ | ⟨_, d, hd0, hd1, hd2⟩
                  · exact absurd (q2.symm.trans q3) (nI_m1 (by omega))
                  · exact ⟨d, hd0, by omega, hd2⟩
              · rename_i _ z2
                split
                · exact (h1.I (k := 4) (by decide)).up
                · refine Ok.I (k := 4) ?_ (by decide)
                  unfold s_wait
                  refine Ok.enter ?_ hs ht hb hk (h1.rd ht hb) ⟨0, by omega, ?_, fun q => absurd q hk6, fun _ _ _ => rfl⟩ (fun q1 q2 => z2 ⟨?_, ?_⟩) (fun q => absurd q hk6)
                  · exact ((h1.up.mode hm).D (Or.inr rfl)).back hb
                  · show upd (st1.1 9) t 0 t = _
                    rw [pk_us]; rfl
                  · have q1 : st1.1 12 s = 1 := q1
                    have q2 : st1.1 13 s = nI t := q2
                    unfold s_mustQueue
                    rw [if_pos (Or.inr ⟨q1, q2⟩)]
                  · have q1 : st1.1 12 s = 1 := q1
                    have q2 : st1.1 13 s = nI t := q2
                    unfold s_canTake
                    rw [if_neg (by rw [q1]; decide), if_pos q1]
                    exact decide_eq_true (Or.inr q2)
        · rw [aq_fl hc h6 hf]; exact ((h.I (Or.inl rfl)).I (Or.inr (Or.inl rfl))).up
    · unfold s_acq
      rw [if_pos hc]
      exact h.up
theorem Ok.made1 (h : Ok n st) {s k a : Nat} {b c : Int32} (hs : s < 8) (h0 : st.1 12 s = -1) (hk : k < 7) (hb : ∃ p : Nat, p ≤ 100 ∧ b = nI p ∧ (¬ nI k = 2 → ¬ nI k = 3 → ¬ nI k = 4 → p = 0)) (hc : nI k = 6 → a < 8 ∧ c = nI a ∧ (st.1 12 a = 0 ∨ st.1 12 a = 1)) : Ok n (sI (sI (sI st 12 s (nI k)) 15 s b) 16 s c) := by
  have e0 : ∀ j i, (j ≠ 12 ∧ j ≠ 15 ∧ j ≠ 16) ∨ i ≠ s → (sI (sI (sI st 12 s (nI k)) 15 s b) 16 s c).1 j i = st.1 j i := by
    intro j i hj
    rcases hj with ⟨q1, q2, q3⟩ | q
    · rw [sI_o q3, sI_o q2, sI_o q1]
    · rw [sI_i q, sI_i q, sI_i q]
  have e12 : (sI (sI (sI st 12 s (nI k)) 15 s b) 16 s c).1 12 s = nI k := by show upd (st.1 12) s (nI k) s = _; exact pk_us
  have e15 : (sI (sI (sI st 12 s (nI k)) 15 s b) 16 s c).1 15 s = b := by show upd (st.1 15) s b s = _; exact pk_us
  have e16 : (sI (sI (sI st 12 s (nI k)) 15 s b) 16 s c).1 16 s = c := by show upd (st.1 16) s c s = _; exact pk_us
  have eR : (sI (sI (sI st 12 s (nI k)) 15 s b) 16 s c).2 = st.2 := rfl
  have elk : ∀ i, i ≠ s → s_lk (sI (sI (sI st 12 s (nI k)) 15 s b) 16 s c) i = s_lk st i := fun i hi => by unfold s_lk; rw [e0 16 i (Or.inr hi)]
  generalize hX : sI (sI (sI st 12 s (nI k)) 15 s b) 16 s c = X at e0 e12 e15 e16 eR elk
  have h13 : st.1 13 s = -1 := (h.1 s hs).1.2.2.1 (by rw [h0]; decide) (by rw [h0]; decide) (by rw [h0]; decide)
  have h14 : st.1 14 s = 0 := by
    rcases (h.1 s hs).2.1 (Or.inl h0) with q | q
    · exact q.2
    · exact absurd h13 q.1
  have hrow := ((h.1 s hs).1.2.2.2.2.2 h0).2.2
  refine ⟨fun i hi => ?_, fun t ht => ?_, fun j hj => ?_, ?_, ?_⟩
  · by_cases his : i = s
    · subst his
      refine ⟨⟨Or.inr ⟨k, hk, e12⟩, Or.inl ?_, fun _ _ _ => ?_, fun q => ?_, ?_, fun q => ?_⟩, fun _ => Or.inl ⟨?_, ?_⟩, ?_, fun t ht => ?_, fun t ht => ?_⟩
      · rw [e0 13 i (Or.inl (by decide))]; exact h13
      · rw [e0 13 i (Or.inl (by decide))]; exact h13
      · rw [e12] at q
        obtain ⟨q1, q2, q3⟩ := hc q
        have hai : a ≠ i := fun z => by rw [z, h0] at q3; exact absurd q3 (by decide)
        have hl : s_lk X i = a := by unfold s_lk; rw [e16, q2]; exact iN_nI q1 (by decide)
        rw [hl, e16, e0 12 a (Or.inr hai)]
        exact ⟨q1, q2, q3⟩
      · obtain ⟨p, hp1, hp2, hp3⟩ := hb
        rw [e15, e12]
        exact ⟨p, hp1, hp2, hp3⟩
      · rw [e12] at q; exact absurd q (nI_m1 (by omega))
      · rw [e0 13 i (Or.inl (by decide))]; exact h13
      · rw [e0 14 i (Or.inl (by decide))]; exact h14
      · rw [eR]; exact (h.1 i hi).2.2.1
      · obtain ⟨d, hd1, hd2, hd3⟩ := (h.1 i hi).2.2.2.1 t ht
        have : d = 0 := hd3 (by rw [h0]; decide)
        subst this
        refine ⟨0, ?_, ?_, fun _ => rfl⟩
        · rw [e0 17 _ (Or.inl (by decide))]; exact hd1
        · rw [e0 1 t (Or.inl (by decide))]; exact hd2
      · rw [eR, hrow] at ht; cases ht
    · have g12 := e0 12 i (Or.inr his)
      have g13 := e0 13 i (Or.inr his)
      have g14 := e0 14 i (Or.inr his)
      have g15 := e0 15 i (Or.inr his)
      have g16 := e0 16 i (Or.inr his)
      have g21 := e0 21 i (Or.inr his)
      have hlk := elk i his
      obtain ⟨⟨a1, a2, a3, a4, a5, a6⟩, b1, b2, b3, b4⟩ := h.1 i hi
      have hne : st.1 12 i = 6 → s_lk st i ≠ s := fun q z => by
        have := (a4 q).2.2
        rw [z, h0] at this
        exact absurd this (by decide)
      refine ⟨⟨?_, ?_, ?_, fun q => ?_, ?_, ?_⟩, ?_, ?_, fun t ht => ?_, fun t ht => ?_⟩
      · rw [g12]; exact a1
      · rw [g13]; exact a2
      · rw [g12, g13]; exact a3
      · rw [g12] at q
        rw [hlk, g16, e0 12 _ (Or.inr (hne q))]
        exact a4 q
      · rw [g15, g12]; exact a5
      · rw [g12, g21, eR]; exact a6
      · unfold Ok3; rw [g12, g13, g14]; exact b1
      · rw [eR]; exact b2
      · unfold Ok2
        rw [e0 17 _ (Or.inl (by decide)), e0 1 t (Or.inl (by decide)), g12]
        exact b3 t ht
      · rw [eR] at ht
        have c := b4 t ht
        unfold Ok4 at c ⊢
        rw [e0 5 t (Or.inl (by decide)), e0 1 t (Or.inl (by decide)), e0 9 t (Or.inl (by decide)), g12, g13]
        refine ⟨c.1, c.2.1, c.2.2.1, c.2.2.2.1, c.2.2.2.2.1, fun q => ?_⟩
        rw [hlk, e0 13 _ (Or.inl (by decide))]
        exact c.2.2.2.2.2 q
  · have c := h.2.1 t ht
    unfold Ok5 at c ⊢
    rw [e0 1 t (Or.inl (by decide)), e0 5 t (Or.inl (by decide)), e0 6 t (Or.inl (by decide)), eR]
    exact c
  · rw [e0 22 j (Or.inl (by decide))]; exact h.2.2.1 j hj
  · rw [e0 24 0 (Or.inl (by decide))]; exact h.2.2.2.1
  · have := h.2.2.2.2
    unfold DBd at this ⊢
    rw [eR]
    exact this
end OKP
