/-! THE INVARIANT behind make -/
section OKM
variable {st : St} {n : Nat}
theorem Ok.oMake (h : Ok n st) {s k a : Int32} : Ok (n + 1) (s_make st s k a).2.2 := by
  unfold s_make
  split
  · exact h.up
  · rename_i z
    split
    · exact h.up
    · rename_i z2
      split
      · exact h.up
      · rename_i z3
        obtain ⟨s, hs, rfl⟩ := isOut_f (N := 8) rfl (by decide) (Bool.eq_false_iff.mpr (fun q => z (Or.inl q)))
        obtain ⟨k, hk, rfl⟩ := isOut_f (N := 7) rfl (by decide) (Bool.eq_false_iff.mpr (fun q => z (Or.inr (Or.inl q))))
        have ha := Bool.eq_false_iff.mpr (fun q => z (Or.inr (Or.inr q)))
        rw [iN_nI hs (by decide)] at z3 ⊢
        have h0 : st.1 12 s = -1 := (h.neg hs).mp (Classical.not_not.mp z3)
        rcases (by omega : k = 0 ∨ k = 1 ∨ k = 2 ∨ k = 3 ∨ k = 4 ∨ k = 5 ∨ k = 6) with rfl | rfl | rfl | rfl | rfl | rfl | rfl
        · exact (h.made1 (a := 0) hs h0 (by decide) ⟨0, by decide, if_neg (by decide), fun _ _ _ => rfl⟩ (fun q => absurd q (by decide))).up
        · exact (h.made1 (a := 0) hs h0 (by decide) ⟨0, by decide, if_neg (by decide), fun _ _ _ => rfl⟩ (fun q => absurd q (by decide))).up
        · obtain ⟨a, ha2, rfl⟩ := isOut_f (N := 6) (by decide) (by decide) ha
          exact (h.made1 (a := 0) hs h0 (by decide) ⟨a, by omega, if_pos (by decide), fun q => absurd rfl q⟩ (fun q => absurd q (by decide))).up
        · obtain ⟨a, ha2, rfl⟩ := isOut_f (N := 6) (by decide) (by decide) ha
          exact (h.made1 (a := 0) hs h0 (by decide) ⟨a, by omega, if_pos (by decide), fun _ q => absurd rfl q⟩ (fun q => absurd q (by decide))).up
        · obtain ⟨a, ha2, rfl⟩ := isOut_f (N := 6) (by decide) (by decide) ha
          exact (h.made1 (a := 0) hs h0 (by decide) ⟨a, by omega, if_pos (by decide), fun _ _ q => absurd rfl q⟩ (fun q => absurd q (by decide))).up
        · exact (h.made1 (a := 0) hs h0 (by decide) ⟨0, by decide, if_neg (by decide), fun _ _ _ => rfl⟩ (fun q => absurd q (by decide))).up
        · obtain ⟨a, ha2, rfl⟩ := isOut_f (N := 8) (by decide) (by decide) ha
          rw [iN_nI ha2 (by decide)] at z2
          exact (h.made1 (a := a) hs h0 (by decide) ⟨0, by decide, if_neg (by decide), fun _ _ _ => rfl⟩ (fun _ => ⟨ha2, if_pos (by decide), by
            by_cases q0 : st.1 12 a = 0
            · exact Or.inl q0
            · by_cases q1 : st.1 12 a = 1
              · exact Or.inr q1
              · exact absurd ⟨by decide, q0, q1⟩ z2⟩)).up
end OKM
