/-! thread: what is held -/
section THR
variable {st : St} {n t s : Nat}
theorem rd0 (ho : Ok n st) (hs : s < 8) (ht : t < 6) (h5 : ¬ st.1 12 s = 5) : st.1 17 (6 * s + t) = 0 := by
  obtain ⟨d, hd, -, hd0⟩ := (ho.1 s hs).2.2.2.1 t ht
  rw [hd, hd0 h5]; rfl
theorem ow1 (ho : Ok n st) (hs : s < 8) (ht : t < 6) (h : ¬ (st.1 12 s = 0 ∨ st.1 12 s = 1 ∨ st.1 12 s = 5)) : ¬ st.1 13 s = nI t := by
  rw [(ho.1 s hs).1.2.2.1 (fun z => h (Or.inl z)) (fun z => h (Or.inr (Or.inl z))) (fun z => h (Or.inr (Or.inr z)))]
  exact fun z => nI_m1 (by omega) z.symm
theorem thr_held (ho : Ok n st) (hs : s < 8) (ht : t < 6) : (if (st.1 12 s = 0 ∨ st.1 12 s = 1 ∨ st.1 12 s = 5) ∧ st.1 13 s = nI t then st.1 14 s else 0) + (if st.1 12 s = 5 then st.1 17 (6 * s + t) else 0) = (if st.1 13 s = nI t then st.1 14 s else 0) + st.1 17 (6 * s + t) := by
  have e1 : (if st.1 12 s = 5 then st.1 17 (6 * s + t) else 0) = st.1 17 (6 * s + t) := by
    split
    · rfl
    · rename_i z; exact (rd0 ho hs ht z).symm
  have e2 : (if (st.1 12 s = 0 ∨ st.1 12 s = 1 ∨ st.1 12 s = 5) ∧ st.1 13 s = nI t then st.1 14 s else 0) = (if st.1 13 s = nI t then st.1 14 s else 0) := by
    by_cases h : st.1 12 s = 0 ∨ st.1 12 s = 1 ∨ st.1 12 s = 5
    · simp only [h, true_and]
    · rw [if_neg (fun z => h z.1), if_neg (ow1 ho hs ht h)]
  rw [e1, e2]
theorem thr_none (ho : Ok n st) (hs : s < 8) (ht : t < 6) (h : st.1 12 s = -1) : (0 : Int32) = (if st.1 13 s = nI t then st.1 14 s else 0) + st.1 17 (6 * s + t) := by
  rw [rd0 ho hs ht (by rw [h]; decide), if_neg (ow1 ho hs ht (by rw [h]; decide))]
  rfl
theorem amount_eq (ho : Ok n st) (hs : s < 8) : (if st.1 12 s = 2 ∨ st.1 12 s = 3 ∨ st.1 12 s = 4 then st.1 15 s else 0) = st.1 15 s := by
  split
  · rfl
  · rename_i z
    obtain ⟨p, -, h15, hp⟩ := (ho.1 s hs).1.2.2.2.2.1
    rw [h15, hp (fun q => z (Or.inl q)) (fun q => z (Or.inr (Or.inl q))) (fun q => z (Or.inr (Or.inr q)))]
    rfl
theorem nI_ti {w : Nat} (h : w < 2 ^ 31) : (nI w).toInt = (w : Int) := nI_toInt h
theorem nI_k {w k : Nat} {x : Int32} (hx : x = nI k) (hw : w < 2 ^ 31) (hk : k < 2 ^ 31) (h : nI w = x) : w = k := (nI_eq hw hk).mp (h.trans hx)
theorem nI_no {w k : Nat} {x : Int32} (hx : x = nI k) (hw : w < 2 ^ 31) (hk : k < 2 ^ 31) (h : ¬ w = k) : ¬ nI w = x := fun z => h (nI_k hx hw hk z)
theorem thr_0 : s_thr st t (nI 0) = if ¬ st.1 1 t = 0 then 1 else 0 := if_pos (by decide)
theorem thr_1 : s_thr st t (nI 1) = st.1 4 t := by unfold s_thr; rw [if_neg (show ¬ nI 1 = 0 by decide), if_pos (show nI 1 = 1 by decide)]
theorem thr_2 : s_thr st t (nI 2) = if ¬ st.1 2 t = 0 then 1 else 0 := by unfold s_thr; rw [if_neg (show ¬ nI 2 = 0 by decide), if_neg (show ¬ nI 2 = 1 by decide), if_pos (show nI 2 = 2 by decide)]
theorem thr_3 {w : Nat} (hw : w < 11) (h3 : 3 ≤ w) : s_thr st t (nI w) = (if st.1 13 (w - 3) = nI t then st.1 14 (w - 3) else 0) + st.1 17 (6 * (w - 3) + t) := by
  unfold s_thr
  rw [if_neg (nI_no (x := 0) (k := 0) rfl (by omega) (by decide) (by omega)), if_neg (nI_no (x := 1) (k := 1) rfl (by omega) (by decide) (by omega)), if_neg (nI_no (x := 2) (k := 2) rfl (by omega) (by decide) (by omega)), iN_nI hw (by decide)]
theorem syn_0 : s_syn st s (nI 0) = st.1 12 s := if_pos (by decide)
theorem syn_1 : s_syn st s (nI 1) = nI (st.2.2 s).length := by unfold s_syn; rw [if_neg (show ¬ nI 1 = 0 by decide), if_pos (show nI 1 = 1 by decide)]
theorem syn_8 : s_syn st s (nI 8) = st.1 15 s := by unfold s_syn; rw [if_neg (show ¬ nI 8 = 0 by decide), if_neg (show ¬ nI 8 = 1 by decide), if_pos (show nI 8 = 8 by decide)]
theorem syn_t {w u : Nat} (hw : 2 ≤ w ∧ w < 8) (h : (st.2.2 s)[w - 2]? = some u) : s_syn st s (nI w) = nI u := by
  unfold s_syn
  rw [if_neg (nI_no (x := 0) (k := 0) rfl (by omega) (by decide) (by omega)), if_neg (nI_no (x := 1) (k := 1) rfl (by omega) (by decide) (by omega)), if_neg (nI_no (x := 8) (k := 8) rfl (by omega) (by decide) (by omega)), iN_nI (N := 9) (by omega) (by decide), h]
theorem syn_n {w : Nat} (hw : 2 ≤ w ∧ w < 8) (h : (st.2.2 s)[w - 2]? = none) : s_syn st s (nI w) = -1 := by
  unfold s_syn
  rw [if_neg (nI_no (x := 0) (k := 0) rfl (by omega) (by decide) (by omega)), if_neg (nI_no (x := 1) (k := 1) rfl (by omega) (by decide) (by omega)), if_neg (nI_no (x := 8) (k := 8) rfl (by omega) (by decide) (by omega)), iN_nI (N := 9) (by omega) (by decide), h]
end THR
