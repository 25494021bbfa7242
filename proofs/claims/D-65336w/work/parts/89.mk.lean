/-! make: the graph with a new sync -/
section MKS
variable {cs : Nat → ClassId} {ad : Nat → Nat} {st : St} {L L' : List Nat} {f f' : Nat → va_E} {n s k : Nat} {b c : Int32} {x y : Nat}
def mkS (st : St) (s k : Nat) (b c : Int32) : St := sI (sI (sI st 12 s (nI k)) 15 s b) 16 s c
def mkA (ad : Nat → Nat) (s x y : Nat) : Nat → Nat := va_up (va_up ad (18 + s) x) (26 + s) y
theorem mkA_o {r : Nat} (h1 : r ≠ 18 + s) (h2 : r ≠ 26 + s) : mkA ad s x y r = ad r := by simp [mkA, va_up, h1, h2]
theorem mkA_x (hs : s < 8) : mkA ad s x y (18 + s) = x := by
  have : 18 + s ≠ 26 + s := by omega
  simp [mkA, va_up]
theorem mkA_y : mkA ad s x y (26 + s) = y := by simp [mkA, va_up]
theorem mkS_o {j i : Nat} (h : (j ≠ 12 ∧ j ≠ 15 ∧ j ≠ 16) ∨ i ≠ s) : (mkS st s k b c).1 j i = st.1 j i := by
  unfold mkS
  rcases h with ⟨q1, q2, q3⟩ | q
  · rw [sI_o q3, sI_o q2, sI_o q1]
  · rw [sI_i q, sI_i q, sI_i q]
theorem mkS_12 : (mkS st s k b c).1 12 s = nI k := by show upd (st.1 12) s (nI k) s = _; exact pk_us
theorem mkS_15 : (mkS st s k b c).1 15 s = b := by show upd (st.1 15) s b s = _; exact pk_us
theorem mkS_16 : (mkS st s k b c).1 16 s = c := by show upd (st.1 16) s c s = _; exact pk_us
theorem mkS_R : (mkS st s k b c).2 = st.2 := rfl
theorem mk_w (hs : s < 8) {u : Nat} : mkA ad s x y (34 + u) = ad (34 + u) := mkA_o (by omega) (by omega)
theorem mk_fi (hs : s < 8) {i : Nat} : hFi (mkS st s k b c) (mkA ad s x y) i = hFi st ad i := by
  unfold hFi hAt
  rw [mkS_R]
  cases (st.2.2 i)[0]? with
  | none => rfl
  | some u => exact congrArg some (mk_w hs)
theorem mk_nx (hs : s < 8) {u : Nat} : hNx (mkS st s k b c) (mkA ad s x y) u = hNx st ad u := by
  unfold hNx
  have e : s_wf (mkS st s k b c) u = s_wf st u := by unfold s_wf; rw [mkS_o (Or.inl (by decide))]
  rw [e, mkS_R]
  cases nxt (st.2.2 (s_wf st u)) u with
  | none => rfl
  | some v => exact congrArg some (mk_w hs)
theorem mk_ow (ho : Ok n st) (hs : s < 8) {i : Nat} (hi : i < 8) : hOw (mkS st s k b c) (mkA ad s x y) i = hOw st ad i := by
  unfold hOw
  rw [mkS_o (Or.inl (by decide))]
  split
  · rfl
  · rename_i z
    rcases (ho.1 i hi).1.2.1 with q | ⟨u, hu, q⟩
    · exact absurd q z
    · rw [q, iN_nI hu (by decide), mkA_o (by omega) (by omega)]
theorem mk_sync (ho : Ok n st) (hs : s < 8) (h0 : st.1 12 s = -1) {i : Nat} (hi : i < 8) (his : i ≠ s) (hk : ¬ st.1 12 i = -1) : hSync (mkS st s k b c) (mkA ad s x y) i = hSync st ad i := by
  · have e12 : (mkS st s k b c).1 12 i = st.1 12 i := mkS_o (Or.inr his)
    have e14 : (mkS st s k b c).1 14 i = st.1 14 i := mkS_o (Or.inr his)
    have e15 : (mkS st s k b c).1 15 i = st.1 15 i := mkS_o (Or.inr his)
    have e21 : (mkS st s k b c).1 21 i = st.1 21 i := mkS_o (Or.inr his)
    rcases ho.kd hi hk with q | q | q | q | q
    · rw [hSync_lk (by rw [e12]; exact q), hSync_lk q, mk_fi hs, mk_ow ho hs hi, e12, e14, e21, mkS_R]
    · rw [hSync_sm (by rw [e12]; exact q), hSync_sm q, mk_fi hs, e12, e15, e21, mkS_R]
    · rw [hSync_la (by rw [e12]; exact q), hSync_la q, mk_fi hs, e15, e21, mkS_R]
    · rw [hSync_sh (by rw [e12]; exact q), hSync_sh q, mk_fi hs, mk_ow ho hs hi, e14, e21, mkS_R, mkA_o (by omega) (by omega)]
    · have hl : s_lk (mkS st s k b c) i = s_lk st i := by unfold s_lk; rw [mkS_o (Or.inr his)]
      have hne : s_lk st i ≠ s := fun z => by
        have := ((ho.1 i hi).1.2.2.2.1 q).2.2
        rw [z, h0] at this
        exact absurd this (by decide)
      have hl8 := ((ho.1 i hi).1.2.2.2.1 q).1
      rw [hSync_cd (by rw [e12]; exact q), hSync_cd q, mk_fi hs, e21, mkS_R, hl, mkA_o (by omega) (by omega)]
theorem mk_live (hs : s < 8) (hk : k < 7) {r : Nat} (hr : hLive (mkS st s k b c) r) : r = 18 + s ∨ (r = 26 + s ∧ k = 5) ∨ (hLive st r ∧ r ≠ 18 + s ∧ r ≠ 26 + s) := by
  rcases hr with q | ⟨q1, q2, q3⟩ | ⟨q1, q2, q3⟩ | ⟨q1, q2, q3⟩
  · exact Or.inr (Or.inr ⟨Or.inl q, by omega, by omega⟩)
  · by_cases e : r = 18 + s
    · exact Or.inl e
    · rw [mkS_o (Or.inr (by omega))] at q3
      exact Or.inr (Or.inr ⟨Or.inr (Or.inl ⟨q1, q2, q3⟩), e, by omega⟩)
  · by_cases e : r = 26 + s
    · rw [show r - 26 = s by omega, mkS_12] at q3
      exact Or.inr (Or.inl ⟨e, nIj (b := 5) (by omega) (by decide) q3⟩)
    · rw [mkS_o (Or.inr (by omega))] at q3
      exact Or.inr (Or.inr ⟨Or.inr (Or.inr (Or.inl ⟨q1, q2, q3⟩)), by omega, e⟩)
  · rw [mkS_o (Or.inl (by decide))] at q3
    exact Or.inr (Or.inr ⟨Or.inr (Or.inr (Or.inr ⟨q1, q2, q3⟩)), by omega, by omega⟩)
theorem mk_hc (ho : Ok n st) (hs : s < 8) (h0 : st.1 12 s = -1) {r : Nat} (hr : hLive st r) (h2 : r ≠ 2) (hx : r ≠ 18 + s) (hy : r ≠ 26 + s) : hC cs (mkS st s k b c) (mkA ad s x y) r = hC cs st ad r := by
  have hI : ∀ j i : Nat, (j ≠ 12 ∧ j ≠ 15 ∧ j ≠ 16) → (mkS st s k b c).1 j i = st.1 j i := fun j i h => mkS_o (Or.inl h)
  have hD : (mkS st s k b c).2 = st.2 := rfl
  rcases hr with q | ⟨q1, q2, q3⟩ | ⟨q1, q2, q3⟩ | ⟨q1, q2, q3⟩
  · rcases (by omega : r = 0 ∨ r = 1 ∨ r = 3 ∨ (4 ≤ r ∧ r < 12) ∨ (12 ≤ r ∧ r < 18)) with rfl | rfl | rfl | ⟨q1, q2⟩ | ⟨q1, q2⟩
    · show hHall _ _ = hHall _ _
      unfold hHall
      rw [mkA_o (by omega) (by omega), mkA_o (by omega) (by omega), mkA_o (by omega) (by omega), hI _ _ (by decide), hI _ _ (by decide), hD]
    · show hTasks _ _ = hTasks _ _
      unfold hTasks
      have : (fun t => if t < 6 then some (mkA ad s x y (12 + t)) else none) = (fun t => if t < 6 then some (ad (12 + t)) else none) := by
        funext t
        split
        · rw [mkA_o (by omega) (by omega)]
        · rfl
      rw [this]
    · show hBef _ _ = hBef _ _
      unfold hBef
      have : (fun t => if t < 8 then some (mkA ad s x y (4 + t)) else none) = (fun t => if t < 8 then some (ad (4 + t)) else none) := by
        funext t
        split
        · rw [mkA_o (by omega) (by omega)]
        · rfl
      rw [this]
    · obtain ⟨i, rfl⟩ : ∃ i, r = 4 + i := ⟨r - 4, by omega⟩
      rw [hC_row (by omega), hC_row (by omega)]
      rfl
    · obtain ⟨i, rfl⟩ : ∃ i, r = 12 + i := ⟨r - 12, by omega⟩
      rw [hC_tk (by omega), hC_tk (by omega)]
      unfold hTask hPl
      rw [hI _ _ (by decide), hI _ _ (by decide), hI _ _ (by decide), hD, mk_w hs]
  · obtain ⟨i, rfl⟩ : ∃ i, r = 18 + i := ⟨r - 18, by omega⟩
    rw [Nat.add_sub_cancel_left] at q3
    rw [hC_sy (by omega), hC_sy (by omega), mk_sync ho hs h0 (by omega) (by omega) q3]
  · obtain ⟨i, rfl⟩ : ∃ i, r = 26 + i := ⟨r - 26, by omega⟩
    rw [hC_rd (by omega), hC_rd (by omega)]
    rfl
  · obtain ⟨i, rfl⟩ : ∃ i, r = 34 + i := ⟨r - 34, by omega⟩
    rw [Nat.add_sub_cancel_left] at q3
    rw [hC_wt, hC_wt]
    have hw : s_wf (mkS st s k b c) i = s_wf st i := by unfold s_wf; rw [hI _ _ (by decide)]
    have hws : s_wf st i < 8 ∧ s_wf st i ≠ s := by
      rcases (ho.2.1 i (by omega)).1 with ⟨z, _⟩ | ⟨_, s', hs', hm⟩
      · exact absurd z q3
      · have e : s_wf st i = s' := by
          unfold s_wf
          rw [(ho.row hs' hm).2.1]
          exact iN_nI hs' (by decide)
        refine ⟨by omega, fun z => ?_⟩
        rw [e] at z
        subst z
        rw [((ho.1 s' hs').1.2.2.2.2.2 h0).2.2] at hm
        cases hm
    have e12 : (mkS st s k b c).1 12 (s_wf st i) = st.1 12 (s_wf st i) := mkS_o (Or.inr hws.2)
    unfold hWait hWr hWb hWo
    rw [mk_nx hs, hw, e12, hI _ _ (by decide), hI _ _ (by decide), hI _ _ (by decide), hD, mkA_o (by omega) (by omega), mkA_o (by omega) (by omega)]
theorem HF.made (h : HF cs ad st L f) (ho : Ok n st) (hs : s < 8) (h0 : st.1 12 s = -1) (hk : k < 7) (hL : ∀ a, a ∈ L → a ∈ L') (hx : x ∉ L) (hx' : x ∈ L') (hfa : ∀ a, a ∈ L → a ≠ ad 2 → f' a = f a) (hf2 : f' (ad 2) = hSyncs cs (mkS st s k b c) (mkA ad s x y)) (hfx : f' x = hSync (mkS st s k b c) (mkA ad s x y) s) (h5 : k = 5 → y ∉ L ∧ y ∈ L' ∧ y ≠ x ∧ f' y = hRd cs (mkS st s k b c) s) : HF cs (mkA ad s x y) (mkS st s k b c) L' f' := by
  refine ⟨fun r hr => ?_, fun r r' hr hr' e => ?_⟩
  · rcases mk_live hs hk hr with rfl | ⟨rfl, q⟩ | ⟨q, n1, n2⟩
    · rw [mkA_x hs, hC_sy hs]
      exact ⟨hx', hfx⟩
    · rw [mkA_y, hC_rd hs]
      exact ⟨(h5 q).2.1, (h5 q).2.2.2⟩
    · rw [mkA_o n1 n2]
      refine ⟨hL _ (h.mem q), ?_⟩
      by_cases e2 : r = 2
      · subst e2; exact hf2
      · rw [hfa _ (h.mem q) (fun z => e2 (h.2 _ _ q (hl_lo (by decide)) z)), h.eq q, mk_hc ho hs h0 q e2 n1 n2]
  · rcases mk_live hs hk hr with rfl | ⟨rfl, q⟩ | ⟨q, n1, n2⟩
    · rcases mk_live hs hk hr' with rfl | ⟨rfl, q'⟩ | ⟨q', n1', n2'⟩
      · rfl
      · rw [mkA_x hs, mkA_y] at e
        exact absurd e.symm (h5 q').2.2.1
      · rw [mkA_x hs, mkA_o n1' n2'] at e
        rw [e] at hx
        exact absurd (h.mem q') hx
    · rcases mk_live hs hk hr' with rfl | ⟨rfl, q'⟩ | ⟨q', n1', n2'⟩
      · rw [mkA_x hs, mkA_y] at e
        exact absurd e (h5 q).2.2.1
      · rfl
      · rw [mkA_y, mkA_o n1' n2'] at e
        have := (h5 q).1
        rw [e] at this
        exact absurd (h.mem q') this
    · rcases mk_live hs hk hr' with rfl | ⟨rfl, q'⟩ | ⟨q', n1', n2'⟩
      · rw [mkA_x hs, mkA_o n1 n2] at e
        rw [← e] at hx
        exact absurd (h.mem q) hx
      · rw [mkA_y, mkA_o n1 n2] at e
        have := (h5 q').1
        rw [← e] at this
        exact absurd (h.mem q) this
      · rw [mkA_o n1 n2, mkA_o n1' n2'] at e
        exact h.2 _ _ q q' e
/-- the syncs' array behind the store -/
theorem mk_arr (hs : s < 8) (hk : k < 7) : va_up (fun s' => if s' < 8 then (hSy st s').map (fun s => ad (18 + s)) else none) s (some x) = fun s' => if s' < 8 then (hSy (mkS st s k b c) s').map (fun s' => mkA ad s x y (18 + s')) else none := by
  funext i
  by_cases e : i = s
  · subst e
    rw [show va_up (fun s' => if s' < 8 then (hSy st s').map (fun s => ad (18 + s)) else none) i (some x) i = some x by simp [va_up], if_pos hs]
    unfold hSy
    rw [mkS_12, if_neg (nI_m1 (by omega))]
    exact congrArg some (mkA_x hs).symm
  · rw [show va_up (fun s' => if s' < 8 then (hSy st s').map (fun s => ad (18 + s)) else none) s (some x) i = (if i < 8 then (hSy st i).map (fun s => ad (18 + s)) else none) from if_neg e]
    unfold hSy
    rw [mkS_o (Or.inr e)]
    by_cases hi : i < 8
    · rw [if_pos hi, if_pos hi]
      split
      · rfl
      · exact congrArg some (mkA_o (by omega) (by omega)).symm
    · rw [if_neg hi, if_neg hi]
theorem mk_new (ho : Ok n st) (hs : s < 8) (h0 : st.1 12 s = -1) (hk : k < 7) {v : Int32} {w : Nat} (hb : k = 2 ∨ k = 3 ∨ k = 4 → b = v) (hc : k = 6 → c = nI w ∧ w < 8 ∧ w ≠ s) : hNew k v (ad (18 + w)) y = hSync (mkS st s k b c) (mkA ad s x y) s := by
  have ho1 := (ho.1 s hs).1
  have e12 : (mkS st s k b c).1 12 s = nI k := mkS_12
  have e13 : (mkS st s k b c).1 13 s = -1 := by
    rw [mkS_o (Or.inl (by decide))]
    exact ho1.2.2.1 (by rw [h0]; decide) (by rw [h0]; decide) (by rw [h0]; decide)
  have e14 : (mkS st s k b c).1 14 s = 0 := by
    rw [mkS_o (Or.inl (by decide))]
    rw [mkS_o (Or.inl (by decide))] at e13
    rcases (ho.1 s hs).2.1 (Or.inl h0) with q | q
    · exact q.2
    · exact absurd e13 q.1
  have e20 : (mkS st s k b c).2.1 20 s = 0 := (ho1.2.2.2.2.2 h0).1
  have e21 : (mkS st s k b c).1 21 s = 0 := by
    rw [mkS_o (Or.inl (by decide))]
    exact (ho1.2.2.2.2.2 h0).2.1
  have e15 : (mkS st s k b c).1 15 s = b := mkS_15
  have eF : hFi (mkS st s k b c) (mkA ad s x y) s = none := by
    rw [mk_fi hs]
    unfold hFi hAt
    rw [(ho1.2.2.2.2.2 h0).2.2]
    rfl
  have eO : hOw (mkS st s k b c) (mkA ad s x y) s = none := by
    unfold hOw
    rw [e13, if_pos rfl]
  rcases (by omega : k = 0 ∨ k = 1 ∨ k = 2 ∨ k = 3 ∨ k = 4 ∨ k = 5 ∨ k = 6) with rfl | rfl | rfl | rfl | rfl | rfl | rfl
  · rw [hSync_lk (Or.inl e12), eF, e20, e21, e12, eO, e14]; rfl
  · rw [hSync_lk (Or.inr e12), eF, e20, e21, e12, eO, e14]; rfl
  · rw [hSync_sm (Or.inl e12), eF, e20, e21, e12, e15, hb (by decide)]; rfl
  · rw [hSync_sm (Or.inr e12), eF, e20, e21, e12, e15, hb (by decide)]; rfl
  · rw [hSync_la e12, eF, e20, e21, e15, hb (by decide)]; rfl
  · rw [hSync_sh e12, eF, e20, e21, eO, e14, mkA_y]; rfl
  · have hl : s_lk (mkS st s 6 b c) s = w := by
      unfold s_lk
      rw [mkS_16, (hc rfl).1]
      exact iN_nI (hc rfl).2.1 (by decide)
    have h1 := (hc rfl).2.2
    have h2 := (hc rfl).2.1
    rw [hSync_cd e12, eF, e20, e21, hl, mkA_o (by omega) (by omega)]; rfl
theorem mk_rd (ho : Ok n st) (hs : s < 8) (h0 : st.1 12 s = -1) : (.inl (cs 0, 6, .inl (fun _ => 0)) : va_E) = hRd cs (mkS st s k b c) s := by
  unfold hRd
  have : (fun t => if t < 6 then (mkS st s k b c).1 17 (6 * s + t) else 0) = fun _ : Nat => (0 : Int32) := by
    funext t
    split
    · rename_i ht
      rw [mkS_o (Or.inl (by decide))]
      obtain ⟨d, q1, -, q3⟩ := (ho.1 s hs).2.2.2.1 t ht
      rw [q1, q3 (by rw [h0]; decide)]
      rfl
    · rfl
  rw [this]
/-- the end of make -/
theorem HF.mpost (h : HF cs ad st L f) (ho : Ok n st) (hs : s < 8) (h0 : st.1 12 s = -1) (hk : k < 7) {v : Int32} {w : Nat} (hb : k = 2 ∨ k = 3 ∨ k = 4 → b = v) (hc : k = 6 → c = nI w ∧ w < 8 ∧ w ≠ s) (hL : ∀ a, a ∈ L → a ∈ L') (hx : x ∉ L) (hx' : x ∈ L') (hfa : ∀ a, a ∈ L → f' a = f a) (hfx : f' x = hNew k v (ad (18 + w)) y) (h5 : k = 5 → y ∉ L ∧ y ∈ L' ∧ y ≠ x ∧ f' y = .inl (cs 0, 6, .inl (fun _ => 0))) :
    HF cs (mkA ad s x y) (mkS st s k b c) L' (va_up f' (ad 2) (.inl (cs 4, 8, .inr (.inr (.inr (.inr (va_up (fun s' => if s' < 8 then (hSy st s').map (fun s => ad (18 + s)) else none) s (some x)))))))) ∧ (∀ i, i < 34 → hLive st i → mkA ad s x y i = ad i) ∧ ∀ a, a ∈ L → ¬ hOwn st ad a → va_up f' (ad 2) (.inl (cs 4, 8, .inr (.inr (.inr (.inr (va_up (fun s' => if s' < 8 then (hSy st s').map (fun s => ad (18 + s)) else none) s (some x))))))) a = f a ∧ ¬ hOwn (mkS st s k b c) (mkA ad s x y) a := by
  have h2L : ad 2 ∈ L := h.m (by decide)
  have hx2 : x ≠ ad 2 := fun z => hx (by rw [z]; exact h2L)
  refine ⟨h.made ho hs h0 hk hL hx hx' (fun a ha hn => ?_) ?_ ?_ (fun q => ?_), fun i hi hr => mkA_o ?_ ?_, fun a ha hno => ⟨?_, ?_⟩⟩
  · simp only [va_up, if_neg hn]; exact hfa a ha
  · simp only [va_up, if_true]
    show _ = hSyncs _ _ _
    unfold hSyncs
    rw [← mk_arr hs hk]
  · simp only [va_up, if_neg hx2]
    rw [hfx]; exact mk_new ho hs h0 hk hb hc
  · obtain ⟨q1, q2, q3, q4⟩ := h5 q
    have hy2 : y ≠ ad 2 := fun z => q1 (by rw [z]; exact h2L)
    refine ⟨q1, q2, q3, ?_⟩
    simp only [va_up, if_neg hy2]
    rw [q4]; exact mk_rd ho hs h0
  · intro z
    subst z
    exact hl_sy' hr hs h0
  · intro z
    subst z
    rcases hr with q | ⟨q1, q2, q3⟩ | ⟨q1, q2, q3⟩ | ⟨q1, q2, q3⟩
    · omega
    · omega
    · rw [Nat.add_sub_cancel_left, h0] at q3; exact absurd q3 (by decide)
    · omega
  · have : a ≠ ad 2 := fun z => hno ⟨2, hl_lo (by decide), z⟩
    simp only [va_up, if_neg this]; exact hfa a ha
  · rintro ⟨r, hr, e⟩
    rcases mk_live hs hk hr with rfl | ⟨rfl, q⟩ | ⟨q, n1, n2⟩
    · rw [mkA_x hs] at e; subst e; exact hx ha
    · rw [mkA_y] at e; subst e; exact (h5 q).1 ha
    · rw [mkA_o n1 n2] at e; exact hno ⟨r, q, e⟩
end MKS
