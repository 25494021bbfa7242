/-! SyncHall.rank, interrupt, tick, by gen_h13.py -/
set_option maxHeartbeats 8000000 in
set_option maxRecDepth 100000 in
theorem hm_rank {l : Launch} {D : va_G} {cs : Nat → ClassId} {ad : Nat → Nat} {L : List Nat} {f : Nat → va_E} (hst : l.stackTraces = false) {n : Nat} {st : St} (ho : Ok n st) {tv : Int32} {v : UInt64}  (hF : HF cs ad st L f) : PM l D cs yX1_rank cX1_rank 5 none (rmL 8 2 12) [.ref (ad 0), .int tv, .double v] L f (hPost cs ad st L f (hOutV (s_rank st tv v)) (s_rank st tv v).2.2) := by
  refine hm_of "SyncHall" rfl (by decide +kernel) (Nat.le_of_ble_eq_true rfl) ?_
  intro sz p e u m below meth c S P hsz hr hlk hnm htb ls hl Q hQ
  have hl : lv_has ls 5 [(0, .ref (ad 0)), (1, .int tv), (2, .double v)] := hl
  have hx := S.1
  have hb := S.2.1
  generalize hH0 : u.heap = H at P ⊢
  generalize ([] : List Loc) = locs at P ⊢
  have hFr : ∀ a, ¬ hOwn st ad a → f a = f a := fun _ _ => rfl
  refine lv_aload_n hx hb dX1_rank_0 rfl (lv_at hl 0 rfl) ?_
  refine lv_iload_n hx hb dX1_rank_1 rfl (lv_at hl 1 rfl) ?_
  by_cases o2 : isOut tv 6 = true
  · have _h := True.intro
    exact pw_callT (nL' := 2) (rest := []) S P hQ (ht_task hst ho o2 hF) q350 q36 (pw_entV (q := (RX1, TX1, 6)) [.int tv] S P (hF.m (by decide)) hF.hall rfl q347 q349 qs2 q350 ⟨by decide +kernel, by decide +kernel, (by decide +kernel : (parseMethodDescriptor yX1_task.desc).map (fun d => d.parameters.length) = some 1)⟩ dX1_rank_2) htb hlk hl.1 (Nat.le_of_ble_eq_true rfl) ⟨Nat.le_of_ble_eq_true rfl, Nat.le_of_ble_eq_true rfl⟩ ⟨Nat.le_of_ble_eq_true rfl, Nat.le_of_ble_eq_true rfl⟩ ⟨Nat.le_of_ble_eq_true rfl, Nat.le_of_ble_eq_true rfl⟩ (hEndV (r := (1, 0, st)) (if_pos (Or.inl o2)) (hPost_th hF))
  · have _h := True.intro
    obtain ⟨t, ht, rfl⟩ := isOut_f (N := 6) rfl (by decide) (Bool.eq_false_iff.mpr o2)
    rw [Bool.not_eq_true] at o2
    refine pw_callR (nL' := 2) (rest := []) S P (hr_task ho ht hF) q350 q36 (pw_entV (q := (RX1, TX1, 6)) [.int (nI t)] S P (hF.m (by decide)) hF.hall rfl q347 q349 qs2 q350 ⟨by decide +kernel, by decide +kernel, (by decide +kernel : (parseMethodDescriptor yX1_task.desc).map (fun d => d.parameters.length) = some 1)⟩ dX1_rank_2) hl.1 (Nat.le_of_ble_eq_true rfl) ⟨Nat.le_of_ble_eq_true rfl, Nat.le_of_ble_eq_true rfl⟩ ⟨Nat.le_of_ble_eq_true rfl, Nat.le_of_ble_eq_true rfl⟩ (fun H locs P => ?_)
    refine W.eq (g2 := F0 m 5 ls [.ref (ad (12 + t))]) rfl ?_
    refine W.widen (k := 1) (n := 6) (Nat.le_of_ble_eq_true rfl) (Nat.le_of_ble_eq_true rfl) ?_
    refine lv_astore (lv' := [(4, .ref (ad (12 + t))), (0, .ref (ad 0)), (1, .int (nI t)), (2, .double v)]) hx hb dX1_rank_5 hl (by decide) rfl (fun ls hl => ?_)
    refine lv_dload_n hx hb dX1_rank_7 rfl (lv_at hl 3 rfl) ?_
    refine lv_ldc2d (v := 13875379345695965184) hx hb S.2.2.2.1 (S.2.2.2.2 _ q351) dX1_rank_8 ?_
    refine lv_dcmp hx hb dX1_rank_11 ?_
    refine lv_if_lt (tgt := 27) (x := Op.cmpValue (FP.dcmp v 13875379345695965184) .l) hx hb dX1_rank_12 (by decide) (fun c12 => ?_) (fun c12 => ?_)
    · simp only [cv_l_lt0, Decidable.not_not] at c12
      refine lv_iconst (v := 0) hx hb dX1_rank_27 (by decide) ?_
      exact pw_callT (nL' := 1) (rest := []) S P hQ (ht_range hst) q134 q36 (pw_entS [.int 0] S q132 q133 q36 q134 ⟨by decide +kernel, by decide +kernel, (by decide +kernel : (parseMethodDescriptor yX1_range.desc).map (fun d => d.parameters.length) = some 1)⟩ dX1_rank_28) htb hlk hl.1 (Nat.le_of_ble_eq_true rfl) ⟨Nat.le_of_ble_eq_true rfl, Nat.le_of_ble_eq_true rfl⟩ ⟨Nat.le_of_ble_eq_true rfl, Nat.le_of_ble_eq_true rfl⟩ ⟨Nat.le_of_ble_eq_true rfl, Nat.le_of_ble_eq_true rfl⟩ (hEndV (r := (1, 0, st)) (if_pos (Or.inr (decide_eq_false (fun z => c12 z.1)))) (hPost_th hF))
    · simp only [cv_l_lt0, Decidable.not_not] at c12
      refine lv_dload_n hx hb dX1_rank_15 rfl (lv_at hl 3 rfl) ?_
      refine lv_ldc2d (v := 4652007308841189376) hx hb S.2.2.2.1 (S.2.2.2.2 _ q352) dX1_rank_16 ?_
      refine lv_dcmp hx hb dX1_rank_19 ?_
      refine lv_if_gt (tgt := 27) (x := Op.cmpValue (FP.dcmp v 4652007308841189376) .g) hx hb dX1_rank_20 (by decide) (fun c20 => ?_) (fun c20 => ?_)
      · simp only [cv_g_gt0, Decidable.not_not] at c20
        refine lv_iconst (v := 0) hx hb dX1_rank_27 (by decide) ?_
        exact pw_callT (nL' := 1) (rest := []) S P hQ (ht_range hst) q134 q36 (pw_entS [.int 0] S q132 q133 q36 q134 ⟨by decide +kernel, by decide +kernel, (by decide +kernel : (parseMethodDescriptor yX1_range.desc).map (fun d => d.parameters.length) = some 1)⟩ dX1_rank_28) htb hlk hl.1 (Nat.le_of_ble_eq_true rfl) ⟨Nat.le_of_ble_eq_true rfl, Nat.le_of_ble_eq_true rfl⟩ ⟨Nat.le_of_ble_eq_true rfl, Nat.le_of_ble_eq_true rfl⟩ ⟨Nat.le_of_ble_eq_true rfl, Nat.le_of_ble_eq_true rfl⟩ (hEndV (r := (1, 0, st)) (if_pos (Or.inr (decide_eq_false (fun z => c20 z.2)))) (hPost_th hF))
      · simp only [cv_g_gt0, Decidable.not_not] at c20
        refine lv_iconst (v := 1) hx hb dX1_rank_23 (by decide) ?_
        refine lv_goto (tgt := 28) hx hb dX1_rank_24 (by decide) ?_
        refine pw_callR (nL' := 1) (rest := []) S P (hs_range True.intro) q134 q36 (pw_entS [.int 1] S q132 q133 q36 q134 ⟨by decide +kernel, by decide +kernel, (by decide +kernel : (parseMethodDescriptor yX1_range.desc).map (fun d => d.parameters.length) = some 1)⟩ dX1_rank_28) hl.1 (Nat.le_of_ble_eq_true rfl) ⟨Nat.le_of_ble_eq_true rfl, Nat.le_of_ble_eq_true rfl⟩ ⟨Nat.le_of_ble_eq_true rfl, Nat.le_of_ble_eq_true rfl⟩ (fun H locs P => ?_)
        refine W.eq (g2 := F0 m 31 ls []) rfl ?_
        refine W.widen (k := 2) (n := 12) (Nat.le_of_ble_eq_true rfl) (Nat.le_of_ble_eq_true rfl) ?_
        refine lv_aload hx hb dX1_rank_31 (lv_at hl 0 rfl) ?_
        refine lv_dload_n hx hb dX1_rank_33 rfl (lv_at hl 3 rfl) ?_
        refine hp_task (st' := sD st 3 t v) (t := t) (k := 1) (v := .double v) S P hF (by omega) (by decide) q76 rfl rfl (rfl) (rfl) (tDiff_D) (by unfold hTask; rw [show (sD st 3 t v).2.1 3 t = v from vf_us]; rfl) dX1_rank_34 (fun H locs f P hF hfr => ?_)
        have hFr : ∀ a, ¬ hOwn st ad a → f a = _ := fun a ha => (hfr a ha).trans (hFr a ha)
        exact gw_vret S P hQ hr hlk ⟨Nat.le_of_ble_eq_true rfl, Nat.le_of_ble_eq_true rfl⟩ dX1_rank_37 (hEndV (r := (0, 0, sD st 3 t v)) (by unfold s_rank; rw [if_neg (by rintro (q | q); exact absurd q (bnt o2); exact absurd (decide_eq_true ⟨c12, c20⟩) (bnt q)), iN_nI ht (by decide)]) (hPost_same (o := .inl none) hF (fun _ hr => hr) hFr).to)

set_option maxHeartbeats 8000000 in
set_option maxRecDepth 100000 in
theorem hm_interrupt {l : Launch} {D : va_G} {cs : Nat → ClassId} {ad : Nat → Nat} {L : List Nat} {f : Nat → va_E} (hst : l.stackTraces = false) {n : Nat} {st : St} (ho : Ok n st) (hn : n ≤ 100) {tv : Int32}  (hF : HF cs ad st L f) : PM l D cs yX1_interrupt cX1_interrupt 3 (some .int) (rmL 8 2 14) [.ref (ad 0), .int tv] L f (hPost cs ad st L f (hOut (s_interrupt st tv)) (s_interrupt st tv).2.2) := by
  refine hm_of "SyncHall" rfl (by decide +kernel) (Nat.le_of_ble_eq_true rfl) ?_
  intro sz p e u m below meth c S P hsz hr hlk hnm htb ls hl Q hQ
  have hl : lv_has ls 3 [(0, .ref (ad 0)), (1, .int tv)] := hl
  have hx := S.1
  have hb := S.2.1
  generalize hH0 : u.heap = H at P ⊢
  generalize ([] : List Loc) = locs at P ⊢
  have hFr : ∀ a, ¬ hOwn st ad a → f a = f a := fun _ _ => rfl
  refine lv_aload_n hx hb dX1_interrupt_0 rfl (lv_at hl 0 rfl) ?_
  refine lv_iload_n hx hb dX1_interrupt_1 rfl (lv_at hl 1 rfl) ?_
  by_cases o2 : isOut tv 6 = true
  · have _h := True.intro
    exact pw_callT (nL' := 2) (rest := []) S P hQ (ht_task hst ho o2 hF) q350 q36 (pw_entV (q := (RX1, TX1, 6)) [.int tv] S P (hF.m (by decide)) hF.hall rfl q347 q349 qs2 q350 ⟨by decide +kernel, by decide +kernel, (by decide +kernel : (parseMethodDescriptor yX1_task.desc).map (fun d => d.parameters.length) = some 1)⟩ dX1_interrupt_2) htb hlk hl.1 (Nat.le_of_ble_eq_true rfl) ⟨Nat.le_of_ble_eq_true rfl, Nat.le_of_ble_eq_true rfl⟩ ⟨Nat.le_of_ble_eq_true rfl, Nat.le_of_ble_eq_true rfl⟩ ⟨Nat.le_of_ble_eq_true rfl, Nat.le_of_ble_eq_true rfl⟩ (hEnd (r := (1, 0, st)) (if_pos o2) (hPost_th hF))
  · have _h := True.intro
    obtain ⟨t, ht, rfl⟩ := isOut_f (N := 6) rfl (by decide) (Bool.eq_false_iff.mpr o2)
    rw [Bool.not_eq_true] at o2
    refine pw_callR (nL' := 2) (rest := []) S P (hr_task ho ht hF) q350 q36 (pw_entV (q := (RX1, TX1, 6)) [.int (nI t)] S P (hF.m (by decide)) hF.hall rfl q347 q349 qs2 q350 ⟨by decide +kernel, by decide +kernel, (by decide +kernel : (parseMethodDescriptor yX1_task.desc).map (fun d => d.parameters.length) = some 1)⟩ dX1_interrupt_2) hl.1 (Nat.le_of_ble_eq_true rfl) ⟨Nat.le_of_ble_eq_true rfl, Nat.le_of_ble_eq_true rfl⟩ ⟨Nat.le_of_ble_eq_true rfl, Nat.le_of_ble_eq_true rfl⟩ (fun H locs P => ?_)
    refine W.eq (g2 := F0 m 5 ls [.ref (ad (12 + t))]) rfl ?_
    refine W.widen (k := 1) (n := 6) (Nat.le_of_ble_eq_true rfl) (Nat.le_of_ble_eq_true rfl) ?_
    refine lv_astore_n (lv' := [(2, .ref (ad (12 + t))), (0, .ref (ad 0)), (1, .int (nI t))]) hx hb dX1_interrupt_5 rfl hl (by decide) rfl (fun ls hl => ?_)
    refine lv_aload_n hx hb dX1_interrupt_6 rfl (lv_at hl 0 rfl) ?_
    refine pw_callR (nL' := 1) (rest := []) S P (hg_blocked (hF.m (by omega)) (hF.tk (by omega))) q372 q37 (pw_entV (q := (RX2, TX2, 5)) [] S P (hF.m (by omega)) (hF.tk (by omega)) rfl q369 q370 q371 q372 ⟨by decide +kernel, by decide +kernel, (by decide +kernel : (parseMethodDescriptor yX2_blocked.desc).map (fun d => d.parameters.length) = some 0)⟩ dX1_interrupt_7) hl.1 (Nat.le_of_ble_eq_true rfl) ⟨Nat.le_of_ble_eq_true rfl, Nat.le_of_ble_eq_true rfl⟩ ⟨Nat.le_of_ble_eq_true rfl, Nat.le_of_ble_eq_true rfl⟩ (fun H locs P => ?_)
    refine W.eq (g2 := F0 m 10 ls [.int (bI (hPl st ad t).isSome)]) rfl ?_
    refine W.widen (k := 1) (n := 6) (Nat.le_of_ble_eq_true rfl) (Nat.le_of_ble_eq_true rfl) ?_
    refine lv_if_eq (tgt := 36) (x := bI (hPl st ad t).isSome) hx hb dX1_interrupt_10 (by decide) (fun c10 => ?_) (fun c10 => ?_)
    · rw [bI_eq0] at c10
      have hb0 : st.1 1 t = 0 := hPl_none.mp (by cases hq : hPl st ad t with | none => rfl | some x => rw [hq] at c10; cases c10)
      refine lv_aload_n hx hb dX1_interrupt_36 rfl (lv_at hl 0 rfl) ?_
      refine lv_iconst (v := 1) hx hb dX1_interrupt_37 (by decide) ?_
      refine hp_task (st' := sI st 2 t 1) (t := t) (k := 3) (v := .int 1) S P hF (by omega) (by decide) q80 rfl rfl (rfl) (rfl) (tDiff_I (by decide)) (by unfold hTask; rw [show (sI st 2 t 1).1 2 t = 1 from pk_us]; rfl) dX1_interrupt_38 (fun H locs f P hF hfr => ?_)
      have hFr : ∀ a, ¬ hOwn st ad a → f a = _ := fun a ha => (hfr a ha).trans (hFr a ha)
      refine lv_goto (tgt := 53) hx hb dX1_interrupt_41 (by decide) ?_
      refine lv_aload_n hx hb dX1_interrupt_53 rfl (lv_at hl 0 rfl) ?_
      refine pw_get (q := (RX2, TX2, 5)) (k := 2) S P (hF.m (by omega)) (hF.tk (by omega)) rfl (by decide) q78 (Or.inl rfl) rfl dX1_interrupt_54 ?_
      exact gw_iret S P hQ hr hlk ⟨Nat.le_of_ble_eq_true rfl, Nat.le_of_ble_eq_true rfl⟩ dX1_interrupt_57 (hEnd (r := (0, (sI st 2 t 1).1 4 t, sI st 2 t 1)) (by unfold s_interrupt; rw [if_neg (bnt o2), iN_nI ht (by decide), show s_intr st t = sI st 2 t 1 from if_pos (Or.inl hb0)]) (hPost_same (o := .inl (some (.int (st.1 4 t)))) hF (fun _ hr => hr) hFr).to)
    · rw [bI_eq0, Bool.not_eq_false] at c10
      have hbt : ¬ st.1 1 t = 0 := fun z => by rw [hPl_none.mpr z] at c10; cases c10
      obtain ⟨hs, hm, h5⟩ := ho.wfs ht hbt
      have hkd : hKd st (s_wf st t) := ho.kd hs (ho.made hs hm)
      refine lv_aload_n hx hb dX1_interrupt_13 rfl (lv_at hl 0 rfl) ?_
      refine pw_get (q := (RX2, TX2, 5)) (k := 4) S P (hF.m (by omega)) (hF.tk (by omega)) rfl (by decide) q83 (Or.inl rfl) rfl dX1_interrupt_14 ?_
      refine lw_eqv (w := .ref (ad (34 + t))) (congrArg va_rf (hPl_some hbt)) ?_
      refine pw_callR (nL' := 1) (rest := []) S P (hg_w_takesBack (hF.mem (hl_wt ht hbt)) (hF.wt ht hbt)) q635 q52 (pw_entV (q := (RX10, TX10, 8)) [] S P (hF.mem (hl_wt ht hbt)) (hF.wt ht hbt) rfl q724 q633 q634 q635 ⟨by decide +kernel, by decide +kernel, (by decide +kernel : (parseMethodDescriptor yX10_takesBack.desc).map (fun d => d.parameters.length) = some 0)⟩ dX1_interrupt_17) hl.1 (Nat.le_of_ble_eq_true rfl) ⟨Nat.le_of_ble_eq_true rfl, Nat.le_of_ble_eq_true rfl⟩ ⟨Nat.le_of_ble_eq_true rfl, Nat.le_of_ble_eq_true rfl⟩ (fun H locs P => ?_)
      refine W.eq (g2 := F0 m 20 ls [.int (bI (decide (0 < st.1 9 t)))]) rfl ?_
      refine W.widen (k := 1) (n := 6) (Nat.le_of_ble_eq_true rfl) (Nat.le_of_ble_eq_true rfl) ?_
      refine lv_if_eq (tgt := 44) (x := bI (decide (0 < st.1 9 t))) hx hb dX1_interrupt_20 (by decide) (fun c20 => ?_) (fun c20 => ?_)
      · simp only [bI_eq0, decide_eq_false_iff_not, decide_eq_true_eq, Classical.not_not] at c20
        refine lv_aload_n hx hb dX1_interrupt_44 rfl (lv_at hl 1 rfl) ?_
        refine lv_aload_n hx hb dX1_interrupt_45 rfl (lv_at hl 0 rfl) ?_
        refine pw_get (q := (RX2, TX2, 5)) (k := 4) S P (hF.m (by omega)) (hF.tk (by omega)) rfl (by decide) q83 (Or.inl rfl) rfl dX1_interrupt_46 ?_
        refine lw_eqv (w := .ref (ad (34 + t))) (congrArg va_rf (hPl_some hbt)) ?_
        refine lv_iconst (v := 3) hx hb dX1_interrupt_49 (by decide) ?_
        refine pw_callH (nL' := 4) (rest := []) S P (hw_giveUp ho hs hm hn hF) q732 q36 (pw_entV (q := (RX1, TX1, 6)) [.ref (ad (34 + t)), .int 3] S P (hF.m (by decide)) hF.hall rfl q729 q731 qs14 q732 ⟨by decide +kernel, by decide +kernel, (by decide +kernel : (parseMethodDescriptor yX1_giveUp.desc).map (fun d => d.parameters.length) = some 2)⟩ dX1_interrupt_50) hl.1 (Nat.le_of_ble_eq_true rfl) ⟨Nat.le_of_ble_eq_true rfl, Nat.le_of_ble_eq_true rfl⟩ ⟨Nat.le_of_ble_eq_true rfl, Nat.le_of_ble_eq_true rfl⟩ (fun H locs L2 f2 ad2 P hF2 had hLs hfr2 => ?_)
        refine W.eq (g2 := F0 m 53 ls []) rfl ?_
        refine W.widen (k := 2) (n := 14) (Nat.le_of_ble_eq_true rfl) (Nat.le_of_ble_eq_true rfl) ?_
        have e12 := had (12 + t) (by omega) (hl_lo (by omega))
        have htk := hF2.tk ht
        have htm := hF2.m (r := 12 + t) (by omega)
        rw [e12] at htk htm
        refine lv_aload_n hx hb dX1_interrupt_53 rfl (lv_at hl 0 rfl) ?_
        refine pw_get (q := (RX2, TX2, 5)) (k := 2) S P htm htk rfl (by decide) q78 (Or.inl rfl) rfl dX1_interrupt_54 ?_
        exact gw_iret S P hQ hr hlk ⟨Nat.le_of_ble_eq_true rfl, Nat.le_of_ble_eq_true rfl⟩ dX1_interrupt_57 (hEnd (r := (0, (s_giveUp st t (s_wf st t) 3).1 4 t, s_giveUp st t (s_wf st t) 3)) (by unfold s_interrupt; rw [if_neg (bnt o2), iN_nI ht (by decide), show s_intr st t = s_giveUp st t (s_wf st t) 3 from if_neg (by rintro (q | q); exact hbt q; exact c20 q.2)]) ⟨rfl, ad2, hF2, had, hLs, hfr2⟩)
      · simp only [bI_eq0, Bool.not_eq_false, decide_eq_false_iff_not, decide_eq_true_eq, Classical.not_not] at c20
        refine lv_aload_n hx hb dX1_interrupt_23 rfl (lv_at hl 0 rfl) ?_
        refine pw_get (q := (RX2, TX2, 5)) (k := 4) S P (hF.m (by omega)) (hF.tk (by omega)) rfl (by decide) q83 (Or.inl rfl) rfl dX1_interrupt_24 ?_
        refine lw_eqv (w := .ref (ad (34 + t))) (congrArg va_rf (hPl_some hbt)) ?_
        refine pw_callR (nL' := 1) (rest := []) S P (hg_w_sync (hF.mem (hl_wt ht hbt)) (hF.wt ht hbt)) q728 q52 (pw_entV (q := (RX10, TX10, 8)) [] S P (hF.mem (hl_wt ht hbt)) (hF.wt ht hbt) rfl q725 q726 q727 q728 ⟨by decide +kernel, by decide +kernel, (by decide +kernel : (parseMethodDescriptor yX10_sync.desc).map (fun d => d.parameters.length) = some 0)⟩ dX1_interrupt_27) hl.1 (Nat.le_of_ble_eq_true rfl) ⟨Nat.le_of_ble_eq_true rfl, Nat.le_of_ble_eq_true rfl⟩ ⟨Nat.le_of_ble_eq_true rfl, Nat.le_of_ble_eq_true rfl⟩ (fun H locs P => ?_)
        refine W.eq (g2 := F0 m 30 ls [.ref (ad (18 + (s_wf st t)))]) rfl ?_
        refine W.widen (k := 1) (n := 6) (Nat.le_of_ble_eq_true rfl) (Nat.le_of_ble_eq_true rfl) ?_
        refine hs_isLock (s := (s_wf st t)) S P hF hs hkd q201 dX1_interrupt_30 ?_
        refine lv_if_eq (tgt := 44) (x := bI (s_isLock st (s_wf st t))) hx hb dX1_interrupt_33 (by decide) (fun c33 => ?_) (fun c33 => ?_)
        · rw [bI_eq0] at c33
          have hk6 : st.1 12 (s_wf st t) = 6 := by
            refine Classical.byContradiction (fun q => ?_)
            obtain ⟨d, -, h9, -, hd⟩ := (ho.row hs hm).2.2.2.1
            have hnl := of_decide_eq_false c33
            have h0 := hd (fun z => hnl (Or.inl z)) (fun z => hnl (Or.inr z)) q
            rw [h0] at h9
            rw [h9] at c20
            exact absurd c20 (by decide)
          refine lv_aload_n hx hb dX1_interrupt_44 rfl (lv_at hl 1 rfl) ?_
          refine lv_aload_n hx hb dX1_interrupt_45 rfl (lv_at hl 0 rfl) ?_
          refine pw_get (q := (RX2, TX2, 5)) (k := 4) S P (hF.m (by omega)) (hF.tk (by omega)) rfl (by decide) q83 (Or.inl rfl) rfl dX1_interrupt_46 ?_
          refine lw_eqv (w := .ref (ad (34 + t))) (congrArg va_rf (hPl_some hbt)) ?_
          refine lv_iconst (v := 3) hx hb dX1_interrupt_49 (by decide) ?_
          refine pw_callH (nL' := 4) (rest := []) S P (hw_giveUp ho hs hm hn hF) q732 q36 (pw_entV (q := (RX1, TX1, 6)) [.ref (ad (34 + t)), .int 3] S P (hF.m (by decide)) hF.hall rfl q729 q731 qs14 q732 ⟨by decide +kernel, by decide +kernel, (by decide +kernel : (parseMethodDescriptor yX1_giveUp.desc).map (fun d => d.parameters.length) = some 2)⟩ dX1_interrupt_50) hl.1 (Nat.le_of_ble_eq_true rfl) ⟨Nat.le_of_ble_eq_true rfl, Nat.le_of_ble_eq_true rfl⟩ ⟨Nat.le_of_ble_eq_true rfl, Nat.le_of_ble_eq_true rfl⟩ (fun H locs L2 f2 ad2 P hF2 had hLs hfr2 => ?_)
          refine W.eq (g2 := F0 m 53 ls []) rfl ?_
          refine W.widen (k := 2) (n := 14) (Nat.le_of_ble_eq_true rfl) (Nat.le_of_ble_eq_true rfl) ?_
          have e12 := had (12 + t) (by omega) (hl_lo (by omega))
          have htk := hF2.tk ht
          have htm := hF2.m (r := 12 + t) (by omega)
          rw [e12] at htk htm
          refine lv_aload_n hx hb dX1_interrupt_53 rfl (lv_at hl 0 rfl) ?_
          refine pw_get (q := (RX2, TX2, 5)) (k := 2) S P htm htk rfl (by decide) q78 (Or.inl rfl) rfl dX1_interrupt_54 ?_
          exact gw_iret S P hQ hr hlk ⟨Nat.le_of_ble_eq_true rfl, Nat.le_of_ble_eq_true rfl⟩ dX1_interrupt_57 (hEnd (r := (0, (s_giveUp st t (s_wf st t) 3).1 4 t, s_giveUp st t (s_wf st t) 3)) (by unfold s_interrupt; rw [if_neg (bnt o2), iN_nI ht (by decide), show s_intr st t = s_giveUp st t (s_wf st t) 3 from if_neg (by rintro (q | q); exact hbt q; exact q.1 hk6)]) ⟨rfl, ad2, hF2, had, hLs, hfr2⟩)
        · rw [bI_eq0, Bool.not_eq_false] at c33
          refine lv_aload_n hx hb dX1_interrupt_36 rfl (lv_at hl 0 rfl) ?_
          refine lv_iconst (v := 1) hx hb dX1_interrupt_37 (by decide) ?_
          refine hp_task (st' := sI st 2 t 1) (t := t) (k := 3) (v := .int 1) S P hF (by omega) (by decide) q80 rfl rfl (rfl) (rfl) (tDiff_I (by decide)) (by unfold hTask; rw [show (sI st 2 t 1).1 2 t = 1 from pk_us]; rfl) dX1_interrupt_38 (fun H locs f P hF hfr => ?_)
          have hFr : ∀ a, ¬ hOwn st ad a → f a = _ := fun a ha => (hfr a ha).trans (hFr a ha)
          refine lv_goto (tgt := 53) hx hb dX1_interrupt_41 (by decide) ?_
          refine lv_aload_n hx hb dX1_interrupt_53 rfl (lv_at hl 0 rfl) ?_
          refine pw_get (q := (RX2, TX2, 5)) (k := 2) S P (hF.m (by omega)) (hF.tk (by omega)) rfl (by decide) q78 (Or.inl rfl) rfl dX1_interrupt_54 ?_
          exact gw_iret S P hQ hr hlk ⟨Nat.le_of_ble_eq_true rfl, Nat.le_of_ble_eq_true rfl⟩ dX1_interrupt_57 (hEnd (r := (0, (sI st 2 t 1).1 4 t, sI st 2 t 1)) (by unfold s_interrupt; rw [if_neg (bnt o2), iN_nI ht (by decide), show s_intr st t = sI st 2 t 1 from if_pos (Or.inr ⟨fun z => by rcases of_decide_eq_true c33 with q | q <;> rw [q] at z <;> exact absurd z (by decide), c20⟩)]) (hPost_same (o := .inl (some (.int (st.1 4 t)))) hF (fun _ hr => hr) hFr).to)

set_option maxHeartbeats 8000000 in
set_option maxRecDepth 100000 in
theorem hm_tick {l : Launch} {D : va_G} {cs : Nat → ClassId} {ad : Nat → Nat} {L : List Nat} {f : Nat → va_E} (hst : l.stackTraces = false) {n : Nat} {st : St} (ho : Ok n st) (hn : n ≤ 100) {v : UInt64}  (hF : HF cs ad st L f) : PM l D cs yX1_tick cX1_tick 5 (some .int) (rmL 8 8 62) [.ref (ad 0), .double v] L f (hPost cs ad st L f (hOut (s_tick st v)) (s_tick st v).2.2) := by
  refine hm_of "SyncHall" rfl (by decide +kernel) (Nat.le_of_ble_eq_true rfl) ?_
  intro sz p e u m below meth c S P hsz hr hlk hnm htb ls hl Q hQ
  have hl : lv_has ls 5 [(0, .ref (ad 0)), (1, .double v)] := hl
  have hx := S.1
  have hb := S.2.1
  generalize hH0 : u.heap = H at P ⊢
  generalize ([] : List Loc) = locs at P ⊢
  have hFr : ∀ a, ¬ hOwn st ad a → f a = f a := fun _ _ => rfl
  have hF0 := hF
  obtain ⟨f0, hf0⟩ : ∃ z, z = f := ⟨f, rfl⟩
  rw [← hf0] at hF0
  refine lv_dload_n hx hb dX1_tick_0 rfl (lv_at hl 1 rfl) ?_
  refine lv_dconst0 hx hb dX1_tick_1 ?_
  refine lv_dcmp hx hb dX1_tick_2 ?_
  refine lv_if_lt (tgt := 18) (x := Op.cmpValue (FP.dcmp v FP.dconst0) .l) hx hb dX1_tick_3 (by decide) (fun c3 => ?_) (fun c3 => ?_)
  · simp only [cv_l_lt0, Decidable.not_not] at c3
    refine lv_iconst (v := 0) hx hb dX1_tick_18 (by decide) ?_
    exact pw_callT (nL' := 1) (rest := []) S P hQ (ht_range hst) q134 q36 (pw_entS [.int 0] S q132 q133 q36 q134 ⟨by decide +kernel, by decide +kernel, (by decide +kernel : (parseMethodDescriptor yX1_range.desc).map (fun d => d.parameters.length) = some 1)⟩ dX1_tick_19) htb hlk hl.1 (Nat.le_of_ble_eq_true rfl) ⟨Nat.le_of_ble_eq_true rfl, Nat.le_of_ble_eq_true rfl⟩ ⟨Nat.le_of_ble_eq_true rfl, Nat.le_of_ble_eq_true rfl⟩ ⟨Nat.le_of_ble_eq_true rfl, Nat.le_of_ble_eq_true rfl⟩ (hEnd (r := (1, 0, st)) (if_pos (decide_eq_false (fun z => c3 z.1))) (hPost_th hF))
  · simp only [cv_l_lt0, Decidable.not_not] at c3
    refine lv_dload_n hx hb dX1_tick_6 rfl (lv_at hl 1 rfl) ?_
    refine lv_ldc2d (v := 4652007308841189376) hx hb S.2.2.2.1 (S.2.2.2.2 _ q352) dX1_tick_7 ?_
    refine lv_dcmp hx hb dX1_tick_10 ?_
    refine lv_if_gt (tgt := 18) (x := Op.cmpValue (FP.dcmp v 4652007308841189376) .g) hx hb dX1_tick_11 (by decide) (fun c11 => ?_) (fun c11 => ?_)
    · simp only [cv_g_gt0, Decidable.not_not] at c11
      refine lv_iconst (v := 0) hx hb dX1_tick_18 (by decide) ?_
      exact pw_callT (nL' := 1) (rest := []) S P hQ (ht_range hst) q134 q36 (pw_entS [.int 0] S q132 q133 q36 q134 ⟨by decide +kernel, by decide +kernel, (by decide +kernel : (parseMethodDescriptor yX1_range.desc).map (fun d => d.parameters.length) = some 1)⟩ dX1_tick_19) htb hlk hl.1 (Nat.le_of_ble_eq_true rfl) ⟨Nat.le_of_ble_eq_true rfl, Nat.le_of_ble_eq_true rfl⟩ ⟨Nat.le_of_ble_eq_true rfl, Nat.le_of_ble_eq_true rfl⟩ ⟨Nat.le_of_ble_eq_true rfl, Nat.le_of_ble_eq_true rfl⟩ (hEnd (r := (1, 0, st)) (if_pos (decide_eq_false (fun z => c11 z.2))) (hPost_th hF))
    · simp only [cv_g_gt0, Decidable.not_not] at c11
      have hin : inR FP.dconst0 cK v = true := decide_eq_true ⟨c3, c11⟩
      have ho1 := ho.time (fb_by hin)
      refine lv_iconst (v := 1) hx hb dX1_tick_14 (by decide) ?_
      refine lv_goto (tgt := 19) hx hb dX1_tick_15 (by decide) ?_
      refine pw_callR (nL' := 1) (rest := []) S P (hs_range True.intro) q134 q36 (pw_entS [.int 1] S q132 q133 q36 q134 ⟨by decide +kernel, by decide +kernel, (by decide +kernel : (parseMethodDescriptor yX1_range.desc).map (fun d => d.parameters.length) = some 1)⟩ dX1_tick_19) hl.1 (Nat.le_of_ble_eq_true rfl) ⟨Nat.le_of_ble_eq_true rfl, Nat.le_of_ble_eq_true rfl⟩ ⟨Nat.le_of_ble_eq_true rfl, Nat.le_of_ble_eq_true rfl⟩ (fun H locs P => ?_)
      refine W.eq (g2 := F0 m 22 ls []) rfl ?_
      refine W.widen (k := 1) (n := 6) (Nat.le_of_ble_eq_true rfl) (Nat.le_of_ble_eq_true rfl) ?_
      refine lv_aload_n hx hb dX1_tick_22 rfl (lv_at hl 0 rfl) ?_
      refine lv_dup hx hb dX1_tick_23 rfl ?_
      refine pw_get (q := (RX1, TX1, 6)) (k := 5) S P (hF.m (by decide)) hF.hall rfl (by decide) q101 (Or.inl rfl) rfl dX1_tick_24 ?_
      refine lv_dload_n hx hb dX1_tick_27 rfl (lv_at hl 1 rfl) ?_
      refine lv_dadd hx hb dX1_tick_28 ((fb_time ho.db.1 (fb_by hin)).2) ?_
      refine hp_hall (st' := sD st 11 0 (FP.dadd (st.2.1 11 0) v)) (k := 5) (v := .double (FP.dadd (st.2.1 11 0) v)) S P hF (by decide) q101 rfl rfl rfl rfl (fun _ hr => hr) (fun r hr => hc_11 hr) (by rfl) dX1_tick_29 (fun H locs f P hF hfr => ?_)
      have hFr : ∀ a, ¬ hOwn st ad a → f a = _ := fun a ha => (hfr a ha).trans (hFr a ha)
      refine lv_iconst (v := 0) hx hb dX1_tick_32 (by decide) ?_
      refine lv_istore_n (lv' := [(3, .int 0), (0, .ref (ad 0)), (1, .double v)]) hx hb dX1_tick_33 rfl hl (by decide) rfl (fun ls hl => ?_)
      refine lv_aload_n hx hb dX1_tick_34 rfl (lv_at hl 1 rfl) ?_
      refine pw_callR (nL' := 6) (rest := []) S P (hr_latest ho1 hF) q745 q36 (pw_entV (q := (RX1, TX1, 6)) [] S P (hF.m (by decide)) hF.hall rfl q742 q744 qs15 q745 ⟨by decide +kernel, by decide +kernel, (by decide +kernel : (parseMethodDescriptor yX1_latest.desc).map (fun d => d.parameters.length) = some 0)⟩ dX1_tick_35) hl.1 (Nat.le_of_ble_eq_true rfl) ⟨Nat.le_of_ble_eq_true rfl, Nat.le_of_ble_eq_true rfl⟩ ⟨Nat.le_of_ble_eq_true rfl, Nat.le_of_ble_eq_true rfl⟩ (fun H locs P => ?_)
      refine W.eq (g2 := F0 m 38 ls [va_rf (hLt (sD st 11 0 (FP.dadd (st.2.1 11 0) v)) ad 6)]) rfl ?_
      refine W.widen (k := 1) (n := 6) (Nat.le_of_ble_eq_true rfl) (Nat.le_of_ble_eq_true rfl) ?_
      refine lw_astore (lv' := [(4, va_rf (hLt (sD st 11 0 (FP.dadd (st.2.1 11 0) v)) ad 6)), (3, .int 0), (0, .ref (ad 0)), (1, .double v)]) hx hb dX1_tick_38 hl (by decide) rfl (fun ls hl => ?_)
      have hrel : hRel cs ad st L _ ad (sD st 11 0 (FP.dadd (st.2.1 11 0) v)) L f := (hRel.rf hF0).stay hF (fun _ h => h) (fun a ha => (hFr a ha).trans (congrFun hf0 a).symm) rfl
      have loop40 : ∀ (d : Nat) (fu : Nat) (st1 : St) (ad1 : Nat → Nat) (L1 : List Nat) (f1 : Nat → va_E) (k : Nat), fu < d → (s_mu st1 ≤ fu) → (k + fu ≤ 6) → (Ok n st1) → (hRel cs ad st L f0 ad1 st1 L1 f1) → (s_tickN 6 (sD st 11 0 (FP.dadd (st.2.1 11 0) v)) 0 = s_tickN fu st1 k) → ∀ (H : Heap) (locs : List Loc), PW D cs (pA L sz) u L1 f1 H locs → ∀ (ls : Array Slot), lv_has ls 5 [(4, va_rf (hLt st1 ad1 6)), (3, .int (nI k)), (0, .ref (ad1 0))] → W p l e (rmL 8 8 62) u m ([.ref (ad 0), .double v] : List Value).toArray below meth c H locs (1 + k) (6 + 8 * k) Q (F0 m 40 ls []) := by
        intro d40
        induction d40 with
        | zero => intro fu st ad L1 f k hd; exact absurd hd (by omega)
        | succ d40 ih40 =>
          intro fu st ad L1 f k hd40 hmu hkf ho hrel hinv H locs P ls hl
          have hF := hrel.1
          cases hla : s_latest st 6 with
          | none =>
            rw [show hLt st ad 6 = none from by unfold hLt; rw [hla]; rfl] at hl
            refine lv_aloadN hx hb dX1_tick_40 (lv_at hl 0 rfl) ?_
            refine lv_ifnullN (tgt := 64) hx hb dX1_tick_42 (by decide) ?_
            refine lv_iload_n hx hb dX1_tick_64 rfl (lv_at hl 1 rfl) ?_
            exact gw_iret S P hQ hr hlk ⟨by show (1 + k) ≤ 8; omega, by show (6 + 8 * k) ≤ 62; omega⟩ dX1_tick_65 (by rw [← hf0]; exact hEnd (by unfold s_tick; rw [if_neg (by rw [hin]; decide), hinv, s_tickN_no hla]) hrel.post)
          | some t =>
            rw [show hLt st ad 6 = some (ad (34 + t)) from by unfold hLt; rw [hla]; rfl] at hl
            obtain ⟨ht, hov⟩ := s_latest_over 6 t hla
            have hbl := (of_decide_eq_true hov).1
            obtain ⟨hs, hm, h5⟩ := ho.wfs ht hbl
            have hmu2 := s_giveUp_mu (why := 2) ho hs hm (s_over_end hov)
            obtain ⟨fu', rfl⟩ : ∃ fu', fu = fu' + 1 := ⟨fu - 1, by omega⟩
            refine lv_aload hx hb dX1_tick_40 (lv_at hl 0 rfl) ?_
            refine lv_ifnull hx hb dX1_tick_42 ?_
            refine lv_aload_n hx hb dX1_tick_45 rfl (lv_at hl 2 rfl) ?_
            refine lv_aload hx hb dX1_tick_46 (lv_at hl 0 rfl) ?_
            refine lv_iconst (v := 2) hx hb dX1_tick_48 (by decide) ?_
            refine pw_callH (nL' := 4) (rest := []) S P (hw_giveUp ho hs hm hn hF) q732 q36 (pw_entV (q := (RX1, TX1, 6)) [.ref (ad (34 + t)), .int 2] S P (hF.m (by decide)) hF.hall rfl q729 q731 qs14 q732 ⟨by decide +kernel, by decide +kernel, (by decide +kernel : (parseMethodDescriptor yX1_giveUp.desc).map (fun d => d.parameters.length) = some 2)⟩ dX1_tick_49) hl.1 (Nat.le_of_ble_eq_true rfl) ⟨Nat.le_of_ble_eq_true rfl, Nat.le_of_ble_eq_true rfl⟩ ⟨by show (1 + k) + 1 ≤ 8; omega, by show (6 + 8 * k) + 8 ≤ 62; omega⟩ (fun H locs L2 f2 ad2 P hF2 had hLs hfr2 => ?_)
            refine W.eq (g2 := F0 m 52 ls []) rfl ?_
            refine W.widen (k := (1 + k) + 1) (n := (6 + 8 * k) + 8) (by show (1 + k) + 1 ≤ (1 + k) + 1; omega) (by show (6 + 8 * k) + 8 ≤ (6 + 8 * k) + 8; omega) ?_
            have e0 := had 0 (by decide) (hl_lo (by decide))
            have hrel2 := hrel.step hF2 had hLs hfr2 s_giveUp_12
            refine lv_iinc (v := nI (k + 1)) (lv' := [(3, .int (nI (k + 1))), (4, .ref (ad (34 + t))), (0, .ref (ad 0))]) hx hb dX1_tick_52 hl (k := 1) rfl (nI_1 _) (by decide) rfl (fun ls hl => ?_)
            refine lv_aload_n hx hb dX1_tick_55 rfl (lv_at hl 2 rfl) ?_
            have hM := hr_latest (l := l) (D := D) (ho.giveUp (why := 2) hs hm hn) hF2
            rw [e0] at hM
            have hhl := hF2.hall
            have hhm := hF2.m (r := 0) (by decide)
            rw [e0] at hhl hhm
            refine pw_callR (nL' := 6) (rest := []) S P hM q745 q36 (pw_entV (q := (RX1, TX1, 6)) [] S P hhm hhl rfl q742 q744 qs15 q745 ⟨by decide +kernel, by decide +kernel, (by decide +kernel : (parseMethodDescriptor yX1_latest.desc).map (fun d => d.parameters.length) = some 0)⟩ dX1_tick_56) hl.1 (Nat.le_of_ble_eq_true rfl) ⟨Nat.le_of_ble_eq_true rfl, Nat.le_of_ble_eq_true rfl⟩ ⟨by show (1 + k) + 1 + 0 ≤ 8; omega, by show (6 + 8 * k) + 8 + 0 ≤ 62; omega⟩ (fun H locs P => ?_)
            refine W.eq (g2 := F0 m 59 ls [va_rf (hLt (s_giveUp st t (s_wf st t) 2) ad2 6)]) rfl ?_
            refine W.widen (k := (1 + (k + 1))) (n := (6 + 8 * (k + 1))) (by show (1 + k) + 1 + 0 ≤ (1 + (k + 1)); omega) (by show (6 + 8 * k) + 8 + 0 ≤ (6 + 8 * (k + 1)); omega) ?_
            refine lw_astore (lv' := [(4, va_rf (hLt (s_giveUp st t (s_wf st t) 2) ad2 6)), (3, .int (nI (k + 1))), (0, .ref (ad 0))]) hx hb dX1_tick_59 hl (by decide) rfl (fun ls hl => ?_)
            refine lv_goto (tgt := 40) hx hb dX1_tick_61 (by decide) ?_
            rw [← e0] at hl
            exact ih40 fu' (s_giveUp st t (s_wf st t) 2) ad2 L2 f2 (k + 1) (by omega) (by omega) (by omega) (ho.giveUp hs hm hn) hrel2 (by rw [hinv, s_tickN_go hla]) _ _ P ls (lv_sub hl [0, 1, 2] rfl)
      exact loop40 _ 6 _ ad L f 0 (Nat.lt_succ_self _) (s_mu_6 _) (by omega) ho1 hrel rfl _ _ P ls (lv_sub hl [0, 1, 2] (rfl))
