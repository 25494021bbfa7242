/-! SyncHall's small private methods, by gen_h11.py -/
theorem nI_nn {t : Nat} (h : t < 2 ^ 31) : ¬ nI t < 0 := by
  intro z
  have := (nI_ltI (a := t) (b := 0) h (by decide)).mp z
  omega
theorem end_lt {st : St} {v : UInt64} (c : FP.dcmp v FP.dconst0 = some .lt) : cM1 = s_end st v := by
  unfold s_end
  rw [if_neg (by rw [c]; decide)]
theorem end_ge {st : St} {v : UInt64} (c : ¬ FP.dcmp v FP.dconst0 = some .lt) (h0 : ¬ FP.dcmp v FP.dconst0 = some .eq) (hv : inR cM1 cK v = true) : FP.dadd (st.2.1 11 0) v = s_end st v := by
  unfold s_end
  obtain ⟨o, ho⟩ := f_some (fb_lim hv) (fb_0 (K := 1))
  rw [ho] at c h0 ⊢
  cases o
  · exact absurd rfl c
  · exact absurd rfl h0
  · rw [if_pos rfl]

set_option maxHeartbeats 4000000 in
set_option maxRecDepth 100000 in
theorem hr_task {l : Launch} {D : va_G} {cs : Nat → ClassId} {ad : Nat → Nat} {L : List Nat} {f : Nat → va_E} {n : Nat} {st : St} (ho : Ok n st) {t : Nat} (ht : t < 6)  (hF : HF cs ad st L f) : PM l D cs yX1_task cX1_task 2 (some (.object "SyncHall$Task")) (rmL 7 1 6) [.ref (ad 0), .int (nI t)] L f (pRd L f (some (.ref (ad (12 + t))))) := by
  refine hm_of "SyncHall" rfl (by decide +kernel) (Nat.le_of_ble_eq_true rfl) ?_
  intro sz p e u m below meth c S P hsz hr hlk hnm htb ls hl Q hQ
  have hl : lv_has ls 2 [(0, .ref (ad 0)), (1, .int (nI t))] := hl
  have hx := S.1
  have hb := S.2.1
  generalize hH0 : u.heap = H at P ⊢
  generalize ([] : List Loc) = locs at P ⊢
  refine lv_iload_n hx hb dX1_task_0 rfl (lv_at hl 1 rfl) ?_
  refine lv_if_lt (tgt := 14) (x := nI t) hx hb dX1_task_1 (by decide) (fun c1 => ?_) (fun c1 => ?_)
  · exact absurd c1 (nI_nn (by omega))
  · have _h := True.intro
    refine lv_iload_n hx hb dX1_task_4 rfl (lv_at hl 1 rfl) ?_
    refine lv_bipush (v := 6) hx hb dX1_task_5 (by decide) ?_
    refine ni_icmp_ge (tgt := 14) (a := t) (b := 6) hx hb (by omega) (by omega) dX1_task_7 (by decide) (fun c7 => ?_) (fun c7 => ?_)
    · exact absurd c7 (by omega)
    · have _h := True.intro
      refine lv_iconst (v := 1) hx hb dX1_task_10 (by decide) ?_
      refine lv_goto (tgt := 15) hx hb dX1_task_11 (by decide) ?_
      refine pw_callR (nL' := 1) (rest := []) S P (hs_range True.intro) q134 q36 (pw_entS [.int 1] S q132 q133 q36 q134 ⟨by decide +kernel, by decide +kernel, (by decide +kernel : (parseMethodDescriptor yX1_range.desc).map (fun d => d.parameters.length) = some 1)⟩ dX1_task_15) hl.1 (Nat.le_of_ble_eq_true rfl) ⟨Nat.le_of_ble_eq_true rfl, Nat.le_of_ble_eq_true rfl⟩ ⟨Nat.le_of_ble_eq_true rfl, Nat.le_of_ble_eq_true rfl⟩ (fun H locs P => ?_)
      refine W.eq (g2 := F0 m 18 ls []) rfl ?_
      refine W.widen (k := 1) (n := 6) (Nat.le_of_ble_eq_true rfl) (Nat.le_of_ble_eq_true rfl) ?_
      refine lv_aload_n hx hb dX1_task_18 rfl (lv_at hl 0 rfl) ?_
      refine pw_get (q := (RX1, TX1, 6)) (k := 0) S P (hF.m (by decide)) hF.hall rfl (by decide) q96 (Or.inl rfl) rfl dX1_task_19 ?_
      refine lv_iload_n hx hb dX1_task_22 rfl (lv_at hl 1 rfl) ?_
      refine pw_aald (j := t) 3 S P (hF.m (by decide)) hF.tasks rfl rfl rfl (by omega) (by decide) dX1_task_23 ?_
      refine lw_eqv (w := .ref (ad (12 + t))) (congrArg va_rf (if_pos (by omega))) ?_
      exact gw_aret S P hQ hr hlk ⟨Nat.le_of_ble_eq_true rfl, Nat.le_of_ble_eq_true rfl⟩ dX1_task_24 (Or.inr ⟨_, rfl⟩) (pRd_a (rfl))

set_option maxHeartbeats 8000000 in
set_option maxRecDepth 100000 in
theorem ht_task {l : Launch} {D : va_G} {cs : Nat → ClassId} {ad : Nat → Nat} {L : List Nat} {f : Nat → va_E} (hst : l.stackTraces = false) {n : Nat} {st : St} (ho : Ok n st) {v : Int32} (hv : isOut v 6 = true)  (hF : HF cs ad st L f) : PM l D cs yX1_task cX1_task 2 (some (.object "SyncHall$Task")) (rmL 7 1 6) [.ref (ad 0), .int v] L f (pTh L f "java/lang/IllegalArgumentException") := by
  refine hm_of "SyncHall" rfl (by decide +kernel) (Nat.le_of_ble_eq_true rfl) ?_
  intro sz p e u m below meth c S P hsz hr hlk hnm htb ls hl Q hQ
  have hl : lv_has ls 2 [(0, .ref (ad 0)), (1, .int v)] := hl
  have hx := S.1
  have hb := S.2.1
  generalize hH0 : u.heap = H at P ⊢
  generalize ([] : List Loc) = locs at P ⊢
  have hFr : ∀ a, ¬ hOwn st ad a → f a = f a := fun _ _ => rfl
  refine lv_iload_n hx hb dX1_task_0 rfl (lv_at hl 1 rfl) ?_
  refine lv_if_lt (tgt := 14) (x := v) hx hb dX1_task_1 (by decide) (fun c1 => ?_) (fun c1 => ?_)
  · have _h := True.intro
    refine lv_iconst (v := 0) hx hb dX1_task_14 (by decide) ?_
    exact pw_callT (nL' := 1) (rest := []) S P hQ (ht_range hst) q134 q36 (pw_entS [.int 0] S q132 q133 q36 q134 ⟨by decide +kernel, by decide +kernel, (by decide +kernel : (parseMethodDescriptor yX1_range.desc).map (fun d => d.parameters.length) = some 1)⟩ dX1_task_15) htb hlk hl.1 (Nat.le_of_ble_eq_true rfl) ⟨Nat.le_of_ble_eq_true rfl, Nat.le_of_ble_eq_true rfl⟩ ⟨Nat.le_of_ble_eq_true rfl, Nat.le_of_ble_eq_true rfl⟩ ⟨Nat.le_of_ble_eq_true rfl, Nat.le_of_ble_eq_true rfl⟩ (⟨rfl, rfl, rfl⟩)
  · have _h := True.intro
    refine lv_iload_n hx hb dX1_task_4 rfl (lv_at hl 1 rfl) ?_
    refine lv_bipush (v := 6) hx hb dX1_task_5 (by decide) ?_
    refine lw_icmp_ge (tgt := 14) (x := v) (y := 6) hx hb dX1_task_7 (by decide) (fun c7 => ?_) (fun c7 => ?_)
    · have _h := True.intro
      refine lv_iconst (v := 0) hx hb dX1_task_14 (by decide) ?_
      exact pw_callT (nL' := 1) (rest := []) S P hQ (ht_range hst) q134 q36 (pw_entS [.int 0] S q132 q133 q36 q134 ⟨by decide +kernel, by decide +kernel, (by decide +kernel : (parseMethodDescriptor yX1_range.desc).map (fun d => d.parameters.length) = some 1)⟩ dX1_task_15) htb hlk hl.1 (Nat.le_of_ble_eq_true rfl) ⟨Nat.le_of_ble_eq_true rfl, Nat.le_of_ble_eq_true rfl⟩ ⟨Nat.le_of_ble_eq_true rfl, Nat.le_of_ble_eq_true rfl⟩ ⟨Nat.le_of_ble_eq_true rfl, Nat.le_of_ble_eq_true rfl⟩ (⟨rfl, rfl, rfl⟩)
    · exact absurd (of_decide_eq_true hv) (by rintro (q | q); exact absurd q c1; exact absurd c7 q)

set_option maxHeartbeats 4000000 in
set_option maxRecDepth 100000 in
theorem hr_number {l : Launch} {D : va_G} {cs : Nat → ClassId} {L : List Nat} {f : Nat → va_E} {ad : Nat → Nat} {n : Nat} {st : St} (ho : Ok n st) {s : Nat} (hs : s < 8)  (hF : HF cs ad st L f) : PM l D cs yX1_number cX1_number 1 none (rmL 7 1 6) [.int (nI s)] L f (pRd L f none) := by
  refine hm_of "SyncHall" rfl (by decide +kernel) (Nat.le_of_ble_eq_true rfl) ?_
  intro sz p e u m below meth c S P hsz hr hlk hnm htb ls hl Q hQ
  have hl : lv_has ls 1 [(0, .int (nI s))] := hl
  have hx := S.1
  have hb := S.2.1
  generalize hH0 : u.heap = H at P ⊢
  generalize ([] : List Loc) = locs at P ⊢
  refine lv_iload_n hx hb dX1_number_0 rfl (lv_at hl 0 rfl) ?_
  refine lv_if_lt (tgt := 14) (x := nI s) hx hb dX1_number_1 (by decide) (fun c1 => ?_) (fun c1 => ?_)
  · exact absurd c1 (nI_nn (by omega))
  · have _h := True.intro
    refine lv_iload_n hx hb dX1_number_4 rfl (lv_at hl 0 rfl) ?_
    refine lv_bipush (v := 8) hx hb dX1_number_5 (by decide) ?_
    refine ni_icmp_ge (tgt := 14) (a := s) (b := 8) hx hb (by omega) (by omega) dX1_number_7 (by decide) (fun c7 => ?_) (fun c7 => ?_)
    · exact absurd c7 (by omega)
    · have _h := True.intro
      refine lv_iconst (v := 1) hx hb dX1_number_10 (by decide) ?_
      refine lv_goto (tgt := 15) hx hb dX1_number_11 (by decide) ?_
      refine pw_callR (nL' := 1) (rest := []) S P (hs_range True.intro) q134 q36 (pw_entS [.int 1] S q132 q133 q36 q134 ⟨by decide +kernel, by decide +kernel, (by decide +kernel : (parseMethodDescriptor yX1_range.desc).map (fun d => d.parameters.length) = some 1)⟩ dX1_number_15) hl.1 (Nat.le_of_ble_eq_true rfl) ⟨Nat.le_of_ble_eq_true rfl, Nat.le_of_ble_eq_true rfl⟩ ⟨Nat.le_of_ble_eq_true rfl, Nat.le_of_ble_eq_true rfl⟩ (fun H locs P => ?_)
      refine W.eq (g2 := F0 m 18 ls []) rfl ?_
      refine W.widen (k := 1) (n := 6) (Nat.le_of_ble_eq_true rfl) (Nat.le_of_ble_eq_true rfl) ?_
      exact gw_vret S P hQ hr hlk ⟨Nat.le_of_ble_eq_true rfl, Nat.le_of_ble_eq_true rfl⟩ dX1_number_18 (⟨rfl, rfl, rfl⟩)

set_option maxHeartbeats 8000000 in
set_option maxRecDepth 100000 in
theorem ht_number {l : Launch} {D : va_G} {cs : Nat → ClassId} {ad : Nat → Nat} {L : List Nat} {f : Nat → va_E} (hst : l.stackTraces = false) {n : Nat} {st : St} (ho : Ok n st) {v : Int32} (hv : isOut v 8 = true)  (hF : HF cs ad st L f) : PM l D cs yX1_number cX1_number 1 none (rmL 7 1 6) [.int v] L f (pTh L f "java/lang/IllegalArgumentException") := by
  refine hm_of "SyncHall" rfl (by decide +kernel) (Nat.le_of_ble_eq_true rfl) ?_
  intro sz p e u m below meth c S P hsz hr hlk hnm htb ls hl Q hQ
  have hl : lv_has ls 1 [(0, .int v)] := hl
  have hx := S.1
  have hb := S.2.1
  generalize hH0 : u.heap = H at P ⊢
  generalize ([] : List Loc) = locs at P ⊢
  have hFr : ∀ a, ¬ hOwn st ad a → f a = f a := fun _ _ => rfl
  refine lv_iload_n hx hb dX1_number_0 rfl (lv_at hl 0 rfl) ?_
  refine lv_if_lt (tgt := 14) (x := v) hx hb dX1_number_1 (by decide) (fun c1 => ?_) (fun c1 => ?_)
  · have _h := True.intro
    refine lv_iconst (v := 0) hx hb dX1_number_14 (by decide) ?_
    exact pw_callT (nL' := 1) (rest := []) S P hQ (ht_range hst) q134 q36 (pw_entS [.int 0] S q132 q133 q36 q134 ⟨by decide +kernel, by decide +kernel, (by decide +kernel : (parseMethodDescriptor yX1_range.desc).map (fun d => d.parameters.length) = some 1)⟩ dX1_number_15) htb hlk hl.1 (Nat.le_of_ble_eq_true rfl) ⟨Nat.le_of_ble_eq_true rfl, Nat.le_of_ble_eq_true rfl⟩ ⟨Nat.le_of_ble_eq_true rfl, Nat.le_of_ble_eq_true rfl⟩ ⟨Nat.le_of_ble_eq_true rfl, Nat.le_of_ble_eq_true rfl⟩ (⟨rfl, rfl, rfl⟩)
  · have _h := True.intro
    refine lv_iload_n hx hb dX1_number_4 rfl (lv_at hl 0 rfl) ?_
    refine lv_bipush (v := 8) hx hb dX1_number_5 (by decide) ?_
    refine lw_icmp_ge (tgt := 14) (x := v) (y := 8) hx hb dX1_number_7 (by decide) (fun c7 => ?_) (fun c7 => ?_)
    · have _h := True.intro
      refine lv_iconst (v := 0) hx hb dX1_number_14 (by decide) ?_
      exact pw_callT (nL' := 1) (rest := []) S P hQ (ht_range hst) q134 q36 (pw_entS [.int 0] S q132 q133 q36 q134 ⟨by decide +kernel, by decide +kernel, (by decide +kernel : (parseMethodDescriptor yX1_range.desc).map (fun d => d.parameters.length) = some 1)⟩ dX1_number_15) htb hlk hl.1 (Nat.le_of_ble_eq_true rfl) ⟨Nat.le_of_ble_eq_true rfl, Nat.le_of_ble_eq_true rfl⟩ ⟨Nat.le_of_ble_eq_true rfl, Nat.le_of_ble_eq_true rfl⟩ ⟨Nat.le_of_ble_eq_true rfl, Nat.le_of_ble_eq_true rfl⟩ (⟨rfl, rfl, rfl⟩)
    · exact absurd (of_decide_eq_true hv) (by rintro (q | q); exact absurd q c1; exact absurd c7 q)

set_option maxHeartbeats 4000000 in
set_option maxRecDepth 100000 in
theorem hr_limit {l : Launch} {D : va_G} {cs : Nat → ClassId} {L : List Nat} {f : Nat → va_E} {ad : Nat → Nat} {n : Nat} {st : St} (ho : Ok n st) {v : UInt64} (hv : inR cM1 cK v = true)  (hF : HF cs ad st L f) : PM l D cs yX1_limit cX1_limit 2 none (rmL 7 1 6) [.double v] L f (pRd L f none) := by
  refine hm_of "SyncHall" rfl (by decide +kernel) (Nat.le_of_ble_eq_true rfl) ?_
  intro sz p e u m below meth c S P hsz hr hlk hnm htb ls hl Q hQ
  have hl : lv_has ls 2 [(0, .double v)] := hl
  have hx := S.1
  have hb := S.2.1
  generalize hH0 : u.heap = H at P ⊢
  generalize ([] : List Loc) = locs at P ⊢
  refine lv_dload_n hx hb dX1_limit_0 rfl (lv_at hl 0 rfl) ?_
  refine lv_ldc2d (v := 13830554455654793216) hx hb S.2.2.2.1 (S.2.2.2.2 _ q364) dX1_limit_1 ?_
  refine lv_dcmp hx hb dX1_limit_4 ?_
  refine lv_if_lt (tgt := 20) (x := Op.cmpValue (FP.dcmp v 13830554455654793216) .l) hx hb dX1_limit_5 (by decide) (fun c5 => ?_) (fun c5 => ?_)
  · simp only [cv_l_lt0, Decidable.not_not] at c5
    exact absurd (of_decide_eq_true hv).1 c5
  · simp only [cv_l_lt0, Decidable.not_not] at c5
    refine lv_dload_n hx hb dX1_limit_8 rfl (lv_at hl 0 rfl) ?_
    refine lv_ldc2d (v := 4652007308841189376) hx hb S.2.2.2.1 (S.2.2.2.2 _ q352) dX1_limit_9 ?_
    refine lv_dcmp hx hb dX1_limit_12 ?_
    refine lv_if_gt (tgt := 20) (x := Op.cmpValue (FP.dcmp v 4652007308841189376) .g) hx hb dX1_limit_13 (by decide) (fun c13 => ?_) (fun c13 => ?_)
    · simp only [cv_g_gt0, Decidable.not_not] at c13
      exact absurd (of_decide_eq_true hv).2 c13
    · simp only [cv_g_gt0, Decidable.not_not] at c13
      refine lv_iconst (v := 1) hx hb dX1_limit_16 (by decide) ?_
      refine lv_goto (tgt := 21) hx hb dX1_limit_17 (by decide) ?_
      refine pw_callR (nL' := 1) (rest := []) S P (hs_range True.intro) q134 q36 (pw_entS [.int 1] S q132 q133 q36 q134 ⟨by decide +kernel, by decide +kernel, (by decide +kernel : (parseMethodDescriptor yX1_range.desc).map (fun d => d.parameters.length) = some 1)⟩ dX1_limit_21) hl.1 (Nat.le_of_ble_eq_true rfl) ⟨Nat.le_of_ble_eq_true rfl, Nat.le_of_ble_eq_true rfl⟩ ⟨Nat.le_of_ble_eq_true rfl, Nat.le_of_ble_eq_true rfl⟩ (fun H locs P => ?_)
      refine W.eq (g2 := F0 m 24 ls []) rfl ?_
      refine W.widen (k := 1) (n := 6) (Nat.le_of_ble_eq_true rfl) (Nat.le_of_ble_eq_true rfl) ?_
      exact gw_vret S P hQ hr hlk ⟨Nat.le_of_ble_eq_true rfl, Nat.le_of_ble_eq_true rfl⟩ dX1_limit_24 (⟨rfl, rfl, rfl⟩)

set_option maxHeartbeats 8000000 in
set_option maxRecDepth 100000 in
theorem ht_limit {l : Launch} {D : va_G} {cs : Nat → ClassId} {ad : Nat → Nat} {L : List Nat} {f : Nat → va_E} (hst : l.stackTraces = false) {n : Nat} {st : St} (ho : Ok n st) {v : UInt64} (hv : inR cM1 cK v = false)  (hF : HF cs ad st L f) : PM l D cs yX1_limit cX1_limit 2 none (rmL 7 1 6) [.double v] L f (pTh L f "java/lang/IllegalArgumentException") := by
  refine hm_of "SyncHall" rfl (by decide +kernel) (Nat.le_of_ble_eq_true rfl) ?_
  intro sz p e u m below meth c S P hsz hr hlk hnm htb ls hl Q hQ
  have hl : lv_has ls 2 [(0, .double v)] := hl
  have hx := S.1
  have hb := S.2.1
  generalize hH0 : u.heap = H at P ⊢
  generalize ([] : List Loc) = locs at P ⊢
  have hFr : ∀ a, ¬ hOwn st ad a → f a = f a := fun _ _ => rfl
  refine lv_dload_n hx hb dX1_limit_0 rfl (lv_at hl 0 rfl) ?_
  refine lv_ldc2d (v := 13830554455654793216) hx hb S.2.2.2.1 (S.2.2.2.2 _ q364) dX1_limit_1 ?_
  refine lv_dcmp hx hb dX1_limit_4 ?_
  refine lv_if_lt (tgt := 20) (x := Op.cmpValue (FP.dcmp v 13830554455654793216) .l) hx hb dX1_limit_5 (by decide) (fun c5 => ?_) (fun c5 => ?_)
  · simp only [cv_l_lt0, Decidable.not_not] at c5
    refine lv_iconst (v := 0) hx hb dX1_limit_20 (by decide) ?_
    exact pw_callT (nL' := 1) (rest := []) S P hQ (ht_range hst) q134 q36 (pw_entS [.int 0] S q132 q133 q36 q134 ⟨by decide +kernel, by decide +kernel, (by decide +kernel : (parseMethodDescriptor yX1_range.desc).map (fun d => d.parameters.length) = some 1)⟩ dX1_limit_21) htb hlk hl.1 (Nat.le_of_ble_eq_true rfl) ⟨Nat.le_of_ble_eq_true rfl, Nat.le_of_ble_eq_true rfl⟩ ⟨Nat.le_of_ble_eq_true rfl, Nat.le_of_ble_eq_true rfl⟩ ⟨Nat.le_of_ble_eq_true rfl, Nat.le_of_ble_eq_true rfl⟩ (⟨rfl, rfl, rfl⟩)
  · simp only [cv_l_lt0, Decidable.not_not] at c5
    refine lv_dload_n hx hb dX1_limit_8 rfl (lv_at hl 0 rfl) ?_
    refine lv_ldc2d (v := 4652007308841189376) hx hb S.2.2.2.1 (S.2.2.2.2 _ q352) dX1_limit_9 ?_
    refine lv_dcmp hx hb dX1_limit_12 ?_
    refine lv_if_gt (tgt := 20) (x := Op.cmpValue (FP.dcmp v 4652007308841189376) .g) hx hb dX1_limit_13 (by decide) (fun c13 => ?_) (fun c13 => ?_)
    · simp only [cv_g_gt0, Decidable.not_not] at c13
      refine lv_iconst (v := 0) hx hb dX1_limit_20 (by decide) ?_
      exact pw_callT (nL' := 1) (rest := []) S P hQ (ht_range hst) q134 q36 (pw_entS [.int 0] S q132 q133 q36 q134 ⟨by decide +kernel, by decide +kernel, (by decide +kernel : (parseMethodDescriptor yX1_range.desc).map (fun d => d.parameters.length) = some 1)⟩ dX1_limit_21) htb hlk hl.1 (Nat.le_of_ble_eq_true rfl) ⟨Nat.le_of_ble_eq_true rfl, Nat.le_of_ble_eq_true rfl⟩ ⟨Nat.le_of_ble_eq_true rfl, Nat.le_of_ble_eq_true rfl⟩ ⟨Nat.le_of_ble_eq_true rfl, Nat.le_of_ble_eq_true rfl⟩ (⟨rfl, rfl, rfl⟩)
    · simp only [cv_g_gt0, Decidable.not_not] at c13
      exact absurd ⟨c5, c13⟩ (of_decide_eq_false hv)

set_option maxHeartbeats 4000000 in
set_option maxRecDepth 100000 in
theorem hr_there {l : Launch} {D : va_G} {cs : Nat → ClassId} {ad : Nat → Nat} {L : List Nat} {f : Nat → va_E} {n : Nat} {st : St} (ho : Ok n st) {s : Nat} (hs : s < 8) (hk : ¬ st.1 12 s = -1)  (hF : HF cs ad st L f) : PM l D cs yX1_there cX1_there 2 (some (.object "SyncHall$Sync")) (rmL 7 1 6) [.ref (ad 0), .int (nI s)] L f (pRd L f (some (.ref (ad (18 + s))))) := by
  refine hm_of "SyncHall" rfl (by decide +kernel) (Nat.le_of_ble_eq_true rfl) ?_
  intro sz p e u m below meth c S P hsz hr hlk hnm htb ls hl Q hQ
  have hl : lv_has ls 2 [(0, .ref (ad 0)), (1, .int (nI s))] := hl
  have hx := S.1
  have hb := S.2.1
  generalize hH0 : u.heap = H at P ⊢
  generalize ([] : List Loc) = locs at P ⊢
  refine lv_aload_n hx hb dX1_there_0 rfl (lv_at hl 0 rfl) ?_
  refine pw_get (q := (RX1, TX1, 6)) (k := 1) S P (hF.m (by decide)) hF.hall rfl (by decide) q97 (Or.inl rfl) rfl dX1_there_1 ?_
  refine lv_iload_n hx hb dX1_there_4 rfl (lv_at hl 1 rfl) ?_
  refine pw_aald (j := s) 4 S P (hF.m (by decide)) hF.syncs rfl rfl rfl (by omega) (by decide) dX1_there_5 ?_
  refine lw_eqv (w := va_rf (hSyR st ad s)) (congrArg va_rf (if_pos (by omega))) ?_
  refine lw_ifnull (tgt := 13) hx hb dX1_there_6 (by decide) (fun c6 => ?_) (fun c6 => ?_)
  · rw [hSyR_none] at c6
    exact absurd c6 hk
  · rw [hSyR_none] at c6
    refine lv_iconst (v := 1) hx hb dX1_there_9 (by decide) ?_
    refine lv_goto (tgt := 14) hx hb dX1_there_10 (by decide) ?_
    refine pw_callR (nL' := 1) (rest := []) S P (hs_exists True.intro) q204 q36 (pw_entS [.int 1] S q202 q203 q36 q204 ⟨by decide +kernel, by decide +kernel, (by decide +kernel : (parseMethodDescriptor yX1_exists.desc).map (fun d => d.parameters.length) = some 1)⟩ dX1_there_14) hl.1 (Nat.le_of_ble_eq_true rfl) ⟨Nat.le_of_ble_eq_true rfl, Nat.le_of_ble_eq_true rfl⟩ ⟨Nat.le_of_ble_eq_true rfl, Nat.le_of_ble_eq_true rfl⟩ (fun H locs P => ?_)
    refine W.eq (g2 := F0 m 17 ls []) rfl ?_
    refine W.widen (k := 1) (n := 6) (Nat.le_of_ble_eq_true rfl) (Nat.le_of_ble_eq_true rfl) ?_
    refine lv_aload_n hx hb dX1_there_17 rfl (lv_at hl 0 rfl) ?_
    refine pw_get (q := (RX1, TX1, 6)) (k := 1) S P (hF.m (by decide)) hF.hall rfl (by decide) q97 (Or.inl rfl) rfl dX1_there_18 ?_
    refine lv_iload_n hx hb dX1_there_21 rfl (lv_at hl 1 rfl) ?_
    refine pw_aald (j := s) 4 S P (hF.m (by decide)) hF.syncs rfl rfl rfl (by omega) (by decide) dX1_there_22 ?_
    refine lw_eqv (w := va_rf (hSyR st ad s)) (congrArg va_rf (if_pos (by omega))) ?_
    refine lw_eqv (w := .ref (ad (18 + s))) (congrArg va_rf (hSyR_some hk)) ?_
    exact gw_aret S P hQ hr hlk ⟨Nat.le_of_ble_eq_true rfl, Nat.le_of_ble_eq_true rfl⟩ dX1_there_23 (Or.inr ⟨_, rfl⟩) (pRd_a (rfl))

set_option maxHeartbeats 8000000 in
set_option maxRecDepth 100000 in
theorem ht_there {l : Launch} {D : va_G} {cs : Nat → ClassId} {ad : Nat → Nat} {L : List Nat} {f : Nat → va_E} (hst : l.stackTraces = false) {n : Nat} {st : St} (ho : Ok n st) {s : Nat} (hs : s < 8) (hk : st.1 12 s = -1)  (hF : HF cs ad st L f) : PM l D cs yX1_there cX1_there 2 (some (.object "SyncHall$Sync")) (rmL 7 1 6) [.ref (ad 0), .int (nI s)] L f (pTh L f "java/util/NoSuchElementException") := by
  refine hm_of "SyncHall" rfl (by decide +kernel) (Nat.le_of_ble_eq_true rfl) ?_
  intro sz p e u m below meth c S P hsz hr hlk hnm htb ls hl Q hQ
  have hl : lv_has ls 2 [(0, .ref (ad 0)), (1, .int (nI s))] := hl
  have hx := S.1
  have hb := S.2.1
  generalize hH0 : u.heap = H at P ⊢
  generalize ([] : List Loc) = locs at P ⊢
  have hFr : ∀ a, ¬ hOwn st ad a → f a = f a := fun _ _ => rfl
  refine lv_aload_n hx hb dX1_there_0 rfl (lv_at hl 0 rfl) ?_
  refine pw_get (q := (RX1, TX1, 6)) (k := 1) S P (hF.m (by decide)) hF.hall rfl (by decide) q97 (Or.inl rfl) rfl dX1_there_1 ?_
  refine lv_iload_n hx hb dX1_there_4 rfl (lv_at hl 1 rfl) ?_
  refine pw_aald (j := s) 4 S P (hF.m (by decide)) hF.syncs rfl rfl rfl (by omega) (by decide) dX1_there_5 ?_
  refine lw_eqv (w := va_rf (hSyR st ad s)) (congrArg va_rf (if_pos (by omega))) ?_
  refine lw_ifnull (tgt := 13) hx hb dX1_there_6 (by decide) (fun c6 => ?_) (fun c6 => ?_)
  · rw [hSyR_none] at c6
    refine lv_iconst (v := 0) hx hb dX1_there_13 (by decide) ?_
    exact pw_callT (nL' := 1) (rest := []) S P hQ (ht_exists hst) q204 q36 (pw_entS [.int 0] S q202 q203 q36 q204 ⟨by decide +kernel, by decide +kernel, (by decide +kernel : (parseMethodDescriptor yX1_exists.desc).map (fun d => d.parameters.length) = some 1)⟩ dX1_there_14) htb hlk hl.1 (Nat.le_of_ble_eq_true rfl) ⟨Nat.le_of_ble_eq_true rfl, Nat.le_of_ble_eq_true rfl⟩ ⟨Nat.le_of_ble_eq_true rfl, Nat.le_of_ble_eq_true rfl⟩ ⟨Nat.le_of_ble_eq_true rfl, Nat.le_of_ble_eq_true rfl⟩ (⟨rfl, rfl, rfl⟩)
  · rw [hSyR_none] at c6
    exact absurd hk c6

set_option maxHeartbeats 4000000 in
set_option maxRecDepth 100000 in
theorem hr_owns {l : Launch} {D : va_G} {cs : Nat → ClassId} {ad : Nat → Nat} {L : List Nat} {f : Nat → va_E} {n : Nat} {st : St} (ho : Ok n st) {t s : Nat} (ht : t < 6) (hs : s < 8)  (hF : HF cs ad st L f) : PM l D cs yX1_owns cX1_owns 3 (some .boolean) (rmL 3 0 0) [.ref (ad 0), .ref (ad (12 + t)), .int (nI s)] L f (pRd L f (some (.int (bI (s_owns st t s))))) := by
  refine hm_of "SyncHall" rfl (by decide +kernel) (Nat.le_of_ble_eq_true rfl) ?_
  intro sz p e u m below meth c S P hsz hr hlk hnm htb ls hl Q hQ
  have hl : lv_has ls 3 [(0, .ref (ad 0)), (1, .ref (ad (12 + t))), (2, .int (nI s))] := hl
  have hx := S.1
  have hb := S.2.1
  generalize hH0 : u.heap = H at P ⊢
  generalize ([] : List Loc) = locs at P ⊢
  refine lv_aload_n hx hb dX1_owns_0 rfl (lv_at hl 0 rfl) ?_
  refine pw_get (q := (RX1, TX1, 6)) (k := 1) S P (hF.m (by decide)) hF.hall rfl (by decide) q97 (Or.inl rfl) rfl dX1_owns_1 ?_
  refine lv_iload_n hx hb dX1_owns_4 rfl (lv_at hl 2 rfl) ?_
  refine pw_aald (j := s) 4 S P (hF.m (by decide)) hF.syncs rfl rfl rfl (by omega) (by decide) dX1_owns_5 ?_
  refine lw_eqv (w := va_rf (hSyR st ad s)) (congrArg va_rf (if_pos (by omega))) ?_
  refine hx_isLock (s := s) S P ho hF (by omega) q201 dX1_owns_6 ?_
  refine lv_if_eq (tgt := 32) (x := bI (s_isLock st s)) hx hb dX1_owns_9 (by decide) (fun c9 => ?_) (fun c9 => ?_)
  · rw [bI_eq0] at c9
    refine lv_iconst (v := 0) hx hb dX1_owns_32 (by decide) ?_
    exact gw_zret S P hQ hr hlk ⟨Nat.le_of_ble_eq_true rfl, Nat.le_of_ble_eq_true rfl⟩ dX1_owns_33 (by first | decide | exact bI_or _) (pRd_i (by simp_all [s_owns, bI]))
  · rw [bI_eq0, Bool.not_eq_false] at c9
    have hk := of_decide_eq_true c9
    have hkne : ¬ st.1 12 s = -1 := by rcases hk with q | q <;> rw [q] <;> decide
    refine lv_aload_n hx hb dX1_owns_12 rfl (lv_at hl 0 rfl) ?_
    refine pw_get (q := (RX1, TX1, 6)) (k := 1) S P (hF.m (by decide)) hF.hall rfl (by decide) q97 (Or.inl rfl) rfl dX1_owns_13 ?_
    refine lv_iload_n hx hb dX1_owns_16 rfl (lv_at hl 2 rfl) ?_
    refine pw_aald (j := s) 4 S P (hF.m (by decide)) hF.syncs rfl rfl rfl (by omega) (by decide) dX1_owns_17 ?_
    refine lw_eqv (w := va_rf (hSyR st ad s)) (congrArg va_rf (if_pos (by omega))) ?_
    refine lw_eqv (w := .ref (ad (18 + s))) (congrArg va_rf (hSyR_some hkne)) ?_
    refine hs_cast_lk (s := s) S P hF (by omega) hk q201 dX1_owns_18 ?_
    refine lv_aload_n hx hb dX1_owns_21 rfl (lv_at hl 1 rfl) ?_
    refine pw_callR (nL' := 2) (rest := []) S P (hr_X5_isOwner ho hs hk ht hF) q410 q46 (pw_entV (q := (RX5, TX5, 6)) [.ref (ad (12 + t))] S P (hF.lk (by omega) hk).1 (hF.lk (by omega) hk).2 rfl q407 q408 q409 q410 ⟨by decide +kernel, by decide +kernel, (by decide +kernel : (parseMethodDescriptor yX5_isOwner.desc).map (fun d => d.parameters.length) = some 1)⟩ dX1_owns_22) hl.1 (Nat.le_of_ble_eq_true rfl) ⟨Nat.le_of_ble_eq_true rfl, Nat.le_of_ble_eq_true rfl⟩ ⟨Nat.le_of_ble_eq_true rfl, Nat.le_of_ble_eq_true rfl⟩ (fun H locs P => ?_)
    refine W.eq (g2 := F0 m 25 ls [.int (bI (decide (st.1 13 s = nI t)))]) rfl ?_
    refine W.widen (k := 0) (n := 0) (Nat.le_of_ble_eq_true rfl) (Nat.le_of_ble_eq_true rfl) ?_
    refine lv_if_eq (tgt := 32) (x := bI (decide (st.1 13 s = nI t))) hx hb dX1_owns_25 (by decide) (fun c25 => ?_) (fun c25 => ?_)
    · simp only [bI_eq0, decide_eq_false_iff_not, decide_eq_true_eq, Classical.not_not] at c25
      refine lv_iconst (v := 0) hx hb dX1_owns_32 (by decide) ?_
      exact gw_zret S P hQ hr hlk ⟨Nat.le_of_ble_eq_true rfl, Nat.le_of_ble_eq_true rfl⟩ dX1_owns_33 (by first | decide | exact bI_or _) (pRd_i (by simp_all [s_owns, bI]))
    · simp only [bI_eq0, Bool.not_eq_false, decide_eq_false_iff_not, decide_eq_true_eq, Classical.not_not] at c25
      refine lv_iconst (v := 1) hx hb dX1_owns_28 (by decide) ?_
      refine lv_goto (tgt := 33) hx hb dX1_owns_29 (by decide) ?_
      exact gw_zret S P hQ hr hlk ⟨Nat.le_of_ble_eq_true rfl, Nat.le_of_ble_eq_true rfl⟩ dX1_owns_33 (by first | decide | exact bI_or _) (pRd_i (by simp_all [s_owns, bI]))

set_option maxHeartbeats 8000000 in
set_option maxRecDepth 100000 in
theorem hw_ended {l : Launch} {D : va_G} {cs : Nat → ClassId} {ad : Nat → Nat} {L : List Nat} {f : Nat → va_E} {st : St} {t : Nat} (ht : t < 6) {v : Int32}  (hF : HF cs ad st L f) : PM l D cs yX1_ended cX1_ended 3 (some .int) (rmL 2 0 0) [.ref (ad 0), .ref (ad (12 + t)), .int v] L f (hPostS cs ad st L f (.inl (some (.int v))) (sI st 4 t v)) := by
  refine hm_of "SyncHall" rfl (by decide +kernel) (Nat.le_of_ble_eq_true rfl) ?_
  intro sz p e u m below meth c S P hsz hr hlk hnm htb ls hl Q hQ
  have hl : lv_has ls 3 [(0, .ref (ad 0)), (1, .ref (ad (12 + t))), (2, .int v)] := hl
  have hx := S.1
  have hb := S.2.1
  generalize hH0 : u.heap = H at P ⊢
  generalize ([] : List Loc) = locs at P ⊢
  have hFr : ∀ a, ¬ hOwn st ad a → f a = f a := fun _ _ => rfl
  refine lv_aload_n hx hb dX1_ended_0 rfl (lv_at hl 1 rfl) ?_
  refine lv_iload_n hx hb dX1_ended_1 rfl (lv_at hl 2 rfl) ?_
  refine hp_task (st' := sI st 4 t v) (t := t) (k := 2) (v := .int v) S P hF (by omega) (by decide) q78 rfl rfl (rfl) (rfl) (tDiff_I (by decide)) (by unfold hTask; rw [show (sI st 4 t v).1 4 t = v from pk_us]; rfl) dX1_ended_2 (fun H locs f P hF hfr => ?_)
  have hFr : ∀ a, ¬ hOwn st ad a → f a = _ := fun a ha => (hfr a ha).trans (hFr a ha)
  refine lv_iload_n hx hb dX1_ended_5 rfl (lv_at hl 2 rfl) ?_
  exact gw_iret S P hQ hr hlk ⟨Nat.le_of_ble_eq_true rfl, Nat.le_of_ble_eq_true rfl⟩ dX1_ended_6 (hPost_same hF (fun _ hr => hr) hFr)

set_option maxHeartbeats 8000000 in
set_option maxRecDepth 100000 in
theorem hw_interrupted {l : Launch} {D : va_G} {cs : Nat → ClassId} {ad : Nat → Nat} {L : List Nat} {f : Nat → va_E} {st : St} {t : Nat} (ht : t < 6)  (hF : HF cs ad st L f) : PM l D cs yX1_interrupted cX1_interrupted 2 (some .int) (rmL 3 0 0) [.ref (ad 0), .ref (ad (12 + t))] L f (hPostS cs ad st L f (.inl (some (.int 3))) (sI (sI st 2 t 0) 4 t 3)) := by
  refine hm_of "SyncHall" rfl (by decide +kernel) (Nat.le_of_ble_eq_true rfl) ?_
  intro sz p e u m below meth c S P hsz hr hlk hnm htb ls hl Q hQ
  have hl : lv_has ls 2 [(0, .ref (ad 0)), (1, .ref (ad (12 + t)))] := hl
  have hx := S.1
  have hb := S.2.1
  generalize hH0 : u.heap = H at P ⊢
  generalize ([] : List Loc) = locs at P ⊢
  have hFr : ∀ a, ¬ hOwn st ad a → f a = f a := fun _ _ => rfl
  refine lv_aload_n hx hb dX1_interrupted_0 rfl (lv_at hl 1 rfl) ?_
  refine lv_iconst (v := 0) hx hb dX1_interrupted_1 (by decide) ?_
  refine hp_task (st' := sI st 2 t 0) (t := t) (k := 3) (v := .int 0) S P hF (by omega) (by decide) q80 rfl rfl (rfl) (rfl) (tDiff_I (by decide)) (by unfold hTask; rw [show (sI st 2 t 0).1 2 t = 0 from pk_us]; rfl) dX1_interrupted_2 (fun H locs f P hF hfr => ?_)
  have hFr : ∀ a, ¬ hOwn st ad a → f a = _ := fun a ha => (hfr a ha).trans (hFr a ha)
  refine lv_aload_n hx hb dX1_interrupted_5 rfl (lv_at hl 0 rfl) ?_
  refine lv_aload_n hx hb dX1_interrupted_6 rfl (lv_at hl 1 rfl) ?_
  refine lv_iconst (v := 3) hx hb dX1_interrupted_7 (by decide) ?_
  refine pw_callS (nL' := 3) (rest := []) S P (hw_ended ht hF) q398 q36 (pw_entV (q := (RX1, TX1, 6)) [.ref (ad (12 + t)), .int 3] S P (hF.m (by decide)) hF.hall rfl q395 q397 qs5 q398 ⟨by decide +kernel, by decide +kernel, (by decide +kernel : (parseMethodDescriptor yX1_ended.desc).map (fun d => d.parameters.length) = some 2)⟩ dX1_interrupted_8) hl.1 (Nat.le_of_ble_eq_true rfl) ⟨Nat.le_of_ble_eq_true rfl, Nat.le_of_ble_eq_true rfl⟩ ⟨Nat.le_of_ble_eq_true rfl, Nat.le_of_ble_eq_true rfl⟩ (fun H locs f' P hF hlv hfr => ?_)
  refine W.eq (g2 := F0 m 11 ls [.int 3]) rfl ?_
  refine W.widen (k := 0) (n := 0) (Nat.le_of_ble_eq_true rfl) (Nat.le_of_ble_eq_true rfl) ?_
  have hFr : ∀ a, ¬ hOwn st ad a → f' a = _ := fun a ha => (hfr a ha).trans (hFr a ha)
  exact gw_iret S P hQ hr hlk ⟨Nat.le_of_ble_eq_true rfl, Nat.le_of_ble_eq_true rfl⟩ dX1_interrupted_11 (hPost_same hF (fun _ hr => hr) hFr)

set_option maxHeartbeats 4000000 in
set_option maxRecDepth 100000 in
theorem hr_endOf {l : Launch} {D : va_G} {cs : Nat → ClassId} {ad : Nat → Nat} {L : List Nat} {f : Nat → va_E} {n : Nat} {st : St} (ho : Ok n st) {v : UInt64} (hv : inR cM1 cK v = true) (h0 : ¬ FP.dcmp v FP.dconst0 = some .eq)  (hF : HF cs ad st L f) : PM l D cs yX1_endOf cX1_endOf 3 (some .double) (rmL 2 0 0) [.ref (ad 0), .double v] L f (pRd L f (some (.double (s_end st v)))) := by
  refine hm_of "SyncHall" rfl (by decide +kernel) (Nat.le_of_ble_eq_true rfl) ?_
  intro sz p e u m below meth c S P hsz hr hlk hnm htb ls hl Q hQ
  have hl : lv_has ls 3 [(0, .ref (ad 0)), (1, .double v)] := hl
  have hx := S.1
  have hb := S.2.1
  generalize hH0 : u.heap = H at P ⊢
  generalize ([] : List Loc) = locs at P ⊢
  refine lv_dload_n hx hb dX1_endOf_0 rfl (lv_at hl 1 rfl) ?_
  refine lv_dconst0 hx hb dX1_endOf_1 ?_
  refine lv_dcmp hx hb dX1_endOf_2 ?_
  refine lw_if_ge (tgt := 12) (x := Op.cmpValue (FP.dcmp v FP.dconst0) .g) hx hb dX1_endOf_3 (by decide) (fun c3 => ?_) (fun c3 => ?_)
  · simp only [cv_g_lt0, Decidable.not_not] at c3
    refine lv_aload_n hx hb dX1_endOf_12 rfl (lv_at hl 0 rfl) ?_
    refine pw_get (q := (RX1, TX1, 6)) (k := 5) S P (hF.m (by decide)) hF.hall rfl (by decide) q101 (Or.inl rfl) rfl dX1_endOf_13 ?_
    refine lv_dload_n hx hb dX1_endOf_16 rfl (lv_at hl 1 rfl) ?_
    refine lv_dadd hx hb dX1_endOf_17 ((fb_time ho.db.1 (fb_lim hv)).2) ?_
    exact gw_dret S P hQ hr hlk ⟨Nat.le_of_ble_eq_true rfl, Nat.le_of_ble_eq_true rfl⟩ dX1_endOf_18 (pRd_d (end_ge c3 h0 hv))
  · simp only [cv_g_lt0, Decidable.not_not] at c3
    refine lv_ldc2d (v := 13830554455654793216) hx hb S.2.2.2.1 (S.2.2.2.2 _ q364) dX1_endOf_6 ?_
    refine lv_goto (tgt := 18) hx hb dX1_endOf_9 (by decide) ?_
    exact gw_dret S P hQ hr hlk ⟨Nat.le_of_ble_eq_true rfl, Nat.le_of_ble_eq_true rfl⟩ dX1_endOf_18 (pRd_d (end_lt c3 ))
