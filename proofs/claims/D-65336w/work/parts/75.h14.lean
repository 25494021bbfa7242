/-! SyncHall.owned, signal, by gen_h14.py -/
theorem hFi_hd {st : St} {ad : Nat → Nat} {s : Nat} (h : 0 < (st.2.2 s).length) : hFi st ad s = some (ad (34 + s_hd st s)) := by
  unfold hFi hAt s_hd
  cases hq : st.2.2 s with
  | nil => rw [hq] at h; simp at h
  | cons a l => rfl
theorem ck2 {n : Nat} {st : St} {t s : Nat} (ho : Ok n st) (hs : s < 8) (h : st.1 12 s = -1) : s_check st t s = 2 := if_pos ((ho.neg hs).mpr h)
theorem ck3 {n : Nat} {st : St} {t s : Nat} (ho : Ok n st) (hs : s < 8) (h : ¬ st.1 12 s = -1) (hb : ¬ st.1 1 t = 0) : s_check st t s = 3 := by unfold s_check; rw [if_neg (fun z => h ((ho.neg hs).mp z)), if_pos hb]
theorem ck0 {n : Nat} {st : St} {t s : Nat} (ho : Ok n st) (hs : s < 8) (h : ¬ st.1 12 s = -1) (hb : st.1 1 t = 0) : s_check st t s = 0 := by unfold s_check; rw [if_neg (fun z => h ((ho.neg hs).mp z)), if_neg (fun z => z hb)]
theorem ckC {st : St} {t s : Nat} {k : Int32} (h : s_check st t s = k) (hk : ¬ k = 0) : s_checkC st t s = k := by unfold s_checkC; rw [h, if_pos hk]
theorem ckC4 {st : St} {t s : Nat} (h : s_check st t s = 0) (hk : ¬ st.1 12 s = 6) : s_checkC st t s = 4 := by unfold s_checkC; rw [h, if_neg (fun z => z rfl), if_pos hk]
theorem ckC3 {st : St} {t s : Nat} (h : s_check st t s = 0) (hk : st.1 12 s = 6) (h3 : ¬ st.1 13 (s_lk st s) = nI t) : s_checkC st t s = 3 := by unfold s_checkC; rw [h, if_neg (fun z => z rfl), if_neg (fun z => z hk), if_pos h3]
theorem ckC0 {st : St} {t s : Nat} (h : s_check st t s = 0) (hk : st.1 12 s = 6) (h3 : st.1 13 (s_lk st s) = nI t) : s_checkC st t s = 0 := by unfold s_checkC; rw [h, if_neg (fun z => z rfl), if_neg (fun z => z hk), if_neg (fun z => z h3)]

set_option maxHeartbeats 4000000 in
set_option maxRecDepth 100000 in
theorem hr_owned {l : Launch} {D : va_G} {cs : Nat → ClassId} {ad : Nat → Nat} {L : List Nat} {f : Nat → va_E} {n : Nat} {st : St} (ho : Ok n st) {t s : Nat} (ht : t < 6) (hs : s < 8) (hk : st.1 12 s = 6) (hb0 : st.1 1 t = 0) (how : st.1 13 (s_lk st s) = nI t)  (hF : HF cs ad st L f) : PM l D cs yX1_owned cX1_owned 5 (some (.object "SyncHall$Condition")) (rmL 8 4 24) [.ref (ad 0), .ref (ad (12 + t)), .int (nI s)] L f (pRd L f (some (.ref (ad (18 + s))))) := by
  refine hm_of "SyncHall" rfl (by decide +kernel) (Nat.le_of_ble_eq_true rfl) ?_
  intro sz p e u m below meth c S P hsz hr hlk hnm htb ls hl Q hQ
  have hl : lv_has ls 5 [(0, .ref (ad 0)), (1, .ref (ad (12 + t))), (2, .int (nI s))] := hl
  have hx := S.1
  have hb := S.2.1
  generalize hH0 : u.heap = H at P ⊢
  generalize ([] : List Loc) = locs at P ⊢
  have hkd : hKd st s := ho.kd hs (by rw [hk]; decide)
  have q2 : ¬ st.1 12 s = -1 := by rw [hk]; decide
  refine lv_aload_n hx hb dX1_owned_0 rfl (lv_at hl 0 rfl) ?_
  refine lv_iload_n hx hb dX1_owned_1 rfl (lv_at hl 2 rfl) ?_
  refine pw_callR (nL' := 2) (rest := []) S P (hr_there ho hs q2 hF) q368 q36 (pw_entV (q := (RX1, TX1, 6)) [.int (nI s)] S P (hF.m (by decide)) hF.hall rfl q365 q367 qs3 q368 ⟨by decide +kernel, by decide +kernel, (by decide +kernel : (parseMethodDescriptor yX1_there.desc).map (fun d => d.parameters.length) = some 1)⟩ dX1_owned_2) hl.1 (Nat.le_of_ble_eq_true rfl) ⟨Nat.le_of_ble_eq_true rfl, Nat.le_of_ble_eq_true rfl⟩ ⟨Nat.le_of_ble_eq_true rfl, Nat.le_of_ble_eq_true rfl⟩ (fun H locs P => ?_)
  refine W.eq (g2 := F0 m 5 ls [.ref (ad (18 + s))]) rfl ?_
  refine W.widen (k := 1) (n := 6) (Nat.le_of_ble_eq_true rfl) (Nat.le_of_ble_eq_true rfl) ?_
  refine lv_astore_n (lv' := [(3, .ref (ad (18 + s))), (0, .ref (ad 0)), (1, .ref (ad (12 + t))), (2, .int (nI s))]) hx hb dX1_owned_5 rfl hl (by decide) rfl (fun ls hl => ?_)
  refine lv_aload_n hx hb dX1_owned_6 rfl (lv_at hl 2 rfl) ?_
  refine pw_callR (nL' := 1) (rest := []) S P (hg_blocked (hF.m (by omega)) (hF.tk (by omega))) q372 q37 (pw_entV (q := (RX2, TX2, 5)) [] S P (hF.m (by omega)) (hF.tk (by omega)) rfl q369 q370 q371 q372 ⟨by decide +kernel, by decide +kernel, (by decide +kernel : (parseMethodDescriptor yX2_blocked.desc).map (fun d => d.parameters.length) = some 0)⟩ dX1_owned_7) hl.1 (Nat.le_of_ble_eq_true rfl) ⟨Nat.le_of_ble_eq_true rfl, Nat.le_of_ble_eq_true rfl⟩ ⟨Nat.le_of_ble_eq_true rfl, Nat.le_of_ble_eq_true rfl⟩ (fun H locs P => ?_)
  refine W.eq (g2 := F0 m 10 ls [.int (bI (hPl st ad t).isSome)]) rfl ?_
  refine W.widen (k := 1) (n := 6) (Nat.le_of_ble_eq_true rfl) (Nat.le_of_ble_eq_true rfl) ?_
  refine lv_if_ne (tgt := 17) (x := bI (hPl st ad t).isSome) hx hb dX1_owned_10 (by decide) (fun c10 => ?_) (fun c10 => ?_)
  · rw [bI_eq0, Bool.not_eq_false] at c10
    exact absurd hb0 (fun z => by rw [hPl_none.mpr z] at c10; cases c10)
  · rw [bI_eq0] at c10
    refine lv_iconst (v := 1) hx hb dX1_owned_13 (by decide) ?_
    refine lv_goto (tgt := 18) hx hb dX1_owned_14 (by decide) ?_
    refine pw_callR (nL' := 1) (rest := []) S P (hs_state True.intro) q222 q36 (pw_entS [.int 1] S q220 q221 q36 q222 ⟨by decide +kernel, by decide +kernel, (by decide +kernel : (parseMethodDescriptor yX1_state.desc).map (fun d => d.parameters.length) = some 1)⟩ dX1_owned_18) hl.1 (Nat.le_of_ble_eq_true rfl) ⟨Nat.le_of_ble_eq_true rfl, Nat.le_of_ble_eq_true rfl⟩ ⟨Nat.le_of_ble_eq_true rfl, Nat.le_of_ble_eq_true rfl⟩ (fun H locs P => ?_)
    refine W.eq (g2 := F0 m 21 ls []) rfl ?_
    refine W.widen (k := 2) (n := 12) (Nat.le_of_ble_eq_true rfl) (Nat.le_of_ble_eq_true rfl) ?_
    refine lv_aload_n hx hb dX1_owned_21 rfl (lv_at hl 0 rfl) ?_
    refine hs_isCond (s := s) S P hF hs hkd q327 dX1_owned_22 ?_
    by_cases q25 : st.1 12 s = 6
    · have _h := True.intro
      refine lw_eqi (y := 1) (by simp [bI, q25]) ?_
      have hlk8 := (ho.lkc hs q25).2
      have hlkk := ((ho.1 s hs).1.2.2.2.1 q25).2.2
      refine pw_callR (nL' := 1) (rest := []) S P (hs_can True.intro) q375 q36 (pw_entS [.int 1] S q373 q374 q36 q375 ⟨by decide +kernel, by decide +kernel, (by decide +kernel : (parseMethodDescriptor yX1_can.desc).map (fun d => d.parameters.length) = some 1)⟩ dX1_owned_25) hl.1 (Nat.le_of_ble_eq_true rfl) ⟨Nat.le_of_ble_eq_true rfl, Nat.le_of_ble_eq_true rfl⟩ ⟨Nat.le_of_ble_eq_true rfl, Nat.le_of_ble_eq_true rfl⟩ (fun H locs P => ?_)
      refine W.eq (g2 := F0 m 28 ls []) rfl ?_
      refine W.widen (k := 3) (n := 18) (Nat.le_of_ble_eq_true rfl) (Nat.le_of_ble_eq_true rfl) ?_
      refine lv_aload_n hx hb dX1_owned_28 rfl (lv_at hl 0 rfl) ?_
      refine hs_cast_cd (s := s) S P hF hs q25 q327 dX1_owned_29 ?_
      refine lv_astore (lv' := [(4, .ref (ad (18 + s))), (3, .ref (ad (18 + s))), (0, .ref (ad 0)), (1, .ref (ad (12 + t))), (2, .int (nI s))]) hx hb dX1_owned_32 hl (by decide) rfl (fun ls hl => ?_)
      refine lv_aload hx hb dX1_owned_34 (lv_at hl 0 rfl) ?_
      refine pw_callR (nL' := 1) (rest := []) S P (hr_X9_lock ho hs q25 hF) q675 q50 (pw_entV (q := (RX9, TX9, 4)) [] S P (hF.cd (by omega) q25).1 (hF.cd (by omega) q25).2 rfl q672 q673 q674 q675 ⟨by decide +kernel, by decide +kernel, (by decide +kernel : (parseMethodDescriptor yX9_lock.desc).map (fun d => d.parameters.length) = some 0)⟩ dX1_owned_36) hl.1 (Nat.le_of_ble_eq_true rfl) ⟨Nat.le_of_ble_eq_true rfl, Nat.le_of_ble_eq_true rfl⟩ ⟨Nat.le_of_ble_eq_true rfl, Nat.le_of_ble_eq_true rfl⟩ (fun H locs P => ?_)
      refine W.eq (g2 := F0 m 39 ls [.ref (ad (18 + s_lk st s))]) rfl ?_
      refine W.widen (k := 3) (n := 18) (Nat.le_of_ble_eq_true rfl) (Nat.le_of_ble_eq_true rfl) ?_
      refine lv_aload_n hx hb dX1_owned_39 rfl (lv_at hl 3 rfl) ?_
      refine pw_callR (nL' := 2) (rest := []) S P (hr_X5_isOwner ho hlk8 hlkk ht hF) q410 q46 (pw_entV (q := (RX5, TX5, 6)) [.ref (ad (12 + t))] S P (hF.lk (by omega) hlkk).1 (hF.lk (by omega) hlkk).2 rfl q407 q408 q409 q410 ⟨by decide +kernel, by decide +kernel, (by decide +kernel : (parseMethodDescriptor yX5_isOwner.desc).map (fun d => d.parameters.length) = some 1)⟩ dX1_owned_40) hl.1 (Nat.le_of_ble_eq_true rfl) ⟨Nat.le_of_ble_eq_true rfl, Nat.le_of_ble_eq_true rfl⟩ ⟨Nat.le_of_ble_eq_true rfl, Nat.le_of_ble_eq_true rfl⟩ (fun H locs P => ?_)
      refine W.eq (g2 := F0 m 43 ls [.int (bI (decide (st.1 13 (s_lk st s) = nI t)))]) rfl ?_
      refine W.widen (k := 3) (n := 18) (Nat.le_of_ble_eq_true rfl) (Nat.le_of_ble_eq_true rfl) ?_
      by_cases q43 : st.1 13 (s_lk st s) = nI t
      · have _h := True.intro
        refine lw_eqi (y := 1) (by simp [bI, q43]) ?_
        refine pw_callR (nL' := 1) (rest := []) S P (hs_state True.intro) q222 q36 (pw_entS [.int 1] S q220 q221 q36 q222 ⟨by decide +kernel, by decide +kernel, (by decide +kernel : (parseMethodDescriptor yX1_state.desc).map (fun d => d.parameters.length) = some 1)⟩ dX1_owned_43) hl.1 (Nat.le_of_ble_eq_true rfl) ⟨Nat.le_of_ble_eq_true rfl, Nat.le_of_ble_eq_true rfl⟩ ⟨Nat.le_of_ble_eq_true rfl, Nat.le_of_ble_eq_true rfl⟩ (fun H locs P => ?_)
        refine W.eq (g2 := F0 m 46 ls []) rfl ?_
        refine W.widen (k := 4) (n := 24) (Nat.le_of_ble_eq_true rfl) (Nat.le_of_ble_eq_true rfl) ?_
        refine lv_aload hx hb dX1_owned_46 (lv_at hl 0 rfl) ?_
        exact gw_aret S P hQ hr hlk ⟨Nat.le_of_ble_eq_true rfl, Nat.le_of_ble_eq_true rfl⟩ dX1_owned_48 (Or.inr ⟨_, rfl⟩) (pRd_a (rfl))
      · have _h := True.intro
        refine lw_eqi (y := 0) (by simp [bI, q43]) ?_
        exact absurd how q43
    · have _h := True.intro
      refine lw_eqi (y := 0) (by simp [bI, q25]) ?_
      exact absurd hk q25

set_option maxHeartbeats 8000000 in
set_option maxRecDepth 100000 in
theorem ht_owned {l : Launch} {D : va_G} {cs : Nat → ClassId} {ad : Nat → Nat} {L : List Nat} {f : Nat → va_E} (hst : l.stackTraces = false) {n : Nat} {st : St} (ho : Ok n st) {t s : Nat} (ht : t < 6) (hs : s < 8) (hc : ¬ s_checkC st t s = 0)  (hF : HF cs ad st L f) : PM l D cs yX1_owned cX1_owned 5 (some (.object "SyncHall$Condition")) (rmL 8 4 24) [.ref (ad 0), .ref (ad (12 + t)), .int (nI s)] L f (pTh L f (hExc (s_checkC st t s))) := by
  refine hm_of "SyncHall" rfl (by decide +kernel) (Nat.le_of_ble_eq_true rfl) ?_
  intro sz p e u m below meth c S P hsz hr hlk hnm htb ls hl Q hQ
  have hl : lv_has ls 5 [(0, .ref (ad 0)), (1, .ref (ad (12 + t))), (2, .int (nI s))] := hl
  have hx := S.1
  have hb := S.2.1
  generalize hH0 : u.heap = H at P ⊢
  generalize ([] : List Loc) = locs at P ⊢
  have hFr : ∀ a, ¬ hOwn st ad a → f a = f a := fun _ _ => rfl
  refine lv_aload_n hx hb dX1_owned_0 rfl (lv_at hl 0 rfl) ?_
  refine lv_iload_n hx hb dX1_owned_1 rfl (lv_at hl 2 rfl) ?_
  by_cases q2 : st.1 12 s = -1
  · have _h := True.intro
    exact pw_callT (nL' := 2) (rest := []) S P hQ (ht_there hst ho hs q2 hF) q368 q36 (pw_entV (q := (RX1, TX1, 6)) [.int (nI s)] S P (hF.m (by decide)) hF.hall rfl q365 q367 qs3 q368 ⟨by decide +kernel, by decide +kernel, (by decide +kernel : (parseMethodDescriptor yX1_there.desc).map (fun d => d.parameters.length) = some 1)⟩ dX1_owned_2) htb hlk hl.1 (Nat.le_of_ble_eq_true rfl) ⟨Nat.le_of_ble_eq_true rfl, Nat.le_of_ble_eq_true rfl⟩ ⟨Nat.le_of_ble_eq_true rfl, Nat.le_of_ble_eq_true rfl⟩ ⟨Nat.le_of_ble_eq_true rfl, Nat.le_of_ble_eq_true rfl⟩ (⟨by rw [ckC (ck2 ho hs q2) (by decide)]; rfl, rfl, rfl⟩)
  · have _h := True.intro
    have hkd : hKd st s := ho.kd hs q2
    refine pw_callR (nL' := 2) (rest := []) S P (hr_there ho hs q2 hF) q368 q36 (pw_entV (q := (RX1, TX1, 6)) [.int (nI s)] S P (hF.m (by decide)) hF.hall rfl q365 q367 qs3 q368 ⟨by decide +kernel, by decide +kernel, (by decide +kernel : (parseMethodDescriptor yX1_there.desc).map (fun d => d.parameters.length) = some 1)⟩ dX1_owned_2) hl.1 (Nat.le_of_ble_eq_true rfl) ⟨Nat.le_of_ble_eq_true rfl, Nat.le_of_ble_eq_true rfl⟩ ⟨Nat.le_of_ble_eq_true rfl, Nat.le_of_ble_eq_true rfl⟩ (fun H locs P => ?_)
    refine W.eq (g2 := F0 m 5 ls [.ref (ad (18 + s))]) rfl ?_
    refine W.widen (k := 1) (n := 6) (Nat.le_of_ble_eq_true rfl) (Nat.le_of_ble_eq_true rfl) ?_
    refine lv_astore_n (lv' := [(3, .ref (ad (18 + s))), (0, .ref (ad 0)), (1, .ref (ad (12 + t))), (2, .int (nI s))]) hx hb dX1_owned_5 rfl hl (by decide) rfl (fun ls hl => ?_)
    refine lv_aload_n hx hb dX1_owned_6 rfl (lv_at hl 2 rfl) ?_
    refine pw_callR (nL' := 1) (rest := []) S P (hg_blocked (hF.m (by omega)) (hF.tk (by omega))) q372 q37 (pw_entV (q := (RX2, TX2, 5)) [] S P (hF.m (by omega)) (hF.tk (by omega)) rfl q369 q370 q371 q372 ⟨by decide +kernel, by decide +kernel, (by decide +kernel : (parseMethodDescriptor yX2_blocked.desc).map (fun d => d.parameters.length) = some 0)⟩ dX1_owned_7) hl.1 (Nat.le_of_ble_eq_true rfl) ⟨Nat.le_of_ble_eq_true rfl, Nat.le_of_ble_eq_true rfl⟩ ⟨Nat.le_of_ble_eq_true rfl, Nat.le_of_ble_eq_true rfl⟩ (fun H locs P => ?_)
    refine W.eq (g2 := F0 m 10 ls [.int (bI (hPl st ad t).isSome)]) rfl ?_
    refine W.widen (k := 1) (n := 6) (Nat.le_of_ble_eq_true rfl) (Nat.le_of_ble_eq_true rfl) ?_
    refine lv_if_ne (tgt := 17) (x := bI (hPl st ad t).isSome) hx hb dX1_owned_10 (by decide) (fun c10 => ?_) (fun c10 => ?_)
    · rw [bI_eq0, Bool.not_eq_false] at c10
      have hbt : ¬ st.1 1 t = 0 := fun z => by rw [hPl_none.mpr z] at c10; cases c10
      refine lv_iconst (v := 0) hx hb dX1_owned_17 (by decide) ?_
      exact pw_callT (nL' := 1) (rest := []) S P hQ (ht_state hst) q222 q36 (pw_entS [.int 0] S q220 q221 q36 q222 ⟨by decide +kernel, by decide +kernel, (by decide +kernel : (parseMethodDescriptor yX1_state.desc).map (fun d => d.parameters.length) = some 1)⟩ dX1_owned_18) htb hlk hl.1 (Nat.le_of_ble_eq_true rfl) ⟨Nat.le_of_ble_eq_true rfl, Nat.le_of_ble_eq_true rfl⟩ ⟨Nat.le_of_ble_eq_true rfl, Nat.le_of_ble_eq_true rfl⟩ ⟨Nat.le_of_ble_eq_true rfl, Nat.le_of_ble_eq_true rfl⟩ (⟨by rw [ckC (ck3 ho hs q2 hbt) (by decide)]; rfl, rfl, rfl⟩)
    · rw [bI_eq0] at c10
      have hb0 : st.1 1 t = 0 := hPl_none.mp (by cases hq : hPl st ad t with | none => rfl | some x => rw [hq] at c10; cases c10)
      refine lv_iconst (v := 1) hx hb dX1_owned_13 (by decide) ?_
      refine lv_goto (tgt := 18) hx hb dX1_owned_14 (by decide) ?_
      refine pw_callR (nL' := 1) (rest := []) S P (hs_state True.intro) q222 q36 (pw_entS [.int 1] S q220 q221 q36 q222 ⟨by decide +kernel, by decide +kernel, (by decide +kernel : (parseMethodDescriptor yX1_state.desc).map (fun d => d.parameters.length) = some 1)⟩ dX1_owned_18) hl.1 (Nat.le_of_ble_eq_true rfl) ⟨Nat.le_of_ble_eq_true rfl, Nat.le_of_ble_eq_true rfl⟩ ⟨Nat.le_of_ble_eq_true rfl, Nat.le_of_ble_eq_true rfl⟩ (fun H locs P => ?_)
      refine W.eq (g2 := F0 m 21 ls []) rfl ?_
      refine W.widen (k := 2) (n := 12) (Nat.le_of_ble_eq_true rfl) (Nat.le_of_ble_eq_true rfl) ?_
      refine lv_aload_n hx hb dX1_owned_21 rfl (lv_at hl 0 rfl) ?_
      refine hs_isCond (s := s) S P hF hs hkd q327 dX1_owned_22 ?_
      by_cases q25 : st.1 12 s = 6
      · have _h := True.intro
        refine lw_eqi (y := 1) (by simp [bI, q25]) ?_
        have hlk8 := (ho.lkc hs q25).2
        have hlkk := ((ho.1 s hs).1.2.2.2.1 q25).2.2
        refine pw_callR (nL' := 1) (rest := []) S P (hs_can True.intro) q375 q36 (pw_entS [.int 1] S q373 q374 q36 q375 ⟨by decide +kernel, by decide +kernel, (by decide +kernel : (parseMethodDescriptor yX1_can.desc).map (fun d => d.parameters.length) = some 1)⟩ dX1_owned_25) hl.1 (Nat.le_of_ble_eq_true rfl) ⟨Nat.le_of_ble_eq_true rfl, Nat.le_of_ble_eq_true rfl⟩ ⟨Nat.le_of_ble_eq_true rfl, Nat.le_of_ble_eq_true rfl⟩ (fun H locs P => ?_)
        refine W.eq (g2 := F0 m 28 ls []) rfl ?_
        refine W.widen (k := 3) (n := 18) (Nat.le_of_ble_eq_true rfl) (Nat.le_of_ble_eq_true rfl) ?_
        refine lv_aload_n hx hb dX1_owned_28 rfl (lv_at hl 0 rfl) ?_
        refine hs_cast_cd (s := s) S P hF hs q25 q327 dX1_owned_29 ?_
        refine lv_astore (lv' := [(4, .ref (ad (18 + s))), (3, .ref (ad (18 + s))), (0, .ref (ad 0)), (1, .ref (ad (12 + t))), (2, .int (nI s))]) hx hb dX1_owned_32 hl (by decide) rfl (fun ls hl => ?_)
        refine lv_aload hx hb dX1_owned_34 (lv_at hl 0 rfl) ?_
        refine pw_callR (nL' := 1) (rest := []) S P (hr_X9_lock ho hs q25 hF) q675 q50 (pw_entV (q := (RX9, TX9, 4)) [] S P (hF.cd (by omega) q25).1 (hF.cd (by omega) q25).2 rfl q672 q673 q674 q675 ⟨by decide +kernel, by decide +kernel, (by decide +kernel : (parseMethodDescriptor yX9_lock.desc).map (fun d => d.parameters.length) = some 0)⟩ dX1_owned_36) hl.1 (Nat.le_of_ble_eq_true rfl) ⟨Nat.le_of_ble_eq_true rfl, Nat.le_of_ble_eq_true rfl⟩ ⟨Nat.le_of_ble_eq_true rfl, Nat.le_of_ble_eq_true rfl⟩ (fun H locs P => ?_)
        refine W.eq (g2 := F0 m 39 ls [.ref (ad (18 + s_lk st s))]) rfl ?_
        refine W.widen (k := 3) (n := 18) (Nat.le_of_ble_eq_true rfl) (Nat.le_of_ble_eq_true rfl) ?_
        refine lv_aload_n hx hb dX1_owned_39 rfl (lv_at hl 3 rfl) ?_
        refine pw_callR (nL' := 2) (rest := []) S P (hr_X5_isOwner ho hlk8 hlkk ht hF) q410 q46 (pw_entV (q := (RX5, TX5, 6)) [.ref (ad (12 + t))] S P (hF.lk (by omega) hlkk).1 (hF.lk (by omega) hlkk).2 rfl q407 q408 q409 q410 ⟨by decide +kernel, by decide +kernel, (by decide +kernel : (parseMethodDescriptor yX5_isOwner.desc).map (fun d => d.parameters.length) = some 1)⟩ dX1_owned_40) hl.1 (Nat.le_of_ble_eq_true rfl) ⟨Nat.le_of_ble_eq_true rfl, Nat.le_of_ble_eq_true rfl⟩ ⟨Nat.le_of_ble_eq_true rfl, Nat.le_of_ble_eq_true rfl⟩ (fun H locs P => ?_)
        refine W.eq (g2 := F0 m 43 ls [.int (bI (decide (st.1 13 (s_lk st s) = nI t)))]) rfl ?_
        refine W.widen (k := 3) (n := 18) (Nat.le_of_ble_eq_true rfl) (Nat.le_of_ble_eq_true rfl) ?_
        by_cases q43 : st.1 13 (s_lk st s) = nI t
        · have _h := True.intro
          refine lw_eqi (y := 1) (by simp [bI, q43]) ?_
          exact absurd (ckC0 (ck0 ho hs q2 hb0) q25 q43) hc
        · have _h := True.intro
          refine lw_eqi (y := 0) (by simp [bI, q43]) ?_
          exact pw_callT (nL' := 1) (rest := []) S P hQ (ht_state hst) q222 q36 (pw_entS [.int 0] S q220 q221 q36 q222 ⟨by decide +kernel, by decide +kernel, (by decide +kernel : (parseMethodDescriptor yX1_state.desc).map (fun d => d.parameters.length) = some 1)⟩ dX1_owned_43) htb hlk hl.1 (Nat.le_of_ble_eq_true rfl) ⟨Nat.le_of_ble_eq_true rfl, Nat.le_of_ble_eq_true rfl⟩ ⟨Nat.le_of_ble_eq_true rfl, Nat.le_of_ble_eq_true rfl⟩ ⟨Nat.le_of_ble_eq_true rfl, Nat.le_of_ble_eq_true rfl⟩ (⟨by rw [ckC3 (ck0 ho hs q2 hb0) q25 q43]; rfl, rfl, rfl⟩)
      · have _h := True.intro
        refine lw_eqi (y := 0) (by simp [bI, q25]) ?_
        exact pw_callT (nL' := 1) (rest := []) S P hQ (ht_can hst) q375 q36 (pw_entS [.int 0] S q373 q374 q36 q375 ⟨by decide +kernel, by decide +kernel, (by decide +kernel : (parseMethodDescriptor yX1_can.desc).map (fun d => d.parameters.length) = some 1)⟩ dX1_owned_25) htb hlk hl.1 (Nat.le_of_ble_eq_true rfl) ⟨Nat.le_of_ble_eq_true rfl, Nat.le_of_ble_eq_true rfl⟩ ⟨Nat.le_of_ble_eq_true rfl, Nat.le_of_ble_eq_true rfl⟩ ⟨Nat.le_of_ble_eq_true rfl, Nat.le_of_ble_eq_true rfl⟩ (⟨by rw [ckC4 (ck0 ho hs q2 hb0) q25]; rfl, rfl, rfl⟩)

set_option maxHeartbeats 8000000 in
set_option maxRecDepth 100000 in
theorem hm_signal {l : Launch} {D : va_G} {cs : Nat → ClassId} {ad : Nat → Nat} {L : List Nat} {f : Nat → va_E} (hst : l.stackTraces = false) {n : Nat} {st : St} (ho : Ok n st) (hn : n ≤ 100) {tv sv : Int32} {al : Bool}  (hF : HF cs ad st L f) : PM l D cs yX1_signal cX1_signal 7 (some .int) (rmL 9 13 92) [.ref (ad 0), .int tv, .int sv, .int (bI al)] L f (hPost cs ad st L f (hOut (s_signal st tv sv al)) (s_signal st tv sv al).2.2) := by
  refine hm_of "SyncHall" rfl (by decide +kernel) (Nat.le_of_ble_eq_true rfl) ?_
  intro sz p e u m below meth c S P hsz hr hlk hnm htb ls hl Q hQ
  have hl : lv_has ls 7 [(0, .ref (ad 0)), (1, .int tv), (2, .int sv), (3, .int (bI al))] := hl
  have hx := S.1
  have hb := S.2.1
  generalize hH0 : u.heap = H at P ⊢
  generalize ([] : List Loc) = locs at P ⊢
  have hFr : ∀ a, ¬ hOwn st ad a → f a = f a := fun _ _ => rfl
  obtain ⟨f0, hf0⟩ : ∃ z, z = f := ⟨f, rfl⟩
  refine lv_aload_n hx hb dX1_signal_0 rfl (lv_at hl 0 rfl) ?_
  refine lv_iload_n hx hb dX1_signal_1 rfl (lv_at hl 1 rfl) ?_
  by_cases o2 : isOut tv 6 = true
  · have _h := True.intro
    exact pw_callT (nL' := 2) (rest := []) S P hQ (ht_task hst ho o2 hF) q350 q36 (pw_entV (q := (RX1, TX1, 6)) [.int tv] S P (hF.m (by decide)) hF.hall rfl q347 q349 qs2 q350 ⟨by decide +kernel, by decide +kernel, (by decide +kernel : (parseMethodDescriptor yX1_task.desc).map (fun d => d.parameters.length) = some 1)⟩ dX1_signal_2) htb hlk hl.1 (Nat.le_of_ble_eq_true rfl) ⟨Nat.le_of_ble_eq_true rfl, Nat.le_of_ble_eq_true rfl⟩ ⟨Nat.le_of_ble_eq_true rfl, Nat.le_of_ble_eq_true rfl⟩ ⟨Nat.le_of_ble_eq_true rfl, Nat.le_of_ble_eq_true rfl⟩ (hEnd (r := (1, 0, st)) (if_pos (Or.inl o2)) (hPost_th hF))
  · have _h := True.intro
    obtain ⟨t, ht, rfl⟩ := isOut_f (N := 6) rfl (by decide) (Bool.eq_false_iff.mpr o2)
    rw [Bool.not_eq_true] at o2
    refine pw_callR (nL' := 2) (rest := []) S P (hr_task ho ht hF) q350 q36 (pw_entV (q := (RX1, TX1, 6)) [.int (nI t)] S P (hF.m (by decide)) hF.hall rfl q347 q349 qs2 q350 ⟨by decide +kernel, by decide +kernel, (by decide +kernel : (parseMethodDescriptor yX1_task.desc).map (fun d => d.parameters.length) = some 1)⟩ dX1_signal_2) hl.1 (Nat.le_of_ble_eq_true rfl) ⟨Nat.le_of_ble_eq_true rfl, Nat.le_of_ble_eq_true rfl⟩ ⟨Nat.le_of_ble_eq_true rfl, Nat.le_of_ble_eq_true rfl⟩ (fun H locs P => ?_)
    refine W.eq (g2 := F0 m 5 ls [.ref (ad (12 + t))]) rfl ?_
    refine W.widen (k := 1) (n := 6) (Nat.le_of_ble_eq_true rfl) (Nat.le_of_ble_eq_true rfl) ?_
    refine lv_astore (lv' := [(4, .ref (ad (12 + t))), (0, .ref (ad 0)), (1, .int (nI t)), (2, .int sv), (3, .int (bI al))]) hx hb dX1_signal_5 hl (by decide) rfl (fun ls hl => ?_)
    refine lv_iload_n hx hb dX1_signal_7 rfl (lv_at hl 3 rfl) ?_
    by_cases o8 : isOut sv 8 = true
    · have _h := True.intro
      exact pw_callT (nL' := 1) (rest := []) S P hQ (ht_number hst ho o8 hF) q131 q36 (pw_entS [.int sv] S q129 q130 q36 q131 ⟨by decide +kernel, by decide +kernel, (by decide +kernel : (parseMethodDescriptor yX1_number.desc).map (fun d => d.parameters.length) = some 1)⟩ dX1_signal_8) htb hlk hl.1 (Nat.le_of_ble_eq_true rfl) ⟨Nat.le_of_ble_eq_true rfl, Nat.le_of_ble_eq_true rfl⟩ ⟨Nat.le_of_ble_eq_true rfl, Nat.le_of_ble_eq_true rfl⟩ ⟨Nat.le_of_ble_eq_true rfl, Nat.le_of_ble_eq_true rfl⟩ (hEnd (r := (1, 0, st)) (if_pos (Or.inr o8)) (hPost_th hF))
    · have _h := True.intro
      obtain ⟨s, hs, rfl⟩ := isOut_f (N := 8) rfl (by decide) (Bool.eq_false_iff.mpr o8)
      rw [Bool.not_eq_true] at o8
      refine pw_callR (nL' := 1) (rest := []) S P (hr_number (ad := ad) ho hs hF) q131 q36 (pw_entS [.int (nI s)] S q129 q130 q36 q131 ⟨by decide +kernel, by decide +kernel, (by decide +kernel : (parseMethodDescriptor yX1_number.desc).map (fun d => d.parameters.length) = some 1)⟩ dX1_signal_8) hl.1 (Nat.le_of_ble_eq_true rfl) ⟨Nat.le_of_ble_eq_true rfl, Nat.le_of_ble_eq_true rfl⟩ ⟨Nat.le_of_ble_eq_true rfl, Nat.le_of_ble_eq_true rfl⟩ (fun H locs P => ?_)
      refine W.eq (g2 := F0 m 11 ls []) rfl ?_
      refine W.widen (k := 2) (n := 12) (Nat.le_of_ble_eq_true rfl) (Nat.le_of_ble_eq_true rfl) ?_
      refine lv_aload_n hx hb dX1_signal_11 rfl (lv_at hl 1 rfl) ?_
      refine lv_aload hx hb dX1_signal_12 (lv_at hl 0 rfl) ?_
      refine lv_iload_n hx hb dX1_signal_14 rfl (lv_at hl 3 rfl) ?_
      by_cases qc : s_checkC st t s = 0
      · have _h := True.intro
        obtain ⟨hk0, hb0, hk6, how⟩ := s_checkC_0 qc
        refine pw_callR (nL' := 5) (rest := []) S P (hr_owned ho ht hs hk6 hb0 how hF) q671 q36 (pw_entV (q := (RX1, TX1, 6)) [.ref (ad (12 + t)), .int (nI s)] S P (hF.m (by decide)) hF.hall rfl q668 q670 qs13 q671 ⟨by decide +kernel, by decide +kernel, (by decide +kernel : (parseMethodDescriptor yX1_owned.desc).map (fun d => d.parameters.length) = some 2)⟩ dX1_signal_15) hl.1 (Nat.le_of_ble_eq_true rfl) ⟨Nat.le_of_ble_eq_true rfl, Nat.le_of_ble_eq_true rfl⟩ ⟨Nat.le_of_ble_eq_true rfl, Nat.le_of_ble_eq_true rfl⟩ (fun H locs P => ?_)
        refine W.eq (g2 := F0 m 18 ls [.ref (ad (18 + s))]) rfl ?_
        refine W.widen (k := 6) (n := 36) (Nat.le_of_ble_eq_true rfl) (Nat.le_of_ble_eq_true rfl) ?_
        refine lv_astore (lv' := [(5, .ref (ad (18 + s))), (4, .ref (ad (12 + t))), (0, .ref (ad 0)), (1, .int (nI t)), (2, .int (nI s)), (3, .int (bI al))]) hx hb dX1_signal_18 hl (by decide) rfl (fun ls hl => ?_)
        refine lv_iconst (v := 0) hx hb dX1_signal_20 (by decide) ?_
        refine lv_istore (lv' := [(6, .int 0), (5, .ref (ad (18 + s))), (4, .ref (ad (12 + t))), (0, .ref (ad 0)), (1, .int (nI t)), (2, .int (nI s)), (3, .int (bI al))]) hx hb dX1_signal_21 hl (by decide) rfl (fun ls hl => ?_)
        have hrel : hRel cs ad st L f0 ad st L f := by rw [hf0]; exact hRel.rf hF
        have hok : True = True := rfl
        have hres : s_signal st (nI t) (nI s) al = (0, nI (s_sigN (st.2.2 s).length st s al 0).1, (s_sigN (st.2.2 s).length st s al 0).2) := by rw [show s_signal st (nI t) (nI s) al = s_sig st t s al from by unfold s_signal; rw [if_neg (by rintro (q | q); exact absurd q (bnt o2); exact absurd q (bnt o8)), iN_nI ht (by decide), iN_nI hs (by decide)]]; exact if_neg (fun z => z qc)
        have loop23 : ∀ (d : Nat) (st1 : St) (ad1 : Nat → Nat) (L1 : List Nat) (f1 : Nat → va_E) (k : Nat), (st1.2.2 s).length < d → (Ok n st1) → (st1.1 12 s = 6) → (k + (st1.2.2 s).length ≤ 6) → (hRel cs ad st L f0 ad1 st1 L1 f1) → (s_sigN (st.2.2 s).length st s al 0 = s_sigN (st1.2.2 s).length st1 s al k) → ∀ (H : Heap) (locs : List Loc), PW D cs (pA L sz) u L1 f1 H locs → ∀ (ls : Array Slot), lv_has ls 7 [(6, .int (nI k)), (5, .ref (ad1 (18 + s))), (3, .int (bI al)), (0, .ref (ad1 0))] → W p l e (rmL 9 13 92) u m ([.ref (ad 0), .int (nI t), .int (nI s), .int (bI al)] : List Value).toArray below meth c H locs (6 + k) (36 + 8 * k) Q (F0 m 23 ls []) := by
          intro d23
          induction d23 with
          | zero => intro st ad L1 f k hd; exact absurd hd (by omega)
          | succ d23 ih23 =>
            intro st ad L1 f k hd23 ho hk hkl hrel hinv H locs P ls hl
            have hF := hrel.1
            refine lv_aload hx hb dX1_signal_23 (lv_at hl 1 rfl) ?_
            refine pw_get (q := (RX9, TX9, 4)) (k := 0) S P (hF.cd (by omega) hk).1 (hF.cd (by omega) hk).2 rfl (by decide) q260 (Or.inr q261) rfl dX1_signal_25 ?_
            refine lw_ifnull (tgt := 61) hx hb dX1_signal_28 (by decide) (fun c28 => ?_) (fun c28 => ?_)
            · rw [hFi_none] at c28
              refine lv_iload hx hb dX1_signal_61 (lv_at hl 0 rfl) ?_
              exact gw_iret S P hQ hr hlk ⟨by show (6 + k) ≤ 13; omega, by show (36 + 8 * k) ≤ 92; omega⟩ dX1_signal_63 (by rw [← hf0]; exact hEnd (hres.trans (by rw [hinv, s_sigN_no (st := st) (c := s) (k := k) (all := al) (fun z => by rw [c28] at z; exact absurd z.1 (by decide))])) hrel.post)
            · rw [hFi_none] at c28
              have hne : 0 < (st.2.2 s).length := by
                cases hq : st.2.2 s with
                | nil => rw [hq] at c28; exact absurd rfl c28
                | cons a l => simp
              have hmh := (s_hd_mem hne).1
              refine lv_iload_n hx hb dX1_signal_31 rfl (lv_at hl 2 rfl) ?_
              refine lv_if_ne (tgt := 40) (x := bI al) hx hb dX1_signal_32 (by decide) (fun c32 => ?_) (fun c32 => ?_)
              · rw [bI_eq0, Bool.not_eq_false] at c32
                refine lv_aload hx hb dX1_signal_40 (lv_at hl 1 rfl) ?_
                refine lv_aload hx hb dX1_signal_42 (lv_at hl 1 rfl) ?_
                refine pw_get (q := (RX9, TX9, 4)) (k := 0) S P (hF.cd (by omega) hk).1 (hF.cd (by omega) hk).2 rfl (by decide) q260 (Or.inr q261) rfl dX1_signal_44 ?_
                refine lw_eqv (w := .ref (ad (34 + s_hd st s))) (congrArg va_rf (hFi_hd hne)) ?_
                refine lv_iconst (v := 1) hx hb dX1_signal_47 (by decide) ?_
                refine lv_aload_n hx hb dX1_signal_48 rfl (lv_at hl 3 rfl) ?_
                refine pw_get (q := (RX1, TX1, 6)) (k := 5) S P (hF.m (by decide)) hF.hall rfl (by decide) q101 (Or.inl rfl) rfl dX1_signal_49 ?_
                refine pw_callH (nL' := 5) (rest := []) S P (hw_queue ho hs hk hmh hn rfl ho.db.1 hF) q687 q50 (pw_entV (q := (RX9, TX9, 4)) [.ref (ad (34 + s_hd st s)), .int 1, .double (st.2.1 11 0)] S P (hF.cd (by omega) hk).1 (hF.cd (by omega) hk).2 rfl q684 q685 q686 q687 ⟨by decide +kernel, by decide +kernel, (by decide +kernel : (parseMethodDescriptor yX9_queue.desc).map (fun d => d.parameters.length) = some 3)⟩ dX1_signal_52) hl.1 (Nat.le_of_ble_eq_true rfl) ⟨Nat.le_of_ble_eq_true rfl, Nat.le_of_ble_eq_true rfl⟩ ⟨by show (6 + k) + 1 ≤ 13; omega, by show (36 + 8 * k) + 8 ≤ 92; omega⟩ (fun H locs L2 f2 ad2 P hF2 had hLs hfr2 => ?_)
                refine W.eq (g2 := F0 m 55 ls []) rfl ?_
                refine W.widen (k := (6 + k) + 1) (n := (36 + 8 * k) + 8) (by show (6 + k) + 1 ≤ (6 + k) + 1; omega) (by show (36 + 8 * k) + 8 ≤ (36 + 8 * k) + 8; omega) ?_
                have e0 := had 0 (by decide) (hl_lo (by decide))
                have e18 := had (18 + s) (by omega) (hl_sy hs (by rw [hk]; decide))
                have hrel2 := hrel.step hF2 had hLs hfr2 (s_queue_I (by decide))
                refine W.widen (k := (6 + (k + 1))) (n := (36 + 8 * (k + 1))) (by show (6 + k) + 1 + 0 ≤ (6 + (k + 1)); omega) (by show (36 + 8 * k) + 8 + 0 ≤ (36 + 8 * (k + 1)); omega) ?_
                refine lv_iinc (v := nI (k + 1)) (lv' := [(6, .int (nI (k + 1))), (5, .ref (ad (18 + s))), (3, .int (bI al)), (0, .ref (ad 0))]) hx hb dX1_signal_55 hl (k := 0) rfl (nI_1 _) (by decide) rfl (fun ls hl => ?_)
                refine lv_goto (tgt := 23) hx hb dX1_signal_58 (by decide) ?_
                rw [← e0, ← e18] at hl
                have hlen1 := s_sig_len ho hs hne hk
                exact ih23 (s_queue st (s_hd st s) s 1) ad2 L2 f2 (k + 1) (by omega) (ho.queue hs hmh hk hn) (by rw [s_queue_I (by decide)]; exact hk) (by omega) hrel2 (by rw [hinv, s_sigN_go hlen1.symm (Or.inl c32)]) _ _ P ls (lv_sub hl [0, 1, 2, 3] rfl)
              · rw [bI_eq0] at c32
                refine lv_iload hx hb dX1_signal_35 (lv_at hl 0 rfl) ?_
                refine ni_if_ne (tgt := 61) (a := k) hx hb (by omega) dX1_signal_37 (by decide) (fun c37 => ?_) (fun c37 => ?_)
                · have _h := True.intro
                  refine lv_iload hx hb dX1_signal_61 (lv_at hl 0 rfl) ?_
                  exact gw_iret S P hQ hr hlk ⟨by show (6 + k) ≤ 13; omega, by show (36 + 8 * k) ≤ 92; omega⟩ dX1_signal_63 (by rw [← hf0]; exact hEnd (hres.trans (by rw [hinv, s_sigN_no (st := st) (c := s) (k := k) (all := al) (fun z => z.2.elim (fun z => absurd (c32.symm.trans z) (by decide)) c37)])) hrel.post)
                · have _h := True.intro
                  refine lv_aload hx hb dX1_signal_40 (lv_at hl 1 rfl) ?_
                  refine lv_aload hx hb dX1_signal_42 (lv_at hl 1 rfl) ?_
                  refine pw_get (q := (RX9, TX9, 4)) (k := 0) S P (hF.cd (by omega) hk).1 (hF.cd (by omega) hk).2 rfl (by decide) q260 (Or.inr q261) rfl dX1_signal_44 ?_
                  refine lw_eqv (w := .ref (ad (34 + s_hd st s))) (congrArg va_rf (hFi_hd hne)) ?_
                  refine lv_iconst (v := 1) hx hb dX1_signal_47 (by decide) ?_
                  refine lv_aload_n hx hb dX1_signal_48 rfl (lv_at hl 3 rfl) ?_
                  refine pw_get (q := (RX1, TX1, 6)) (k := 5) S P (hF.m (by decide)) hF.hall rfl (by decide) q101 (Or.inl rfl) rfl dX1_signal_49 ?_
                  refine pw_callH (nL' := 5) (rest := []) S P (hw_queue ho hs hk hmh hn rfl ho.db.1 hF) q687 q50 (pw_entV (q := (RX9, TX9, 4)) [.ref (ad (34 + s_hd st s)), .int 1, .double (st.2.1 11 0)] S P (hF.cd (by omega) hk).1 (hF.cd (by omega) hk).2 rfl q684 q685 q686 q687 ⟨by decide +kernel, by decide +kernel, (by decide +kernel : (parseMethodDescriptor yX9_queue.desc).map (fun d => d.parameters.length) = some 3)⟩ dX1_signal_52) hl.1 (Nat.le_of_ble_eq_true rfl) ⟨Nat.le_of_ble_eq_true rfl, Nat.le_of_ble_eq_true rfl⟩ ⟨by show (6 + k) + 1 ≤ 13; omega, by show (36 + 8 * k) + 8 ≤ 92; omega⟩ (fun H locs L2 f2 ad2 P hF2 had hLs hfr2 => ?_)
                  refine W.eq (g2 := F0 m 55 ls []) rfl ?_
                  refine W.widen (k := (6 + k) + 1) (n := (36 + 8 * k) + 8) (by show (6 + k) + 1 ≤ (6 + k) + 1; omega) (by show (36 + 8 * k) + 8 ≤ (36 + 8 * k) + 8; omega) ?_
                  have e0 := had 0 (by decide) (hl_lo (by decide))
                  have e18 := had (18 + s) (by omega) (hl_sy hs (by rw [hk]; decide))
                  have hrel2 := hrel.step hF2 had hLs hfr2 (s_queue_I (by decide))
                  refine W.widen (k := (6 + (k + 1))) (n := (36 + 8 * (k + 1))) (by show (6 + k) + 1 + 0 ≤ (6 + (k + 1)); omega) (by show (36 + 8 * k) + 8 + 0 ≤ (36 + 8 * (k + 1)); omega) ?_
                  refine lv_iinc (v := nI (k + 1)) (lv' := [(6, .int (nI (k + 1))), (5, .ref (ad (18 + s))), (3, .int (bI al)), (0, .ref (ad 0))]) hx hb dX1_signal_55 hl (k := 0) rfl (nI_1 _) (by decide) rfl (fun ls hl => ?_)
                  refine lv_goto (tgt := 23) hx hb dX1_signal_58 (by decide) ?_
                  rw [← e0, ← e18] at hl
                  have hlen1 := s_sig_len ho hs hne hk
                  exact ih23 (s_queue st (s_hd st s) s 1) ad2 L2 f2 (k + 1) (by omega) (ho.queue hs hmh hk hn) (by rw [s_queue_I (by decide)]; exact hk) (by omega) hrel2 (by rw [hinv, s_sigN_go hlen1.symm (Or.inr c37)]) _ _ P ls (lv_sub hl [0, 1, 2, 3] rfl)
        exact loop23 _ st ad L f 0 (Nat.lt_succ_self _) ho hk6 (by have := (ho.wf s hs).1; omega) hrel rfl _ _ P ls (lv_sub hl [0, 1, 6, 3] (rfl))
      · have _h := True.intro
        exact pw_callT (nL' := 5) (rest := []) S P hQ (ht_owned hst ho ht hs qc hF) q671 q36 (pw_entV (q := (RX1, TX1, 6)) [.ref (ad (12 + t)), .int (nI s)] S P (hF.m (by decide)) hF.hall rfl q668 q670 qs13 q671 ⟨by decide +kernel, by decide +kernel, (by decide +kernel : (parseMethodDescriptor yX1_owned.desc).map (fun d => d.parameters.length) = some 2)⟩ dX1_signal_15) htb hlk hl.1 (Nat.le_of_ble_eq_true rfl) ⟨Nat.le_of_ble_eq_true rfl, Nat.le_of_ble_eq_true rfl⟩ ⟨Nat.le_of_ble_eq_true rfl, Nat.le_of_ble_eq_true rfl⟩ ⟨Nat.le_of_ble_eq_true rfl, Nat.le_of_ble_eq_true rfl⟩ (hEnd (r := (s_checkC st t s, 0, st)) (by rw [show s_signal st (nI t) (nI s) al = s_sig st t s al from by unfold s_signal; rw [if_neg (by rintro (q | q); exact absurd q (bnt o2); exact absurd q (bnt o8)), iN_nI ht (by decide), iN_nI hs (by decide)]]; exact if_pos qc) (by rw [show hOut (s_checkC st t s, 0, st) = .inr (hExc (s_checkC st t s)) from if_neg qc]; exact hPost_th hF))
