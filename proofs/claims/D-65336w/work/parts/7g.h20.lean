/-! SyncHall.acquire, by gen_h20.py -/
set_option maxHeartbeats 8000000 in
set_option maxRecDepth 100000 in
theorem hm_acquire {l : Launch} {D : va_G} {cs : Nat → ClassId} {ad : Nat → Nat} {L : List Nat} {f : Nat → va_E} (hst : l.stackTraces = false) {n : Nat} {st : St} (ho : Ok n st) {tv sv mm : Int32} {lim : UInt64}  (hF : HF cs ad st L f) : PM l D cs yX1_acquire cX1_acquire 9 (some .int) (rmL 9 18 126) [.ref (ad 0), .int tv, .int sv, .int mm, .double lim] L f (hPost cs ad st L f (hOut (s_acquire st tv sv mm lim)) (s_acquire st tv sv mm lim).2.2) := by
  refine hm_of "SyncHall" rfl (by decide +kernel) (Nat.le_of_ble_eq_true rfl) ?_
  intro sz p e u m below meth c S P hsz hr hlk hnm htb ls hl Q hQ
  have hl : lv_has ls 9 [(0, .ref (ad 0)), (1, .int tv), (2, .int sv), (3, .int mm), (4, .double lim)] := hl
  have hx := S.1
  have hb := S.2.1
  generalize hH0 : u.heap = H at P ⊢
  generalize ([] : List Loc) = locs at P ⊢
  have hFr : ∀ a, ¬ hOwn st ad a → f a = f a := fun _ _ => rfl
  obtain ⟨f0, hf0⟩ : ∃ z, z = f := ⟨f, rfl⟩
  refine lv_aload_n hx hb dX1_acquire_0 rfl (lv_at hl 0 rfl) ?_
  refine lv_iload_n hx hb dX1_acquire_1 rfl (lv_at hl 1 rfl) ?_
  by_cases o2 : isOut tv 6 = true
  · have _h := True.intro
    exact pw_callT (nL' := 2) (rest := []) S P hQ (ht_task hst ho o2 hF) q350 q36 (pw_entV (q := (RX1, TX1, 6)) [.int tv] S P (hF.m (by decide)) hF.hall rfl q347 q349 qs2 q350 ⟨by decide +kernel, by decide +kernel, (by decide +kernel : (parseMethodDescriptor yX1_task.desc).map (fun d => d.parameters.length) = some 1)⟩ dX1_acquire_2) htb hlk hl.1 (Nat.le_of_ble_eq_true rfl) ⟨Nat.le_of_ble_eq_true rfl, Nat.le_of_ble_eq_true rfl⟩ ⟨Nat.le_of_ble_eq_true rfl, Nat.le_of_ble_eq_true rfl⟩ ⟨Nat.le_of_ble_eq_true rfl, Nat.le_of_ble_eq_true rfl⟩ (hEnd (r := (1, 0, st)) (if_pos (Or.inl o2)) (hPost_th hF))
  · have _h := True.intro
    obtain ⟨t, ht, rfl⟩ := isOut_f (N := 6) rfl (by decide) (Bool.eq_false_iff.mpr o2)
    rw [Bool.not_eq_true] at o2
    refine pw_callR (nL' := 2) (rest := []) S P (hr_task ho ht hF) q350 q36 (pw_entV (q := (RX1, TX1, 6)) [.int (nI t)] S P (hF.m (by decide)) hF.hall rfl q347 q349 qs2 q350 ⟨by decide +kernel, by decide +kernel, (by decide +kernel : (parseMethodDescriptor yX1_task.desc).map (fun d => d.parameters.length) = some 1)⟩ dX1_acquire_2) hl.1 (Nat.le_of_ble_eq_true rfl) ⟨Nat.le_of_ble_eq_true rfl, Nat.le_of_ble_eq_true rfl⟩ ⟨Nat.le_of_ble_eq_true rfl, Nat.le_of_ble_eq_true rfl⟩ (fun H locs P => ?_)
    refine W.eq (g2 := F0 m 5 ls [.ref (ad (12 + t))]) rfl ?_
    refine W.widen (k := 1) (n := 6) (Nat.le_of_ble_eq_true rfl) (Nat.le_of_ble_eq_true rfl) ?_
    refine lv_astore (lv' := [(6, .ref (ad (12 + t))), (0, .ref (ad 0)), (1, .int (nI t)), (2, .int sv), (3, .int mm), (4, .double lim)]) hx hb dX1_acquire_5 hl (by decide) rfl (fun ls hl => ?_)
    refine lv_iload_n hx hb dX1_acquire_7 rfl (lv_at hl 3 rfl) ?_
    by_cases o8 : isOut sv 8 = true
    · have _h := True.intro
      exact pw_callT (nL' := 1) (rest := []) S P hQ (ht_number hst ho o8 hF) q131 q36 (pw_entS [.int sv] S q129 q130 q36 q131 ⟨by decide +kernel, by decide +kernel, (by decide +kernel : (parseMethodDescriptor yX1_number.desc).map (fun d => d.parameters.length) = some 1)⟩ dX1_acquire_8) htb hlk hl.1 (Nat.le_of_ble_eq_true rfl) ⟨Nat.le_of_ble_eq_true rfl, Nat.le_of_ble_eq_true rfl⟩ ⟨Nat.le_of_ble_eq_true rfl, Nat.le_of_ble_eq_true rfl⟩ ⟨Nat.le_of_ble_eq_true rfl, Nat.le_of_ble_eq_true rfl⟩ (hEnd (r := (1, 0, st)) (if_pos (Or.inr (Or.inl o8))) (hPost_th hF))
    · have _h := True.intro
      obtain ⟨s, hs, rfl⟩ := isOut_f (N := 8) rfl (by decide) (Bool.eq_false_iff.mpr o8)
      rw [Bool.not_eq_true] at o8
      refine pw_callR (nL' := 1) (rest := []) S P (hr_number (ad := ad) ho hs hF) q131 q36 (pw_entS [.int (nI s)] S q129 q130 q36 q131 ⟨by decide +kernel, by decide +kernel, (by decide +kernel : (parseMethodDescriptor yX1_number.desc).map (fun d => d.parameters.length) = some 1)⟩ dX1_acquire_8) hl.1 (Nat.le_of_ble_eq_true rfl) ⟨Nat.le_of_ble_eq_true rfl, Nat.le_of_ble_eq_true rfl⟩ ⟨Nat.le_of_ble_eq_true rfl, Nat.le_of_ble_eq_true rfl⟩ (fun H locs P => ?_)
      refine W.eq (g2 := F0 m 11 ls []) rfl ?_
      refine W.widen (k := 2) (n := 12) (Nat.le_of_ble_eq_true rfl) (Nat.le_of_ble_eq_true rfl) ?_
      refine lv_iload_n hx hb dX1_acquire_11 rfl (lv_at hl 4 rfl) ?_
      refine lv_if_eq (tgt := 20) (x := mm) hx hb dX1_acquire_12 (by decide) (fun c12 => ?_) (fun c12 => ?_)
      · have hm : mm = 0 ∨ mm = 1 := Or.inl c12
        have om : isOut mm 2 = false := by rw [c12]; decide
        refine lv_iconst (v := 1) hx hb dX1_acquire_20 (by decide) ?_
        refine lv_goto (tgt := 25) hx hb dX1_acquire_21 (by decide) ?_
        refine pw_callR (nL' := 1) (rest := []) S P (hs_range True.intro) q134 q36 (pw_entS [.int 1] S q132 q133 q36 q134 ⟨by decide +kernel, by decide +kernel, (by decide +kernel : (parseMethodDescriptor yX1_range.desc).map (fun d => d.parameters.length) = some 1)⟩ dX1_acquire_25) hl.1 (Nat.le_of_ble_eq_true rfl) ⟨Nat.le_of_ble_eq_true rfl, Nat.le_of_ble_eq_true rfl⟩ ⟨Nat.le_of_ble_eq_true rfl, Nat.le_of_ble_eq_true rfl⟩ (fun H locs P => ?_)
        refine W.eq (g2 := F0 m 28 ls []) rfl ?_
        refine W.widen (k := 3) (n := 18) (Nat.le_of_ble_eq_true rfl) (Nat.le_of_ble_eq_true rfl) ?_
        refine lv_dload hx hb dX1_acquire_28 (lv_at hl 5 rfl) ?_
        by_cases hin : inR cM1 cK lim = true
        · have _h := True.intro
          refine pw_callR (nL' := 2) (rest := []) S P (hr_limit (ad := ad) ho hin hF) q363 q36 (pw_entS [.double lim] S q361 q362 q36 q363 ⟨by decide +kernel, by decide +kernel, (by decide +kernel : (parseMethodDescriptor yX1_limit.desc).map (fun d => d.parameters.length) = some 1)⟩ dX1_acquire_30) hl.1 (Nat.le_of_ble_eq_true rfl) ⟨Nat.le_of_ble_eq_true rfl, Nat.le_of_ble_eq_true rfl⟩ ⟨Nat.le_of_ble_eq_true rfl, Nat.le_of_ble_eq_true rfl⟩ (fun H locs P => ?_)
          refine W.eq (g2 := F0 m 33 ls []) rfl ?_
          refine W.widen (k := 4) (n := 24) (Nat.le_of_ble_eq_true rfl) (Nat.le_of_ble_eq_true rfl) ?_
          refine lv_aload_n hx hb dX1_acquire_33 rfl (lv_at hl 1 rfl) ?_
          refine lv_iload_n hx hb dX1_acquire_34 rfl (lv_at hl 3 rfl) ?_
          by_cases qk : st.1 12 s = -1
          · have _h := True.intro
            exact pw_callT (nL' := 2) (rest := []) S P hQ (ht_there hst ho hs qk hF) q368 q36 (pw_entV (q := (RX1, TX1, 6)) [.int (nI s)] S P (hF.m (by decide)) hF.hall rfl q365 q367 qs3 q368 ⟨by decide +kernel, by decide +kernel, (by decide +kernel : (parseMethodDescriptor yX1_there.desc).map (fun d => d.parameters.length) = some 1)⟩ dX1_acquire_35) htb hlk hl.1 (Nat.le_of_ble_eq_true rfl) ⟨Nat.le_of_ble_eq_true rfl, Nat.le_of_ble_eq_true rfl⟩ ⟨Nat.le_of_ble_eq_true rfl, Nat.le_of_ble_eq_true rfl⟩ ⟨Nat.le_of_ble_eq_true rfl, Nat.le_of_ble_eq_true rfl⟩ (hEnd (r := (2, 0, st)) (by rw [show s_acquire st (nI t) (nI s) mm lim = s_acq st t s mm lim from by unfold s_acquire; rw [if_neg (by rintro (q | q | q | q); exact absurd q (bnt o2); exact absurd q (bnt o8); exact absurd q (bnt om); exact absurd hin (bnt q)), iN_nI ht (by decide), iN_nI hs (by decide)]]; unfold s_acq; rw [ck2 ho hs qk]; rfl) (hPost_th hF))
          · have _h := True.intro
            have hkd : hKd st s := ho.kd hs qk
            refine pw_callR (nL' := 2) (rest := []) S P (hr_there ho hs qk hF) q368 q36 (pw_entV (q := (RX1, TX1, 6)) [.int (nI s)] S P (hF.m (by decide)) hF.hall rfl q365 q367 qs3 q368 ⟨by decide +kernel, by decide +kernel, (by decide +kernel : (parseMethodDescriptor yX1_there.desc).map (fun d => d.parameters.length) = some 1)⟩ dX1_acquire_35) hl.1 (Nat.le_of_ble_eq_true rfl) ⟨Nat.le_of_ble_eq_true rfl, Nat.le_of_ble_eq_true rfl⟩ ⟨Nat.le_of_ble_eq_true rfl, Nat.le_of_ble_eq_true rfl⟩ (fun H locs P => ?_)
            refine W.eq (g2 := F0 m 38 ls [.ref (ad (18 + s))]) rfl ?_
            refine W.widen (k := 5) (n := 30) (Nat.le_of_ble_eq_true rfl) (Nat.le_of_ble_eq_true rfl) ?_
            refine lv_astore (lv' := [(7, .ref (ad (18 + s))), (6, .ref (ad (12 + t))), (0, .ref (ad 0)), (1, .int (nI t)), (2, .int (nI s)), (3, .int mm), (4, .double lim)]) hx hb dX1_acquire_38 hl (by decide) rfl (fun ls hl => ?_)
            refine lv_aload hx hb dX1_acquire_40 (lv_at hl 1 rfl) ?_
            refine pw_callR (nL' := 1) (rest := []) S P (hg_blocked (hF.m (by omega)) (hF.tk (by omega))) q372 q37 (pw_entV (q := (RX2, TX2, 5)) [] S P (hF.m (by omega)) (hF.tk (by omega)) rfl q369 q370 q371 q372 ⟨by decide +kernel, by decide +kernel, (by decide +kernel : (parseMethodDescriptor yX2_blocked.desc).map (fun d => d.parameters.length) = some 0)⟩ dX1_acquire_42) hl.1 (Nat.le_of_ble_eq_true rfl) ⟨Nat.le_of_ble_eq_true rfl, Nat.le_of_ble_eq_true rfl⟩ ⟨Nat.le_of_ble_eq_true rfl, Nat.le_of_ble_eq_true rfl⟩ (fun H locs P => ?_)
            refine W.eq (g2 := F0 m 45 ls [.int (bI (hPl st ad t).isSome)]) rfl ?_
            refine W.widen (k := 5) (n := 30) (Nat.le_of_ble_eq_true rfl) (Nat.le_of_ble_eq_true rfl) ?_
            refine lv_if_ne (tgt := 52) (x := bI (hPl st ad t).isSome) hx hb dX1_acquire_45 (by decide) (fun c45 => ?_) (fun c45 => ?_)
            · rw [bI_eq0, Bool.not_eq_false] at c45
              have hbt : ¬ st.1 1 t = 0 := fun z => by rw [hPl_none.mpr z] at c45; cases c45
              refine lv_iconst (v := 0) hx hb dX1_acquire_52 (by decide) ?_
              exact pw_callT (nL' := 1) (rest := []) S P hQ (ht_state hst) q222 q36 (pw_entS [.int 0] S q220 q221 q36 q222 ⟨by decide +kernel, by decide +kernel, (by decide +kernel : (parseMethodDescriptor yX1_state.desc).map (fun d => d.parameters.length) = some 1)⟩ dX1_acquire_53) htb hlk hl.1 (Nat.le_of_ble_eq_true rfl) ⟨Nat.le_of_ble_eq_true rfl, Nat.le_of_ble_eq_true rfl⟩ ⟨Nat.le_of_ble_eq_true rfl, Nat.le_of_ble_eq_true rfl⟩ ⟨Nat.le_of_ble_eq_true rfl, Nat.le_of_ble_eq_true rfl⟩ (hEnd (r := (3, 0, st)) (by rw [show s_acquire st (nI t) (nI s) mm lim = s_acq st t s mm lim from by unfold s_acquire; rw [if_neg (by rintro (q | q | q | q); exact absurd q (bnt o2); exact absurd q (bnt o8); exact absurd q (bnt om); exact absurd hin (bnt q)), iN_nI ht (by decide), iN_nI hs (by decide)]]; unfold s_acq; rw [ck3 ho hs qk hbt]; rfl) (hPost_th hF))
            · rw [bI_eq0] at c45
              have hb0 : st.1 1 t = 0 := hPl_none.mp (by cases hq : hPl st ad t with | none => rfl | some x => rw [hq] at c45; cases c45)
              have hck := ck0 ho hs qk hb0
              refine lv_iconst (v := 1) hx hb dX1_acquire_48 (by decide) ?_
              refine lv_goto (tgt := 53) hx hb dX1_acquire_49 (by decide) ?_
              refine pw_callR (nL' := 1) (rest := []) S P (hs_state True.intro) q222 q36 (pw_entS [.int 1] S q220 q221 q36 q222 ⟨by decide +kernel, by decide +kernel, (by decide +kernel : (parseMethodDescriptor yX1_state.desc).map (fun d => d.parameters.length) = some 1)⟩ dX1_acquire_53) hl.1 (Nat.le_of_ble_eq_true rfl) ⟨Nat.le_of_ble_eq_true rfl, Nat.le_of_ble_eq_true rfl⟩ ⟨Nat.le_of_ble_eq_true rfl, Nat.le_of_ble_eq_true rfl⟩ (fun H locs P => ?_)
              refine W.eq (g2 := F0 m 56 ls []) rfl ?_
              refine W.widen (k := 6) (n := 36) (Nat.le_of_ble_eq_true rfl) (Nat.le_of_ble_eq_true rfl) ?_
              refine lv_aload hx hb dX1_acquire_56 (lv_at hl 0 rfl) ?_
              refine hs_isCond (s := s) S P hF hs hkd q327 dX1_acquire_58 ?_
              refine lv_if_ne (tgt := 68) (x := bI (decide (st.1 12 s = 6))) hx hb dX1_acquire_61 (by decide) (fun c61 => ?_) (fun c61 => ?_)
              · simp only [bI_eq0, Bool.not_eq_false, decide_eq_false_iff_not, decide_eq_true_eq, Classical.not_not] at c61
                refine lv_iconst (v := 0) hx hb dX1_acquire_68 (by decide) ?_
                exact pw_callT (nL' := 1) (rest := []) S P hQ (ht_can hst) q375 q36 (pw_entS [.int 0] S q373 q374 q36 q375 ⟨by decide +kernel, by decide +kernel, (by decide +kernel : (parseMethodDescriptor yX1_can.desc).map (fun d => d.parameters.length) = some 1)⟩ dX1_acquire_69) htb hlk hl.1 (Nat.le_of_ble_eq_true rfl) ⟨Nat.le_of_ble_eq_true rfl, Nat.le_of_ble_eq_true rfl⟩ ⟨Nat.le_of_ble_eq_true rfl, Nat.le_of_ble_eq_true rfl⟩ ⟨Nat.le_of_ble_eq_true rfl, Nat.le_of_ble_eq_true rfl⟩ (hEnd (r := (4, 0, st)) (by rw [show s_acquire st (nI t) (nI s) mm lim = s_acq st t s mm lim from by unfold s_acquire; rw [if_neg (by rintro (q | q | q | q); exact absurd q (bnt o2); exact absurd q (bnt o8); exact absurd q (bnt om); exact absurd hin (bnt q)), iN_nI ht (by decide), iN_nI hs (by decide)]]; exact aq6 hck c61) (hPost_th hF))
              · simp only [bI_eq0, decide_eq_false_iff_not, decide_eq_true_eq, Classical.not_not] at c61
                refine lv_iconst (v := 1) hx hb dX1_acquire_64 (by decide) ?_
                refine lv_goto (tgt := 69) hx hb dX1_acquire_65 (by decide) ?_
                refine pw_callR (nL' := 1) (rest := []) S P (hs_can True.intro) q375 q36 (pw_entS [.int 1] S q373 q374 q36 q375 ⟨by decide +kernel, by decide +kernel, (by decide +kernel : (parseMethodDescriptor yX1_can.desc).map (fun d => d.parameters.length) = some 1)⟩ dX1_acquire_69) hl.1 (Nat.le_of_ble_eq_true rfl) ⟨Nat.le_of_ble_eq_true rfl, Nat.le_of_ble_eq_true rfl⟩ ⟨Nat.le_of_ble_eq_true rfl, Nat.le_of_ble_eq_true rfl⟩ (fun H locs P => ?_)
                refine W.eq (g2 := F0 m 72 ls []) rfl ?_
                refine W.widen (k := 7) (n := 42) (Nat.le_of_ble_eq_true rfl) (Nat.le_of_ble_eq_true rfl) ?_
                refine lv_aload hx hb dX1_acquire_72 (lv_at hl 1 rfl) ?_
                refine pw_get (q := (RX2, TX2, 5)) (k := 3) S P (hF.m (by omega)) (hF.tk (by omega)) rfl (by decide) q80 (Or.inl rfl) rfl dX1_acquire_74 ?_
                refine lv_if_eq (tgt := 87) (x := st.1 2 t) hx hb dX1_acquire_77 (by decide) (fun c77 => ?_) (fun c77 => ?_)
                · have _h := True.intro
                  refine lv_aload_n hx hb dX1_acquire_87 rfl (lv_at hl 2 rfl) ?_
                  refine lv_aload hx hb dX1_acquire_88 (lv_at hl 1 rfl) ?_
                  refine lv_iload_n hx hb dX1_acquire_90 rfl (lv_at hl 4 rfl) ?_
                  by_cases qo : (s_ordered st t s).1 = true
                  · have _h := True.intro
                    have hMw := hw_watch (l := l) (D := D) hst ho ht hs hF
                    rw [qo] at hMw
                    refine pw_callL (nL' := 5) (v := none) (rest := []) S P hMw q402 q36 (pw_entV (q := (RX1, TX1, 6)) [.ref (ad (12 + t)), .int (nI s)] S P (hF.m (by decide)) hF.hall rfl q399 q401 qs6 q402 ⟨by decide +kernel, by decide +kernel, (by decide +kernel : (parseMethodDescriptor yX1_watch.desc).map (fun d => d.parameters.length) = some 2)⟩ dX1_acquire_91) hl.1 (Nat.le_of_ble_eq_true rfl) ⟨Nat.le_of_ble_eq_true rfl, Nat.le_of_ble_eq_true rfl⟩ ⟨Nat.le_of_ble_eq_true rfl, Nat.le_of_ble_eq_true rfl⟩ (fun H locs L1 f1 P hF hLs hfrW => ?_)
                    refine W.eq (g2 := F0 m 94 ls []) rfl ?_
                    refine W.widen (k := 16) (n := 112) (Nat.le_of_ble_eq_true rfl) (Nat.le_of_ble_eq_true rfl) ?_
                    have h1 : ∀ k, k ≠ 22 ∧ k ≠ 25 → (s_ordered st t s).2.1 k = st.1 k := fun k h => so_I h
                    have hres : s_acquire st (nI t) (nI s) mm lim = s_acq2 (s_ordered st t s).2 t s mm lim := by rw [show s_acquire st (nI t) (nI s) mm lim = s_acq st t s mm lim from by unfold s_acquire; rw [if_neg (by rintro (q | q | q | q); exact absurd q (bnt o2); exact absurd q (bnt o8); exact absurd q (bnt om); exact absurd hin (bnt q)), iN_nI ht (by decide), iN_nI hs (by decide)]]; exact aq_2 hck c61 c77 qo
                    have ho1 := ho.ordered (t := t) (s := s)
                    obtain ⟨st1, hst1⟩ : ∃ z, z = (s_ordered st t s).2 := ⟨_, rfl⟩
                    rw [← hst1] at hF h1 hres ho1
                    have hrel : hRel cs ad st L f0 ad st1 L1 f1 := ⟨hF, fun _ _ _ => rfl, hLs, fun a ha hno => ⟨(hfrW a ha hno).trans (congrFun hf0 a).symm, hOwn_no (fun r hr => (hLive_eq (h1 1 (by decide)) (h1 12 (by decide))).mp hr) hno⟩, h1 12 (by decide)⟩
                    have hb1 : st1.1 1 t = 0 := by rw [h1 1 (by decide)]; exact hb0
                    have hkd1 : hKd st1 s := by unfold hKd; rw [h1 12 (by decide)]; exact hkd
                    have hk4 : hK4 st1 s := by unfold hK4; rw [h1 12 (by decide)]; exact hkd.k4 c61
                    have k114 : ∀ (H : Heap) (locs : List Loc), PW D cs (pA L sz) u L1 f1 H locs → ∀ (ls : Array Slot), lv_has ls 9 [(7, .ref (ad (18 + s))), (6, .ref (ad (12 + t))), (0, .ref (ad 0)), (1, .int (nI t)), (2, .int (nI s)), (3, .int mm), (4, .double lim), (8, .int (bI (decide (st1.1 12 s = 5 ∧ mm = 1))))] → W p l e (rmL 9 18 126) u m ([.ref (ad 0), .int (nI t), .int (nI s), .int mm, .double lim] : List Value).toArray below meth c H locs 16 112 Q (F0 m 114 ls []) := by
                      intro H locs P ls hl
                      refine lv_aload hx hb dX1_acquire_114 (lv_at hl 0 rfl) ?_
                      refine lv_aload hx hb dX1_acquire_116 (lv_at hl 1 rfl) ?_
                      refine lv_iload hx hb dX1_acquire_118 (lv_at hl 7 rfl) ?_
                      refine vc_refuses S P ho1 hF hs hk4 ht q415 dX1_acquire_120 hl.1 (Nat.le_of_ble_eq_true rfl) ⟨Nat.le_of_ble_eq_true rfl, Nat.le_of_ble_eq_true rfl⟩ ⟨Nat.le_of_ble_eq_true rfl, Nat.le_of_ble_eq_true rfl⟩ (fun H locs P => ?_)
                      refine lv_if_ne (tgt := 130) (x := bI (decide (st1.1 12 s = 5 ∧ (decide (st1.1 12 s = 5 ∧ mm = 1)) = true ∧ 0 < st1.1 17 (6 * s + t) ∧ ¬ st1.1 13 s = nI t))) hx hb dX1_acquire_123 (by decide) (fun c123 => ?_) (fun c123 => ?_)
                      · simp only [bI_eq0, Bool.not_eq_false, decide_eq_false_iff_not, decide_eq_true_eq, Classical.not_not] at c123
                        refine lv_iconst (v := 0) hx hb dX1_acquire_130 (by decide) ?_
                        exact pw_callT (nL' := 1) (rest := []) S P hQ (ht_can hst) q375 q36 (pw_entS [.int 0] S q373 q374 q36 q375 ⟨by decide +kernel, by decide +kernel, (by decide +kernel : (parseMethodDescriptor yX1_can.desc).map (fun d => d.parameters.length) = some 1)⟩ dX1_acquire_131) htb hlk hl.1 (Nat.le_of_ble_eq_true rfl) ⟨Nat.le_of_ble_eq_true rfl, Nat.le_of_ble_eq_true rfl⟩ ⟨Nat.le_of_ble_eq_true rfl, Nat.le_of_ble_eq_true rfl⟩ ⟨Nat.le_of_ble_eq_true rfl, Nat.le_of_ble_eq_true rfl⟩ (by rw [← hf0]; exact hEnd (r := (4, 0, st1)) (hres.trans (if_pos ⟨c123.1, c123.2.1.2, c123.2.2⟩)) hrel.post)
                      · simp only [bI_eq0, decide_eq_false_iff_not, decide_eq_true_eq, Classical.not_not] at c123
                        have hnr : ¬ (st1.1 12 s = 5 ∧ mm = 1 ∧ 0 < st1.1 17 (6 * s + t) ∧ ¬ st1.1 13 s = nI t) := fun z => c123 ⟨z.1, ⟨z.1, z.2.1⟩, z.2.2⟩
                        refine lv_iconst (v := 1) hx hb dX1_acquire_126 (by decide) ?_
                        refine lv_goto (tgt := 131) hx hb dX1_acquire_127 (by decide) ?_
                        refine pw_callR (nL' := 1) (rest := []) S P (hs_can True.intro) q375 q36 (pw_entS [.int 1] S q373 q374 q36 q375 ⟨by decide +kernel, by decide +kernel, (by decide +kernel : (parseMethodDescriptor yX1_can.desc).map (fun d => d.parameters.length) = some 1)⟩ dX1_acquire_131) hl.1 (Nat.le_of_ble_eq_true rfl) ⟨Nat.le_of_ble_eq_true rfl, Nat.le_of_ble_eq_true rfl⟩ ⟨Nat.le_of_ble_eq_true rfl, Nat.le_of_ble_eq_true rfl⟩ (fun H locs P => ?_)
                        refine W.eq (g2 := F0 m 134 ls []) rfl ?_
                        refine W.widen (k := 17) (n := 118) (Nat.le_of_ble_eq_true rfl) (Nat.le_of_ble_eq_true rfl) ?_
                        refine lv_aload hx hb dX1_acquire_134 (lv_at hl 0 rfl) ?_
                        refine lv_aload hx hb dX1_acquire_136 (lv_at hl 1 rfl) ?_
                        refine lv_iload hx hb dX1_acquire_138 (lv_at hl 7 rfl) ?_
                        refine vc_mustQueue S P ho1 hF hs hk4 ht q430 dX1_acquire_140 hl.1 (Nat.le_of_ble_eq_true rfl) ⟨Nat.le_of_ble_eq_true rfl, Nat.le_of_ble_eq_true rfl⟩ ⟨Nat.le_of_ble_eq_true rfl, Nat.le_of_ble_eq_true rfl⟩ (fun H locs P => ?_)
                        refine lv_if_ne (tgt := 175) (x := bI (s_mustQueue st1 t s (bI (decide (st1.1 12 s = 5 ∧ mm = 1))))) hx hb dX1_acquire_143 (by decide) (fun c143 => ?_) (fun c143 => ?_)
                        · rw [bI_eq0, Bool.not_eq_false] at c143
                          rw [aq_mq hm] at c143
                          have hnt : ¬ (s_mustQueue st1 t s mm = false ∧ s_canTake st1 t s mm = true) := fun z => absurd (z.1.symm.trans c143) (by decide)
                          refine lv_dload hx hb dX1_acquire_175 (lv_at hl 6 rfl) ?_
                          refine lv_dconst0 hx hb dX1_acquire_177 ?_
                          refine lv_dcmp hx hb dX1_acquire_178 ?_
                          refine lv_if_ne (tgt := 190) (x := Op.cmpValue (FP.dcmp lim FP.dconst0) .l) hx hb dX1_acquire_179 (by decide) (fun c179 => ?_) (fun c179 => ?_)
                          · simp only [cv_l_eq0, Decidable.not_not] at c179
                            refine lv_aload hx hb dX1_acquire_190 (lv_at hl 0 rfl) ?_
                            refine hq_new (q := (RX10, TX10, 8)) (ci := 2) (fs := [.null, .null, .int 0, .double 0, .double 0, .int 0, .int 0, .null]) S P rfl q500 q501 q52 (by decide) (Nat.le_of_ble_eq_true rfl) (Nat.le_of_ble_eq_true rfl) dX1_acquire_192 (fun x H fC hxL hxm hLs hfx hfo P => ?_)
                            have hF0 := hF
                            have hF := hF.ext (f' := fC) hLs (fun a ha => hfo a (fun z => hxL (z ▸ ha)))
                            refine lv_dup hx hb dX1_acquire_195 rfl ?_
                            refine lv_aload hx hb dX1_acquire_196 (lv_at hl 1 rfl) ?_
                            refine lv_aload hx hb dX1_acquire_198 (lv_at hl 0 rfl) ?_
                            refine lv_iload hx hb dX1_acquire_200 (lv_at hl 7 rfl) ?_
                            refine lv_aload_n hx hb dX1_acquire_202 rfl (lv_at hl 2 rfl) ?_
                            refine lv_dload hx hb dX1_acquire_203 (lv_at hl 6 rfl) ?_
                            refine pw_callR (nL' := 3) (rest := [.int (bI (decide (st1.1 12 s = 5 ∧ mm = 1))), .ref (ad (18 + s)), .ref (ad (12 + t)), .ref x, .ref x, .ref (ad (18 + s))]) S P (hr_endOf ho1 hin c179 hF) q505 q36 (pw_entV (q := (RX1, TX1, 6)) [.double lim] S P (hF.m (by decide)) hF.hall rfl q502 q504 qs12 q505 ⟨by decide +kernel, by decide +kernel, (by decide +kernel : (parseMethodDescriptor yX1_endOf.desc).map (fun d => d.parameters.length) = some 1)⟩ dX1_acquire_205) hl.1 (Nat.le_of_ble_eq_true rfl) ⟨Nat.le_of_ble_eq_true rfl, Nat.le_of_ble_eq_true rfl⟩ ⟨Nat.le_of_ble_eq_true rfl, Nat.le_of_ble_eq_true rfl⟩ (fun H locs P => ?_)
                            refine W.eq (g2 := F0 m 208 ls [.double (s_end st1 lim), .int (bI (decide (st1.1 12 s = 5 ∧ mm = 1))), .ref (ad (18 + s)), .ref (ad (12 + t)), .ref x, .ref x, .ref (ad (18 + s))]) rfl ?_
                            refine W.widen (k := 18) (n := 126) (Nat.le_of_ble_eq_true rfl) (Nat.le_of_ble_eq_true rfl) ?_
                            refine lv_aload_n hx hb dX1_acquire_208 rfl (lv_at hl 2 rfl) ?_
                            refine pw_get (q := (RX1, TX1, 6)) (k := 5) S P (hF.m (by decide)) hF.hall rfl (by decide) q101 (Or.inl rfl) rfl dX1_acquire_209 ?_
                            refine lv_iconst (v := 0) hx hb dX1_acquire_212 (by decide) ?_
                            refine lv_iconst (v := 1) hx hb dX1_acquire_213 (by decide) ?_
                            refine pw_callI (nL' := 10) (a := x) S P (hi_waiter (wb := (decide (st1.1 12 s = 5 ∧ mm = 1))) hxm hfx) q508 q52 (pw_entI [.ref (ad (12 + t)), .ref (ad (18 + s)), .int (bI (decide (st1.1 12 s = 5 ∧ mm = 1))), .double (s_end st1 lim), .double (st1.2.1 11 0), .int 0, .int 1] S rfl q506 q507 q508 ⟨by decide +kernel, by decide +kernel, (by decide +kernel : (parseMethodDescriptor yX10_init.desc).map (fun d => d.parameters.length) = some 7)⟩ dX1_acquire_214) hl.1 (Nat.le_of_ble_eq_true rfl) ⟨Nat.le_of_ble_eq_true rfl, Nat.le_of_ble_eq_true rfl⟩ ⟨Nat.le_of_ble_eq_true rfl, Nat.le_of_ble_eq_true rfl⟩ (fun H locs fI P hfx hfo2 => ?_)
                            have hF := hF0.ext (f' := fI) hLs (fun a ha => (hfo2 a (fun z => hxL (z ▸ ha))).trans (hfo a (fun z => hxL (z ▸ ha))))
                            have hfw : fI x = hWait (s_wait st1 t s mm lim) (va_up ad (34 + t) x) t := by rw [aq_wait ho1 hs hb1 hk4]; exact hfx
                            refine vc_add S P ho1 hF hs hkd1 ht hb1 aq_d hxm (hF0.nown hxL) hfw q538 dX1_acquire_217 hl.1 (Nat.le_of_ble_eq_true rfl) ⟨Nat.le_of_ble_eq_true rfl, Nat.le_of_ble_eq_true rfl⟩ ⟨Nat.le_of_ble_eq_true rfl, Nat.le_of_ble_eq_true rfl⟩ (fun H locs fD P hF hfrA => ?_)
                            have hrel : hRel cs ad st L f0 (va_up ad (34 + t) x) (s_wait st1 t s mm lim) (L1 ++ [x]) fD := hrel.step hF (fun i hi _ => adw (by omega)) (fun _ h => List.mem_append_left _ h) (fun a ha hno => by
                              have hax : a ≠ x := fun z => hxL (z ▸ ha)
                              have h1 := hfrA a hax hno
                              exact ⟨h1.1.trans ((hfo2 a hax).trans (hfo a hax)), h1.2⟩) rfl
                            obtain ⟨ad, hrel, hl⟩ : ∃ z : Nat → Nat, hRel cs ad st L f0 z (s_wait st1 t s mm lim) (L1 ++ [x]) fD ∧ lv_has ls 9 [(7, .ref (z (18 + s))), (6, .ref (z (12 + t))), (0, .ref (z 0)), (1, .int (nI t)), (2, .int (nI s)), (3, .int mm), (4, .double lim), (8, .int (bI (decide (st1.1 12 s = 5 ∧ mm = 1))))] := ⟨_, hrel, by rw [adw (r := 18 + s) (by omega), adw (r := 12 + t) (by omega), adw (r := 0) (by omega)]; exact hl⟩
                            have hF := hrel.1
                            refine lv_aload_n hx hb dX1_acquire_220 rfl (lv_at hl 2 rfl) ?_
                            refine lv_aload hx hb dX1_acquire_221 (lv_at hl 1 rfl) ?_
                            refine lv_iconst (v := 0) hx hb dX1_acquire_223 (by decide) ?_
                            refine pw_callS (nL' := 3) (rest := []) S P (hw_ended ht hF) q398 q36 (pw_entV (q := (RX1, TX1, 6)) [.ref (ad (12 + t)), .int 0] S P (hF.m (by decide)) hF.hall rfl q395 q397 qs5 q398 ⟨by decide +kernel, by decide +kernel, (by decide +kernel : (parseMethodDescriptor yX1_ended.desc).map (fun d => d.parameters.length) = some 2)⟩ dX1_acquire_224) hl.1 (Nat.le_of_ble_eq_true rfl) ⟨Nat.le_of_ble_eq_true rfl, Nat.le_of_ble_eq_true rfl⟩ ⟨Nat.le_of_ble_eq_true rfl, Nat.le_of_ble_eq_true rfl⟩ (fun H locs f3 P hF hlv3 hfr3 => ?_)
                            refine W.eq (g2 := F0 m 227 ls [.int 0]) rfl ?_
                            refine W.widen (k := 18) (n := 126) (Nat.le_of_ble_eq_true rfl) (Nat.le_of_ble_eq_true rfl) ?_
                            have hrel2 := hrel.stay hF hlv3 hfr3 rfl
                            exact gw_iret S P hQ hr hlk ⟨Nat.le_of_ble_eq_true rfl, Nat.le_of_ble_eq_true rfl⟩ dX1_acquire_227 (by rw [← hf0]; exact hEnd (r := (0, 0, sI (s_wait st1 t s mm lim) 4 t 0)) (hres.trans (by unfold s_acq2; rw [if_neg hnr, if_neg hnt, if_neg c179])) hrel2.post)
                          · simp only [cv_l_eq0, Decidable.not_not] at c179
                            refine lv_aload_n hx hb dX1_acquire_182 rfl (lv_at hl 2 rfl) ?_
                            refine lv_aload hx hb dX1_acquire_183 (lv_at hl 1 rfl) ?_
                            refine lv_iconst (v := 2) hx hb dX1_acquire_185 (by decide) ?_
                            refine pw_callS (nL' := 3) (rest := []) S P (hw_ended ht hF) q398 q36 (pw_entV (q := (RX1, TX1, 6)) [.ref (ad (12 + t)), .int 2] S P (hF.m (by decide)) hF.hall rfl q395 q397 qs5 q398 ⟨by decide +kernel, by decide +kernel, (by decide +kernel : (parseMethodDescriptor yX1_ended.desc).map (fun d => d.parameters.length) = some 2)⟩ dX1_acquire_186) hl.1 (Nat.le_of_ble_eq_true rfl) ⟨Nat.le_of_ble_eq_true rfl, Nat.le_of_ble_eq_true rfl⟩ ⟨Nat.le_of_ble_eq_true rfl, Nat.le_of_ble_eq_true rfl⟩ (fun H locs f3 P hF hlv3 hfr3 => ?_)
                            refine W.eq (g2 := F0 m 189 ls [.int 2]) rfl ?_
                            refine W.widen (k := 17) (n := 118) (Nat.le_of_ble_eq_true rfl) (Nat.le_of_ble_eq_true rfl) ?_
                            have hrel2 := hrel.stay hF hlv3 hfr3 rfl
                            exact gw_iret S P hQ hr hlk ⟨Nat.le_of_ble_eq_true rfl, Nat.le_of_ble_eq_true rfl⟩ dX1_acquire_189 (by rw [← hf0]; exact hEnd (r := (0, 2, sI st1 4 t 2)) (hres.trans (by unfold s_acq2; rw [if_neg hnr, if_neg hnt, if_pos c179])) hrel2.post)
                        · rw [bI_eq0] at c143
                          rw [aq_mq hm] at c143
                          refine lv_aload hx hb dX1_acquire_146 (lv_at hl 0 rfl) ?_
                          refine lv_aload hx hb dX1_acquire_148 (lv_at hl 1 rfl) ?_
                          refine lv_iload hx hb dX1_acquire_150 (lv_at hl 7 rfl) ?_
                          refine vc_canTake S P ho1 hF hs hk4 ht q460 dX1_acquire_152 hl.1 (Nat.le_of_ble_eq_true rfl) ⟨Nat.le_of_ble_eq_true rfl, Nat.le_of_ble_eq_true rfl⟩ ⟨Nat.le_of_ble_eq_true rfl, Nat.le_of_ble_eq_true rfl⟩ (fun H locs P => ?_)
                          refine lv_if_eq (tgt := 175) (x := bI (s_canTake st1 t s (bI (decide (st1.1 12 s = 5 ∧ mm = 1))))) hx hb dX1_acquire_155 (by decide) (fun c155 => ?_) (fun c155 => ?_)
                          · rw [bI_eq0] at c155
                            rw [aq_ct hk4 hm] at c155
                            have hnt : ¬ (s_mustQueue st1 t s mm = false ∧ s_canTake st1 t s mm = true) := fun z => absurd (z.2.symm.trans c155) (by decide)
                            refine lv_dload hx hb dX1_acquire_175 (lv_at hl 6 rfl) ?_
                            refine lv_dconst0 hx hb dX1_acquire_177 ?_
                            refine lv_dcmp hx hb dX1_acquire_178 ?_
                            refine lv_if_ne (tgt := 190) (x := Op.cmpValue (FP.dcmp lim FP.dconst0) .l) hx hb dX1_acquire_179 (by decide) (fun c179 => ?_) (fun c179 => ?_)
                            · simp only [cv_l_eq0, Decidable.not_not] at c179
                              refine lv_aload hx hb dX1_acquire_190 (lv_at hl 0 rfl) ?_
                              refine hq_new (q := (RX10, TX10, 8)) (ci := 2) (fs := [.null, .null, .int 0, .double 0, .double 0, .int 0, .int 0, .null]) S P rfl q500 q501 q52 (by decide) (Nat.le_of_ble_eq_true rfl) (Nat.le_of_ble_eq_true rfl) dX1_acquire_192 (fun x H fC hxL hxm hLs hfx hfo P => ?_)
                              have hF0 := hF
                              have hF := hF.ext (f' := fC) hLs (fun a ha => hfo a (fun z => hxL (z ▸ ha)))
                              refine lv_dup hx hb dX1_acquire_195 rfl ?_
                              refine lv_aload hx hb dX1_acquire_196 (lv_at hl 1 rfl) ?_
                              refine lv_aload hx hb dX1_acquire_198 (lv_at hl 0 rfl) ?_
                              refine lv_iload hx hb dX1_acquire_200 (lv_at hl 7 rfl) ?_
                              refine lv_aload_n hx hb dX1_acquire_202 rfl (lv_at hl 2 rfl) ?_
                              refine lv_dload hx hb dX1_acquire_203 (lv_at hl 6 rfl) ?_
                              refine pw_callR (nL' := 3) (rest := [.int (bI (decide (st1.1 12 s = 5 ∧ mm = 1))), .ref (ad (18 + s)), .ref (ad (12 + t)), .ref x, .ref x, .ref (ad (18 + s))]) S P (hr_endOf ho1 hin c179 hF) q505 q36 (pw_entV (q := (RX1, TX1, 6)) [.double lim] S P (hF.m (by decide)) hF.hall rfl q502 q504 qs12 q505 ⟨by decide +kernel, by decide +kernel, (by decide +kernel : (parseMethodDescriptor yX1_endOf.desc).map (fun d => d.parameters.length) = some 1)⟩ dX1_acquire_205) hl.1 (Nat.le_of_ble_eq_true rfl) ⟨Nat.le_of_ble_eq_true rfl, Nat.le_of_ble_eq_true rfl⟩ ⟨Nat.le_of_ble_eq_true rfl, Nat.le_of_ble_eq_true rfl⟩ (fun H locs P => ?_)
                              refine W.eq (g2 := F0 m 208 ls [.double (s_end st1 lim), .int (bI (decide (st1.1 12 s = 5 ∧ mm = 1))), .ref (ad (18 + s)), .ref (ad (12 + t)), .ref x, .ref x, .ref (ad (18 + s))]) rfl ?_
                              refine W.widen (k := 18) (n := 126) (Nat.le_of_ble_eq_true rfl) (Nat.le_of_ble_eq_true rfl) ?_
                              refine lv_aload_n hx hb dX1_acquire_208 rfl (lv_at hl 2 rfl) ?_
                              refine pw_get (q := (RX1, TX1, 6)) (k := 5) S P (hF.m (by decide)) hF.hall rfl (by decide) q101 (Or.inl rfl) rfl dX1_acquire_209 ?_
                              refine lv_iconst (v := 0) hx hb dX1_acquire_212 (by decide) ?_
                              refine lv_iconst (v := 1) hx hb dX1_acquire_213 (by decide) ?_
                              refine pw_callI (nL' := 10) (a := x) S P (hi_waiter (wb := (decide (st1.1 12 s = 5 ∧ mm = 1))) hxm hfx) q508 q52 (pw_entI [.ref (ad (12 + t)), .ref (ad (18 + s)), .int (bI (decide (st1.1 12 s = 5 ∧ mm = 1))), .double (s_end st1 lim), .double (st1.2.1 11 0), .int 0, .int 1] S rfl q506 q507 q508 ⟨by decide +kernel, by decide +kernel, (by decide +kernel : (parseMethodDescriptor yX10_init.desc).map (fun d => d.parameters.length) = some 7)⟩ dX1_acquire_214) hl.1 (Nat.le_of_ble_eq_true rfl) ⟨Nat.le_of_ble_eq_true rfl, Nat.le_of_ble_eq_true rfl⟩ ⟨Nat.le_of_ble_eq_true rfl, Nat.le_of_ble_eq_true rfl⟩ (fun H locs fI P hfx hfo2 => ?_)
                              have hF := hF0.ext (f' := fI) hLs (fun a ha => (hfo2 a (fun z => hxL (z ▸ ha))).trans (hfo a (fun z => hxL (z ▸ ha))))
                              have hfw : fI x = hWait (s_wait st1 t s mm lim) (va_up ad (34 + t) x) t := by rw [aq_wait ho1 hs hb1 hk4]; exact hfx
                              refine vc_add S P ho1 hF hs hkd1 ht hb1 aq_d hxm (hF0.nown hxL) hfw q538 dX1_acquire_217 hl.1 (Nat.le_of_ble_eq_true rfl) ⟨Nat.le_of_ble_eq_true rfl, Nat.le_of_ble_eq_true rfl⟩ ⟨Nat.le_of_ble_eq_true rfl, Nat.le_of_ble_eq_true rfl⟩ (fun H locs fD P hF hfrA => ?_)
                              have hrel : hRel cs ad st L f0 (va_up ad (34 + t) x) (s_wait st1 t s mm lim) (L1 ++ [x]) fD := hrel.step hF (fun i hi _ => adw (by omega)) (fun _ h => List.mem_append_left _ h) (fun a ha hno => by
                                have hax : a ≠ x := fun z => hxL (z ▸ ha)
                                have h1 := hfrA a hax hno
                                exact ⟨h1.1.trans ((hfo2 a hax).trans (hfo a hax)), h1.2⟩) rfl
                              obtain ⟨ad, hrel, hl⟩ : ∃ z : Nat → Nat, hRel cs ad st L f0 z (s_wait st1 t s mm lim) (L1 ++ [x]) fD ∧ lv_has ls 9 [(7, .ref (z (18 + s))), (6, .ref (z (12 + t))), (0, .ref (z 0)), (1, .int (nI t)), (2, .int (nI s)), (3, .int mm), (4, .double lim), (8, .int (bI (decide (st1.1 12 s = 5 ∧ mm = 1))))] := ⟨_, hrel, by rw [adw (r := 18 + s) (by omega), adw (r := 12 + t) (by omega), adw (r := 0) (by omega)]; exact hl⟩
                              have hF := hrel.1
                              refine lv_aload_n hx hb dX1_acquire_220 rfl (lv_at hl 2 rfl) ?_
                              refine lv_aload hx hb dX1_acquire_221 (lv_at hl 1 rfl) ?_
                              refine lv_iconst (v := 0) hx hb dX1_acquire_223 (by decide) ?_
                              refine pw_callS (nL' := 3) (rest := []) S P (hw_ended ht hF) q398 q36 (pw_entV (q := (RX1, TX1, 6)) [.ref (ad (12 + t)), .int 0] S P (hF.m (by decide)) hF.hall rfl q395 q397 qs5 q398 ⟨by decide +kernel, by decide +kernel, (by decide +kernel : (parseMethodDescriptor yX1_ended.desc).map (fun d => d.parameters.length) = some 2)⟩ dX1_acquire_224) hl.1 (Nat.le_of_ble_eq_true rfl) ⟨Nat.le_of_ble_eq_true rfl, Nat.le_of_ble_eq_true rfl⟩ ⟨Nat.le_of_ble_eq_true rfl, Nat.le_of_ble_eq_true rfl⟩ (fun H locs f3 P hF hlv3 hfr3 => ?_)
                              refine W.eq (g2 := F0 m 227 ls [.int 0]) rfl ?_
                              refine W.widen (k := 18) (n := 126) (Nat.le_of_ble_eq_true rfl) (Nat.le_of_ble_eq_true rfl) ?_
                              have hrel2 := hrel.stay hF hlv3 hfr3 rfl
                              exact gw_iret S P hQ hr hlk ⟨Nat.le_of_ble_eq_true rfl, Nat.le_of_ble_eq_true rfl⟩ dX1_acquire_227 (by rw [← hf0]; exact hEnd (r := (0, 0, sI (s_wait st1 t s mm lim) 4 t 0)) (hres.trans (by unfold s_acq2; rw [if_neg hnr, if_neg hnt, if_neg c179])) hrel2.post)
                            · simp only [cv_l_eq0, Decidable.not_not] at c179
                              refine lv_aload_n hx hb dX1_acquire_182 rfl (lv_at hl 2 rfl) ?_
                              refine lv_aload hx hb dX1_acquire_183 (lv_at hl 1 rfl) ?_
                              refine lv_iconst (v := 2) hx hb dX1_acquire_185 (by decide) ?_
                              refine pw_callS (nL' := 3) (rest := []) S P (hw_ended ht hF) q398 q36 (pw_entV (q := (RX1, TX1, 6)) [.ref (ad (12 + t)), .int 2] S P (hF.m (by decide)) hF.hall rfl q395 q397 qs5 q398 ⟨by decide +kernel, by decide +kernel, (by decide +kernel : (parseMethodDescriptor yX1_ended.desc).map (fun d => d.parameters.length) = some 2)⟩ dX1_acquire_186) hl.1 (Nat.le_of_ble_eq_true rfl) ⟨Nat.le_of_ble_eq_true rfl, Nat.le_of_ble_eq_true rfl⟩ ⟨Nat.le_of_ble_eq_true rfl, Nat.le_of_ble_eq_true rfl⟩ (fun H locs f3 P hF hlv3 hfr3 => ?_)
                              refine W.eq (g2 := F0 m 189 ls [.int 2]) rfl ?_
                              refine W.widen (k := 17) (n := 118) (Nat.le_of_ble_eq_true rfl) (Nat.le_of_ble_eq_true rfl) ?_
                              have hrel2 := hrel.stay hF hlv3 hfr3 rfl
                              exact gw_iret S P hQ hr hlk ⟨Nat.le_of_ble_eq_true rfl, Nat.le_of_ble_eq_true rfl⟩ dX1_acquire_189 (by rw [← hf0]; exact hEnd (r := (0, 2, sI st1 4 t 2)) (hres.trans (by unfold s_acq2; rw [if_neg hnr, if_neg hnt, if_pos c179])) hrel2.post)
                          · rw [bI_eq0, Bool.not_eq_false] at c155
                            rw [aq_ct hk4 hm] at c155
                            refine lv_aload hx hb dX1_acquire_158 (lv_at hl 0 rfl) ?_
                            refine lv_aload hx hb dX1_acquire_160 (lv_at hl 1 rfl) ?_
                            refine lv_iload hx hb dX1_acquire_162 (lv_at hl 7 rfl) ?_
                            refine vc_take S P ho1 hF hs hk4 ht q482 dX1_acquire_164 hl.1 (Nat.le_of_ble_eq_true rfl) ⟨Nat.le_of_ble_eq_true rfl, Nat.le_of_ble_eq_true rfl⟩ ⟨Nat.le_of_ble_eq_true rfl, Nat.le_of_ble_eq_true rfl⟩ (fun H locs f2 P hF hlv2 hfr2 => ?_)
                            rw [aq_tk hm] at hF hlv2
                            refine lv_aload_n hx hb dX1_acquire_167 rfl (lv_at hl 2 rfl) ?_
                            refine lv_aload hx hb dX1_acquire_168 (lv_at hl 1 rfl) ?_
                            refine lv_iconst (v := 1) hx hb dX1_acquire_170 (by decide) ?_
                            have hrelT := hrel.stay hF hlv2 hfr2 (s_take_Ik (by decide))
                            refine pw_callS (nL' := 3) (rest := []) S P (hw_ended ht hF) q398 q36 (pw_entV (q := (RX1, TX1, 6)) [.ref (ad (12 + t)), .int 1] S P (hF.m (by decide)) hF.hall rfl q395 q397 qs5 q398 ⟨by decide +kernel, by decide +kernel, (by decide +kernel : (parseMethodDescriptor yX1_ended.desc).map (fun d => d.parameters.length) = some 2)⟩ dX1_acquire_171) hl.1 (Nat.le_of_ble_eq_true rfl) ⟨Nat.le_of_ble_eq_true rfl, Nat.le_of_ble_eq_true rfl⟩ ⟨Nat.le_of_ble_eq_true rfl, Nat.le_of_ble_eq_true rfl⟩ (fun H locs f3 P hF hlv3 hfr3 => ?_)
                            refine W.eq (g2 := F0 m 174 ls [.int 1]) rfl ?_
                            refine W.widen (k := 17) (n := 118) (Nat.le_of_ble_eq_true rfl) (Nat.le_of_ble_eq_true rfl) ?_
                            have hrel2 := hrelT.stay hF hlv3 hfr3 rfl
                            exact gw_iret S P hQ hr hlk ⟨Nat.le_of_ble_eq_true rfl, Nat.le_of_ble_eq_true rfl⟩ dX1_acquire_174 (by rw [← hf0]; exact hEnd (r := (0, 1, sI (s_take st1 t s mm) 4 t 1)) (hres.trans (by unfold s_acq2; rw [if_neg hnr, if_pos ⟨c143, c155⟩])) hrel2.post)
                    refine lv_iload_n hx hb dX1_acquire_94 rfl (lv_at hl 5 rfl) ?_
                    refine lv_iconst (v := 1) hx hb dX1_acquire_95 (by decide) ?_
                    refine lv_icmp_ne (tgt := 111) (x := mm) (y := 1) hx hb dX1_acquire_96 (by decide) (fun c96 => ?_) (fun c96 => ?_)
                    · have _h := True.intro
                      refine lv_iconst (v := 0) hx hb dX1_acquire_111 (by decide) ?_
                      refine lw_eqi (y := bI (decide (st1.1 12 s = 5 ∧ mm = 1))) (by simp [bI, c96]) ?_
                      refine lv_istore (lv' := [(8, .int (bI (decide (st1.1 12 s = 5 ∧ mm = 1)))), (7, .ref (ad (18 + s))), (6, .ref (ad (12 + t))), (0, .ref (ad 0)), (1, .int (nI t)), (2, .int (nI s)), (3, .int mm), (4, .double lim)]) hx hb dX1_acquire_112 hl (by decide) rfl (fun ls hl => ?_)
                      exact k114 _ _ P ls (lv_sub hl [1, 2, 3, 4, 5, 6, 7, 0] rfl)
                    · exact absurd (c12.symm.trans c96) (by decide)
                  · have _h := True.intro
                    rw [Bool.not_eq_true] at qo
                    have h1 : ∀ k, k ≠ 22 ∧ k ≠ 25 → (s_ordered st t s).2.1 k = st.1 k := fun k h => so_I h
                    exact pw_callX (nL' := 5) (rest := []) S P hQ (hw_watch hst ho ht hs hF) q402 q36 (pw_entV (q := (RX1, TX1, 6)) [.ref (ad (12 + t)), .int (nI s)] S P (hF.m (by decide)) hF.hall rfl q399 q401 qs6 q402 ⟨by decide +kernel, by decide +kernel, (by decide +kernel : (parseMethodDescriptor yX1_watch.desc).map (fun d => d.parameters.length) = some 2)⟩ dX1_acquire_91) htb hlk hl.1 (Nat.le_of_ble_eq_true rfl) ⟨Nat.le_of_ble_eq_true rfl, Nat.le_of_ble_eq_true rfl⟩ ⟨Nat.le_of_ble_eq_true rfl, Nat.le_of_ble_eq_true rfl⟩ ⟨Nat.le_of_ble_eq_true rfl, Nat.le_of_ble_eq_true rfl⟩ (fun v L' f' h => by have h1 := h.1; rw [qo] at h1; cases h1) (fun C L' f' h => by
                      obtain ⟨h2, h3, h4, h5⟩ := h
                      rw [qo] at h2
                      cases h2
                      exact hEnd (r := (4, 0, (s_ordered st t s).2)) (by rw [show s_acquire st (nI t) (nI s) mm lim = s_acq st t s mm lim from by unfold s_acquire; rw [if_neg (by rintro (q | q | q | q); exact absurd q (bnt o2); exact absurd q (bnt o8); exact absurd q (bnt om); exact absurd hin (bnt q)), iN_nI ht (by decide), iN_nI hs (by decide)]]; exact aq_od hck c61 c77 qo) ⟨rfl, ad, h3, fun _ _ _ => rfl, h4, fun a ha hno => ⟨h5 a ha hno, hOwn_no (fun r hr => (hLive_eq (h1 1 (by decide)) (h1 12 (by decide))).mp hr) hno⟩⟩)
                · have _h := True.intro
                  refine lv_aload_n hx hb dX1_acquire_80 rfl (lv_at hl 2 rfl) ?_
                  refine lv_aload hx hb dX1_acquire_81 (lv_at hl 1 rfl) ?_
                  refine pw_callS (nL' := 2) (rest := []) S P (hw_interrupted ht hF) q394 q36 (pw_entV (q := (RX1, TX1, 6)) [.ref (ad (12 + t))] S P (hF.m (by decide)) hF.hall rfl q391 q393 qs4 q394 ⟨by decide +kernel, by decide +kernel, (by decide +kernel : (parseMethodDescriptor yX1_interrupted.desc).map (fun d => d.parameters.length) = some 1)⟩ dX1_acquire_83) hl.1 (Nat.le_of_ble_eq_true rfl) ⟨Nat.le_of_ble_eq_true rfl, Nat.le_of_ble_eq_true rfl⟩ ⟨Nat.le_of_ble_eq_true rfl, Nat.le_of_ble_eq_true rfl⟩ (fun H locs f' P hF hlv hfr => ?_)
                  refine W.eq (g2 := F0 m 86 ls [.int 3]) rfl ?_
                  refine W.widen (k := 7) (n := 42) (Nat.le_of_ble_eq_true rfl) (Nat.le_of_ble_eq_true rfl) ?_
                  exact gw_iret S P hQ hr hlk ⟨Nat.le_of_ble_eq_true rfl, Nat.le_of_ble_eq_true rfl⟩ dX1_acquire_86 (hEnd (r := (0, 3, sI (sI st 2 t 0) 4 t 3)) (by rw [show s_acquire st (nI t) (nI s) mm lim = s_acq st t s mm lim from by unfold s_acquire; rw [if_neg (by rintro (q | q | q | q); exact absurd q (bnt o2); exact absurd q (bnt o8); exact absurd q (bnt om); exact absurd hin (bnt q)), iN_nI ht (by decide), iN_nI hs (by decide)]]; exact aq_fl hck c61 c77) (hPost_same (o := .inl (some (.int 3))) hF hlv hfr).to)
        · have _h := True.intro
          rw [Bool.not_eq_true] at hin
          exact pw_callT (nL' := 2) (rest := []) S P hQ (ht_limit hst ho hin hF) q363 q36 (pw_entS [.double lim] S q361 q362 q36 q363 ⟨by decide +kernel, by decide +kernel, (by decide +kernel : (parseMethodDescriptor yX1_limit.desc).map (fun d => d.parameters.length) = some 1)⟩ dX1_acquire_30) htb hlk hl.1 (Nat.le_of_ble_eq_true rfl) ⟨Nat.le_of_ble_eq_true rfl, Nat.le_of_ble_eq_true rfl⟩ ⟨Nat.le_of_ble_eq_true rfl, Nat.le_of_ble_eq_true rfl⟩ ⟨Nat.le_of_ble_eq_true rfl, Nat.le_of_ble_eq_true rfl⟩ (hEnd (r := (1, 0, st)) (if_pos (Or.inr (Or.inr (Or.inr hin)))) (hPost_th hF))
      · have _h := True.intro
        refine lv_iload_n hx hb dX1_acquire_15 rfl (lv_at hl 4 rfl) ?_
        refine lv_iconst (v := 1) hx hb dX1_acquire_16 (by decide) ?_
        refine lv_icmp_ne (tgt := 24) (x := mm) (y := 1) hx hb dX1_acquire_17 (by decide) (fun c17 => ?_) (fun c17 => ?_)
        · have _h := True.intro
          refine lv_iconst (v := 0) hx hb dX1_acquire_24 (by decide) ?_
          exact pw_callT (nL' := 1) (rest := []) S P hQ (ht_range hst) q134 q36 (pw_entS [.int 0] S q132 q133 q36 q134 ⟨by decide +kernel, by decide +kernel, (by decide +kernel : (parseMethodDescriptor yX1_range.desc).map (fun d => d.parameters.length) = some 1)⟩ dX1_acquire_25) htb hlk hl.1 (Nat.le_of_ble_eq_true rfl) ⟨Nat.le_of_ble_eq_true rfl, Nat.le_of_ble_eq_true rfl⟩ ⟨Nat.le_of_ble_eq_true rfl, Nat.le_of_ble_eq_true rfl⟩ ⟨Nat.le_of_ble_eq_true rfl, Nat.le_of_ble_eq_true rfl⟩ (hEnd (r := (1, 0, st)) (if_pos (Or.inr (Or.inr (Or.inl (Bool.not_eq_false _ ▸ fun z => (isOut_2 z).elim c12 c17))))) (hPost_th hF))
        · have hm : mm = 0 ∨ mm = 1 := Or.inr c17
          have om : isOut mm 2 = false := by rw [c17]; decide
          refine lv_iconst (v := 1) hx hb dX1_acquire_20 (by decide) ?_
          refine lv_goto (tgt := 25) hx hb dX1_acquire_21 (by decide) ?_
          refine pw_callR (nL' := 1) (rest := []) S P (hs_range True.intro) q134 q36 (pw_entS [.int 1] S q132 q133 q36 q134 ⟨by decide +kernel, by decide +kernel, (by decide +kernel : (parseMethodDescriptor yX1_range.desc).map (fun d => d.parameters.length) = some 1)⟩ dX1_acquire_25) hl.1 (Nat.le_of_ble_eq_true rfl) ⟨Nat.le_of_ble_eq_true rfl, Nat.le_of_ble_eq_true rfl⟩ ⟨Nat.le_of_ble_eq_true rfl, Nat.le_of_ble_eq_true rfl⟩ (fun H locs P => ?_)
          refine W.eq (g2 := F0 m 28 ls []) rfl ?_
          refine W.widen (k := 3) (n := 18) (Nat.le_of_ble_eq_true rfl) (Nat.le_of_ble_eq_true rfl) ?_
          refine lv_dload hx hb dX1_acquire_28 (lv_at hl 5 rfl) ?_
          by_cases hin : inR cM1 cK lim = true
          · have _h := True.intro
            refine pw_callR (nL' := 2) (rest := []) S P (hr_limit (ad := ad) ho hin hF) q363 q36 (pw_entS [.double lim] S q361 q362 q36 q363 ⟨by decide +kernel, by decide +kernel, (by decide +kernel : (parseMethodDescriptor yX1_limit.desc).map (fun d => d.parameters.length) = some 1)⟩ dX1_acquire_30) hl.1 (Nat.le_of_ble_eq_true rfl) ⟨Nat.le_of_ble_eq_true rfl, Nat.le_of_ble_eq_true rfl⟩ ⟨Nat.le_of_ble_eq_true rfl, Nat.le_of_ble_eq_true rfl⟩ (fun H locs P => ?_)
            refine W.eq (g2 := F0 m 33 ls []) rfl ?_
            refine W.widen (k := 4) (n := 24) (Nat.le_of_ble_eq_true rfl) (Nat.le_of_ble_eq_true rfl) ?_
            refine lv_aload_n hx hb dX1_acquire_33 rfl (lv_at hl 1 rfl) ?_
            refine lv_iload_n hx hb dX1_acquire_34 rfl (lv_at hl 3 rfl) ?_
            by_cases qk : st.1 12 s = -1
            · have _h := True.intro
              exact pw_callT (nL' := 2) (rest := []) S P hQ (ht_there hst ho hs qk hF) q368 q36 (pw_entV (q := (RX1, TX1, 6)) [.int (nI s)] S P (hF.m (by decide)) hF.hall rfl q365 q367 qs3 q368 ⟨by decide +kernel, by decide +kernel, (by decide +kernel : (parseMethodDescriptor yX1_there.desc).map (fun d => d.parameters.length) = some 1)⟩ dX1_acquire_35) htb hlk hl.1 (Nat.le_of_ble_eq_true rfl) ⟨Nat.le_of_ble_eq_true rfl, Nat.le_of_ble_eq_true rfl⟩ ⟨Nat.le_of_ble_eq_true rfl, Nat.le_of_ble_eq_true rfl⟩ ⟨Nat.le_of_ble_eq_true rfl, Nat.le_of_ble_eq_true rfl⟩ (hEnd (r := (2, 0, st)) (by rw [show s_acquire st (nI t) (nI s) mm lim = s_acq st t s mm lim from by unfold s_acquire; rw [if_neg (by rintro (q | q | q | q); exact absurd q (bnt o2); exact absurd q (bnt o8); exact absurd q (bnt om); exact absurd hin (bnt q)), iN_nI ht (by decide), iN_nI hs (by decide)]]; unfold s_acq; rw [ck2 ho hs qk]; rfl) (hPost_th hF))
            · have _h := True.intro
              have hkd : hKd st s := ho.kd hs qk
              refine pw_callR (nL' := 2) (rest := []) S P (hr_there ho hs qk hF) q368 q36 (pw_entV (q := (RX1, TX1, 6)) [.int (nI s)] S P (hF.m (by decide)) hF.hall rfl q365 q367 qs3 q368 ⟨by decide +kernel, by decide +kernel, (by decide +kernel : (parseMethodDescriptor yX1_there.desc).map (fun d => d.parameters.length) = some 1)⟩ dX1_acquire_35) hl.1 (Nat.le_of_ble_eq_true rfl) ⟨Nat.le_of_ble_eq_true rfl, Nat.le_of_ble_eq_true rfl⟩ ⟨Nat.le_of_ble_eq_true rfl, Nat.le_of_ble_eq_true rfl⟩ (fun H locs P => ?_)
              refine W.eq (g2 := F0 m 38 ls [.ref (ad (18 + s))]) rfl ?_
              refine W.widen (k := 5) (n := 30) (Nat.le_of_ble_eq_true rfl) (Nat.le_of_ble_eq_true rfl) ?_
              refine lv_astore (lv' := [(7, .ref (ad (18 + s))), (6, .ref (ad (12 + t))), (0, .ref (ad 0)), (1, .int (nI t)), (2, .int (nI s)), (3, .int mm), (4, .double lim)]) hx hb dX1_acquire_38 hl (by decide) rfl (fun ls hl => ?_)
              refine lv_aload hx hb dX1_acquire_40 (lv_at hl 1 rfl) ?_
              refine pw_callR (nL' := 1) (rest := []) S P (hg_blocked (hF.m (by omega)) (hF.tk (by omega))) q372 q37 (pw_entV (q := (RX2, TX2, 5)) [] S P (hF.m (by omega)) (hF.tk (by omega)) rfl q369 q370 q371 q372 ⟨by decide +kernel, by decide +kernel, (by decide +kernel : (parseMethodDescriptor yX2_blocked.desc).map (fun d => d.parameters.length) = some 0)⟩ dX1_acquire_42) hl.1 (Nat.le_of_ble_eq_true rfl) ⟨Nat.le_of_ble_eq_true rfl, Nat.le_of_ble_eq_true rfl⟩ ⟨Nat.le_of_ble_eq_true rfl, Nat.le_of_ble_eq_true rfl⟩ (fun H locs P => ?_)
              refine W.eq (g2 := F0 m 45 ls [.int (bI (hPl st ad t).isSome)]) rfl ?_
              refine W.widen (k := 5) (n := 30) (Nat.le_of_ble_eq_true rfl) (Nat.le_of_ble_eq_true rfl) ?_
              refine lv_if_ne (tgt := 52) (x := bI (hPl st ad t).isSome) hx hb dX1_acquire_45 (by decide) (fun c45 => ?_) (fun c45 => ?_)
              · rw [bI_eq0, Bool.not_eq_false] at c45
                have hbt : ¬ st.1 1 t = 0 := fun z => by rw [hPl_none.mpr z] at c45; cases c45
                refine lv_iconst (v := 0) hx hb dX1_acquire_52 (by decide) ?_
                exact pw_callT (nL' := 1) (rest := []) S P hQ (ht_state hst) q222 q36 (pw_entS [.int 0] S q220 q221 q36 q222 ⟨by decide +kernel, by decide +kernel, (by decide +kernel : (parseMethodDescriptor yX1_state.desc).map (fun d => d.parameters.length) = some 1)⟩ dX1_acquire_53) htb hlk hl.1 (Nat.le_of_ble_eq_true rfl) ⟨Nat.le_of_ble_eq_true rfl, Nat.le_of_ble_eq_true rfl⟩ ⟨Nat.le_of_ble_eq_true rfl, Nat.le_of_ble_eq_true rfl⟩ ⟨Nat.le_of_ble_eq_true rfl, Nat.le_of_ble_eq_true rfl⟩ (hEnd (r := (3, 0, st)) (by rw [show s_acquire st (nI t) (nI s) mm lim = s_acq st t s mm lim from by unfold s_acquire; rw [if_neg (by rintro (q | q | q | q); exact absurd q (bnt o2); exact absurd q (bnt o8); exact absurd q (bnt om); exact absurd hin (bnt q)), iN_nI ht (by decide), iN_nI hs (by decide)]]; unfold s_acq; rw [ck3 ho hs qk hbt]; rfl) (hPost_th hF))
              · rw [bI_eq0] at c45
                have hb0 : st.1 1 t = 0 := hPl_none.mp (by cases hq : hPl st ad t with | none => rfl | some x => rw [hq] at c45; cases c45)
                have hck := ck0 ho hs qk hb0
                refine lv_iconst (v := 1) hx hb dX1_acquire_48 (by decide) ?_
                refine lv_goto (tgt := 53) hx hb dX1_acquire_49 (by decide) ?_
                refine pw_callR (nL' := 1) (rest := []) S P (hs_state True.intro) q222 q36 (pw_entS [.int 1] S q220 q221 q36 q222 ⟨by decide +kernel, by decide +kernel, (by decide +kernel : (parseMethodDescriptor yX1_state.desc).map (fun d => d.parameters.length) = some 1)⟩ dX1_acquire_53) hl.1 (Nat.le_of_ble_eq_true rfl) ⟨Nat.le_of_ble_eq_true rfl, Nat.le_of_ble_eq_true rfl⟩ ⟨Nat.le_of_ble_eq_true rfl, Nat.le_of_ble_eq_true rfl⟩ (fun H locs P => ?_)
                refine W.eq (g2 := F0 m 56 ls []) rfl ?_
                refine W.widen (k := 6) (n := 36) (Nat.le_of_ble_eq_true rfl) (Nat.le_of_ble_eq_true rfl) ?_
                refine lv_aload hx hb dX1_acquire_56 (lv_at hl 0 rfl) ?_
                refine hs_isCond (s := s) S P hF hs hkd q327 dX1_acquire_58 ?_
                refine lv_if_ne (tgt := 68) (x := bI (decide (st.1 12 s = 6))) hx hb dX1_acquire_61 (by decide) (fun c61 => ?_) (fun c61 => ?_)
                · simp only [bI_eq0, Bool.not_eq_false, decide_eq_false_iff_not, decide_eq_true_eq, Classical.not_not] at c61
                  refine lv_iconst (v := 0) hx hb dX1_acquire_68 (by decide) ?_
                  exact pw_callT (nL' := 1) (rest := []) S P hQ (ht_can hst) q375 q36 (pw_entS [.int 0] S q373 q374 q36 q375 ⟨by decide +kernel, by decide +kernel, (by decide +kernel : (parseMethodDescriptor yX1_can.desc).map (fun d => d.parameters.length) = some 1)⟩ dX1_acquire_69) htb hlk hl.1 (Nat.le_of_ble_eq_true rfl) ⟨Nat.le_of_ble_eq_true rfl, Nat.le_of_ble_eq_true rfl⟩ ⟨Nat.le_of_ble_eq_true rfl, Nat.le_of_ble_eq_true rfl⟩ ⟨Nat.le_of_ble_eq_true rfl, Nat.le_of_ble_eq_true rfl⟩ (hEnd (r := (4, 0, st)) (by rw [show s_acquire st (nI t) (nI s) mm lim = s_acq st t s mm lim from by unfold s_acquire; rw [if_neg (by rintro (q | q | q | q); exact absurd q (bnt o2); exact absurd q (bnt o8); exact absurd q (bnt om); exact absurd hin (bnt q)), iN_nI ht (by decide), iN_nI hs (by decide)]]; exact aq6 hck c61) (hPost_th hF))
                · simp only [bI_eq0, decide_eq_false_iff_not, decide_eq_true_eq, Classical.not_not] at c61
                  refine lv_iconst (v := 1) hx hb dX1_acquire_64 (by decide) ?_
                  refine lv_goto (tgt := 69) hx hb dX1_acquire_65 (by decide) ?_
                  refine pw_callR (nL' := 1) (rest := []) S P (hs_can True.intro) q375 q36 (pw_entS [.int 1] S q373 q374 q36 q375 ⟨by decide +kernel, by decide +kernel, (by decide +kernel : (parseMethodDescriptor yX1_can.desc).map (fun d => d.parameters.length) = some 1)⟩ dX1_acquire_69) hl.1 (Nat.le_of_ble_eq_true rfl) ⟨Nat.le_of_ble_eq_true rfl, Nat.le_of_ble_eq_true rfl⟩ ⟨Nat.le_of_ble_eq_true rfl, Nat.le_of_ble_eq_true rfl⟩ (fun H locs P => ?_)
                  refine W.eq (g2 := F0 m 72 ls []) rfl ?_
                  refine W.widen (k := 7) (n := 42) (Nat.le_of_ble_eq_true rfl) (Nat.le_of_ble_eq_true rfl) ?_
                  refine lv_aload hx hb dX1_acquire_72 (lv_at hl 1 rfl) ?_
                  refine pw_get (q := (RX2, TX2, 5)) (k := 3) S P (hF.m (by omega)) (hF.tk (by omega)) rfl (by decide) q80 (Or.inl rfl) rfl dX1_acquire_74 ?_
                  refine lv_if_eq (tgt := 87) (x := st.1 2 t) hx hb dX1_acquire_77 (by decide) (fun c77 => ?_) (fun c77 => ?_)
                  · have _h := True.intro
                    refine lv_aload_n hx hb dX1_acquire_87 rfl (lv_at hl 2 rfl) ?_
                    refine lv_aload hx hb dX1_acquire_88 (lv_at hl 1 rfl) ?_
                    refine lv_iload_n hx hb dX1_acquire_90 rfl (lv_at hl 4 rfl) ?_
                    by_cases qo : (s_ordered st t s).1 = true
                    · have _h := True.intro
                      have hMw := hw_watch (l := l) (D := D) hst ho ht hs hF
                      rw [qo] at hMw
                      refine pw_callL (nL' := 5) (v := none) (rest := []) S P hMw q402 q36 (pw_entV (q := (RX1, TX1, 6)) [.ref (ad (12 + t)), .int (nI s)] S P (hF.m (by decide)) hF.hall rfl q399 q401 qs6 q402 ⟨by decide +kernel, by decide +kernel, (by decide +kernel : (parseMethodDescriptor yX1_watch.desc).map (fun d => d.parameters.length) = some 2)⟩ dX1_acquire_91) hl.1 (Nat.le_of_ble_eq_true rfl) ⟨Nat.le_of_ble_eq_true rfl, Nat.le_of_ble_eq_true rfl⟩ ⟨Nat.le_of_ble_eq_true rfl, Nat.le_of_ble_eq_true rfl⟩ (fun H locs L1 f1 P hF hLs hfrW => ?_)
                      refine W.eq (g2 := F0 m 94 ls []) rfl ?_
                      refine W.widen (k := 16) (n := 112) (Nat.le_of_ble_eq_true rfl) (Nat.le_of_ble_eq_true rfl) ?_
                      have h1 : ∀ k, k ≠ 22 ∧ k ≠ 25 → (s_ordered st t s).2.1 k = st.1 k := fun k h => so_I h
                      have hres : s_acquire st (nI t) (nI s) mm lim = s_acq2 (s_ordered st t s).2 t s mm lim := by rw [show s_acquire st (nI t) (nI s) mm lim = s_acq st t s mm lim from by unfold s_acquire; rw [if_neg (by rintro (q | q | q | q); exact absurd q (bnt o2); exact absurd q (bnt o8); exact absurd q (bnt om); exact absurd hin (bnt q)), iN_nI ht (by decide), iN_nI hs (by decide)]]; exact aq_2 hck c61 c77 qo
                      have ho1 := ho.ordered (t := t) (s := s)
                      obtain ⟨st1, hst1⟩ : ∃ z, z = (s_ordered st t s).2 := ⟨_, rfl⟩
                      rw [← hst1] at hF h1 hres ho1
                      have hrel : hRel cs ad st L f0 ad st1 L1 f1 := ⟨hF, fun _ _ _ => rfl, hLs, fun a ha hno => ⟨(hfrW a ha hno).trans (congrFun hf0 a).symm, hOwn_no (fun r hr => (hLive_eq (h1 1 (by decide)) (h1 12 (by decide))).mp hr) hno⟩, h1 12 (by decide)⟩
                      have hb1 : st1.1 1 t = 0 := by rw [h1 1 (by decide)]; exact hb0
                      have hkd1 : hKd st1 s := by unfold hKd; rw [h1 12 (by decide)]; exact hkd
                      have hk4 : hK4 st1 s := by unfold hK4; rw [h1 12 (by decide)]; exact hkd.k4 c61
                      have k114 : ∀ (H : Heap) (locs : List Loc), PW D cs (pA L sz) u L1 f1 H locs → ∀ (ls : Array Slot), lv_has ls 9 [(7, .ref (ad (18 + s))), (6, .ref (ad (12 + t))), (0, .ref (ad 0)), (1, .int (nI t)), (2, .int (nI s)), (3, .int mm), (4, .double lim), (8, .int (bI (decide (st1.1 12 s = 5 ∧ mm = 1))))] → W p l e (rmL 9 18 126) u m ([.ref (ad 0), .int (nI t), .int (nI s), .int mm, .double lim] : List Value).toArray below meth c H locs 16 112 Q (F0 m 114 ls []) := by
                        intro H locs P ls hl
                        refine lv_aload hx hb dX1_acquire_114 (lv_at hl 0 rfl) ?_
                        refine lv_aload hx hb dX1_acquire_116 (lv_at hl 1 rfl) ?_
                        refine lv_iload hx hb dX1_acquire_118 (lv_at hl 7 rfl) ?_
                        refine vc_refuses S P ho1 hF hs hk4 ht q415 dX1_acquire_120 hl.1 (Nat.le_of_ble_eq_true rfl) ⟨Nat.le_of_ble_eq_true rfl, Nat.le_of_ble_eq_true rfl⟩ ⟨Nat.le_of_ble_eq_true rfl, Nat.le_of_ble_eq_true rfl⟩ (fun H locs P => ?_)
                        refine lv_if_ne (tgt := 130) (x := bI (decide (st1.1 12 s = 5 ∧ (decide (st1.1 12 s = 5 ∧ mm = 1)) = true ∧ 0 < st1.1 17 (6 * s + t) ∧ ¬ st1.1 13 s = nI t))) hx hb dX1_acquire_123 (by decide) (fun c123 => ?_) (fun c123 => ?_)
                        · simp only [bI_eq0, Bool.not_eq_false, decide_eq_false_iff_not, decide_eq_true_eq, Classical.not_not] at c123
                          refine lv_iconst (v := 0) hx hb dX1_acquire_130 (by decide) ?_
                          exact pw_callT (nL' := 1) (rest := []) S P hQ (ht_can hst) q375 q36 (pw_entS [.int 0] S q373 q374 q36 q375 ⟨by decide +kernel, by decide +kernel, (by decide +kernel : (parseMethodDescriptor yX1_can.desc).map (fun d => d.parameters.length) = some 1)⟩ dX1_acquire_131) htb hlk hl.1 (Nat.le_of_ble_eq_true rfl) ⟨Nat.le_of_ble_eq_true rfl, Nat.le_of_ble_eq_true rfl⟩ ⟨Nat.le_of_ble_eq_true rfl, Nat.le_of_ble_eq_true rfl⟩ ⟨Nat.le_of_ble_eq_true rfl, Nat.le_of_ble_eq_true rfl⟩ (by rw [← hf0]; exact hEnd (r := (4, 0, st1)) (hres.trans (if_pos ⟨c123.1, c123.2.1.2, c123.2.2⟩)) hrel.post)
                        · simp only [bI_eq0, decide_eq_false_iff_not, decide_eq_true_eq, Classical.not_not] at c123
                          have hnr : ¬ (st1.1 12 s = 5 ∧ mm = 1 ∧ 0 < st1.1 17 (6 * s + t) ∧ ¬ st1.1 13 s = nI t) := fun z => c123 ⟨z.1, ⟨z.1, z.2.1⟩, z.2.2⟩
                          refine lv_iconst (v := 1) hx hb dX1_acquire_126 (by decide) ?_
                          refine lv_goto (tgt := 131) hx hb dX1_acquire_127 (by decide) ?_
                          refine pw_callR (nL' := 1) (rest := []) S P (hs_can True.intro) q375 q36 (pw_entS [.int 1] S q373 q374 q36 q375 ⟨by decide +kernel, by decide +kernel, (by decide +kernel : (parseMethodDescriptor yX1_can.desc).map (fun d => d.parameters.length) = some 1)⟩ dX1_acquire_131) hl.1 (Nat.le_of_ble_eq_true rfl) ⟨Nat.le_of_ble_eq_true rfl, Nat.le_of_ble_eq_true rfl⟩ ⟨Nat.le_of_ble_eq_true rfl, Nat.le_of_ble_eq_true rfl⟩ (fun H locs P => ?_)
                          refine W.eq (g2 := F0 m 134 ls []) rfl ?_
                          refine W.widen (k := 17) (n := 118) (Nat.le_of_ble_eq_true rfl) (Nat.le_of_ble_eq_true rfl) ?_
                          refine lv_aload hx hb dX1_acquire_134 (lv_at hl 0 rfl) ?_
                          refine lv_aload hx hb dX1_acquire_136 (lv_at hl 1 rfl) ?_
                          refine lv_iload hx hb dX1_acquire_138 (lv_at hl 7 rfl) ?_
                          refine vc_mustQueue S P ho1 hF hs hk4 ht q430 dX1_acquire_140 hl.1 (Nat.le_of_ble_eq_true rfl) ⟨Nat.le_of_ble_eq_true rfl, Nat.le_of_ble_eq_true rfl⟩ ⟨Nat.le_of_ble_eq_true rfl, Nat.le_of_ble_eq_true rfl⟩ (fun H locs P => ?_)
                          refine lv_if_ne (tgt := 175) (x := bI (s_mustQueue st1 t s (bI (decide (st1.1 12 s = 5 ∧ mm = 1))))) hx hb dX1_acquire_143 (by decide) (fun c143 => ?_) (fun c143 => ?_)
                          · rw [bI_eq0, Bool.not_eq_false] at c143
                            rw [aq_mq hm] at c143
                            have hnt : ¬ (s_mustQueue st1 t s mm = false ∧ s_canTake st1 t s mm = true) := fun z => absurd (z.1.symm.trans c143) (by decide)
                            refine lv_dload hx hb dX1_acquire_175 (lv_at hl 6 rfl) ?_
                            refine lv_dconst0 hx hb dX1_acquire_177 ?_
                            refine lv_dcmp hx hb dX1_acquire_178 ?_
                            refine lv_if_ne (tgt := 190) (x := Op.cmpValue (FP.dcmp lim FP.dconst0) .l) hx hb dX1_acquire_179 (by decide) (fun c179 => ?_) (fun c179 => ?_)
                            · simp only [cv_l_eq0, Decidable.not_not] at c179
                              refine lv_aload hx hb dX1_acquire_190 (lv_at hl 0 rfl) ?_
                              refine hq_new (q := (RX10, TX10, 8)) (ci := 2) (fs := [.null, .null, .int 0, .double 0, .double 0, .int 0, .int 0, .null]) S P rfl q500 q501 q52 (by decide) (Nat.le_of_ble_eq_true rfl) (Nat.le_of_ble_eq_true rfl) dX1_acquire_192 (fun x H fC hxL hxm hLs hfx hfo P => ?_)
                              have hF0 := hF
                              have hF := hF.ext (f' := fC) hLs (fun a ha => hfo a (fun z => hxL (z ▸ ha)))
                              refine lv_dup hx hb dX1_acquire_195 rfl ?_
                              refine lv_aload hx hb dX1_acquire_196 (lv_at hl 1 rfl) ?_
                              refine lv_aload hx hb dX1_acquire_198 (lv_at hl 0 rfl) ?_
                              refine lv_iload hx hb dX1_acquire_200 (lv_at hl 7 rfl) ?_
                              refine lv_aload_n hx hb dX1_acquire_202 rfl (lv_at hl 2 rfl) ?_
                              refine lv_dload hx hb dX1_acquire_203 (lv_at hl 6 rfl) ?_
                              refine pw_callR (nL' := 3) (rest := [.int (bI (decide (st1.1 12 s = 5 ∧ mm = 1))), .ref (ad (18 + s)), .ref (ad (12 + t)), .ref x, .ref x, .ref (ad (18 + s))]) S P (hr_endOf ho1 hin c179 hF) q505 q36 (pw_entV (q := (RX1, TX1, 6)) [.double lim] S P (hF.m (by decide)) hF.hall rfl q502 q504 qs12 q505 ⟨by decide +kernel, by decide +kernel, (by decide +kernel : (parseMethodDescriptor yX1_endOf.desc).map (fun d => d.parameters.length) = some 1)⟩ dX1_acquire_205) hl.1 (Nat.le_of_ble_eq_true rfl) ⟨Nat.le_of_ble_eq_true rfl, Nat.le_of_ble_eq_true rfl⟩ ⟨Nat.le_of_ble_eq_true rfl, Nat.le_of_ble_eq_true rfl⟩ (fun H locs P => ?_)
                              refine W.eq (g2 := F0 m 208 ls [.double (s_end st1 lim), .int (bI (decide (st1.1 12 s = 5 ∧ mm = 1))), .ref (ad (18 + s)), .ref (ad (12 + t)), .ref x, .ref x, .ref (ad (18 + s))]) rfl ?_
                              refine W.widen (k := 18) (n := 126) (Nat.le_of_ble_eq_true rfl) (Nat.le_of_ble_eq_true rfl) ?_
                              refine lv_aload_n hx hb dX1_acquire_208 rfl (lv_at hl 2 rfl) ?_
                              refine pw_get (q := (RX1, TX1, 6)) (k := 5) S P (hF.m (by decide)) hF.hall rfl (by decide) q101 (Or.inl rfl) rfl dX1_acquire_209 ?_
                              refine lv_iconst (v := 0) hx hb dX1_acquire_212 (by decide) ?_
                              refine lv_iconst (v := 1) hx hb dX1_acquire_213 (by decide) ?_
                              refine pw_callI (nL' := 10) (a := x) S P (hi_waiter (wb := (decide (st1.1 12 s = 5 ∧ mm = 1))) hxm hfx) q508 q52 (pw_entI [.ref (ad (12 + t)), .ref (ad (18 + s)), .int (bI (decide (st1.1 12 s = 5 ∧ mm = 1))), .double (s_end st1 lim), .double (st1.2.1 11 0), .int 0, .int 1] S rfl q506 q507 q508 ⟨by decide +kernel, by decide +kernel, (by decide +kernel : (parseMethodDescriptor yX10_init.desc).map (fun d => d.parameters.length) = some 7)⟩ dX1_acquire_214) hl.1 (Nat.le_of_ble_eq_true rfl) ⟨Nat.le_of_ble_eq_true rfl, Nat.le_of_ble_eq_true rfl⟩ ⟨Nat.le_of_ble_eq_true rfl, Nat.le_of_ble_eq_true rfl⟩ (fun H locs fI P hfx hfo2 => ?_)
                              have hF := hF0.ext (f' := fI) hLs (fun a ha => (hfo2 a (fun z => hxL (z ▸ ha))).trans (hfo a (fun z => hxL (z ▸ ha))))
                              have hfw : fI x = hWait (s_wait st1 t s mm lim) (va_up ad (34 + t) x) t := by rw [aq_wait ho1 hs hb1 hk4]; exact hfx
                              refine vc_add S P ho1 hF hs hkd1 ht hb1 aq_d hxm (hF0.nown hxL) hfw q538 dX1_acquire_217 hl.1 (Nat.le_of_ble_eq_true rfl) ⟨Nat.le_of_ble_eq_true rfl, Nat.le_of_ble_eq_true rfl⟩ ⟨Nat.le_of_ble_eq_true rfl, Nat.le_of_ble_eq_true rfl⟩ (fun H locs fD P hF hfrA => ?_)
                              have hrel : hRel cs ad st L f0 (va_up ad (34 + t) x) (s_wait st1 t s mm lim) (L1 ++ [x]) fD := hrel.step hF (fun i hi _ => adw (by omega)) (fun _ h => List.mem_append_left _ h) (fun a ha hno => by
                                have hax : a ≠ x := fun z => hxL (z ▸ ha)
                                have h1 := hfrA a hax hno
                                exact ⟨h1.1.trans ((hfo2 a hax).trans (hfo a hax)), h1.2⟩) rfl
                              obtain ⟨ad, hrel, hl⟩ : ∃ z : Nat → Nat, hRel cs ad st L f0 z (s_wait st1 t s mm lim) (L1 ++ [x]) fD ∧ lv_has ls 9 [(7, .ref (z (18 + s))), (6, .ref (z (12 + t))), (0, .ref (z 0)), (1, .int (nI t)), (2, .int (nI s)), (3, .int mm), (4, .double lim), (8, .int (bI (decide (st1.1 12 s = 5 ∧ mm = 1))))] := ⟨_, hrel, by rw [adw (r := 18 + s) (by omega), adw (r := 12 + t) (by omega), adw (r := 0) (by omega)]; exact hl⟩
                              have hF := hrel.1
                              refine lv_aload_n hx hb dX1_acquire_220 rfl (lv_at hl 2 rfl) ?_
                              refine lv_aload hx hb dX1_acquire_221 (lv_at hl 1 rfl) ?_
                              refine lv_iconst (v := 0) hx hb dX1_acquire_223 (by decide) ?_
                              refine pw_callS (nL' := 3) (rest := []) S P (hw_ended ht hF) q398 q36 (pw_entV (q := (RX1, TX1, 6)) [.ref (ad (12 + t)), .int 0] S P (hF.m (by decide)) hF.hall rfl q395 q397 qs5 q398 ⟨by decide +kernel, by decide +kernel, (by decide +kernel : (parseMethodDescriptor yX1_ended.desc).map (fun d => d.parameters.length) = some 2)⟩ dX1_acquire_224) hl.1 (Nat.le_of_ble_eq_true rfl) ⟨Nat.le_of_ble_eq_true rfl, Nat.le_of_ble_eq_true rfl⟩ ⟨Nat.le_of_ble_eq_true rfl, Nat.le_of_ble_eq_true rfl⟩ (fun H locs f3 P hF hlv3 hfr3 => ?_)
                              refine W.eq (g2 := F0 m 227 ls [.int 0]) rfl ?_
                              refine W.widen (k := 18) (n := 126) (Nat.le_of_ble_eq_true rfl) (Nat.le_of_ble_eq_true rfl) ?_
                              have hrel2 := hrel.stay hF hlv3 hfr3 rfl
                              exact gw_iret S P hQ hr hlk ⟨Nat.le_of_ble_eq_true rfl, Nat.le_of_ble_eq_true rfl⟩ dX1_acquire_227 (by rw [← hf0]; exact hEnd (r := (0, 0, sI (s_wait st1 t s mm lim) 4 t 0)) (hres.trans (by unfold s_acq2; rw [if_neg hnr, if_neg hnt, if_neg c179])) hrel2.post)
                            · simp only [cv_l_eq0, Decidable.not_not] at c179
                              refine lv_aload_n hx hb dX1_acquire_182 rfl (lv_at hl 2 rfl) ?_
                              refine lv_aload hx hb dX1_acquire_183 (lv_at hl 1 rfl) ?_
                              refine lv_iconst (v := 2) hx hb dX1_acquire_185 (by decide) ?_
                              refine pw_callS (nL' := 3) (rest := []) S P (hw_ended ht hF) q398 q36 (pw_entV (q := (RX1, TX1, 6)) [.ref (ad (12 + t)), .int 2] S P (hF.m (by decide)) hF.hall rfl q395 q397 qs5 q398 ⟨by decide +kernel, by decide +kernel, (by decide +kernel : (parseMethodDescriptor yX1_ended.desc).map (fun d => d.parameters.length) = some 2)⟩ dX1_acquire_186) hl.1 (Nat.le_of_ble_eq_true rfl) ⟨Nat.le_of_ble_eq_true rfl, Nat.le_of_ble_eq_true rfl⟩ ⟨Nat.le_of_ble_eq_true rfl, Nat.le_of_ble_eq_true rfl⟩ (fun H locs f3 P hF hlv3 hfr3 => ?_)
                              refine W.eq (g2 := F0 m 189 ls [.int 2]) rfl ?_
                              refine W.widen (k := 17) (n := 118) (Nat.le_of_ble_eq_true rfl) (Nat.le_of_ble_eq_true rfl) ?_
                              have hrel2 := hrel.stay hF hlv3 hfr3 rfl
                              exact gw_iret S P hQ hr hlk ⟨Nat.le_of_ble_eq_true rfl, Nat.le_of_ble_eq_true rfl⟩ dX1_acquire_189 (by rw [← hf0]; exact hEnd (r := (0, 2, sI st1 4 t 2)) (hres.trans (by unfold s_acq2; rw [if_neg hnr, if_neg hnt, if_pos c179])) hrel2.post)
                          · rw [bI_eq0] at c143
                            rw [aq_mq hm] at c143
                            refine lv_aload hx hb dX1_acquire_146 (lv_at hl 0 rfl) ?_
                            refine lv_aload hx hb dX1_acquire_148 (lv_at hl 1 rfl) ?_
                            refine lv_iload hx hb dX1_acquire_150 (lv_at hl 7 rfl) ?_
                            refine vc_canTake S P ho1 hF hs hk4 ht q460 dX1_acquire_152 hl.1 (Nat.le_of_ble_eq_true rfl) ⟨Nat.le_of_ble_eq_true rfl, Nat.le_of_ble_eq_true rfl⟩ ⟨Nat.le_of_ble_eq_true rfl, Nat.le_of_ble_eq_true rfl⟩ (fun H locs P => ?_)
                            refine lv_if_eq (tgt := 175) (x := bI (s_canTake st1 t s (bI (decide (st1.1 12 s = 5 ∧ mm = 1))))) hx hb dX1_acquire_155 (by decide) (fun c155 => ?_) (fun c155 => ?_)
                            · rw [bI_eq0] at c155
                              rw [aq_ct hk4 hm] at c155
                              have hnt : ¬ (s_mustQueue st1 t s mm = false ∧ s_canTake st1 t s mm = true) := fun z => absurd (z.2.symm.trans c155) (by decide)
                              refine lv_dload hx hb dX1_acquire_175 (lv_at hl 6 rfl) ?_
                              refine lv_dconst0 hx hb dX1_acquire_177 ?_
                              refine lv_dcmp hx hb dX1_acquire_178 ?_
                              refine lv_if_ne (tgt := 190) (x := Op.cmpValue (FP.dcmp lim FP.dconst0) .l) hx hb dX1_acquire_179 (by decide) (fun c179 => ?_) (fun c179 => ?_)
                              · simp only [cv_l_eq0, Decidable.not_not] at c179
                                refine lv_aload hx hb dX1_acquire_190 (lv_at hl 0 rfl) ?_
                                refine hq_new (q := (RX10, TX10, 8)) (ci := 2) (fs := [.null, .null, .int 0, .double 0, .double 0, .int 0, .int 0, .null]) S P rfl q500 q501 q52 (by decide) (Nat.le_of_ble_eq_true rfl) (Nat.le_of_ble_eq_true rfl) dX1_acquire_192 (fun x H fC hxL hxm hLs hfx hfo P => ?_)
                                have hF0 := hF
                                have hF := hF.ext (f' := fC) hLs (fun a ha => hfo a (fun z => hxL (z ▸ ha)))
                                refine lv_dup hx hb dX1_acquire_195 rfl ?_
                                refine lv_aload hx hb dX1_acquire_196 (lv_at hl 1 rfl) ?_
                                refine lv_aload hx hb dX1_acquire_198 (lv_at hl 0 rfl) ?_
                                refine lv_iload hx hb dX1_acquire_200 (lv_at hl 7 rfl) ?_
                                refine lv_aload_n hx hb dX1_acquire_202 rfl (lv_at hl 2 rfl) ?_
                                refine lv_dload hx hb dX1_acquire_203 (lv_at hl 6 rfl) ?_
                                refine pw_callR (nL' := 3) (rest := [.int (bI (decide (st1.1 12 s = 5 ∧ mm = 1))), .ref (ad (18 + s)), .ref (ad (12 + t)), .ref x, .ref x, .ref (ad (18 + s))]) S P (hr_endOf ho1 hin c179 hF) q505 q36 (pw_entV (q := (RX1, TX1, 6)) [.double lim] S P (hF.m (by decide)) hF.hall rfl q502 q504 qs12 q505 ⟨by decide +kernel, by decide +kernel, (by decide +kernel : (parseMethodDescriptor yX1_endOf.desc).map (fun d => d.parameters.length) = some 1)⟩ dX1_acquire_205) hl.1 (Nat.le_of_ble_eq_true rfl) ⟨Nat.le_of_ble_eq_true rfl, Nat.le_of_ble_eq_true rfl⟩ ⟨Nat.le_of_ble_eq_true rfl, Nat.le_of_ble_eq_true rfl⟩ (fun H locs P => ?_)
                                refine W.eq (g2 := F0 m 208 ls [.double (s_end st1 lim), .int (bI (decide (st1.1 12 s = 5 ∧ mm = 1))), .ref (ad (18 + s)), .ref (ad (12 + t)), .ref x, .ref x, .ref (ad (18 + s))]) rfl ?_
                                refine W.widen (k := 18) (n := 126) (Nat.le_of_ble_eq_true rfl) (Nat.le_of_ble_eq_true rfl) ?_
                                refine lv_aload_n hx hb dX1_acquire_208 rfl (lv_at hl 2 rfl) ?_
                                refine pw_get (q := (RX1, TX1, 6)) (k := 5) S P (hF.m (by decide)) hF.hall rfl (by decide) q101 (Or.inl rfl) rfl dX1_acquire_209 ?_
                                refine lv_iconst (v := 0) hx hb dX1_acquire_212 (by decide) ?_
                                refine lv_iconst (v := 1) hx hb dX1_acquire_213 (by decide) ?_
                                refine pw_callI (nL' := 10) (a := x) S P (hi_waiter (wb := (decide (st1.1 12 s = 5 ∧ mm = 1))) hxm hfx) q508 q52 (pw_entI [.ref (ad (12 + t)), .ref (ad (18 + s)), .int (bI (decide (st1.1 12 s = 5 ∧ mm = 1))), .double (s_end st1 lim), .double (st1.2.1 11 0), .int 0, .int 1] S rfl q506 q507 q508 ⟨by decide +kernel, by decide +kernel, (by decide +kernel : (parseMethodDescriptor yX10_init.desc).map (fun d => d.parameters.length) = some 7)⟩ dX1_acquire_214) hl.1 (Nat.le_of_ble_eq_true rfl) ⟨Nat.le_of_ble_eq_true rfl, Nat.le_of_ble_eq_true rfl⟩ ⟨Nat.le_of_ble_eq_true rfl, Nat.le_of_ble_eq_true rfl⟩ (fun H locs fI P hfx hfo2 => ?_)
                                have hF := hF0.ext (f' := fI) hLs (fun a ha => (hfo2 a (fun z => hxL (z ▸ ha))).trans (hfo a (fun z => hxL (z ▸ ha))))
                                have hfw : fI x = hWait (s_wait st1 t s mm lim) (va_up ad (34 + t) x) t := by rw [aq_wait ho1 hs hb1 hk4]; exact hfx
                                refine vc_add S P ho1 hF hs hkd1 ht hb1 aq_d hxm (hF0.nown hxL) hfw q538 dX1_acquire_217 hl.1 (Nat.le_of_ble_eq_true rfl) ⟨Nat.le_of_ble_eq_true rfl, Nat.le_of_ble_eq_true rfl⟩ ⟨Nat.le_of_ble_eq_true rfl, Nat.le_of_ble_eq_true rfl⟩ (fun H locs fD P hF hfrA => ?_)
                                have hrel : hRel cs ad st L f0 (va_up ad (34 + t) x) (s_wait st1 t s mm lim) (L1 ++ [x]) fD := hrel.step hF (fun i hi _ => adw (by omega)) (fun _ h => List.mem_append_left _ h) (fun a ha hno => by
                                  have hax : a ≠ x := fun z => hxL (z ▸ ha)
                                  have h1 := hfrA a hax hno
                                  exact ⟨h1.1.trans ((hfo2 a hax).trans (hfo a hax)), h1.2⟩) rfl
                                obtain ⟨ad, hrel, hl⟩ : ∃ z : Nat → Nat, hRel cs ad st L f0 z (s_wait st1 t s mm lim) (L1 ++ [x]) fD ∧ lv_has ls 9 [(7, .ref (z (18 + s))), (6, .ref (z (12 + t))), (0, .ref (z 0)), (1, .int (nI t)), (2, .int (nI s)), (3, .int mm), (4, .double lim), (8, .int (bI (decide (st1.1 12 s = 5 ∧ mm = 1))))] := ⟨_, hrel, by rw [adw (r := 18 + s) (by omega), adw (r := 12 + t) (by omega), adw (r := 0) (by omega)]; exact hl⟩
                                have hF := hrel.1
                                refine lv_aload_n hx hb dX1_acquire_220 rfl (lv_at hl 2 rfl) ?_
                                refine lv_aload hx hb dX1_acquire_221 (lv_at hl 1 rfl) ?_
                                refine lv_iconst (v := 0) hx hb dX1_acquire_223 (by decide) ?_
                                refine pw_callS (nL' := 3) (rest := []) S P (hw_ended ht hF) q398 q36 (pw_entV (q := (RX1, TX1, 6)) [.ref (ad (12 + t)), .int 0] S P (hF.m (by decide)) hF.hall rfl q395 q397 qs5 q398 ⟨by decide +kernel, by decide +kernel, (by decide +kernel : (parseMethodDescriptor yX1_ended.desc).map (fun d => d.parameters.length) = some 2)⟩ dX1_acquire_224) hl.1 (Nat.le_of_ble_eq_true rfl) ⟨Nat.le_of_ble_eq_true rfl, Nat.le_of_ble_eq_true rfl⟩ ⟨Nat.le_of_ble_eq_true rfl, Nat.le_of_ble_eq_true rfl⟩ (fun H locs f3 P hF hlv3 hfr3 => ?_)
                                refine W.eq (g2 := F0 m 227 ls [.int 0]) rfl ?_
                                refine W.widen (k := 18) (n := 126) (Nat.le_of_ble_eq_true rfl) (Nat.le_of_ble_eq_true rfl) ?_
                                have hrel2 := hrel.stay hF hlv3 hfr3 rfl
                                exact gw_iret S P hQ hr hlk ⟨Nat.le_of_ble_eq_true rfl, Nat.le_of_ble_eq_true rfl⟩ dX1_acquire_227 (by rw [← hf0]; exact hEnd (r := (0, 0, sI (s_wait st1 t s mm lim) 4 t 0)) (hres.trans (by unfold s_acq2; rw [if_neg hnr, if_neg hnt, if_neg c179])) hrel2.post)
                              · simp only [cv_l_eq0, Decidable.not_not] at c179
                                refine lv_aload_n hx hb dX1_acquire_182 rfl (lv_at hl 2 rfl) ?_
                                refine lv_aload hx hb dX1_acquire_183 (lv_at hl 1 rfl) ?_
                                refine lv_iconst (v := 2) hx hb dX1_acquire_185 (by decide) ?_
                                refine pw_callS (nL' := 3) (rest := []) S P (hw_ended ht hF) q398 q36 (pw_entV (q := (RX1, TX1, 6)) [.ref (ad (12 + t)), .int 2] S P (hF.m (by decide)) hF.hall rfl q395 q397 qs5 q398 ⟨by decide +kernel, by decide +kernel, (by decide +kernel : (parseMethodDescriptor yX1_ended.desc).map (fun d => d.parameters.length) = some 2)⟩ dX1_acquire_186) hl.1 (Nat.le_of_ble_eq_true rfl) ⟨Nat.le_of_ble_eq_true rfl, Nat.le_of_ble_eq_true rfl⟩ ⟨Nat.le_of_ble_eq_true rfl, Nat.le_of_ble_eq_true rfl⟩ (fun H locs f3 P hF hlv3 hfr3 => ?_)
                                refine W.eq (g2 := F0 m 189 ls [.int 2]) rfl ?_
                                refine W.widen (k := 17) (n := 118) (Nat.le_of_ble_eq_true rfl) (Nat.le_of_ble_eq_true rfl) ?_
                                have hrel2 := hrel.stay hF hlv3 hfr3 rfl
                                exact gw_iret S P hQ hr hlk ⟨Nat.le_of_ble_eq_true rfl, Nat.le_of_ble_eq_true rfl⟩ dX1_acquire_189 (by rw [← hf0]; exact hEnd (r := (0, 2, sI st1 4 t 2)) (hres.trans (by unfold s_acq2; rw [if_neg hnr, if_neg hnt, if_pos c179])) hrel2.post)
                            · rw [bI_eq0, Bool.not_eq_false] at c155
                              rw [aq_ct hk4 hm] at c155
                              refine lv_aload hx hb dX1_acquire_158 (lv_at hl 0 rfl) ?_
                              refine lv_aload hx hb dX1_acquire_160 (lv_at hl 1 rfl) ?_
                              refine lv_iload hx hb dX1_acquire_162 (lv_at hl 7 rfl) ?_
                              refine vc_take S P ho1 hF hs hk4 ht q482 dX1_acquire_164 hl.1 (Nat.le_of_ble_eq_true rfl) ⟨Nat.le_of_ble_eq_true rfl, Nat.le_of_ble_eq_true rfl⟩ ⟨Nat.le_of_ble_eq_true rfl, Nat.le_of_ble_eq_true rfl⟩ (fun H locs f2 P hF hlv2 hfr2 => ?_)
                              rw [aq_tk hm] at hF hlv2
                              refine lv_aload_n hx hb dX1_acquire_167 rfl (lv_at hl 2 rfl) ?_
                              refine lv_aload hx hb dX1_acquire_168 (lv_at hl 1 rfl) ?_
                              refine lv_iconst (v := 1) hx hb dX1_acquire_170 (by decide) ?_
                              have hrelT := hrel.stay hF hlv2 hfr2 (s_take_Ik (by decide))
                              refine pw_callS (nL' := 3) (rest := []) S P (hw_ended ht hF) q398 q36 (pw_entV (q := (RX1, TX1, 6)) [.ref (ad (12 + t)), .int 1] S P (hF.m (by decide)) hF.hall rfl q395 q397 qs5 q398 ⟨by decide +kernel, by decide +kernel, (by decide +kernel : (parseMethodDescriptor yX1_ended.desc).map (fun d => d.parameters.length) = some 2)⟩ dX1_acquire_171) hl.1 (Nat.le_of_ble_eq_true rfl) ⟨Nat.le_of_ble_eq_true rfl, Nat.le_of_ble_eq_true rfl⟩ ⟨Nat.le_of_ble_eq_true rfl, Nat.le_of_ble_eq_true rfl⟩ (fun H locs f3 P hF hlv3 hfr3 => ?_)
                              refine W.eq (g2 := F0 m 174 ls [.int 1]) rfl ?_
                              refine W.widen (k := 17) (n := 118) (Nat.le_of_ble_eq_true rfl) (Nat.le_of_ble_eq_true rfl) ?_
                              have hrel2 := hrelT.stay hF hlv3 hfr3 rfl
                              exact gw_iret S P hQ hr hlk ⟨Nat.le_of_ble_eq_true rfl, Nat.le_of_ble_eq_true rfl⟩ dX1_acquire_174 (by rw [← hf0]; exact hEnd (r := (0, 1, sI (s_take st1 t s mm) 4 t 1)) (hres.trans (by unfold s_acq2; rw [if_neg hnr, if_pos ⟨c143, c155⟩])) hrel2.post)
                      refine lv_iload_n hx hb dX1_acquire_94 rfl (lv_at hl 5 rfl) ?_
                      refine lv_iconst (v := 1) hx hb dX1_acquire_95 (by decide) ?_
                      refine lv_icmp_ne (tgt := 111) (x := mm) (y := 1) hx hb dX1_acquire_96 (by decide) (fun c96 => ?_) (fun c96 => ?_)
                      · exact absurd c17 c96
                      · have _h := True.intro
                        refine lv_aload hx hb dX1_acquire_99 (lv_at hl 0 rfl) ?_
                        refine hs_isShared (s := s) S P hF hs hkd1 q307 dX1_acquire_101 ?_
                        refine lv_if_eq (tgt := 111) (x := bI (decide (st1.1 12 s = 5))) hx hb dX1_acquire_104 (by decide) (fun c104 => ?_) (fun c104 => ?_)
                        · simp only [bI_eq0, decide_eq_false_iff_not, decide_eq_true_eq, Classical.not_not] at c104
                          refine lv_iconst (v := 0) hx hb dX1_acquire_111 (by decide) ?_
                          refine lw_eqi (y := bI (decide (st1.1 12 s = 5 ∧ mm = 1))) (by simp [bI, c96, c104]) ?_
                          refine lv_istore (lv' := [(8, .int (bI (decide (st1.1 12 s = 5 ∧ mm = 1)))), (7, .ref (ad (18 + s))), (6, .ref (ad (12 + t))), (0, .ref (ad 0)), (1, .int (nI t)), (2, .int (nI s)), (3, .int mm), (4, .double lim)]) hx hb dX1_acquire_112 hl (by decide) rfl (fun ls hl => ?_)
                          exact k114 _ _ P ls (lv_sub hl [1, 2, 3, 4, 5, 6, 7, 0] rfl)
                        · simp only [bI_eq0, Bool.not_eq_false, decide_eq_false_iff_not, decide_eq_true_eq, Classical.not_not] at c104
                          refine lv_iconst (v := 1) hx hb dX1_acquire_107 (by decide) ?_
                          refine lv_goto (tgt := 112) hx hb dX1_acquire_108 (by decide) ?_
                          refine lw_eqi (y := bI (decide (st1.1 12 s = 5 ∧ mm = 1))) (by simp [bI, c96, c104]) ?_
                          refine lv_istore (lv' := [(8, .int (bI (decide (st1.1 12 s = 5 ∧ mm = 1)))), (7, .ref (ad (18 + s))), (6, .ref (ad (12 + t))), (0, .ref (ad 0)), (1, .int (nI t)), (2, .int (nI s)), (3, .int mm), (4, .double lim)]) hx hb dX1_acquire_112 hl (by decide) rfl (fun ls hl => ?_)
                          exact k114 _ _ P ls (lv_sub hl [1, 2, 3, 4, 5, 6, 7, 0] rfl)
                    · have _h := True.intro
                      rw [Bool.not_eq_true] at qo
                      have h1 : ∀ k, k ≠ 22 ∧ k ≠ 25 → (s_ordered st t s).2.1 k = st.1 k := fun k h => so_I h
                      exact pw_callX (nL' := 5) (rest := []) S P hQ (hw_watch hst ho ht hs hF) q402 q36 (pw_entV (q := (RX1, TX1, 6)) [.ref (ad (12 + t)), .int (nI s)] S P (hF.m (by decide)) hF.hall rfl q399 q401 qs6 q402 ⟨by decide +kernel, by decide +kernel, (by decide +kernel : (parseMethodDescriptor yX1_watch.desc).map (fun d => d.parameters.length) = some 2)⟩ dX1_acquire_91) htb hlk hl.1 (Nat.le_of_ble_eq_true rfl) ⟨Nat.le_of_ble_eq_true rfl, Nat.le_of_ble_eq_true rfl⟩ ⟨Nat.le_of_ble_eq_true rfl, Nat.le_of_ble_eq_true rfl⟩ ⟨Nat.le_of_ble_eq_true rfl, Nat.le_of_ble_eq_true rfl⟩ (fun v L' f' h => by have h1 := h.1; rw [qo] at h1; cases h1) (fun C L' f' h => by
                        obtain ⟨h2, h3, h4, h5⟩ := h
                        rw [qo] at h2
                        cases h2
                        exact hEnd (r := (4, 0, (s_ordered st t s).2)) (by rw [show s_acquire st (nI t) (nI s) mm lim = s_acq st t s mm lim from by unfold s_acquire; rw [if_neg (by rintro (q | q | q | q); exact absurd q (bnt o2); exact absurd q (bnt o8); exact absurd q (bnt om); exact absurd hin (bnt q)), iN_nI ht (by decide), iN_nI hs (by decide)]]; exact aq_od hck c61 c77 qo) ⟨rfl, ad, h3, fun _ _ _ => rfl, h4, fun a ha hno => ⟨h5 a ha hno, hOwn_no (fun r hr => (hLive_eq (h1 1 (by decide)) (h1 12 (by decide))).mp hr) hno⟩⟩)
                  · have _h := True.intro
                    refine lv_aload_n hx hb dX1_acquire_80 rfl (lv_at hl 2 rfl) ?_
                    refine lv_aload hx hb dX1_acquire_81 (lv_at hl 1 rfl) ?_
                    refine pw_callS (nL' := 2) (rest := []) S P (hw_interrupted ht hF) q394 q36 (pw_entV (q := (RX1, TX1, 6)) [.ref (ad (12 + t))] S P (hF.m (by decide)) hF.hall rfl q391 q393 qs4 q394 ⟨by decide +kernel, by decide +kernel, (by decide +kernel : (parseMethodDescriptor yX1_interrupted.desc).map (fun d => d.parameters.length) = some 1)⟩ dX1_acquire_83) hl.1 (Nat.le_of_ble_eq_true rfl) ⟨Nat.le_of_ble_eq_true rfl, Nat.le_of_ble_eq_true rfl⟩ ⟨Nat.le_of_ble_eq_true rfl, Nat.le_of_ble_eq_true rfl⟩ (fun H locs f' P hF hlv hfr => ?_)
                    refine W.eq (g2 := F0 m 86 ls [.int 3]) rfl ?_
                    refine W.widen (k := 7) (n := 42) (Nat.le_of_ble_eq_true rfl) (Nat.le_of_ble_eq_true rfl) ?_
                    exact gw_iret S P hQ hr hlk ⟨Nat.le_of_ble_eq_true rfl, Nat.le_of_ble_eq_true rfl⟩ dX1_acquire_86 (hEnd (r := (0, 3, sI (sI st 2 t 0) 4 t 3)) (by rw [show s_acquire st (nI t) (nI s) mm lim = s_acq st t s mm lim from by unfold s_acquire; rw [if_neg (by rintro (q | q | q | q); exact absurd q (bnt o2); exact absurd q (bnt o8); exact absurd q (bnt om); exact absurd hin (bnt q)), iN_nI ht (by decide), iN_nI hs (by decide)]]; exact aq_fl hck c61 c77) (hPost_same (o := .inl (some (.int 3))) hF hlv hfr).to)
          · have _h := True.intro
            rw [Bool.not_eq_true] at hin
            exact pw_callT (nL' := 2) (rest := []) S P hQ (ht_limit hst ho hin hF) q363 q36 (pw_entS [.double lim] S q361 q362 q36 q363 ⟨by decide +kernel, by decide +kernel, (by decide +kernel : (parseMethodDescriptor yX1_limit.desc).map (fun d => d.parameters.length) = some 1)⟩ dX1_acquire_30) htb hlk hl.1 (Nat.le_of_ble_eq_true rfl) ⟨Nat.le_of_ble_eq_true rfl, Nat.le_of_ble_eq_true rfl⟩ ⟨Nat.le_of_ble_eq_true rfl, Nat.le_of_ble_eq_true rfl⟩ ⟨Nat.le_of_ble_eq_true rfl, Nat.le_of_ble_eq_true rfl⟩ (hEnd (r := (1, 0, st)) (if_pos (Or.inr (Or.inr (Or.inr hin)))) (hPost_th hF))
