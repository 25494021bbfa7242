/-! SyncHall.await, by gen_h17.py -/
set_option maxHeartbeats 4000000 in
set_option maxRecDepth 100000 in
theorem hr_endOf2 {l : Launch} {D : va_G} {cs : Nat → ClassId} {ad : Nat → Nat} {L : List Nat} {f : Nat → va_E} {n : Nat} {st : St} (ho : Ok n st) {v : UInt64} (hv : inR cM1 cK v = true)  (hF : HF cs ad st L f) : PM l D cs yX1_endOf cX1_endOf 3 (some .double) (rmL 2 0 0) [.ref (ad 0), .double v] L f (pRd L f (some (.double (hE st v)))) := by
  refine hm_of "SyncHall" rfl (by decide +kernel) (Nat.le_of_ble_eq_true rfl) ?_
  intro sz p e u m below meth c S P hsz hr hlk hnm htb ls hl Q hQ
  have hl : lv_has ls 3 [(0, .ref (ad 0)), (1, .double v)] := hl
  have hx := S.1
  have hb := S.2.1
  generalize hH0 : u.heap = H at P ⊢
  generalize ([] : List Loc) = locs at P ⊢
  refine lv_dload_n hx hb dX1_endOf_0 rfl (lv_at hl 1 rfl) ?_
  refine lv_dconst0 hx hb dX1_endOf_1 ?_
  refine lv_dcmp hx hb dX1_endOf_2 ?_
  refine lw_if_ge (tgt := 12) (x := Op.cmpValue (FP.dcmp v FP.dconst0) .g) hx hb dX1_endOf_3 (by decide) (fun c3 => ?_) (fun c3 => ?_)
  · simp only [cv_g_lt0, Decidable.not_not] at c3
    refine lv_aload_n hx hb dX1_endOf_12 rfl (lv_at hl 0 rfl) ?_
    refine pw_get (q := (RX1, TX1, 6)) (k := 5) S P (hF.m (by decide)) hF.hall rfl (by decide) q101 (Or.inl rfl) rfl dX1_endOf_13 ?_
    refine lv_dload_n hx hb dX1_endOf_16 rfl (lv_at hl 1 rfl) ?_
    refine lv_dadd hx hb dX1_endOf_17 ((fb_time ho.db.1 (fb_lim hv)).2) ?_
    exact gw_dret S P hQ hr hlk ⟨Nat.le_of_ble_eq_true rfl, Nat.le_of_ble_eq_true rfl⟩ dX1_endOf_18 (pRd_d (by simp [hE, c3]))
  · simp only [cv_g_lt0, Decidable.not_not] at c3
    refine lv_ldc2d (v := 13830554455654793216) hx hb S.2.2.2.1 (S.2.2.2.2 _ q364) dX1_endOf_6 ?_
    refine lv_goto (tgt := 18) hx hb dX1_endOf_9 (by decide) ?_
    exact gw_dret S P hQ hr hlk ⟨Nat.le_of_ble_eq_true rfl, Nat.le_of_ble_eq_true rfl⟩ dX1_endOf_18 (pRd_d (by simp [hE, c3]))

set_option maxHeartbeats 8000000 in
set_option maxRecDepth 100000 in
theorem hm_await {l : Launch} {D : va_G} {cs : Nat → ClassId} {ad : Nat → Nat} {L : List Nat} {f : Nat → va_E} (hst : l.stackTraces = false) {n : Nat} {st : St} (ho : Ok n st) (hn : n + 1 ≤ 100) {tv sv : Int32} {lim : UInt64}  (hF : HF cs ad st L f) : PM l D cs yX1_await cX1_await 8 (some .int) (rmL 9 9 58) [.ref (ad 0), .int tv, .int sv, .double lim] L f (hPost cs ad st L f (hOut (s_await st tv sv lim)) (s_await st tv sv lim).2.2) := by
  refine hm_of "SyncHall" rfl (by decide +kernel) (Nat.le_of_ble_eq_true rfl) ?_
  intro sz p e u m below meth c S P hsz hr hlk hnm htb ls hl Q hQ
  have hl : lv_has ls 8 [(0, .ref (ad 0)), (1, .int tv), (2, .int sv), (3, .double lim)] := hl
  have hx := S.1
  have hb := S.2.1
  generalize hH0 : u.heap = H at P ⊢
  generalize ([] : List Loc) = locs at P ⊢
  have hFr : ∀ a, ¬ hOwn st ad a → f a = f a := fun _ _ => rfl
  obtain ⟨f0, hf0⟩ : ∃ z, z = f := ⟨f, rfl⟩
  refine lv_aload_n hx hb dX1_await_0 rfl (lv_at hl 0 rfl) ?_
  refine lv_iload_n hx hb dX1_await_1 rfl (lv_at hl 1 rfl) ?_
  by_cases o2 : isOut tv 6 = true
  · have _h := True.intro
    exact pw_callT (nL' := 2) (rest := []) S P hQ (ht_task hst ho o2 hF) q350 q36 (pw_entV (q := (RX1, TX1, 6)) [.int tv] S P (hF.m (by decide)) hF.hall rfl q347 q349 qs2 q350 ⟨by decide +kernel, by decide +kernel, (by decide +kernel : (parseMethodDescriptor yX1_task.desc).map (fun d => d.parameters.length) = some 1)⟩ dX1_await_2) htb hlk hl.1 (Nat.le_of_ble_eq_true rfl) ⟨Nat.le_of_ble_eq_true rfl, Nat.le_of_ble_eq_true rfl⟩ ⟨Nat.le_of_ble_eq_true rfl, Nat.le_of_ble_eq_true rfl⟩ ⟨Nat.le_of_ble_eq_true rfl, Nat.le_of_ble_eq_true rfl⟩ (hEnd (r := (1, 0, st)) (if_pos (Or.inl o2)) (hPost_th hF))
  · have _h := True.intro
    obtain ⟨t, ht, rfl⟩ := isOut_f (N := 6) rfl (by decide) (Bool.eq_false_iff.mpr o2)
    rw [Bool.not_eq_true] at o2
    refine pw_callR (nL' := 2) (rest := []) S P (hr_task ho ht hF) q350 q36 (pw_entV (q := (RX1, TX1, 6)) [.int (nI t)] S P (hF.m (by decide)) hF.hall rfl q347 q349 qs2 q350 ⟨by decide +kernel, by decide +kernel, (by decide +kernel : (parseMethodDescriptor yX1_task.desc).map (fun d => d.parameters.length) = some 1)⟩ dX1_await_2) hl.1 (Nat.le_of_ble_eq_true rfl) ⟨Nat.le_of_ble_eq_true rfl, Nat.le_of_ble_eq_true rfl⟩ ⟨Nat.le_of_ble_eq_true rfl, Nat.le_of_ble_eq_true rfl⟩ (fun H locs P => ?_)
    refine W.eq (g2 := F0 m 5 ls [.ref (ad (12 + t))]) rfl ?_
    refine W.widen (k := 1) (n := 6) (Nat.le_of_ble_eq_true rfl) (Nat.le_of_ble_eq_true rfl) ?_
    refine lv_astore (lv' := [(5, .ref (ad (12 + t))), (0, .ref (ad 0)), (1, .int (nI t)), (2, .int sv), (3, .double lim)]) hx hb dX1_await_5 hl (by decide) rfl (fun ls hl => ?_)
    refine lv_iload_n hx hb dX1_await_7 rfl (lv_at hl 3 rfl) ?_
    by_cases o8 : isOut sv 8 = true
    · have _h := True.intro
      exact pw_callT (nL' := 1) (rest := []) S P hQ (ht_number hst ho o8 hF) q131 q36 (pw_entS [.int sv] S q129 q130 q36 q131 ⟨by decide +kernel, by decide +kernel, (by decide +kernel : (parseMethodDescriptor yX1_number.desc).map (fun d => d.parameters.length) = some 1)⟩ dX1_await_8) htb hlk hl.1 (Nat.le_of_ble_eq_true rfl) ⟨Nat.le_of_ble_eq_true rfl, Nat.le_of_ble_eq_true rfl⟩ ⟨Nat.le_of_ble_eq_true rfl, Nat.le_of_ble_eq_true rfl⟩ ⟨Nat.le_of_ble_eq_true rfl, Nat.le_of_ble_eq_true rfl⟩ (hEnd (r := (1, 0, st)) (if_pos (Or.inr (Or.inl o8))) (hPost_th hF))
    · have _h := True.intro
      obtain ⟨s, hs, rfl⟩ := isOut_f (N := 8) rfl (by decide) (Bool.eq_false_iff.mpr o8)
      rw [Bool.not_eq_true] at o8
      refine pw_callR (nL' := 1) (rest := []) S P (hr_number (ad := ad) ho hs hF) q131 q36 (pw_entS [.int (nI s)] S q129 q130 q36 q131 ⟨by decide +kernel, by decide +kernel, (by decide +kernel : (parseMethodDescriptor yX1_number.desc).map (fun d => d.parameters.length) = some 1)⟩ dX1_await_8) hl.1 (Nat.le_of_ble_eq_true rfl) ⟨Nat.le_of_ble_eq_true rfl, Nat.le_of_ble_eq_true rfl⟩ ⟨Nat.le_of_ble_eq_true rfl, Nat.le_of_ble_eq_true rfl⟩ (fun H locs P => ?_)
      refine W.eq (g2 := F0 m 11 ls []) rfl ?_
      refine W.widen (k := 2) (n := 12) (Nat.le_of_ble_eq_true rfl) (Nat.le_of_ble_eq_true rfl) ?_
      refine lv_dload_n hx hb dX1_await_11 rfl (lv_at hl 4 rfl) ?_
      by_cases hin : inR cM1 cK lim = true
      · have _h := True.intro
        refine pw_callR (nL' := 2) (rest := []) S P (hr_limit (ad := ad) ho hin hF) q363 q36 (pw_entS [.double lim] S q361 q362 q36 q363 ⟨by decide +kernel, by decide +kernel, (by decide +kernel : (parseMethodDescriptor yX1_limit.desc).map (fun d => d.parameters.length) = some 1)⟩ dX1_await_12) hl.1 (Nat.le_of_ble_eq_true rfl) ⟨Nat.le_of_ble_eq_true rfl, Nat.le_of_ble_eq_true rfl⟩ ⟨Nat.le_of_ble_eq_true rfl, Nat.le_of_ble_eq_true rfl⟩ (fun H locs P => ?_)
        refine W.eq (g2 := F0 m 15 ls []) rfl ?_
        refine W.widen (k := 3) (n := 18) (Nat.le_of_ble_eq_true rfl) (Nat.le_of_ble_eq_true rfl) ?_
        refine lv_aload_n hx hb dX1_await_15 rfl (lv_at hl 1 rfl) ?_
        refine lv_aload hx hb dX1_await_16 (lv_at hl 0 rfl) ?_
        refine lv_iload_n hx hb dX1_await_18 rfl (lv_at hl 3 rfl) ?_
        by_cases qc : s_checkC st t s = 0
        · have _h := True.intro
          obtain ⟨hk0, hb0, hk6, how⟩ := s_checkC_0 qc
          refine pw_callR (nL' := 5) (rest := []) S P (hr_owned ho ht hs hk6 hb0 how hF) q671 q36 (pw_entV (q := (RX1, TX1, 6)) [.ref (ad (12 + t)), .int (nI s)] S P (hF.m (by decide)) hF.hall rfl q668 q670 qs13 q671 ⟨by decide +kernel, by decide +kernel, (by decide +kernel : (parseMethodDescriptor yX1_owned.desc).map (fun d => d.parameters.length) = some 2)⟩ dX1_await_19) hl.1 (Nat.le_of_ble_eq_true rfl) ⟨Nat.le_of_ble_eq_true rfl, Nat.le_of_ble_eq_true rfl⟩ ⟨Nat.le_of_ble_eq_true rfl, Nat.le_of_ble_eq_true rfl⟩ (fun H locs P => ?_)
          refine W.eq (g2 := F0 m 22 ls [.ref (ad (18 + s))]) rfl ?_
          refine W.widen (k := 7) (n := 42) (Nat.le_of_ble_eq_true rfl) (Nat.le_of_ble_eq_true rfl) ?_
          refine lv_astore (lv' := [(6, .ref (ad (18 + s))), (5, .ref (ad (12 + t))), (0, .ref (ad 0)), (1, .int (nI t)), (2, .int (nI s)), (3, .double lim)]) hx hb dX1_await_22 hl (by decide) rfl (fun ls hl => ?_)
          refine lv_aload hx hb dX1_await_24 (lv_at hl 1 rfl) ?_
          refine pw_get (q := (RX2, TX2, 5)) (k := 3) S P (hF.m (by omega)) (hF.tk (by omega)) rfl (by decide) q80 (Or.inl rfl) rfl dX1_await_26 ?_
          refine lv_if_eq (tgt := 39) (x := st.1 2 t) hx hb dX1_await_29 (by decide) (fun c29 => ?_) (fun c29 => ?_)
          · have _h := True.intro
            have hlk8 := (ho.lkc hs hk6).2
            have hlkk := ((ho.1 s hs).1.2.2.2.1 hk6).2.2
            have hkne : ¬ st.1 12 s = -1 := by rw [hk6]; decide
            have hoY : Ok n (hAwY st s) := ho.own0 hlk8 (by rcases hlkk with q | q; exact Or.inl q; exact Or.inr (Or.inl q)) rfl
            have hres : s_await st (nI t) (nI s) lim = (0, (s_aw1 st t s lim).1 4 t, s_aw1 st t s lim) := by rw [show s_await st (nI t) (nI s) lim = s_aw st t s lim from by unfold s_await; rw [if_neg (by rintro (q | q | q); exact absurd q (bnt o2); exact absurd q (bnt o8); exact absurd hin (bnt q)), iN_nI ht (by decide), iN_nI hs (by decide)]]; unfold s_aw; rw [if_neg (fun z => z qc), if_neg (fun z => z c29)]
            refine hq_new (q := (RX10, TX10, 8)) (ci := 2) (fs := [.null, .null, .int 0, .double 0, .double 0, .int 0, .int 0, .null]) S P rfl q500 q501 q52 (by decide) (Nat.le_of_ble_eq_true rfl) (Nat.le_of_ble_eq_true rfl) dX1_await_39 (fun x H fC hxL hxm hLs hfx hfo P => ?_)
            have hF0 := hF
            have hF := hF.ext (f' := fC) hLs (fun a ha => hfo a (fun z => hxL (z ▸ ha)))
            refine lv_dup hx hb dX1_await_42 rfl ?_
            refine lv_aload hx hb dX1_await_43 (lv_at hl 1 rfl) ?_
            refine lv_aload hx hb dX1_await_45 (lv_at hl 0 rfl) ?_
            refine lv_iconst (v := 0) hx hb dX1_await_47 (by decide) ?_
            refine lv_aload_n hx hb dX1_await_48 rfl (lv_at hl 2 rfl) ?_
            refine lv_dload_n hx hb dX1_await_49 rfl (lv_at hl 5 rfl) ?_
            refine pw_callR (nL' := 3) (rest := [.int 0, .ref (ad (18 + s)), .ref (ad (12 + t)), .ref x, .ref x]) S P (hr_endOf2 ho hin hF) q505 q36 (pw_entV (q := (RX1, TX1, 6)) [.double lim] S P (hF.m (by decide)) hF.hall rfl q502 q504 qs12 q505 ⟨by decide +kernel, by decide +kernel, (by decide +kernel : (parseMethodDescriptor yX1_endOf.desc).map (fun d => d.parameters.length) = some 1)⟩ dX1_await_50) hl.1 (Nat.le_of_ble_eq_true rfl) ⟨Nat.le_of_ble_eq_true rfl, Nat.le_of_ble_eq_true rfl⟩ ⟨Nat.le_of_ble_eq_true rfl, Nat.le_of_ble_eq_true rfl⟩ (fun H locs P => ?_)
            refine W.eq (g2 := F0 m 53 ls [.double (hE st lim), .int 0, .ref (ad (18 + s)), .ref (ad (12 + t)), .ref x, .ref x]) rfl ?_
            refine W.widen (k := 8) (n := 50) (Nat.le_of_ble_eq_true rfl) (Nat.le_of_ble_eq_true rfl) ?_
            refine lv_aload_n hx hb dX1_await_53 rfl (lv_at hl 2 rfl) ?_
            refine pw_get (q := (RX1, TX1, 6)) (k := 5) S P (hF.m (by decide)) hF.hall rfl (by decide) q101 (Or.inl rfl) rfl dX1_await_54 ?_
            refine lv_aload hx hb dX1_await_57 (lv_at hl 0 rfl) ?_
            refine pw_callRW (Wd := 16) (nL' := 1) (rest := [.double (st.2.1 11 0), .double (hE st lim), .int 0, .ref (ad (18 + s)), .ref (ad (12 + t)), .ref x, .ref x]) S P (hr_X9_lock ho hs hk6 hF) q675 q50 (pw_entV (q := (RX9, TX9, 4)) [] S P (hF.cd (by omega) hk6).1 (hF.cd (by omega) hk6).2 rfl q672 q673 q674 q675 ⟨by decide +kernel, by decide +kernel, (by decide +kernel : (parseMethodDescriptor yX9_lock.desc).map (fun d => d.parameters.length) = some 0)⟩ dX1_await_59) hl.1 (Nat.le_of_ble_eq_true rfl) ⟨Nat.le_of_ble_eq_true rfl, Nat.le_of_ble_eq_true rfl⟩ ⟨Nat.le_of_ble_eq_true rfl, Nat.le_of_ble_eq_true rfl⟩ (fun H locs P => ?_)
            refine W.eq (g2 := F0 m 62 ls [.ref (ad (18 + s_lk st s)), .double (st.2.1 11 0), .double (hE st lim), .int 0, .ref (ad (18 + s)), .ref (ad (12 + t)), .ref x, .ref x]) rfl ?_
            refine W.widen (k := 8) (n := 50) (Nat.le_of_ble_eq_true rfl) (Nat.le_of_ble_eq_true rfl) ?_
            have hxo := hF0.nown hxL
            refine pw_callSW (Wd := 16) (nL' := 2) (rest := [.double (st.2.1 11 0), .double (hE st lim), .int 0, .ref (ad (18 + s)), .ref (ad (12 + t)), .ref x, .ref x]) S P (hw_X5_leave ho hlk8 hlkk hF) q679 q46 (pw_entV (q := (RX5, TX5, 6)) [] S P (hF.lk (by omega) hlkk).1 (hF.lk (by omega) hlkk).2 rfl q676 q677 q678 q679 ⟨by decide +kernel, by decide +kernel, (by decide +kernel : (parseMethodDescriptor yX5_leave.desc).map (fun d => d.parameters.length) = some 0)⟩ dX1_await_62) hl.1 (Nat.le_of_ble_eq_true rfl) ⟨Nat.le_of_ble_eq_true rfl, Nat.le_of_ble_eq_true rfl⟩ ⟨Nat.le_of_ble_eq_true rfl, Nat.le_of_ble_eq_true rfl⟩ (fun H locs fL P hF hlvL hfrL => ?_)
            refine W.eq (g2 := F0 m 65 ls [.int (st.1 14 (s_lk st s)), .double (st.2.1 11 0), .double (hE st lim), .int 0, .ref (ad (18 + s)), .ref (ad (12 + t)), .ref x, .ref x]) rfl ?_
            refine W.widen (k := 8) (n := 50) (Nat.le_of_ble_eq_true rfl) (Nat.le_of_ble_eq_true rfl) ?_
            have hfx := (hfrL x hxo).trans hfx
            have hFL : HF cs ad (hAwY st s) L fL := ⟨fun r hr => ⟨hF0.mem hr, hF.eq hr⟩, hF.2⟩
            refine lv_iconst (v := 0) hx hb dX1_await_65 (by decide) ?_
            refine pw_callI (nL' := 10) (a := x) S P (hi_waiter (wb := false) hxm hfx) q508 q52 (pw_entI [.ref (ad (12 + t)), .ref (ad (18 + s)), .int 0, .double (hE st lim), .double (st.2.1 11 0), .int (st.1 14 (s_lk st s)), .int 0] S rfl q506 q507 q508 ⟨by decide +kernel, by decide +kernel, (by decide +kernel : (parseMethodDescriptor yX10_init.desc).map (fun d => d.parameters.length) = some 7)⟩ dX1_await_66) hl.1 (Nat.le_of_ble_eq_true rfl) ⟨Nat.le_of_ble_eq_true rfl, Nat.le_of_ble_eq_true rfl⟩ ⟨Nat.le_of_ble_eq_true rfl, Nat.le_of_ble_eq_true rfl⟩ (fun H locs fI P hfx hfo2 => ?_)
            have hF := hFL.ext (f' := fI) hLs (fun a ha => hfo2 a (fun z => hxL (z ▸ ha)))
            have hfw : fI x = hWait (hAwX st t s (hE st lim)) (va_up ad (34 + t) x) t := by rw [aw_wait hoY hs hb0 hk6]; exact hfx
            refine lv_astore (lv' := [(7, .ref x), (6, .ref (ad (18 + s))), (5, .ref (ad (12 + t))), (0, .ref (ad 0)), (1, .int (nI t)), (2, .int (nI s)), (3, .double lim)]) hx hb dX1_await_69 hl (by decide) rfl (fun ls hl => ?_)
            refine lv_aload hx hb dX1_await_71 (lv_at hl 1 rfl) ?_
            refine lv_aload hx hb dX1_await_73 (lv_at hl 0 rfl) ?_
            refine pw_callA (nL' := 3) S P (hw_add hoY hs (Or.inr (Or.inr (Or.inr (Or.inr hk6)))) ht hb0 aw_d hxm (hFL.nown hxL) hfw hF) q546 q45 (pw_entU (q := (RX9, TX9, 4)) "SyncHall$Sync" [.ref x] S P (hF.cd hs hk6).1 (hF.cd hs hk6).2 rfl q680 q681 q683 q539 q546 (va_Decl_in S q539 q546) ⟨by decide +kernel, by decide +kernel, (by decide +kernel : (parseMethodDescriptor (⟨"SyncHall$Condition", "add", "(LSyncHall$Waiter;)V"⟩ : MethodName).desc).map (fun d => d.parameters.length) = some 1)⟩ dX1_await_75) hl.1 (Nat.le_of_ble_eq_true rfl) ⟨Nat.le_of_ble_eq_true rfl, Nat.le_of_ble_eq_true rfl⟩ ⟨Nat.le_of_ble_eq_true rfl, Nat.le_of_ble_eq_true rfl⟩ (fun H locs fD P hF hfrA => ?_)
            have hrel : hRel cs ad st L f0 (va_up ad (34 + t) x) (hAwX st t s (hE st lim)) (L ++ [x]) fD := ⟨hF, fun i hi _ => adw (by omega), hLs, fun a ha hno => by
              have hax : a ≠ x := fun z => hxL (z ▸ ha)
              have h1 := hfrA a hax hno
              exact ⟨h1.1.trans ((hfo2 a hax).trans ((hfrL a hno).trans ((hfo a hax).trans (congrFun hf0 a).symm))), h1.2⟩, rfl⟩
            obtain ⟨ad, hrel, hl⟩ : ∃ z : Nat → Nat, hRel cs ad st L f0 z (hAwX st t s (hE st lim)) (L ++ [x]) fD ∧ lv_has ls 8 [(7, .ref (z (34 + t))), (6, .ref (z (18 + s))), (5, .ref (z (12 + t))), (0, .ref (z 0)), (1, .int (nI t)), (2, .int (nI s)), (3, .double lim)] := ⟨_, hrel, by rw [adw (r := 18 + s) (by omega), adw (r := 12 + t) (by omega), adw (r := 0) (by omega), show va_up ad (34 + t) x (34 + t) = x from if_pos rfl]; exact hl⟩
            have hF := hrel.1
            have hFr : ∀ a, ¬ hOwn (hAwX st t s (hE st lim)) ad a → fD a = fD a := fun _ _ => rfl
            refine lv_aload hx hb dX1_await_78 (lv_at hl 2 rfl) ?_
            refine lv_iconst (v := 0) hx hb dX1_await_80 (by decide) ?_
            refine hp_task (st' := sI (hAwX st t s (hE st lim)) 4 t 0) (t := t) (k := 2) (v := .int 0) S P hF (by omega) (by decide) q78 rfl rfl (rfl) (rfl) (tDiff_I (by decide)) (by unfold hTask; rw [show (sI (hAwX st t s (hE st lim)) 4 t 0).1 4 t = 0 from pk_us]; rfl) dX1_await_81 (fun H locs f P hF hfr => ?_)
            have hFr : ∀ a, ¬ hOwn (hAwX st t s (hE st lim)) ad a → f a = _ := fun a ha => (hfr a ha).trans (hFr a ha)
            have hrel := hrel.stay hF (fun _ h => h) hFr rfl
            rw [aw_x] at hF hrel
            have ho3 : Ok (n + 1) (s_enter (sI (sD (s_aw0 st t s) 7 t (hE st lim)) 6 t 0) t s) := (ho.mono (Nat.le_succ n)).awe hs ht hb0 hk6 how (ho.rd ht hb0)
            have hk3 : (s_enter (sI (sD (s_aw0 st t s) 7 t (hE st lim)) 6 t 0) t s).1 12 s = 6 := hk6
            have hl3 : s_lk (s_enter (sI (sD (s_aw0 st t s) 7 t (hE st lim)) 6 t 0) t s) s = s_lk st s := rfl
            have hlkk3 : (s_enter (sI (sD (s_aw0 st t s) 7 t (hE st lim)) 6 t 0) t s).1 12 (s_lk st s) = 0 ∨ (s_enter (sI (sD (s_aw0 st t s) 7 t (hE st lim)) 6 t 0) t s).1 12 (s_lk st s) = 1 := hlkk
            have hm3 : t ∈ (s_enter (sI (sD (s_aw0 st t s) 7 t (hE st lim)) 6 t 0) t s).2.2 s := by
              show t ∈ va_up st.2.2 s (st.2.2 s ++ [t]) s
              simp [va_up]
            have hqe := aw_queue (e := hE st lim) ho hs ht hb0
            have hse : ¬ FP.dcmp lim FP.dconst0 = some .eq → s_aw1 st t s lim = s_serve (s_enter (sI (sD (s_aw0 st t s) 7 t (hE st lim)) 6 t 0) t s) (s_lk st s) := fun z => by unfold s_aw1; rw [if_neg z, hE_ne hin z]
            have hqe2 : FP.dcmp lim FP.dconst0 = some .eq → s_aw1 st t s lim = s_queue (s_enter (sI (sD (s_aw0 st t s) 7 t (hE st lim)) 6 t 0) t s) t s 2 := fun z => by unfold s_aw1; rw [if_pos z, hqe]
            clear hqe
            obtain ⟨st3, hst3⟩ : ∃ z, z = s_enter (sI (sD (s_aw0 st t s) 7 t (hE st lim)) 6 t 0) t s := ⟨_, rfl⟩
            rw [← hst3] at hF hrel ho3 hk3 hl3 hlkk3 hm3 hse hqe2
            refine lv_dload_n hx hb dX1_await_84 rfl (lv_at hl 6 rfl) ?_
            refine lv_dconst0 hx hb dX1_await_85 ?_
            refine lv_dcmp hx hb dX1_await_86 ?_
            refine lv_if_ne (tgt := 105) (x := Op.cmpValue (FP.dcmp lim FP.dconst0) .l) hx hb dX1_await_87 (by decide) (fun c87 => ?_) (fun c87 => ?_)
            · simp only [cv_l_eq0, Decidable.not_not] at c87
              refine lv_aload hx hb dX1_await_105 (lv_at hl 1 rfl) ?_
              refine pw_callR (nL' := 1) (rest := []) S P (hr_X9_lock ho3 hs hk3 hF) q675 q50 (pw_entV (q := (RX9, TX9, 4)) [] S P (hF.cd (by omega) hk3).1 (hF.cd (by omega) hk3).2 rfl q672 q673 q674 q675 ⟨by decide +kernel, by decide +kernel, (by decide +kernel : (parseMethodDescriptor yX9_lock.desc).map (fun d => d.parameters.length) = some 0)⟩ dX1_await_107) hl.1 (Nat.le_of_ble_eq_true rfl) ⟨Nat.le_of_ble_eq_true rfl, Nat.le_of_ble_eq_true rfl⟩ ⟨Nat.le_of_ble_eq_true rfl, Nat.le_of_ble_eq_true rfl⟩ (fun H locs P => ?_)
              refine W.eq (g2 := F0 m 110 ls [.ref (ad (18 + s_lk st3 s))]) rfl ?_
              refine W.widen (k := 8) (n := 50) (Nat.le_of_ble_eq_true rfl) (Nat.le_of_ble_eq_true rfl) ?_
              refine lw_eqv (w := .ref (ad (18 + s_lk st s))) (by rw [hl3]) ?_
              refine lv_aload_n hx hb dX1_await_110 rfl (lv_at hl 3 rfl) ?_
              refine pw_get (q := (RX1, TX1, 6)) (k := 5) S P (hF.m (by decide)) hF.hall rfl (by decide) q101 (Or.inl rfl) rfl dX1_await_111 ?_
              refine pw_callS (nL' := 4) S P (hw_serve ho3 hlk8 (Or.inl hlkk3) hn rfl ho3.db.1 hF) q597 q45 (pw_entU (q := (RX5, TX5, 6)) "SyncHall$Sync" [.double (st3.2.1 11 0)] S P (hF.lk hlk8 hlkk3).1 (hF.lk hlk8 hlkk3).2 rfl q709 q706 q708 q590 q597 (va_Decl_in S q590 q597) ⟨by decide +kernel, by decide +kernel, (by decide +kernel : (parseMethodDescriptor (⟨"SyncHall$Lock", "serve", "(D)V"⟩ : MethodName).desc).map (fun d => d.parameters.length) = some 1)⟩ dX1_await_114) hl.1 (Nat.le_of_ble_eq_true rfl) ⟨Nat.le_of_ble_eq_true rfl, Nat.le_of_ble_eq_true rfl⟩ ⟨Nat.le_of_ble_eq_true rfl, Nat.le_of_ble_eq_true rfl⟩ (fun H locs f2 P hF hlv2 hfr2 => ?_)
              have hrel2 := hrel.stay hF hlv2 hfr2 (s_serve_I (by decide))
              refine lv_aload hx hb dX1_await_117 (lv_at hl 2 rfl) ?_
              refine pw_get (q := (RX2, TX2, 5)) (k := 2) S P (hF.m (by omega)) (hF.tk (by omega)) rfl (by decide) q78 (Or.inl rfl) rfl dX1_await_119 ?_
              exact gw_iret S P hQ hr hlk ⟨Nat.le_of_ble_eq_true rfl, Nat.le_of_ble_eq_true rfl⟩ dX1_await_122 (by rw [← hf0]; exact hEnd (r := (0, (s_serve st3 (s_lk st s)).1 4 t, s_serve st3 (s_lk st s))) (by rw [hres, hse c87]) hrel2.post)
            · simp only [cv_l_eq0, Decidable.not_not] at c87
              refine lv_aload hx hb dX1_await_90 (lv_at hl 1 rfl) ?_
              refine lv_aload hx hb dX1_await_92 (lv_at hl 0 rfl) ?_
              refine lv_iconst (v := 2) hx hb dX1_await_94 (by decide) ?_
              refine lv_aload_n hx hb dX1_await_95 rfl (lv_at hl 3 rfl) ?_
              refine pw_get (q := (RX1, TX1, 6)) (k := 5) S P (hF.m (by decide)) hF.hall rfl (by decide) q101 (Or.inl rfl) rfl dX1_await_96 ?_
              refine pw_callH (nL' := 5) (rest := []) S P (hw_queue ho3 hs hk3 hm3 hn rfl ho3.db.1 hF) q687 q50 (pw_entV (q := (RX9, TX9, 4)) [.ref (ad (34 + t)), .int 2, .double (st3.2.1 11 0)] S P (hF.cd (by omega) hk3).1 (hF.cd (by omega) hk3).2 rfl q684 q685 q686 q687 ⟨by decide +kernel, by decide +kernel, (by decide +kernel : (parseMethodDescriptor yX9_queue.desc).map (fun d => d.parameters.length) = some 3)⟩ dX1_await_99) hl.1 (Nat.le_of_ble_eq_true rfl) ⟨Nat.le_of_ble_eq_true rfl, Nat.le_of_ble_eq_true rfl⟩ ⟨Nat.le_of_ble_eq_true rfl, Nat.le_of_ble_eq_true rfl⟩ (fun H locs L2 f2 ad2 P hF2 had hLs2 hfr2 => ?_)
              refine W.eq (g2 := F0 m 102 ls []) rfl ?_
              refine W.widen (k := 9) (n := 58) (Nat.le_of_ble_eq_true rfl) (Nat.le_of_ble_eq_true rfl) ?_
              have hrel2 := hrel.step hF2 had hLs2 hfr2 (s_queue_I (by decide))
              have e12 := had (12 + t) (by omega) (hl_lo (by omega))
              have htk := hF2.tk ht
              have htm := hF2.m (r := 12 + t) (by omega)
              rw [e12] at htk htm
              refine lv_goto (tgt := 117) hx hb dX1_await_102 (by decide) ?_
              refine lv_aload hx hb dX1_await_117 (lv_at hl 2 rfl) ?_
              refine pw_get (q := (RX2, TX2, 5)) (k := 2) S P htm htk rfl (by decide) q78 (Or.inl rfl) rfl dX1_await_119 ?_
              exact gw_iret S P hQ hr hlk ⟨Nat.le_of_ble_eq_true rfl, Nat.le_of_ble_eq_true rfl⟩ dX1_await_122 (by rw [← hf0]; exact hEnd (r := (0, (s_queue st3 t s 2).1 4 t, s_queue st3 t s 2)) (by rw [hres, hqe2 c87]) hrel2.post)
          · have _h := True.intro
            refine lv_aload_n hx hb dX1_await_32 rfl (lv_at hl 2 rfl) ?_
            refine lv_aload hx hb dX1_await_33 (lv_at hl 1 rfl) ?_
            refine pw_callS (nL' := 2) (rest := []) S P (hw_interrupted ht hF) q394 q36 (pw_entV (q := (RX1, TX1, 6)) [.ref (ad (12 + t))] S P (hF.m (by decide)) hF.hall rfl q391 q393 qs4 q394 ⟨by decide +kernel, by decide +kernel, (by decide +kernel : (parseMethodDescriptor yX1_interrupted.desc).map (fun d => d.parameters.length) = some 1)⟩ dX1_await_35) hl.1 (Nat.le_of_ble_eq_true rfl) ⟨Nat.le_of_ble_eq_true rfl, Nat.le_of_ble_eq_true rfl⟩ ⟨Nat.le_of_ble_eq_true rfl, Nat.le_of_ble_eq_true rfl⟩ (fun H locs f' P hF hlv hfr => ?_)
            refine W.eq (g2 := F0 m 38 ls [.int 3]) rfl ?_
            refine W.widen (k := 7) (n := 42) (Nat.le_of_ble_eq_true rfl) (Nat.le_of_ble_eq_true rfl) ?_
            exact gw_iret S P hQ hr hlk ⟨Nat.le_of_ble_eq_true rfl, Nat.le_of_ble_eq_true rfl⟩ dX1_await_38 (hEnd (r := (0, 3, sI (sI st 2 t 0) 4 t 3)) (by rw [show s_await st (nI t) (nI s) lim = s_aw st t s lim from by unfold s_await; rw [if_neg (by rintro (q | q | q); exact absurd q (bnt o2); exact absurd q (bnt o8); exact absurd hin (bnt q)), iN_nI ht (by decide), iN_nI hs (by decide)]]; unfold s_aw; rw [if_neg (fun z => z qc), if_pos c29]) (hPost_same (o := .inl (some (.int 3))) hF hlv hfr).to)
        · have _h := True.intro
          exact pw_callT (nL' := 5) (rest := []) S P hQ (ht_owned hst ho ht hs qc hF) q671 q36 (pw_entV (q := (RX1, TX1, 6)) [.ref (ad (12 + t)), .int (nI s)] S P (hF.m (by decide)) hF.hall rfl q668 q670 qs13 q671 ⟨by decide +kernel, by decide +kernel, (by decide +kernel : (parseMethodDescriptor yX1_owned.desc).map (fun d => d.parameters.length) = some 2)⟩ dX1_await_19) htb hlk hl.1 (Nat.le_of_ble_eq_true rfl) ⟨Nat.le_of_ble_eq_true rfl, Nat.le_of_ble_eq_true rfl⟩ ⟨Nat.le_of_ble_eq_true rfl, Nat.le_of_ble_eq_true rfl⟩ ⟨Nat.le_of_ble_eq_true rfl, Nat.le_of_ble_eq_true rfl⟩ (hEnd (r := (s_checkC st t s, 0, st)) (by rw [show s_await st (nI t) (nI s) lim = s_aw st t s lim from by unfold s_await; rw [if_neg (by rintro (q | q | q); exact absurd q (bnt o2); exact absurd q (bnt o8); exact absurd hin (bnt q)), iN_nI ht (by decide), iN_nI hs (by decide)]]; exact if_pos qc) (by rw [show hOut (s_checkC st t s, 0, st) = .inr (hExc (s_checkC st t s)) from if_neg qc]; exact hPost_th hF))
      · have _h := True.intro
        rw [Bool.not_eq_true] at hin
        exact pw_callT (nL' := 2) (rest := []) S P hQ (ht_limit hst ho hin hF) q363 q36 (pw_entS [.double lim] S q361 q362 q36 q363 ⟨by decide +kernel, by decide +kernel, (by decide +kernel : (parseMethodDescriptor yX1_limit.desc).map (fun d => d.parameters.length) = some 1)⟩ dX1_await_12) htb hlk hl.1 (Nat.le_of_ble_eq_true rfl) ⟨Nat.le_of_ble_eq_true rfl, Nat.le_of_ble_eq_true rfl⟩ ⟨Nat.le_of_ble_eq_true rfl, Nat.le_of_ble_eq_true rfl⟩ ⟨Nat.le_of_ble_eq_true rfl, Nat.le_of_ble_eq_true rfl⟩ (hEnd (r := (1, 0, st)) (if_pos (Or.inr (Or.inr hin))) (hPost_th hF))
