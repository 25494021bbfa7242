/-! SyncHall.thread, sync, by gen_h21.py -/
set_option maxHeartbeats 8000000 in
set_option maxRecDepth 100000 in
theorem hm_thread {l : Launch} {D : va_G} {cs : Nat → ClassId} {ad : Nat → Nat} {L : List Nat} {f : Nat → va_E} (hst : l.stackTraces = false) {n : Nat} {st : St} (ho : Ok n st) {tv wv : Int32}  (hF : HF cs ad st L f) : PM l D cs yX1_thread cX1_thread 5 (some .int) (rmL 9 2 12) [.ref (ad 0), .int tv, .int wv] L f (hPost cs ad st L f (hOut (s_thread st tv wv)) (s_thread st tv wv).2.2) := by
  refine hm_of "SyncHall" rfl (by decide +kernel) (Nat.le_of_ble_eq_true rfl) ?_
  intro sz p e u m below meth c S P hsz hr hlk hnm htb ls hl Q hQ
  have hl : lv_has ls 5 [(0, .ref (ad 0)), (1, .int tv), (2, .int wv)] := hl
  have hx := S.1
  have hb := S.2.1
  generalize hH0 : u.heap = H at P ⊢
  generalize ([] : List Loc) = locs at P ⊢
  have hFr : ∀ a, ¬ hOwn st ad a → f a = f a := fun _ _ => rfl
  refine lv_aload_n hx hb dX1_thread_0 rfl (lv_at hl 0 rfl) ?_
  refine lv_iload_n hx hb dX1_thread_1 rfl (lv_at hl 1 rfl) ?_
  by_cases o2 : isOut tv 6 = true
  · have _h := True.intro
    exact pw_callT (nL' := 2) (rest := []) S P hQ (ht_task hst ho o2 hF) q350 q36 (pw_entV (q := (RX1, TX1, 6)) [.int tv] S P (hF.m (by decide)) hF.hall rfl q347 q349 qs2 q350 ⟨by decide +kernel, by decide +kernel, (by decide +kernel : (parseMethodDescriptor yX1_task.desc).map (fun d => d.parameters.length) = some 1)⟩ dX1_thread_2) htb hlk hl.1 (Nat.le_of_ble_eq_true rfl) ⟨Nat.le_of_ble_eq_true rfl, Nat.le_of_ble_eq_true rfl⟩ ⟨Nat.le_of_ble_eq_true rfl, Nat.le_of_ble_eq_true rfl⟩ ⟨Nat.le_of_ble_eq_true rfl, Nat.le_of_ble_eq_true rfl⟩ (hEnd (r := (1, 0, st)) (if_pos (Or.inl o2)) (hPost_th hF))
  · have _h := True.intro
    obtain ⟨t, ht, rfl⟩ := isOut_f (N := 6) rfl (by decide) (Bool.eq_false_iff.mpr o2)
    rw [Bool.not_eq_true] at o2
    refine pw_callR (nL' := 2) (rest := []) S P (hr_task ho ht hF) q350 q36 (pw_entV (q := (RX1, TX1, 6)) [.int (nI t)] S P (hF.m (by decide)) hF.hall rfl q347 q349 qs2 q350 ⟨by decide +kernel, by decide +kernel, (by decide +kernel : (parseMethodDescriptor yX1_task.desc).map (fun d => d.parameters.length) = some 1)⟩ dX1_thread_2) hl.1 (Nat.le_of_ble_eq_true rfl) ⟨Nat.le_of_ble_eq_true rfl, Nat.le_of_ble_eq_true rfl⟩ ⟨Nat.le_of_ble_eq_true rfl, Nat.le_of_ble_eq_true rfl⟩ (fun H locs P => ?_)
    refine W.eq (g2 := F0 m 5 ls [.ref (ad (12 + t))]) rfl ?_
    refine W.widen (k := 1) (n := 6) (Nat.le_of_ble_eq_true rfl) (Nat.le_of_ble_eq_true rfl) ?_
    refine lv_astore_n (lv' := [(3, .ref (ad (12 + t))), (0, .ref (ad 0)), (1, .int (nI t)), (2, .int wv)]) hx hb dX1_thread_5 rfl hl (by decide) rfl (fun ls hl => ?_)
    refine lv_iload_n hx hb dX1_thread_6 rfl (lv_at hl 3 rfl) ?_
    refine lv_if_lt (tgt := 20) (x := wv) hx hb dX1_thread_7 (by decide) (fun c7 => ?_) (fun c7 => ?_)
    · have _h := True.intro
      refine lv_iconst (v := 0) hx hb dX1_thread_20 (by decide) ?_
      exact pw_callT (nL' := 1) (rest := []) S P hQ (ht_range hst) q134 q36 (pw_entS [.int 0] S q132 q133 q36 q134 ⟨by decide +kernel, by decide +kernel, (by decide +kernel : (parseMethodDescriptor yX1_range.desc).map (fun d => d.parameters.length) = some 1)⟩ dX1_thread_21) htb hlk hl.1 (Nat.le_of_ble_eq_true rfl) ⟨Nat.le_of_ble_eq_true rfl, Nat.le_of_ble_eq_true rfl⟩ ⟨Nat.le_of_ble_eq_true rfl, Nat.le_of_ble_eq_true rfl⟩ ⟨Nat.le_of_ble_eq_true rfl, Nat.le_of_ble_eq_true rfl⟩ (hEnd (r := (1, 0, st)) (if_pos (Or.inr (io_t (a := 10) (by decide) (Or.inl c7)))) (hPost_th hF))
    · have _h := True.intro
      refine lv_iload_n hx hb dX1_thread_10 rfl (lv_at hl 3 rfl) ?_
      refine lv_bipush (v := 10) hx hb dX1_thread_11 (by decide) ?_
      refine lv_icmp_gt (tgt := 20) (x := wv) (y := 10) hx hb dX1_thread_13 (by decide) (fun c13 => ?_) (fun c13 => ?_)
      · have _h := True.intro
        refine lv_iconst (v := 0) hx hb dX1_thread_20 (by decide) ?_
        exact pw_callT (nL' := 1) (rest := []) S P hQ (ht_range hst) q134 q36 (pw_entS [.int 0] S q132 q133 q36 q134 ⟨by decide +kernel, by decide +kernel, (by decide +kernel : (parseMethodDescriptor yX1_range.desc).map (fun d => d.parameters.length) = some 1)⟩ dX1_thread_21) htb hlk hl.1 (Nat.le_of_ble_eq_true rfl) ⟨Nat.le_of_ble_eq_true rfl, Nat.le_of_ble_eq_true rfl⟩ ⟨Nat.le_of_ble_eq_true rfl, Nat.le_of_ble_eq_true rfl⟩ ⟨Nat.le_of_ble_eq_true rfl, Nat.le_of_ble_eq_true rfl⟩ (hEnd (r := (1, 0, st)) (if_pos (Or.inr (io_t (a := 10) (by decide) (Or.inr c13)))) (hPost_th hF))
      · have _h := True.intro
        refine lv_iconst (v := 1) hx hb dX1_thread_16 (by decide) ?_
        refine lv_goto (tgt := 21) hx hb dX1_thread_17 (by decide) ?_
        refine pw_callR (nL' := 1) (rest := []) S P (hs_range True.intro) q134 q36 (pw_entS [.int 1] S q132 q133 q36 q134 ⟨by decide +kernel, by decide +kernel, (by decide +kernel : (parseMethodDescriptor yX1_range.desc).map (fun d => d.parameters.length) = some 1)⟩ dX1_thread_21) hl.1 (Nat.le_of_ble_eq_true rfl) ⟨Nat.le_of_ble_eq_true rfl, Nat.le_of_ble_eq_true rfl⟩ ⟨Nat.le_of_ble_eq_true rfl, Nat.le_of_ble_eq_true rfl⟩ (fun H locs P => ?_)
        refine W.eq (g2 := F0 m 24 ls []) rfl ?_
        refine W.widen (k := 2) (n := 12) (Nat.le_of_ble_eq_true rfl) (Nat.le_of_ble_eq_true rfl) ?_
        have ow := io_f (a := 10) (b := 11) (by decide) c7 c13
        obtain ⟨w, hw, rfl⟩ := isOut_f (N := 11) rfl (by decide) ow
        refine lv_iload_n hx hb dX1_thread_24 rfl (lv_at hl 3 rfl) ?_
        rcases (by omega : w = 0 ∨ w = 1 ∨ w = 2 ∨ 3 ≤ w) with rfl | rfl | rfl | hw3
        · refine lv_tableIn (tgt := 52) (off := 27) hx hb dX1_thread_25 (by decide) (by decide) (by decide) (by decide) ?_
          refine lv_aload_n hx hb dX1_thread_52 rfl (lv_at hl 0 rfl) ?_
          refine pw_callR (nL' := 1) (rest := []) S P (hg_blocked (hF.m (by omega)) (hF.tk (by omega))) q372 q37 (pw_entV (q := (RX2, TX2, 5)) [] S P (hF.m (by omega)) (hF.tk (by omega)) rfl q369 q370 q371 q372 ⟨by decide +kernel, by decide +kernel, (by decide +kernel : (parseMethodDescriptor yX2_blocked.desc).map (fun d => d.parameters.length) = some 0)⟩ dX1_thread_53) hl.1 (Nat.le_of_ble_eq_true rfl) ⟨Nat.le_of_ble_eq_true rfl, Nat.le_of_ble_eq_true rfl⟩ ⟨Nat.le_of_ble_eq_true rfl, Nat.le_of_ble_eq_true rfl⟩ (fun H locs P => ?_)
          refine W.eq (g2 := F0 m 56 ls [.int (bI (hPl st ad t).isSome)]) rfl ?_
          refine W.widen (k := 2) (n := 12) (Nat.le_of_ble_eq_true rfl) (Nat.le_of_ble_eq_true rfl) ?_
          refine lv_if_eq (tgt := 63) (x := bI (hPl st ad t).isSome) hx hb dX1_thread_56 (by decide) (fun c56 => ?_) (fun c56 => ?_)
          · rw [bI_eq0] at c56
            refine lv_iconst (v := 0) hx hb dX1_thread_63 (by decide) ?_
            exact gw_iret S P hQ hr hlk ⟨Nat.le_of_ble_eq_true rfl, Nat.le_of_ble_eq_true rfl⟩ dX1_thread_64 (hEnd (r := (0, 0, st)) ((show s_thread st (nI t) (nI 0) = (0, s_thr st t (nI 0), st) from by unfold s_thread; rw [if_neg (by rintro (q | q); exact absurd q (bnt o2); exact absurd q (bnt ow)), iN_nI ht (by decide)]).trans (congrArg (fun z => ((0 : Int32), z, st)) (thr_0.trans (if_neg (fun z => z (hPl_none.mp (by cases hq : hPl st ad t with | none => rfl | some x => rw [hq] at c56; cases c56))))))) (hPost_lk hF))
          · rw [bI_eq0, Bool.not_eq_false] at c56
            refine lv_iconst (v := 1) hx hb dX1_thread_59 (by decide) ?_
            refine lv_goto (tgt := 64) hx hb dX1_thread_60 (by decide) ?_
            exact gw_iret S P hQ hr hlk ⟨Nat.le_of_ble_eq_true rfl, Nat.le_of_ble_eq_true rfl⟩ dX1_thread_64 (hEnd (r := (0, 1, st)) ((show s_thread st (nI t) (nI 0) = (0, s_thr st t (nI 0), st) from by unfold s_thread; rw [if_neg (by rintro (q | q); exact absurd q (bnt o2); exact absurd q (bnt ow)), iN_nI ht (by decide)]).trans (congrArg (fun z => ((0 : Int32), z, st)) (thr_0.trans (if_pos (fun z => by rw [hPl_none.mpr z] at c56; cases c56))))) (hPost_lk hF))
        · refine lv_tableIn (tgt := 65) (off := 40) hx hb dX1_thread_25 (by decide) (by decide) (by decide) (by decide) ?_
          refine lv_aload_n hx hb dX1_thread_65 rfl (lv_at hl 0 rfl) ?_
          refine pw_get (q := (RX2, TX2, 5)) (k := 2) S P (hF.m (by omega)) (hF.tk (by omega)) rfl (by decide) q78 (Or.inl rfl) rfl dX1_thread_66 ?_
          exact gw_iret S P hQ hr hlk ⟨Nat.le_of_ble_eq_true rfl, Nat.le_of_ble_eq_true rfl⟩ dX1_thread_69 (hEnd (r := (0, st.1 4 t, st)) ((show s_thread st (nI t) (nI 1) = (0, s_thr st t (nI 1), st) from by unfold s_thread; rw [if_neg (by rintro (q | q); exact absurd q (bnt o2); exact absurd q (bnt ow)), iN_nI ht (by decide)]).trans (congrArg (fun z => ((0 : Int32), z, st)) (thr_1))) (hPost_lk hF))
        · refine lv_tableIn (tgt := 70) (off := 45) hx hb dX1_thread_25 (by decide) (by decide) (by decide) (by decide) ?_
          refine lv_aload_n hx hb dX1_thread_70 rfl (lv_at hl 0 rfl) ?_
          refine pw_get (q := (RX2, TX2, 5)) (k := 3) S P (hF.m (by omega)) (hF.tk (by omega)) rfl (by decide) q80 (Or.inl rfl) rfl dX1_thread_71 ?_
          refine lv_if_eq (tgt := 81) (x := st.1 2 t) hx hb dX1_thread_74 (by decide) (fun c74 => ?_) (fun c74 => ?_)
          · have _h := True.intro
            refine lv_iconst (v := 0) hx hb dX1_thread_81 (by decide) ?_
            exact gw_iret S P hQ hr hlk ⟨Nat.le_of_ble_eq_true rfl, Nat.le_of_ble_eq_true rfl⟩ dX1_thread_82 (hEnd (r := (0, 0, st)) ((show s_thread st (nI t) (nI 2) = (0, s_thr st t (nI 2), st) from by unfold s_thread; rw [if_neg (by rintro (q | q); exact absurd q (bnt o2); exact absurd q (bnt ow)), iN_nI ht (by decide)]).trans (congrArg (fun z => ((0 : Int32), z, st)) (thr_2.trans (if_neg (fun z => z c74))))) (hPost_lk hF))
          · have _h := True.intro
            refine lv_iconst (v := 1) hx hb dX1_thread_77 (by decide) ?_
            refine lv_goto (tgt := 82) hx hb dX1_thread_78 (by decide) ?_
            exact gw_iret S P hQ hr hlk ⟨Nat.le_of_ble_eq_true rfl, Nat.le_of_ble_eq_true rfl⟩ dX1_thread_82 (hEnd (r := (0, 1, st)) ((show s_thread st (nI t) (nI 2) = (0, s_thr st t (nI 2), st) from by unfold s_thread; rw [if_neg (by rintro (q | q); exact absurd q (bnt o2); exact absurd q (bnt ow)), iN_nI ht (by decide)]).trans (congrArg (fun z => ((0 : Int32), z, st)) (thr_2.trans (if_pos c74)))) (hPost_lk hF))
        · refine lv_tableOut (tgt := 83) hx hb dX1_thread_25 (Or.inr (by rw [nI_ti (by omega)]; omega)) (by decide) ?_
          refine lv_aload_n hx hb dX1_thread_83 rfl (lv_at hl 1 rfl) ?_
          refine pw_get (q := (RX1, TX1, 6)) (k := 1) S P (hF.m (by decide)) hF.hall rfl (by decide) q97 (Or.inl rfl) rfl dX1_thread_84 ?_
          refine lv_iload_n hx hb dX1_thread_87 rfl (lv_at hl 3 rfl) ?_
          refine lv_iconst (v := 3) hx hb dX1_thread_88 (by decide) ?_
          refine ni_isub (a := w) (b := 3) hx hb (by omega) dX1_thread_89 ?_
          refine pw_aald (j := w - 3) 4 S P (hF.m (by decide)) hF.syncs rfl rfl rfl (by omega) (by decide) dX1_thread_90 ?_
          refine lw_eqv (w := va_rf (hSyR st ad (w - 3))) (congrArg va_rf (if_pos (by omega))) ?_
          refine lw_astore (lv' := [(4, va_rf (hSyR st ad (w - 3))), (3, .ref (ad (12 + t))), (0, .ref (ad 0)), (1, .int (nI t)), (2, .int (nI w))]) hx hb dX1_thread_91 hl (by decide) rfl (fun ls hl => ?_)
          refine lw_aload hx hb dX1_thread_93 (lv_at hl 0 rfl) ?_
          refine lw_ifnonnull (tgt := 102) hx hb dX1_thread_95 (by decide) (fun c95 => ?_) (fun c95 => ?_)
          · rw [hSyR_none] at c95
            rw [hSyR_some c95] at hl
            have hkd : hKd st (w - 3) := ho.kd (by omega) c95
            refine lv_aload hx hb dX1_thread_102 (lv_at hl 0 rfl) ?_
            refine lv_aload_n hx hb dX1_thread_104 rfl (lv_at hl 1 rfl) ?_
            refine vc_held S P ho hF (by omega) hkd ht q769 dX1_thread_105 hl.1 (Nat.le_of_ble_eq_true rfl) ⟨Nat.le_of_ble_eq_true rfl, Nat.le_of_ble_eq_true rfl⟩ ⟨Nat.le_of_ble_eq_true rfl, Nat.le_of_ble_eq_true rfl⟩ (fun H locs P => ?_)
            exact gw_iret S P hQ hr hlk ⟨Nat.le_of_ble_eq_true rfl, Nat.le_of_ble_eq_true rfl⟩ dX1_thread_108 (hEnd (r := (0, (if (st.1 12 (w - 3) = 0 ∨ st.1 12 (w - 3) = 1 ∨ st.1 12 (w - 3) = 5) ∧ st.1 13 (w - 3) = nI t then st.1 14 (w - 3) else 0) + (if st.1 12 (w - 3) = 5 then st.1 17 (6 * (w - 3) + t) else 0), st)) ((show s_thread st (nI t) (nI w) = (0, s_thr st t (nI w), st) from by unfold s_thread; rw [if_neg (by rintro (q | q); exact absurd q (bnt o2); exact absurd q (bnt ow)), iN_nI ht (by decide)]).trans (congrArg (fun z => ((0 : Int32), z, st)) ((thr_3 hw hw3).trans (thr_held ho (by omega) ht).symm))) (hPost_lk hF))
          · rw [hSyR_none] at c95
            refine lv_iconst (v := 0) hx hb dX1_thread_98 (by decide) ?_
            refine lv_goto (tgt := 108) hx hb dX1_thread_99 (by decide) ?_
            exact gw_iret S P hQ hr hlk ⟨Nat.le_of_ble_eq_true rfl, Nat.le_of_ble_eq_true rfl⟩ dX1_thread_108 (hEnd (r := (0, 0, st)) ((show s_thread st (nI t) (nI w) = (0, s_thr st t (nI w), st) from by unfold s_thread; rw [if_neg (by rintro (q | q); exact absurd q (bnt o2); exact absurd q (bnt ow)), iN_nI ht (by decide)]).trans (congrArg (fun z => ((0 : Int32), z, st)) ((thr_3 hw hw3).trans (thr_none ho (by omega) ht c95).symm))) (hPost_lk hF))

set_option maxHeartbeats 8000000 in
set_option maxRecDepth 100000 in
theorem hm_sync {l : Launch} {D : va_G} {cs : Nat → ClassId} {ad : Nat → Nat} {L : List Nat} {f : Nat → va_E} (hst : l.stackTraces = false) {n : Nat} {st : St} (ho : Ok n st) {sv wv : Int32}  (hF : HF cs ad st L f) : PM l D cs yX1_sync cX1_sync 6 (some .int) (rmL 9 3 18) [.ref (ad 0), .int sv, .int wv] L f (hPost cs ad st L f (hOut (s_sync st sv wv)) (s_sync st sv wv).2.2) := by
  refine hm_of "SyncHall" rfl (by decide +kernel) (Nat.le_of_ble_eq_true rfl) ?_
  intro sz p e u m below meth c S P hsz hr hlk hnm htb ls hl Q hQ
  have hl : lv_has ls 6 [(0, .ref (ad 0)), (1, .int sv), (2, .int wv)] := hl
  have hx := S.1
  have hb := S.2.1
  generalize hH0 : u.heap = H at P ⊢
  generalize ([] : List Loc) = locs at P ⊢
  have hFr : ∀ a, ¬ hOwn st ad a → f a = f a := fun _ _ => rfl
  refine lv_iload_n hx hb dX1_sync_0 rfl (lv_at hl 1 rfl) ?_
  by_cases o1 : isOut sv 8 = true
  · have _h := True.intro
    exact pw_callT (nL' := 1) (rest := []) S P hQ (ht_number hst ho o1 hF) q131 q36 (pw_entS [.int sv] S q129 q130 q36 q131 ⟨by decide +kernel, by decide +kernel, (by decide +kernel : (parseMethodDescriptor yX1_number.desc).map (fun d => d.parameters.length) = some 1)⟩ dX1_sync_1) htb hlk hl.1 (Nat.le_of_ble_eq_true rfl) ⟨Nat.le_of_ble_eq_true rfl, Nat.le_of_ble_eq_true rfl⟩ ⟨Nat.le_of_ble_eq_true rfl, Nat.le_of_ble_eq_true rfl⟩ ⟨Nat.le_of_ble_eq_true rfl, Nat.le_of_ble_eq_true rfl⟩ (hEnd (r := (1, 0, st)) (if_pos (Or.inl o1)) (hPost_th hF))
  · have _h := True.intro
    obtain ⟨s, hs, rfl⟩ := isOut_f (N := 8) rfl (by decide) (Bool.eq_false_iff.mpr o1)
    rw [Bool.not_eq_true] at o1
    refine pw_callR (nL' := 1) (rest := []) S P (hr_number (ad := ad) ho hs hF) q131 q36 (pw_entS [.int (nI s)] S q129 q130 q36 q131 ⟨by decide +kernel, by decide +kernel, (by decide +kernel : (parseMethodDescriptor yX1_number.desc).map (fun d => d.parameters.length) = some 1)⟩ dX1_sync_1) hl.1 (Nat.le_of_ble_eq_true rfl) ⟨Nat.le_of_ble_eq_true rfl, Nat.le_of_ble_eq_true rfl⟩ ⟨Nat.le_of_ble_eq_true rfl, Nat.le_of_ble_eq_true rfl⟩ (fun H locs P => ?_)
    refine W.eq (g2 := F0 m 4 ls []) rfl ?_
    refine W.widen (k := 1) (n := 6) (Nat.le_of_ble_eq_true rfl) (Nat.le_of_ble_eq_true rfl) ?_
    refine lv_iload_n hx hb dX1_sync_4 rfl (lv_at hl 2 rfl) ?_
    refine lv_if_lt (tgt := 18) (x := wv) hx hb dX1_sync_5 (by decide) (fun c5 => ?_) (fun c5 => ?_)
    · have _h := True.intro
      refine lv_iconst (v := 0) hx hb dX1_sync_18 (by decide) ?_
      exact pw_callT (nL' := 1) (rest := []) S P hQ (ht_range hst) q134 q36 (pw_entS [.int 0] S q132 q133 q36 q134 ⟨by decide +kernel, by decide +kernel, (by decide +kernel : (parseMethodDescriptor yX1_range.desc).map (fun d => d.parameters.length) = some 1)⟩ dX1_sync_19) htb hlk hl.1 (Nat.le_of_ble_eq_true rfl) ⟨Nat.le_of_ble_eq_true rfl, Nat.le_of_ble_eq_true rfl⟩ ⟨Nat.le_of_ble_eq_true rfl, Nat.le_of_ble_eq_true rfl⟩ ⟨Nat.le_of_ble_eq_true rfl, Nat.le_of_ble_eq_true rfl⟩ (hEnd (r := (1, 0, st)) (if_pos (Or.inr (io_t (a := 8) (by decide) (Or.inl c5)))) (hPost_th hF))
    · have _h := True.intro
      refine lv_iload_n hx hb dX1_sync_8 rfl (lv_at hl 2 rfl) ?_
      refine lv_bipush (v := 8) hx hb dX1_sync_9 (by decide) ?_
      refine lv_icmp_gt (tgt := 18) (x := wv) (y := 8) hx hb dX1_sync_11 (by decide) (fun c11 => ?_) (fun c11 => ?_)
      · have _h := True.intro
        refine lv_iconst (v := 0) hx hb dX1_sync_18 (by decide) ?_
        exact pw_callT (nL' := 1) (rest := []) S P hQ (ht_range hst) q134 q36 (pw_entS [.int 0] S q132 q133 q36 q134 ⟨by decide +kernel, by decide +kernel, (by decide +kernel : (parseMethodDescriptor yX1_range.desc).map (fun d => d.parameters.length) = some 1)⟩ dX1_sync_19) htb hlk hl.1 (Nat.le_of_ble_eq_true rfl) ⟨Nat.le_of_ble_eq_true rfl, Nat.le_of_ble_eq_true rfl⟩ ⟨Nat.le_of_ble_eq_true rfl, Nat.le_of_ble_eq_true rfl⟩ ⟨Nat.le_of_ble_eq_true rfl, Nat.le_of_ble_eq_true rfl⟩ (hEnd (r := (1, 0, st)) (if_pos (Or.inr (io_t (a := 8) (by decide) (Or.inr c11)))) (hPost_th hF))
      · have _h := True.intro
        refine lv_iconst (v := 1) hx hb dX1_sync_14 (by decide) ?_
        refine lv_goto (tgt := 19) hx hb dX1_sync_15 (by decide) ?_
        refine pw_callR (nL' := 1) (rest := []) S P (hs_range True.intro) q134 q36 (pw_entS [.int 1] S q132 q133 q36 q134 ⟨by decide +kernel, by decide +kernel, (by decide +kernel : (parseMethodDescriptor yX1_range.desc).map (fun d => d.parameters.length) = some 1)⟩ dX1_sync_19) hl.1 (Nat.le_of_ble_eq_true rfl) ⟨Nat.le_of_ble_eq_true rfl, Nat.le_of_ble_eq_true rfl⟩ ⟨Nat.le_of_ble_eq_true rfl, Nat.le_of_ble_eq_true rfl⟩ (fun H locs P => ?_)
        refine W.eq (g2 := F0 m 22 ls []) rfl ?_
        refine W.widen (k := 2) (n := 12) (Nat.le_of_ble_eq_true rfl) (Nat.le_of_ble_eq_true rfl) ?_
        have ow := io_f (a := 8) (b := 9) (by decide) c5 c11
        obtain ⟨w, hw, rfl⟩ := isOut_f (N := 9) rfl (by decide) ow
        refine lv_aload_n hx hb dX1_sync_22 rfl (lv_at hl 0 rfl) ?_
        refine lv_iload_n hx hb dX1_sync_23 rfl (lv_at hl 1 rfl) ?_
        by_cases qk : st.1 12 s = -1
        · have _h := True.intro
          exact pw_callT (nL' := 2) (rest := []) S P hQ (ht_there hst ho hs qk hF) q368 q36 (pw_entV (q := (RX1, TX1, 6)) [.int (nI s)] S P (hF.m (by decide)) hF.hall rfl q365 q367 qs3 q368 ⟨by decide +kernel, by decide +kernel, (by decide +kernel : (parseMethodDescriptor yX1_there.desc).map (fun d => d.parameters.length) = some 1)⟩ dX1_sync_24) htb hlk hl.1 (Nat.le_of_ble_eq_true rfl) ⟨Nat.le_of_ble_eq_true rfl, Nat.le_of_ble_eq_true rfl⟩ ⟨Nat.le_of_ble_eq_true rfl, Nat.le_of_ble_eq_true rfl⟩ ⟨Nat.le_of_ble_eq_true rfl, Nat.le_of_ble_eq_true rfl⟩ (hEnd (r := (2, 0, st)) (by unfold s_sync; rw [if_neg (by rintro (q | q); exact absurd q (bnt o1); exact absurd q (bnt ow)), iN_nI hs (by decide), if_pos ((ho.neg hs).mpr qk)]) (hPost_th hF))
        · have _h := True.intro
          have hkd : hKd st s := ho.kd hs qk
          refine pw_callR (nL' := 2) (rest := []) S P (hr_there ho hs qk hF) q368 q36 (pw_entV (q := (RX1, TX1, 6)) [.int (nI s)] S P (hF.m (by decide)) hF.hall rfl q365 q367 qs3 q368 ⟨by decide +kernel, by decide +kernel, (by decide +kernel : (parseMethodDescriptor yX1_there.desc).map (fun d => d.parameters.length) = some 1)⟩ dX1_sync_24) hl.1 (Nat.le_of_ble_eq_true rfl) ⟨Nat.le_of_ble_eq_true rfl, Nat.le_of_ble_eq_true rfl⟩ ⟨Nat.le_of_ble_eq_true rfl, Nat.le_of_ble_eq_true rfl⟩ (fun H locs P => ?_)
          refine W.eq (g2 := F0 m 27 ls [.ref (ad (18 + s))]) rfl ?_
          refine W.widen (k := 3) (n := 18) (Nat.le_of_ble_eq_true rfl) (Nat.le_of_ble_eq_true rfl) ?_
          refine lv_astore_n (lv' := [(3, .ref (ad (18 + s))), (0, .ref (ad 0)), (1, .int (nI s)), (2, .int (nI w))]) hx hb dX1_sync_27 rfl hl (by decide) rfl (fun ls hl => ?_)
          refine lv_iload_n hx hb dX1_sync_28 rfl (lv_at hl 3 rfl) ?_
          rcases (by omega : w = 0 ∨ w = 1 ∨ w = 8 ∨ (2 ≤ w ∧ w < 8)) with rfl | rfl | rfl | hw3
          · refine lv_lookup (tgt := 64) (off := 35) hx hb dX1_sync_29 (by decide) (by decide) (by decide) ?_
            refine lv_aload_n hx hb dX1_sync_64 rfl (lv_at hl 0 rfl) ?_
            refine vc_kind S P ho hF hs hkd q789 dX1_sync_65 hl.1 (Nat.le_of_ble_eq_true rfl) ⟨Nat.le_of_ble_eq_true rfl, Nat.le_of_ble_eq_true rfl⟩ ⟨Nat.le_of_ble_eq_true rfl, Nat.le_of_ble_eq_true rfl⟩ (fun H locs P => ?_)
            exact gw_iret S P hQ hr hlk ⟨Nat.le_of_ble_eq_true rfl, Nat.le_of_ble_eq_true rfl⟩ dX1_sync_68 (hEnd (r := (0, st.1 12 s, st)) ((show s_sync st (nI s) (nI 0) = (0, s_syn st s (nI 0), st) from by unfold s_sync; rw [if_neg (by rintro (q | q); exact absurd q (bnt o1); exact absurd q (bnt ow)), iN_nI hs (by decide), if_neg (fun z => qk ((ho.neg hs).mp z))]).trans (congrArg (fun z => ((0 : Int32), z, st)) (syn_0))) (hPost_lk hF))
          · refine lv_lookup (tgt := 69) (off := 40) hx hb dX1_sync_29 (by decide) (by decide) (by decide) ?_
            refine lv_aload_n hx hb dX1_sync_69 rfl (lv_at hl 0 rfl) ?_
            refine vc_waiters S P ho hF hs hkd q558 dX1_sync_70 hl.1 (Nat.le_of_ble_eq_true rfl) ⟨Nat.le_of_ble_eq_true rfl, Nat.le_of_ble_eq_true rfl⟩ ⟨Nat.le_of_ble_eq_true rfl, Nat.le_of_ble_eq_true rfl⟩ (fun H locs P => ?_)
            exact gw_iret S P hQ hr hlk ⟨Nat.le_of_ble_eq_true rfl, Nat.le_of_ble_eq_true rfl⟩ dX1_sync_73 (hEnd (r := (0, nI (st.2.2 s).length, st)) ((show s_sync st (nI s) (nI 1) = (0, s_syn st s (nI 1), st) from by unfold s_sync; rw [if_neg (by rintro (q | q); exact absurd q (bnt o1); exact absurd q (bnt ow)), iN_nI hs (by decide), if_neg (fun z => qk ((ho.neg hs).mp z))]).trans (congrArg (fun z => ((0 : Int32), z, st)) (syn_1))) (hPost_lk hF))
          · refine lv_lookup (tgt := 74) (off := 45) hx hb dX1_sync_29 (by decide) (by decide) (by decide) ?_
            refine lv_aload_n hx hb dX1_sync_74 rfl (lv_at hl 0 rfl) ?_
            refine vc_amount S P ho hF hs hkd q807 dX1_sync_75 hl.1 (Nat.le_of_ble_eq_true rfl) ⟨Nat.le_of_ble_eq_true rfl, Nat.le_of_ble_eq_true rfl⟩ ⟨Nat.le_of_ble_eq_true rfl, Nat.le_of_ble_eq_true rfl⟩ (fun H locs P => ?_)
            exact gw_iret S P hQ hr hlk ⟨Nat.le_of_ble_eq_true rfl, Nat.le_of_ble_eq_true rfl⟩ dX1_sync_78 (hEnd (r := (0, if st.1 12 s = 2 ∨ st.1 12 s = 3 ∨ st.1 12 s = 4 then st.1 15 s else 0, st)) ((show s_sync st (nI s) (nI 8) = (0, s_syn st s (nI 8), st) from by unfold s_sync; rw [if_neg (by rintro (q | q); exact absurd q (bnt o1); exact absurd q (bnt ow)), iN_nI hs (by decide), if_neg (fun z => qk ((ho.neg hs).mp z))]).trans (congrArg (fun z => ((0 : Int32), z, st)) (syn_8.trans (amount_eq ho hs).symm))) (hPost_lk hF))
          · refine lv_lookup (tgt := 79) (off := 50) hx hb dX1_sync_29 (by decide) (by rw [nI_ti (by omega)]; rcases (by omega : w = 2 ∨ w = 3 ∨ w = 4 ∨ w = 5 ∨ w = 6 ∨ w = 7) with rfl | rfl | rfl | rfl | rfl | rfl <;> decide) (by decide) ?_
            refine lv_aload_n hx hb dX1_sync_79 rfl (lv_at hl 0 rfl) ?_
            refine hs_get 0 (by decide) S P hF (by omega) hkd q262 dX1_sync_80 ?_
            refine lw_astore (lv' := [(4, va_rf (hAt st ad s (2 - 2))), (3, .ref (ad (18 + s))), (0, .ref (ad 0)), (1, .int (nI s)), (2, .int (nI w))]) hx hb dX1_sync_83 hl (by decide) rfl (fun ls hl => ?_)
            refine lv_iconst (v := 2) hx hb dX1_sync_85 (by decide) ?_
            refine lv_istore (lv' := [(5, .int 2), (4, va_rf (hAt st ad s (2 - 2))), (3, .ref (ad (18 + s))), (0, .ref (ad 0)), (1, .int (nI s)), (2, .int (nI w))]) hx hb dX1_sync_86 hl (by decide) (by simp [List.filter, lw_cat]) (fun ls hl => ?_)
            have loop88 : ∀ (d : Nat) (i : Nat), 8 - i < d → (2 ≤ i ∧ i ≤ w) → ∀ (H : Heap) (locs : List Loc), PW D cs (pA L sz) u L f H locs → ∀ (ls : Array Slot), lv_has ls 6 [(5, .int (nI i)), (4, va_rf (hAt st ad s (i - 2))), (3, .ref (ad (18 + s))), (2, .int (nI w))] → W p l e (rmL 9 3 18) u m ([.ref (ad 0), .int (nI s), .int (nI w)] : List Value).toArray below meth c H locs 3 18 Q (F0 m 88 ls []) := by
              intro d88
              induction d88 with
              | zero => intro i hd; exact absurd hd (by omega)
              | succ d88 ih88 =>
                intro i hd88 hi H locs P ls hl
                refine lv_iload hx hb dX1_sync_88 (lv_at hl 0 rfl) ?_
                refine lv_iload_n hx hb dX1_sync_90 rfl (lv_at hl 3 rfl) ?_
                refine ni_icmp_ge (tgt := 112) (a := i) (b := w) hx hb (by omega) (by omega) dX1_sync_91 (by decide) (fun c91 => ?_) (fun c91 => ?_)
                · have _h := True.intro
                  refine lw_aload hx hb dX1_sync_112 (lv_at hl 1 rfl) ?_
                  refine lw_ifnonnull (tgt := 121) hx hb dX1_sync_114 (by decide) (fun c114 => ?_) (fun c114 => ?_)
                  · have _h := True.intro
                    have hi2 : i - 2 < (st.2.2 s).length := Classical.byContradiction (fun z => c114 (hAt_none z))
                    obtain ⟨hw6, hwb, hww⟩ := ho.rowx hs hi2
                    rw [hAt_some hi2] at hl
                    refine lv_aload hx hb dX1_sync_121 (lv_at hl 1 rfl) ?_
                    refine pw_callR (nL' := 1) (rest := []) S P (hg_w_task (hF.mem (hl_wt hw6 hwb)) (hF.wt hw6 hwb)) q550 q52 (pw_entV (q := (RX10, TX10, 8)) [] S P (hF.mem (hl_wt hw6 hwb)) (hF.wt hw6 hwb) rfl q734 q548 q549 q550 ⟨by decide +kernel, by decide +kernel, (by decide +kernel : (parseMethodDescriptor yX10_task.desc).map (fun d => d.parameters.length) = some 0)⟩ dX1_sync_123) hl.1 (Nat.le_of_ble_eq_true rfl) ⟨Nat.le_of_ble_eq_true rfl, Nat.le_of_ble_eq_true rfl⟩ ⟨Nat.le_of_ble_eq_true rfl, Nat.le_of_ble_eq_true rfl⟩ (fun H locs P => ?_)
                    refine W.eq (g2 := F0 m 126 ls [.ref (ad (12 + ((st.2.2 s).getD (i - 2) 0)))]) rfl ?_
                    refine W.widen (k := 3) (n := 18) (Nat.le_of_ble_eq_true rfl) (Nat.le_of_ble_eq_true rfl) ?_
                    refine pw_callR (nL' := 1) (rest := []) S P (hg_number (hF.m (by omega)) (hF.tk (by omega))) q428 q37 (pw_entV (q := (RX2, TX2, 5)) [] S P (hF.m (by omega)) (hF.tk (by omega)) rfl q820 q426 q427 q428 ⟨by decide +kernel, by decide +kernel, (by decide +kernel : (parseMethodDescriptor yX2_number.desc).map (fun d => d.parameters.length) = some 0)⟩ dX1_sync_126) hl.1 (Nat.le_of_ble_eq_true rfl) ⟨Nat.le_of_ble_eq_true rfl, Nat.le_of_ble_eq_true rfl⟩ ⟨Nat.le_of_ble_eq_true rfl, Nat.le_of_ble_eq_true rfl⟩ (fun H locs P => ?_)
                    refine W.eq (g2 := F0 m 129 ls [.int (nI ((st.2.2 s).getD (i - 2) 0))]) rfl ?_
                    refine W.widen (k := 3) (n := 18) (Nat.le_of_ble_eq_true rfl) (Nat.le_of_ble_eq_true rfl) ?_
                    exact gw_iret S P hQ hr hlk ⟨Nat.le_of_ble_eq_true rfl, Nat.le_of_ble_eq_true rfl⟩ dX1_sync_129 (hEnd (r := (0, nI ((st.2.2 s).getD (i - 2) 0), st)) ((show s_sync st (nI s) (nI w) = (0, s_syn st s (nI w), st) from by unfold s_sync; rw [if_neg (by rintro (q | q); exact absurd q (bnt o1); exact absurd q (bnt ow)), iN_nI hs (by decide), if_neg (fun z => qk ((ho.neg hs).mp z))]).trans (congrArg (fun z => ((0 : Int32), z, st)) (syn_t hw3 (by rw [show w - 2 = i - 2 by omega, List.getElem?_eq_getElem hi2, ls_getD hi2])))) (hPost_lk hF))
                  · have _h := True.intro
                    refine lv_iconst (v := (-1)) hx hb dX1_sync_117 (by decide) ?_
                    refine lv_goto (tgt := 129) hx hb dX1_sync_118 (by decide) ?_
                    exact gw_iret S P hQ hr hlk ⟨Nat.le_of_ble_eq_true rfl, Nat.le_of_ble_eq_true rfl⟩ dX1_sync_129 (hEnd (r := (0, (-1), st)) ((show s_sync st (nI s) (nI w) = (0, s_syn st s (nI w), st) from by unfold s_sync; rw [if_neg (by rintro (q | q); exact absurd q (bnt o1); exact absurd q (bnt ow)), iN_nI hs (by decide), if_neg (fun z => qk ((ho.neg hs).mp z))]).trans (congrArg (fun z => ((0 : Int32), z, st)) (syn_n hw3 (List.getElem?_eq_none (Nat.le_trans (Nat.not_lt.mp (fun z => by rw [hAt_some z] at c114; cases c114)) (show i - 2 ≤ w - 2 by omega)))))) (hPost_lk hF))
                · have _h := True.intro
                  refine lw_aload hx hb dX1_sync_94 (lv_at hl 1 rfl) ?_
                  refine lw_ifnull (tgt := 112) hx hb dX1_sync_96 (by decide) (fun c96 => ?_) (fun c96 => ?_)
                  · have _h := True.intro
                    refine lw_aload hx hb dX1_sync_112 (lv_at hl 1 rfl) ?_
                    refine lw_ifnonnull (tgt := 121) hx hb dX1_sync_114 (by decide) (fun c114 => ?_) (fun c114 => ?_)
                    · have _h := True.intro
                      exact absurd c96 c114
                    · have _h := True.intro
                      refine lv_iconst (v := (-1)) hx hb dX1_sync_117 (by decide) ?_
                      refine lv_goto (tgt := 129) hx hb dX1_sync_118 (by decide) ?_
                      exact gw_iret S P hQ hr hlk ⟨Nat.le_of_ble_eq_true rfl, Nat.le_of_ble_eq_true rfl⟩ dX1_sync_129 (hEnd (r := (0, (-1), st)) ((show s_sync st (nI s) (nI w) = (0, s_syn st s (nI w), st) from by unfold s_sync; rw [if_neg (by rintro (q | q); exact absurd q (bnt o1); exact absurd q (bnt ow)), iN_nI hs (by decide), if_neg (fun z => qk ((ho.neg hs).mp z))]).trans (congrArg (fun z => ((0 : Int32), z, st)) (syn_n hw3 (List.getElem?_eq_none (Nat.le_trans (Nat.not_lt.mp (fun z => by rw [hAt_some z] at c114; cases c114)) (show i - 2 ≤ w - 2 by omega)))))) (hPost_lk hF))
                  · have _h := True.intro
                    have hi2 : i - 2 < (st.2.2 s).length := Classical.byContradiction (fun z => c96 (hAt_none z))
                    obtain ⟨hw6, hwb, hww⟩ := ho.rowx hs hi2
                    rw [hAt_some hi2] at hl
                    refine lv_aload hx hb dX1_sync_99 (lv_at hl 1 rfl) ?_
                    refine pw_get (q := (RX10, TX10, 8)) (k := 7) S P (hF.mem (hl_wt hw6 hwb)) (hF.wt hw6 hwb) rfl (by decide) q520 (Or.inl rfl) rfl dX1_sync_101 ?_
                    refine lw_eqv (w := va_rf (hAt st ad s (i + 1 - 2))) (by rw [hNx_at ho hs hi2, show i - 2 + 1 = i + 1 - 2 by omega]) ?_
                    refine lw_astore (lv' := [(4, va_rf (hAt st ad s (i + 1 - 2))), (5, .int (nI i)), (3, .ref (ad (18 + s))), (2, .int (nI w))]) hx hb dX1_sync_104 hl (by decide) rfl (fun ls hl => ?_)
                    refine lv_iinc (v := nI (i + 1)) (lv' := [(5, .int (nI (i + 1))), (4, va_rf (hAt st ad s (i + 1 - 2))), (3, .ref (ad (18 + s))), (2, .int (nI w))]) hx hb dX1_sync_106 hl (k := 1) rfl (nI_1 _) (by decide) (by simp [List.filter, lw_cat]) (fun ls hl => ?_)
                    refine lv_goto (tgt := 88) hx hb dX1_sync_109 (by decide) ?_
                    exact ih88 (i + 1) (by omega) (by omega) _ _ P ls (lv_sub hl [0, 1, 2, 3] rfl)
            exact loop88 _ 2 (Nat.lt_succ_self _) (by omega) _ _ P ls (lv_sub hl [0, 1, 2, 5] (rfl))
