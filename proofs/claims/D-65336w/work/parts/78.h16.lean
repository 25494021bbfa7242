/-! SyncHall.release, by gen_h16.py -/
set_option maxHeartbeats 8000000 in
set_option maxRecDepth 100000 in
theorem hm_release {l : Launch} {D : va_G} {cs : Nat → ClassId} {ad : Nat → Nat} {L : List Nat} {f : Nat → va_E} (hst : l.stackTraces = false) {n : Nat} {st : St} (ho : Ok n st) (hn : n ≤ 100) {tv sv mm : Int32}  (hF : HF cs ad st L f) : PM l D cs yX1_release cX1_release 7 (some .int) (rmL 9 7 42) [.ref (ad 0), .int tv, .int sv, .int mm] L f (hPost cs ad st L f (hOut (s_release st tv sv mm)) (s_release st tv sv mm).2.2) := by
  refine hm_of "SyncHall" rfl (by decide +kernel) (Nat.le_of_ble_eq_true rfl) ?_
  intro sz p e u m below meth c S P hsz hr hlk hnm htb ls hl Q hQ
  have hl : lv_has ls 7 [(0, .ref (ad 0)), (1, .int tv), (2, .int sv), (3, .int mm)] := hl
  have hx := S.1
  have hb := S.2.1
  generalize hH0 : u.heap = H at P ⊢
  generalize ([] : List Loc) = locs at P ⊢
  have hFr : ∀ a, ¬ hOwn st ad a → f a = f a := fun _ _ => rfl
  refine lv_aload_n hx hb dX1_release_0 rfl (lv_at hl 0 rfl) ?_
  refine lv_iload_n hx hb dX1_release_1 rfl (lv_at hl 1 rfl) ?_
  by_cases o2 : isOut tv 6 = true
  · have _h := True.intro
    exact pw_callT (nL' := 2) (rest := []) S P hQ (ht_task hst ho o2 hF) q350 q36 (pw_entV (q := (RX1, TX1, 6)) [.int tv] S P (hF.m (by decide)) hF.hall rfl q347 q349 qs2 q350 ⟨by decide +kernel, by decide +kernel, (by decide +kernel : (parseMethodDescriptor yX1_task.desc).map (fun d => d.parameters.length) = some 1)⟩ dX1_release_2) htb hlk hl.1 (Nat.le_of_ble_eq_true rfl) ⟨Nat.le_of_ble_eq_true rfl, Nat.le_of_ble_eq_true rfl⟩ ⟨Nat.le_of_ble_eq_true rfl, Nat.le_of_ble_eq_true rfl⟩ ⟨Nat.le_of_ble_eq_true rfl, Nat.le_of_ble_eq_true rfl⟩ (hEnd (r := (1, 0, st)) (if_pos (Or.inl o2)) (hPost_th hF))
  · have _h := True.intro
    obtain ⟨t, ht, rfl⟩ := isOut_f (N := 6) rfl (by decide) (Bool.eq_false_iff.mpr o2)
    rw [Bool.not_eq_true] at o2
    refine pw_callR (nL' := 2) (rest := []) S P (hr_task ho ht hF) q350 q36 (pw_entV (q := (RX1, TX1, 6)) [.int (nI t)] S P (hF.m (by decide)) hF.hall rfl q347 q349 qs2 q350 ⟨by decide +kernel, by decide +kernel, (by decide +kernel : (parseMethodDescriptor yX1_task.desc).map (fun d => d.parameters.length) = some 1)⟩ dX1_release_2) hl.1 (Nat.le_of_ble_eq_true rfl) ⟨Nat.le_of_ble_eq_true rfl, Nat.le_of_ble_eq_true rfl⟩ ⟨Nat.le_of_ble_eq_true rfl, Nat.le_of_ble_eq_true rfl⟩ (fun H locs P => ?_)
    refine W.eq (g2 := F0 m 5 ls [.ref (ad (12 + t))]) rfl ?_
    refine W.widen (k := 1) (n := 6) (Nat.le_of_ble_eq_true rfl) (Nat.le_of_ble_eq_true rfl) ?_
    refine lv_astore (lv' := [(4, .ref (ad (12 + t))), (0, .ref (ad 0)), (1, .int (nI t)), (2, .int sv), (3, .int mm)]) hx hb dX1_release_5 hl (by decide) rfl (fun ls hl => ?_)
    refine lv_iload_n hx hb dX1_release_7 rfl (lv_at hl 3 rfl) ?_
    by_cases o8 : isOut sv 8 = true
    · have _h := True.intro
      exact pw_callT (nL' := 1) (rest := []) S P hQ (ht_number hst ho o8 hF) q131 q36 (pw_entS [.int sv] S q129 q130 q36 q131 ⟨by decide +kernel, by decide +kernel, (by decide +kernel : (parseMethodDescriptor yX1_number.desc).map (fun d => d.parameters.length) = some 1)⟩ dX1_release_8) htb hlk hl.1 (Nat.le_of_ble_eq_true rfl) ⟨Nat.le_of_ble_eq_true rfl, Nat.le_of_ble_eq_true rfl⟩ ⟨Nat.le_of_ble_eq_true rfl, Nat.le_of_ble_eq_true rfl⟩ ⟨Nat.le_of_ble_eq_true rfl, Nat.le_of_ble_eq_true rfl⟩ (hEnd (r := (1, 0, st)) (if_pos (Or.inr (Or.inl o8))) (hPost_th hF))
    · have _h := True.intro
      obtain ⟨s, hs, rfl⟩ := isOut_f (N := 8) rfl (by decide) (Bool.eq_false_iff.mpr o8)
      rw [Bool.not_eq_true] at o8
      refine pw_callR (nL' := 1) (rest := []) S P (hr_number (ad := ad) ho hs hF) q131 q36 (pw_entS [.int (nI s)] S q129 q130 q36 q131 ⟨by decide +kernel, by decide +kernel, (by decide +kernel : (parseMethodDescriptor yX1_number.desc).map (fun d => d.parameters.length) = some 1)⟩ dX1_release_8) hl.1 (Nat.le_of_ble_eq_true rfl) ⟨Nat.le_of_ble_eq_true rfl, Nat.le_of_ble_eq_true rfl⟩ ⟨Nat.le_of_ble_eq_true rfl, Nat.le_of_ble_eq_true rfl⟩ (fun H locs P => ?_)
      refine W.eq (g2 := F0 m 11 ls []) rfl ?_
      refine W.widen (k := 2) (n := 12) (Nat.le_of_ble_eq_true rfl) (Nat.le_of_ble_eq_true rfl) ?_
      refine lv_iload_n hx hb dX1_release_11 rfl (lv_at hl 4 rfl) ?_
      refine lv_if_eq (tgt := 20) (x := mm) hx hb dX1_release_12 (by decide) (fun c12 => ?_) (fun c12 => ?_)
      · have hm : mm = 0 ∨ mm = 1 := Or.inl c12
        have om : isOut mm 2 = false := by rw [c12]; decide
        refine lv_iconst (v := 1) hx hb dX1_release_20 (by decide) ?_
        refine lv_goto (tgt := 25) hx hb dX1_release_21 (by decide) ?_
        refine pw_callR (nL' := 1) (rest := []) S P (hs_range True.intro) q134 q36 (pw_entS [.int 1] S q132 q133 q36 q134 ⟨by decide +kernel, by decide +kernel, (by decide +kernel : (parseMethodDescriptor yX1_range.desc).map (fun d => d.parameters.length) = some 1)⟩ dX1_release_25) hl.1 (Nat.le_of_ble_eq_true rfl) ⟨Nat.le_of_ble_eq_true rfl, Nat.le_of_ble_eq_true rfl⟩ ⟨Nat.le_of_ble_eq_true rfl, Nat.le_of_ble_eq_true rfl⟩ (fun H locs P => ?_)
        refine W.eq (g2 := F0 m 28 ls []) rfl ?_
        refine W.widen (k := 3) (n := 18) (Nat.le_of_ble_eq_true rfl) (Nat.le_of_ble_eq_true rfl) ?_
        refine lv_aload_n hx hb dX1_release_28 rfl (lv_at hl 1 rfl) ?_
        refine lv_iload_n hx hb dX1_release_29 rfl (lv_at hl 3 rfl) ?_
        by_cases qk : st.1 12 s = -1
        · have _h := True.intro
          exact pw_callT (nL' := 2) (rest := []) S P hQ (ht_there hst ho hs qk hF) q368 q36 (pw_entV (q := (RX1, TX1, 6)) [.int (nI s)] S P (hF.m (by decide)) hF.hall rfl q365 q367 qs3 q368 ⟨by decide +kernel, by decide +kernel, (by decide +kernel : (parseMethodDescriptor yX1_there.desc).map (fun d => d.parameters.length) = some 1)⟩ dX1_release_30) htb hlk hl.1 (Nat.le_of_ble_eq_true rfl) ⟨Nat.le_of_ble_eq_true rfl, Nat.le_of_ble_eq_true rfl⟩ ⟨Nat.le_of_ble_eq_true rfl, Nat.le_of_ble_eq_true rfl⟩ ⟨Nat.le_of_ble_eq_true rfl, Nat.le_of_ble_eq_true rfl⟩ (hEnd (r := (2, 0, st)) (by rw [show s_release st (nI t) (nI s) mm = s_rel st t s mm from by unfold s_release; rw [if_neg (by rintro (q | q | q); exact absurd q (bnt o2); exact absurd q (bnt o8); exact absurd q (bnt om)), iN_nI ht (by decide), iN_nI hs (by decide)]]; unfold s_rel; rw [ck2 ho hs qk]; rfl) (hPost_th hF))
        · have _h := True.intro
          have hkd : hKd st s := ho.kd hs qk
          refine pw_callR (nL' := 2) (rest := []) S P (hr_there ho hs qk hF) q368 q36 (pw_entV (q := (RX1, TX1, 6)) [.int (nI s)] S P (hF.m (by decide)) hF.hall rfl q365 q367 qs3 q368 ⟨by decide +kernel, by decide +kernel, (by decide +kernel : (parseMethodDescriptor yX1_there.desc).map (fun d => d.parameters.length) = some 1)⟩ dX1_release_30) hl.1 (Nat.le_of_ble_eq_true rfl) ⟨Nat.le_of_ble_eq_true rfl, Nat.le_of_ble_eq_true rfl⟩ ⟨Nat.le_of_ble_eq_true rfl, Nat.le_of_ble_eq_true rfl⟩ (fun H locs P => ?_)
          refine W.eq (g2 := F0 m 33 ls [.ref (ad (18 + s))]) rfl ?_
          refine W.widen (k := 4) (n := 24) (Nat.le_of_ble_eq_true rfl) (Nat.le_of_ble_eq_true rfl) ?_
          refine lv_astore (lv' := [(5, .ref (ad (18 + s))), (4, .ref (ad (12 + t))), (0, .ref (ad 0)), (1, .int (nI t)), (2, .int (nI s)), (3, .int mm)]) hx hb dX1_release_33 hl (by decide) rfl (fun ls hl => ?_)
          refine lv_aload hx hb dX1_release_35 (lv_at hl 1 rfl) ?_
          refine pw_callR (nL' := 1) (rest := []) S P (hg_blocked (hF.m (by omega)) (hF.tk (by omega))) q372 q37 (pw_entV (q := (RX2, TX2, 5)) [] S P (hF.m (by omega)) (hF.tk (by omega)) rfl q369 q370 q371 q372 ⟨by decide +kernel, by decide +kernel, (by decide +kernel : (parseMethodDescriptor yX2_blocked.desc).map (fun d => d.parameters.length) = some 0)⟩ dX1_release_37) hl.1 (Nat.le_of_ble_eq_true rfl) ⟨Nat.le_of_ble_eq_true rfl, Nat.le_of_ble_eq_true rfl⟩ ⟨Nat.le_of_ble_eq_true rfl, Nat.le_of_ble_eq_true rfl⟩ (fun H locs P => ?_)
          refine W.eq (g2 := F0 m 40 ls [.int (bI (hPl st ad t).isSome)]) rfl ?_
          refine W.widen (k := 4) (n := 24) (Nat.le_of_ble_eq_true rfl) (Nat.le_of_ble_eq_true rfl) ?_
          refine lv_if_ne (tgt := 47) (x := bI (hPl st ad t).isSome) hx hb dX1_release_40 (by decide) (fun c40 => ?_) (fun c40 => ?_)
          · rw [bI_eq0, Bool.not_eq_false] at c40
            have hbt : ¬ st.1 1 t = 0 := fun z => by rw [hPl_none.mpr z] at c40; cases c40
            refine lv_iconst (v := 0) hx hb dX1_release_47 (by decide) ?_
            exact pw_callT (nL' := 1) (rest := []) S P hQ (ht_state hst) q222 q36 (pw_entS [.int 0] S q220 q221 q36 q222 ⟨by decide +kernel, by decide +kernel, (by decide +kernel : (parseMethodDescriptor yX1_state.desc).map (fun d => d.parameters.length) = some 1)⟩ dX1_release_48) htb hlk hl.1 (Nat.le_of_ble_eq_true rfl) ⟨Nat.le_of_ble_eq_true rfl, Nat.le_of_ble_eq_true rfl⟩ ⟨Nat.le_of_ble_eq_true rfl, Nat.le_of_ble_eq_true rfl⟩ ⟨Nat.le_of_ble_eq_true rfl, Nat.le_of_ble_eq_true rfl⟩ (hEnd (r := (3, 0, st)) (by rw [show s_release st (nI t) (nI s) mm = s_rel st t s mm from by unfold s_release; rw [if_neg (by rintro (q | q | q); exact absurd q (bnt o2); exact absurd q (bnt o8); exact absurd q (bnt om)), iN_nI ht (by decide), iN_nI hs (by decide)]]; unfold s_rel; rw [ck3 ho hs qk hbt]; rfl) (hPost_th hF))
          · rw [bI_eq0] at c40
            have hb0 : st.1 1 t = 0 := hPl_none.mp (by cases hq : hPl st ad t with | none => rfl | some x => rw [hq] at c40; cases c40)
            refine lv_iconst (v := 1) hx hb dX1_release_43 (by decide) ?_
            refine lv_goto (tgt := 48) hx hb dX1_release_44 (by decide) ?_
            refine pw_callR (nL' := 1) (rest := []) S P (hs_state True.intro) q222 q36 (pw_entS [.int 1] S q220 q221 q36 q222 ⟨by decide +kernel, by decide +kernel, (by decide +kernel : (parseMethodDescriptor yX1_state.desc).map (fun d => d.parameters.length) = some 1)⟩ dX1_release_48) hl.1 (Nat.le_of_ble_eq_true rfl) ⟨Nat.le_of_ble_eq_true rfl, Nat.le_of_ble_eq_true rfl⟩ ⟨Nat.le_of_ble_eq_true rfl, Nat.le_of_ble_eq_true rfl⟩ (fun H locs P => ?_)
            refine W.eq (g2 := F0 m 51 ls []) rfl ?_
            refine W.widen (k := 5) (n := 30) (Nat.le_of_ble_eq_true rfl) (Nat.le_of_ble_eq_true rfl) ?_
            refine lv_aload hx hb dX1_release_51 (lv_at hl 0 rfl) ?_
            refine vc_waiters S P ho hF hs hkd q558 dX1_release_53 hl.1 (Nat.le_of_ble_eq_true rfl) ⟨Nat.le_of_ble_eq_true rfl, Nat.le_of_ble_eq_true rfl⟩ ⟨Nat.le_of_ble_eq_true rfl, Nat.le_of_ble_eq_true rfl⟩ (fun H locs P => ?_)
            refine lv_istore (lv' := [(6, .int (nI ((st.2.2 s).length))), (5, .ref (ad (18 + s))), (4, .ref (ad (12 + t))), (0, .ref (ad 0)), (1, .int (nI t)), (2, .int (nI s)), (3, .int mm)]) hx hb dX1_release_56 hl (by decide) rfl (fun ls hl => ?_)
            refine lv_aload hx hb dX1_release_58 (lv_at hl 1 rfl) ?_
            refine lv_aload hx hb dX1_release_60 (lv_at hl 2 rfl) ?_
            refine lv_iload_n hx hb dX1_release_62 rfl (lv_at hl 6 rfl) ?_
            refine lv_iconst (v := 1) hx hb dX1_release_63 (by decide) ?_
            refine lv_icmp_ne (tgt := 71) (x := mm) (y := 1) hx hb dX1_release_64 (by decide) (fun c64 => ?_) (fun c64 => ?_)
            · have _h := True.intro
              refine lv_iconst (v := 0) hx hb dX1_release_71 (by decide) ?_
              have hme : mm = 0 := (hm.resolve_right c64)
              refine vc_giveBack0 hst S P hQ htb hlk ho hn hF hs hkd ht q567 dX1_release_72 hl.1 (Nat.le_of_ble_eq_true rfl) ⟨Nat.le_of_ble_eq_true rfl, Nat.le_of_ble_eq_true rfl⟩ ⟨Nat.le_of_ble_eq_true rfl, Nat.le_of_ble_eq_true rfl⟩ ⟨Nat.le_of_ble_eq_true rfl, Nat.le_of_ble_eq_true rfl⟩ (fun hgc H locs f1 P hF hlv1 hfr1 => ?_) (fun hgc L1 f1 hp => ?_)
              rotate_left
              · exact hEnd (r := (hGbC st t s 0, 0, st)) (by rw [show s_release st (nI t) (nI s) mm = s_rel st t s mm from by unfold s_release; rw [if_neg (by rintro (q | q | q); exact absurd q (bnt o2); exact absurd q (bnt o8); exact absurd q (bnt om)), iN_nI ht (by decide), iN_nI hs (by decide)], s_rel_gb (ck0 ho hs qk hb0), hme]; exact if_pos hgc) (by rw [show hOut (hGbC st t s 0, 0, st) = .inr (hExc (hGbC st t s 0)) from if_neg hgc]; exact hp.to)
              have ho1 := ho.gb (m := 0) hn hs ht hb0 hkd (by decide) hgc
              have hk1 : hK4 (hGb st t s 0) s := by
                have h6 : ¬ st.1 12 s = 6 := fun z => by rw [gb_cd z] at hgc; exact absurd hgc (by decide)
                unfold hK4; rw [hGb_I (by decide)]; exact hkd.k4 h6
              refine lv_aload hx hb dX1_release_75 (lv_at hl 1 rfl) ?_
              refine lv_aload_n hx hb dX1_release_77 rfl (lv_at hl 3 rfl) ?_
              refine pw_get (q := (RX1, TX1, 6)) (k := 5) S P (hF.m (by decide)) hF.hall rfl (by decide) q101 (Or.inl rfl) rfl dX1_release_78 ?_
              refine lw_eqv (w := .double (st.2.1 11 0)) (by rw [hGb_D]) ?_
              refine vc_serve S P ho1 hF hs hk1 hn (by rw [hGb_D]) ho.db.1 q589 dX1_release_81 hl.1 (Nat.le_of_ble_eq_true rfl) ⟨Nat.le_of_ble_eq_true rfl, Nat.le_of_ble_eq_true rfl⟩ ⟨Nat.le_of_ble_eq_true rfl, Nat.le_of_ble_eq_true rfl⟩ (fun H locs f2 P hF hlv2 hfr2 => ?_)
              refine lv_iload hx hb dX1_release_84 (lv_at hl 0 rfl) ?_
              exact gw_iret S P hQ hr hlk ⟨Nat.le_of_ble_eq_true rfl, Nat.le_of_ble_eq_true rfl⟩ dX1_release_86 (hEnd (r := (0, nI (st.2.2 s).length, s_serve (hGb st t s 0) s)) (by rw [show s_release st (nI t) (nI s) mm = s_rel st t s mm from by unfold s_release; rw [if_neg (by rintro (q | q | q); exact absurd q (bnt o2); exact absurd q (bnt o8); exact absurd q (bnt om)), iN_nI ht (by decide), iN_nI hs (by decide)], s_rel_gb (ck0 ho hs qk hb0), hme]; exact if_neg (fun z => z hgc)) (hPost_same (o := .inl (some (.int (nI (st.2.2 s).length)))) hF (fun r hr => hlv1 r (hlv2 r hr)) (fun a ha => (hfr2 a (hOwn_no hlv1 ha)).trans (hfr1 a ha))).to)
            · exact absurd (c12.symm.trans c64) (by decide)
      · have _h := True.intro
        refine lv_iload_n hx hb dX1_release_15 rfl (lv_at hl 4 rfl) ?_
        refine lv_iconst (v := 1) hx hb dX1_release_16 (by decide) ?_
        refine lv_icmp_ne (tgt := 24) (x := mm) (y := 1) hx hb dX1_release_17 (by decide) (fun c17 => ?_) (fun c17 => ?_)
        · have _h := True.intro
          refine lv_iconst (v := 0) hx hb dX1_release_24 (by decide) ?_
          exact pw_callT (nL' := 1) (rest := []) S P hQ (ht_range hst) q134 q36 (pw_entS [.int 0] S q132 q133 q36 q134 ⟨by decide +kernel, by decide +kernel, (by decide +kernel : (parseMethodDescriptor yX1_range.desc).map (fun d => d.parameters.length) = some 1)⟩ dX1_release_25) htb hlk hl.1 (Nat.le_of_ble_eq_true rfl) ⟨Nat.le_of_ble_eq_true rfl, Nat.le_of_ble_eq_true rfl⟩ ⟨Nat.le_of_ble_eq_true rfl, Nat.le_of_ble_eq_true rfl⟩ ⟨Nat.le_of_ble_eq_true rfl, Nat.le_of_ble_eq_true rfl⟩ (hEnd (r := (1, 0, st)) (if_pos (Or.inr (Or.inr (Bool.not_eq_false _ ▸ fun z => (isOut_2 z).elim c12 c17)))) (hPost_th hF))
        · have hm : mm = 0 ∨ mm = 1 := Or.inr c17
          have om : isOut mm 2 = false := by rw [c17]; decide
          refine lv_iconst (v := 1) hx hb dX1_release_20 (by decide) ?_
          refine lv_goto (tgt := 25) hx hb dX1_release_21 (by decide) ?_
          refine pw_callR (nL' := 1) (rest := []) S P (hs_range True.intro) q134 q36 (pw_entS [.int 1] S q132 q133 q36 q134 ⟨by decide +kernel, by decide +kernel, (by decide +kernel : (parseMethodDescriptor yX1_range.desc).map (fun d => d.parameters.length) = some 1)⟩ dX1_release_25) hl.1 (Nat.le_of_ble_eq_true rfl) ⟨Nat.le_of_ble_eq_true rfl, Nat.le_of_ble_eq_true rfl⟩ ⟨Nat.le_of_ble_eq_true rfl, Nat.le_of_ble_eq_true rfl⟩ (fun H locs P => ?_)
          refine W.eq (g2 := F0 m 28 ls []) rfl ?_
          refine W.widen (k := 3) (n := 18) (Nat.le_of_ble_eq_true rfl) (Nat.le_of_ble_eq_true rfl) ?_
          refine lv_aload_n hx hb dX1_release_28 rfl (lv_at hl 1 rfl) ?_
          refine lv_iload_n hx hb dX1_release_29 rfl (lv_at hl 3 rfl) ?_
          by_cases qk : st.1 12 s = -1
          · have _h := True.intro
            exact pw_callT (nL' := 2) (rest := []) S P hQ (ht_there hst ho hs qk hF) q368 q36 (pw_entV (q := (RX1, TX1, 6)) [.int (nI s)] S P (hF.m (by decide)) hF.hall rfl q365 q367 qs3 q368 ⟨by decide +kernel, by decide +kernel, (by decide +kernel : (parseMethodDescriptor yX1_there.desc).map (fun d => d.parameters.length) = some 1)⟩ dX1_release_30) htb hlk hl.1 (Nat.le_of_ble_eq_true rfl) ⟨Nat.le_of_ble_eq_true rfl, Nat.le_of_ble_eq_true rfl⟩ ⟨Nat.le_of_ble_eq_true rfl, Nat.le_of_ble_eq_true rfl⟩ ⟨Nat.le_of_ble_eq_true rfl, Nat.le_of_ble_eq_true rfl⟩ (hEnd (r := (2, 0, st)) (by rw [show s_release st (nI t) (nI s) mm = s_rel st t s mm from by unfold s_release; rw [if_neg (by rintro (q | q | q); exact absurd q (bnt o2); exact absurd q (bnt o8); exact absurd q (bnt om)), iN_nI ht (by decide), iN_nI hs (by decide)]]; unfold s_rel; rw [ck2 ho hs qk]; rfl) (hPost_th hF))
          · have _h := True.intro
            have hkd : hKd st s := ho.kd hs qk
            refine pw_callR (nL' := 2) (rest := []) S P (hr_there ho hs qk hF) q368 q36 (pw_entV (q := (RX1, TX1, 6)) [.int (nI s)] S P (hF.m (by decide)) hF.hall rfl q365 q367 qs3 q368 ⟨by decide +kernel, by decide +kernel, (by decide +kernel : (parseMethodDescriptor yX1_there.desc).map (fun d => d.parameters.length) = some 1)⟩ dX1_release_30) hl.1 (Nat.le_of_ble_eq_true rfl) ⟨Nat.le_of_ble_eq_true rfl, Nat.le_of_ble_eq_true rfl⟩ ⟨Nat.le_of_ble_eq_true rfl, Nat.le_of_ble_eq_true rfl⟩ (fun H locs P => ?_)
            refine W.eq (g2 := F0 m 33 ls [.ref (ad (18 + s))]) rfl ?_
            refine W.widen (k := 4) (n := 24) (Nat.le_of_ble_eq_true rfl) (Nat.le_of_ble_eq_true rfl) ?_
            refine lv_astore (lv' := [(5, .ref (ad (18 + s))), (4, .ref (ad (12 + t))), (0, .ref (ad 0)), (1, .int (nI t)), (2, .int (nI s)), (3, .int mm)]) hx hb dX1_release_33 hl (by decide) rfl (fun ls hl => ?_)
            refine lv_aload hx hb dX1_release_35 (lv_at hl 1 rfl) ?_
            refine pw_callR (nL' := 1) (rest := []) S P (hg_blocked (hF.m (by omega)) (hF.tk (by omega))) q372 q37 (pw_entV (q := (RX2, TX2, 5)) [] S P (hF.m (by omega)) (hF.tk (by omega)) rfl q369 q370 q371 q372 ⟨by decide +kernel, by decide +kernel, (by decide +kernel : (parseMethodDescriptor yX2_blocked.desc).map (fun d => d.parameters.length) = some 0)⟩ dX1_release_37) hl.1 (Nat.le_of_ble_eq_true rfl) ⟨Nat.le_of_ble_eq_true rfl, Nat.le_of_ble_eq_true rfl⟩ ⟨Nat.le_of_ble_eq_true rfl, Nat.le_of_ble_eq_true rfl⟩ (fun H locs P => ?_)
            refine W.eq (g2 := F0 m 40 ls [.int (bI (hPl st ad t).isSome)]) rfl ?_
            refine W.widen (k := 4) (n := 24) (Nat.le_of_ble_eq_true rfl) (Nat.le_of_ble_eq_true rfl) ?_
            refine lv_if_ne (tgt := 47) (x := bI (hPl st ad t).isSome) hx hb dX1_release_40 (by decide) (fun c40 => ?_) (fun c40 => ?_)
            · rw [bI_eq0, Bool.not_eq_false] at c40
              have hbt : ¬ st.1 1 t = 0 := fun z => by rw [hPl_none.mpr z] at c40; cases c40
              refine lv_iconst (v := 0) hx hb dX1_release_47 (by decide) ?_
              exact pw_callT (nL' := 1) (rest := []) S P hQ (ht_state hst) q222 q36 (pw_entS [.int 0] S q220 q221 q36 q222 ⟨by decide +kernel, by decide +kernel, (by decide +kernel : (parseMethodDescriptor yX1_state.desc).map (fun d => d.parameters.length) = some 1)⟩ dX1_release_48) htb hlk hl.1 (Nat.le_of_ble_eq_true rfl) ⟨Nat.le_of_ble_eq_true rfl, Nat.le_of_ble_eq_true rfl⟩ ⟨Nat.le_of_ble_eq_true rfl, Nat.le_of_ble_eq_true rfl⟩ ⟨Nat.le_of_ble_eq_true rfl, Nat.le_of_ble_eq_true rfl⟩ (hEnd (r := (3, 0, st)) (by rw [show s_release st (nI t) (nI s) mm = s_rel st t s mm from by unfold s_release; rw [if_neg (by rintro (q | q | q); exact absurd q (bnt o2); exact absurd q (bnt o8); exact absurd q (bnt om)), iN_nI ht (by decide), iN_nI hs (by decide)]]; unfold s_rel; rw [ck3 ho hs qk hbt]; rfl) (hPost_th hF))
            · rw [bI_eq0] at c40
              have hb0 : st.1 1 t = 0 := hPl_none.mp (by cases hq : hPl st ad t with | none => rfl | some x => rw [hq] at c40; cases c40)
              refine lv_iconst (v := 1) hx hb dX1_release_43 (by decide) ?_
              refine lv_goto (tgt := 48) hx hb dX1_release_44 (by decide) ?_
              refine pw_callR (nL' := 1) (rest := []) S P (hs_state True.intro) q222 q36 (pw_entS [.int 1] S q220 q221 q36 q222 ⟨by decide +kernel, by decide +kernel, (by decide +kernel : (parseMethodDescriptor yX1_state.desc).map (fun d => d.parameters.length) = some 1)⟩ dX1_release_48) hl.1 (Nat.le_of_ble_eq_true rfl) ⟨Nat.le_of_ble_eq_true rfl, Nat.le_of_ble_eq_true rfl⟩ ⟨Nat.le_of_ble_eq_true rfl, Nat.le_of_ble_eq_true rfl⟩ (fun H locs P => ?_)
              refine W.eq (g2 := F0 m 51 ls []) rfl ?_
              refine W.widen (k := 5) (n := 30) (Nat.le_of_ble_eq_true rfl) (Nat.le_of_ble_eq_true rfl) ?_
              refine lv_aload hx hb dX1_release_51 (lv_at hl 0 rfl) ?_
              refine vc_waiters S P ho hF hs hkd q558 dX1_release_53 hl.1 (Nat.le_of_ble_eq_true rfl) ⟨Nat.le_of_ble_eq_true rfl, Nat.le_of_ble_eq_true rfl⟩ ⟨Nat.le_of_ble_eq_true rfl, Nat.le_of_ble_eq_true rfl⟩ (fun H locs P => ?_)
              refine lv_istore (lv' := [(6, .int (nI ((st.2.2 s).length))), (5, .ref (ad (18 + s))), (4, .ref (ad (12 + t))), (0, .ref (ad 0)), (1, .int (nI t)), (2, .int (nI s)), (3, .int mm)]) hx hb dX1_release_56 hl (by decide) rfl (fun ls hl => ?_)
              refine lv_aload hx hb dX1_release_58 (lv_at hl 1 rfl) ?_
              refine lv_aload hx hb dX1_release_60 (lv_at hl 2 rfl) ?_
              refine lv_iload_n hx hb dX1_release_62 rfl (lv_at hl 6 rfl) ?_
              refine lv_iconst (v := 1) hx hb dX1_release_63 (by decide) ?_
              refine lv_icmp_ne (tgt := 71) (x := mm) (y := 1) hx hb dX1_release_64 (by decide) (fun c64 => ?_) (fun c64 => ?_)
              · exact absurd c17 c64
              · have _h := True.intro
                refine lv_iconst (v := 1) hx hb dX1_release_67 (by decide) ?_
                refine lv_goto (tgt := 72) hx hb dX1_release_68 (by decide) ?_
                have hme : mm = 1 := c64
                refine vc_giveBack1 hst S P hQ htb hlk ho hn hF hs hkd ht q567 dX1_release_72 hl.1 (Nat.le_of_ble_eq_true rfl) ⟨Nat.le_of_ble_eq_true rfl, Nat.le_of_ble_eq_true rfl⟩ ⟨Nat.le_of_ble_eq_true rfl, Nat.le_of_ble_eq_true rfl⟩ ⟨Nat.le_of_ble_eq_true rfl, Nat.le_of_ble_eq_true rfl⟩ (fun hgc H locs f1 P hF hlv1 hfr1 => ?_) (fun hgc L1 f1 hp => ?_)
                rotate_left
                · exact hEnd (r := (hGbC st t s 1, 0, st)) (by rw [show s_release st (nI t) (nI s) mm = s_rel st t s mm from by unfold s_release; rw [if_neg (by rintro (q | q | q); exact absurd q (bnt o2); exact absurd q (bnt o8); exact absurd q (bnt om)), iN_nI ht (by decide), iN_nI hs (by decide)], s_rel_gb (ck0 ho hs qk hb0), hme]; exact if_pos hgc) (by rw [show hOut (hGbC st t s 1, 0, st) = .inr (hExc (hGbC st t s 1)) from if_neg hgc]; exact hp.to)
                have ho1 := ho.gb (m := 1) hn hs ht hb0 hkd (by decide) hgc
                have hk1 : hK4 (hGb st t s 1) s := by
                  have h6 : ¬ st.1 12 s = 6 := fun z => by rw [gb_cd z] at hgc; exact absurd hgc (by decide)
                  unfold hK4; rw [hGb_I (by decide)]; exact hkd.k4 h6
                refine lv_aload hx hb dX1_release_75 (lv_at hl 1 rfl) ?_
                refine lv_aload_n hx hb dX1_release_77 rfl (lv_at hl 3 rfl) ?_
                refine pw_get (q := (RX1, TX1, 6)) (k := 5) S P (hF.m (by decide)) hF.hall rfl (by decide) q101 (Or.inl rfl) rfl dX1_release_78 ?_
                refine lw_eqv (w := .double (st.2.1 11 0)) (by rw [hGb_D]) ?_
                refine vc_serve S P ho1 hF hs hk1 hn (by rw [hGb_D]) ho.db.1 q589 dX1_release_81 hl.1 (Nat.le_of_ble_eq_true rfl) ⟨Nat.le_of_ble_eq_true rfl, Nat.le_of_ble_eq_true rfl⟩ ⟨Nat.le_of_ble_eq_true rfl, Nat.le_of_ble_eq_true rfl⟩ (fun H locs f2 P hF hlv2 hfr2 => ?_)
                refine lv_iload hx hb dX1_release_84 (lv_at hl 0 rfl) ?_
                exact gw_iret S P hQ hr hlk ⟨Nat.le_of_ble_eq_true rfl, Nat.le_of_ble_eq_true rfl⟩ dX1_release_86 (hEnd (r := (0, nI (st.2.2 s).length, s_serve (hGb st t s 1) s)) (by rw [show s_release st (nI t) (nI s) mm = s_rel st t s mm from by unfold s_release; rw [if_neg (by rintro (q | q | q); exact absurd q (bnt o2); exact absurd q (bnt o8); exact absurd q (bnt om)), iN_nI ht (by decide), iN_nI hs (by decide)], s_rel_gb (ck0 ho hs qk hb0), hme]; exact if_neg (fun z => z hgc)) (hPost_same (o := .inl (some (.int (nI (st.2.2 s).length)))) hF (fun r hr => hlv1 r (hlv2 r hr)) (fun a ha => (hfr2 a (hOwn_no hlv1 ha)).trans (hfr1 a ha))).to)
