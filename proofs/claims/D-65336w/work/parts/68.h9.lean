/-! Condition.queue, by gen_h9.py -/
set_option maxHeartbeats 8000000 in
set_option maxRecDepth 100000 in
theorem hw_queue {l : Launch} {D : va_G} {cs : Nat → ClassId} {ad : Nat → Nat} {L : List Nat} {f : Nat → va_E} {n : Nat} {st : St} (ho : Ok n st) {s : Nat} (hs : s < 8) (hk : st.1 12 s = 6) {t : Nat} (hm : t ∈ st.2.2 s) (hn : n ≤ 100) {why : Int32} {nw : UInt64} (hnow : st.2.1 11 0 = nw) (hnb : fb 1200 nw)  (hF : HF cs ad st L f) : PM l D cs yX9_queue cX9_queue 5 none (rmL 6 1 8) [.ref (ad (18 + s)), .ref (ad (34 + t)), .int why, .double nw] L f (hPost cs ad st L f (.inl none) (s_queue st t s why)) := by
  refine hm_of "SyncHall$Condition" rfl (by decide +kernel) (Nat.le_of_ble_eq_true rfl) ?_
  intro sz p e u m below meth c S P hsz hr hlk hnm htb ls hl Q hQ
  have hl : lv_has ls 5 [(0, .ref (ad (18 + s))), (1, .ref (ad (34 + t))), (2, .int why), (3, .double nw)] := hl
  have hx := S.1
  have hb := S.2.1
  generalize hH0 : u.heap = H at P ⊢
  generalize ([] : List Loc) = locs at P ⊢
  have hFr : ∀ a, ¬ hOwn st ad a → f a = f a := fun _ _ => rfl
  have ht := (ho.row hs hm).1
  have hbt : ¬ st.1 1 t = 0 := by rw [(ho.row hs hm).2.2.1]; decide
  have hkd : hKd st s := Or.inr (Or.inr (Or.inr (Or.inr hk)))
  have hkne := hkd.ne
  have h5 := (ho.row hs hm).2.1
  have hlk8 := (ho.lkc hs hk).2
  have hlkk := ((ho.1 s hs).1.2.2.2.1 hk).2.2
  have hwt0 : f (ad (34 + t)) = .inr (2, [.ref (ad (12 + t)), .ref (ad (18 + s_wf st t)), .int (bI (hWb st t)), .double (st.2.1 7 t), .double (st.2.1 8 t), .int (st.1 9 t), .int (hWo st t), va_rf (hNx st ad t)]) := hF.wt ht hbt
  have hwm : ad (34 + t) ∈ L := hF.mem (hl_wt ht hbt)
  have hwo : ¬ hOwn (sI (s_remove st t s) 1 t 0) ad (ad (34 + t)) := rv_own hF ht hbt
  refine lv_aload_n hx hb dX9_queue_0 rfl (lv_at hl 0 rfl) ?_
  refine lv_aload_n hx hb dX9_queue_1 rfl (lv_at hl 1 rfl) ?_
  refine pw_callRm (nL' := 3) S P (hw_remove ho hs hkd hm hF) q622 q45 (pw_entU (q := (RX9, TX9, 4)) "SyncHall$Sync" [.ref (ad (34 + t))] S P (hF.cd hs hk).1 (hF.cd hs hk).2 rfl q688 q689 q691 q615 q622 (va_Decl_in S q615 q622) ⟨by decide +kernel, by decide +kernel, (by decide +kernel : (parseMethodDescriptor (⟨"SyncHall$Condition", "remove", "(LSyncHall$Waiter;)V"⟩ : MethodName).desc).map (fun d => d.parameters.length) = some 1)⟩ dX9_queue_2) hl.1 (Nat.le_of_ble_eq_true rfl) ⟨Nat.le_of_ble_eq_true rfl, Nat.le_of_ble_eq_true rfl⟩ ⟨Nat.le_of_ble_eq_true rfl, Nat.le_of_ble_eq_true rfl⟩ (fun H locs fA P hF hwc hfr1 => ?_)
  have hwe := hwc.trans hwt0
  have hdbR := ((ho.rmB hs hm).1).db
  refine lv_iload_n hx hb dX9_queue_5 rfl (lv_at hl 2 rfl) ?_
  refine lv_iconst (v := 1) hx hb dX9_queue_6 (by decide) ?_
  refine lv_icmp_ne (tgt := 20) (x := why) (y := 1) hx hb dX9_queue_7 (by decide) (fun c7 => ?_) (fun c7 => ?_)
  · have _h := True.intro
    have hQe : hQ1 st t s why = sI (s_remove st t s) 1 t 0 := by unfold hQ1; rw [if_neg c7]
    rw [← hQe] at hF
    have hfrB := hfr1
    have hoQ := ho.q1 (why := why) hs hm
    have hk6 : (hQ1 st t s why).1 12 s = 6 := by rw [hQ1_I (by decide) (by decide) (by decide)]; exact hk
    have hlke : s_lk (hQ1 st t s why) s = s_lk st s := by unfold s_lk; rw [hQ1_I (by decide) (by decide) (by decide)]
    have hlkk2 : (hQ1 st t s why).1 12 (s_lk st s) = 0 ∨ (hQ1 st t s why).1 12 (s_lk st s) = 1 := by rw [hQ1_I (by decide) (by decide) (by decide)]; exact hlkk
    refine lv_aload_n hx hb dX9_queue_20 rfl (lv_at hl 0 rfl) ?_
    refine pw_get (q := (RX9, TX9, 4)) (k := 3) S P (hF.cd (by omega) hk6).1 (hF.cd (by omega) hk6).2 rfl (by decide) q333 (Or.inl rfl) rfl dX9_queue_21 ?_
    refine lw_eqv (w := .ref (ad (18 + s_lk st s))) (by rw [hlke]) ?_
    refine hq_new (q := (RX10, TX10, 8)) (ci := 2) (fs := [.null, .null, .int 0, .double 0, .double 0, .int 0, .int 0, .null]) S P rfl q697 q501 q52 (by decide) (Nat.le_of_ble_eq_true rfl) (Nat.le_of_ble_eq_true rfl) dX9_queue_24 (fun x H fC hxL hxm hLs hfx hfo P => ?_)
    have hF0 := hF
    have hF := hF.ext (f' := fC) hLs (fun a ha => hfo a (fun z => hxL (z ▸ ha)))
    have hwe := (hfo _ (fun z => hxL (z ▸ hwm))).trans hwe
    have hwm := hLs _ hwm
    refine lv_dup hx hb dX9_queue_27 rfl ?_
    refine lv_aload_n hx hb dX9_queue_28 rfl (lv_at hl 1 rfl) ?_
    refine pw_callR (nL' := 1) (rest := [.ref x, .ref x, .ref (ad (18 + s_lk st s))]) S P (hg_w_task hwm hwe) q550 q52 (pw_entV (q := (RX10, TX10, 8)) [] S P hwm hwe rfl q698 q548 q549 q550 ⟨by decide +kernel, by decide +kernel, (by decide +kernel : (parseMethodDescriptor yX10_task.desc).map (fun d => d.parameters.length) = some 0)⟩ dX9_queue_29) hl.1 (Nat.le_of_ble_eq_true rfl) ⟨Nat.le_of_ble_eq_true rfl, Nat.le_of_ble_eq_true rfl⟩ ⟨Nat.le_of_ble_eq_true rfl, Nat.le_of_ble_eq_true rfl⟩ (fun H locs P => ?_)
    refine W.eq (g2 := F0 m 32 ls [.ref (ad (12 + t)), .ref x, .ref x, .ref (ad (18 + s_lk st s))]) rfl ?_
    refine W.widen (k := 1) (n := 8) (Nat.le_of_ble_eq_true rfl) (Nat.le_of_ble_eq_true rfl) ?_
    refine lv_aload_n hx hb dX9_queue_32 rfl (lv_at hl 0 rfl) ?_
    refine pw_get (q := (RX9, TX9, 4)) (k := 3) S P (hF.cd (by omega) hk6).1 (hF.cd (by omega) hk6).2 rfl (by decide) q333 (Or.inl rfl) rfl dX9_queue_33 ?_
    refine lw_eqv (w := .ref (ad (18 + s_lk st s))) (by rw [hlke]) ?_
    refine lv_iconst (v := 0) hx hb dX9_queue_36 (by decide) ?_
    refine lv_ldc2d (v := 13830554455654793216) hx hb S.2.2.2.1 (S.2.2.2.2 _ q699) dX9_queue_37 ?_
    refine lv_dload_n hx hb dX9_queue_40 rfl (lv_at hl 3 rfl) ?_
    refine lv_aload_n hx hb dX9_queue_41 rfl (lv_at hl 1 rfl) ?_
    refine pw_callRW (Wd := 16) (nL' := 1) (rest := [.double nw, .double 13830554455654793216, .int 0, .ref (ad (18 + s_lk st s)), .ref (ad (12 + t)), .ref x, .ref x, .ref (ad (18 + s_lk st s))]) S P (hg_w_depth hwm hwe) q639 q52 (pw_entV (q := (RX10, TX10, 8)) [] S P hwm hwe rfl q700 q637 q638 q639 ⟨by decide +kernel, by decide +kernel, (by decide +kernel : (parseMethodDescriptor yX10_depth.desc).map (fun d => d.parameters.length) = some 0)⟩ dX9_queue_42) hl.1 (Nat.le_of_ble_eq_true rfl) ⟨Nat.le_of_ble_eq_true rfl, Nat.le_of_ble_eq_true rfl⟩ ⟨Nat.le_of_ble_eq_true rfl, Nat.le_of_ble_eq_true rfl⟩ (fun H locs P => ?_)
    refine W.eq (g2 := F0 m 45 ls [.int (st.1 9 t), .double nw, .double 13830554455654793216, .int 0, .ref (ad (18 + s_lk st s)), .ref (ad (12 + t)), .ref x, .ref x, .ref (ad (18 + s_lk st s))]) rfl ?_
    refine W.widen (k := 1) (n := 8) (Nat.le_of_ble_eq_true rfl) (Nat.le_of_ble_eq_true rfl) ?_
    refine lv_iload_n hx hb dX9_queue_45 rfl (lv_at hl 2 rfl) ?_
    refine pw_callI (nL' := 10) (a := x) S P (hi_waiter (wb := false) hxm hfx) q508 q52 (pw_entI [.ref (ad (12 + t)), .ref (ad (18 + s_lk st s)), .int 0, .double 13830554455654793216, .double nw, .int (st.1 9 t), .int why] S rfl q701 q507 q508 ⟨by decide +kernel, by decide +kernel, (by decide +kernel : (parseMethodDescriptor yX10_init.desc).map (fun d => d.parameters.length) = some 7)⟩ dX9_queue_46) hl.1 (Nat.le_of_ble_eq_true rfl) ⟨Nat.le_of_ble_eq_true rfl, Nat.le_of_ble_eq_true rfl⟩ ⟨Nat.le_of_ble_eq_true rfl, Nat.le_of_ble_eq_true rfl⟩ (fun H locs fD P hfx hfo2 => ?_)
    have hF := hF0.ext (f' := fD) hLs (fun a ha => (hfo2 a (fun z => hxL (z ▸ ha))).trans (hfo a (fun z => hxL (z ▸ ha))))
    have hfw : fD x = hWait (s_qpre st t s why) (va_up ad (34 + t) x) t := by rw [que_wait ho hs hm hk hn, hnow]; exact hfx
    refine pw_callA (nL' := 3) S P (hw_add hoQ hlk8 (Or.inl hlkk2) ht hQ1_b (hQ1_d h5) hxm (hF0.nown hxL) hfw hF) q546 q45 (pw_entU (q := (RX5, TX5, 6)) "SyncHall$Sync" [.ref x] S P (hF.lk hlk8 hlkk2).1 (hF.lk hlk8 hlkk2).2 rfl q702 q703 q704 q539 q546 (va_Decl_in S q539 q546) ⟨by decide +kernel, by decide +kernel, (by decide +kernel : (parseMethodDescriptor (⟨"SyncHall$Lock", "add", "(LSyncHall$Waiter;)V"⟩ : MethodName).desc).map (fun d => d.parameters.length) = some 1)⟩ dX9_queue_49) hl.1 (Nat.le_of_ble_eq_true rfl) ⟨Nat.le_of_ble_eq_true rfl, Nat.le_of_ble_eq_true rfl⟩ ⟨Nat.le_of_ble_eq_true rfl, Nat.le_of_ble_eq_true rfl⟩ (fun H locs fE P hF hfrA => ?_)
    have hcd := hF.cd hs (by rw [qpre_I h5 (by decide)]; exact hk)
    rw [show s_lk (s_qpre st t s why) s = s_lk st s from by unfold s_lk; rw [qpre_I h5 (by decide)], adw (r := 18 + s) (by omega), adw (r := 18 + s_lk st s) (by omega)] at hcd
    have hlc := hF.lk hlk8 (by rw [qpre_I h5 (by decide)]; exact hlkk)
    rw [adw (r := 18 + s_lk st s) (by omega)] at hlc
    refine lv_aload_n hx hb dX9_queue_52 rfl (lv_at hl 0 rfl) ?_
    refine pw_get (q := (RX9, TX9, 4)) (k := 3) S P hcd.1 hcd.2 rfl (by decide) q333 (Or.inl rfl) rfl dX9_queue_53 ?_
    refine lv_dload_n hx hb dX9_queue_56 rfl (lv_at hl 3 rfl) ?_
    have hM := hw_serve (l := l) (D := D) (nw := nw) (ho.qpre (why := why) hs hm hk) hlk8 (Or.inl (by rw [qpre_I h5 (by decide)]; exact hlkk)) hn (by rw [qpre_now h5]; exact hnow) hnb hF
    rw [adw (r := 18 + s_lk st s) (by omega)] at hM
    refine pw_callS (nL' := 4) S P (hM) q597 q45 (pw_entU (q := (RX5, TX5, 6)) "SyncHall$Sync" [.double nw] S P hlc.1 hlc.2 rfl q705 q706 q708 q590 q597 (va_Decl_in S q590 q597) ⟨by decide +kernel, by decide +kernel, (by decide +kernel : (parseMethodDescriptor (⟨"SyncHall$Lock", "serve", "(D)V"⟩ : MethodName).desc).map (fun d => d.parameters.length) = some 1)⟩ dX9_queue_57) hl.1 (Nat.le_of_ble_eq_true rfl) ⟨Nat.le_of_ble_eq_true rfl, Nat.le_of_ble_eq_true rfl⟩ ⟨Nat.le_of_ble_eq_true rfl, Nat.le_of_ble_eq_true rfl⟩ (fun H locs fG P hF hlvS hfrS => ?_)
    have hend : ∀ a, a ∈ L → ¬ hOwn st ad a → fG a = f a ∧ ¬ hOwn (s_queue st t s why) (va_up ad (34 + t) x) a := fun a ha hno => by
      have hax : a ≠ x := fun z => hxL (z ▸ ha)
      have h1 := hfrA a hax (hOwn_no (fun r hr => hQ1_live hr) hno)
      refine ⟨(hfrS a h1.2).trans (h1.1.trans ((hfo2 a hax).trans ((hfo a hax).trans (hfrB a hno)))), ?_⟩
      rw [s_queue_eq]
      exact hOwn_no hlvS h1.2
    exact gw_vret S P hQ hr hlk ⟨Nat.le_of_ble_eq_true rfl, Nat.le_of_ble_eq_true rfl⟩ dX9_queue_60 (⟨rfl, va_up ad (34 + t) x, by rw [s_queue_eq]; exact hF, fun i hi _ => adw (by omega), hLs, hend⟩)
  · have _h := True.intro
    refine lv_aload_n hx hb dX9_queue_10 rfl (lv_at hl 0 rfl) ?_
    refine lv_dload_n hx hb dX9_queue_11 rfl (lv_at hl 3 rfl) ?_
    refine lv_aload_n hx hb dX9_queue_12 rfl (lv_at hl 1 rfl) ?_
    refine pw_callR (nL' := 1) (rest := [.double nw, .ref (ad (18 + s))]) S P (hg_w_since hwm hwe) q651 q52 (pw_entV (q := (RX10, TX10, 8)) [] S P hwm hwe rfl q692 q649 q650 q651 ⟨by decide +kernel, by decide +kernel, (by decide +kernel : (parseMethodDescriptor yX10_since.desc).map (fun d => d.parameters.length) = some 0)⟩ dX9_queue_13) hl.1 (Nat.le_of_ble_eq_true rfl) ⟨Nat.le_of_ble_eq_true rfl, Nat.le_of_ble_eq_true rfl⟩ ⟨Nat.le_of_ble_eq_true rfl, Nat.le_of_ble_eq_true rfl⟩ (fun H locs P => ?_)
    refine W.eq (g2 := F0 m 16 ls [.double (st.2.1 8 t), .double nw, .ref (ad (18 + s))]) rfl ?_
    refine W.widen (k := 0) (n := 0) (Nat.le_of_ble_eq_true rfl) (Nat.le_of_ble_eq_true rfl) ?_
    refine lv_dsub hx hb dX9_queue_16 ((fb_wait hnb (ho.db.2.1 t ht)).2) ?_
    refine pw_callS (nL' := 3) S P (hw_X4_note (st := sI (s_remove st t s) 1 t 0) hs hkd (hdbR.2.2 s hs) (fb_wait hnb (ho.db.2.1 t ht)).1 hF) q660 q45 (pw_entU (q := (RX9, TX9, 4)) "SyncHall$Sync" [.double (FP.dsub nw (st.2.1 8 t))] S P (hF.cd hs hk).1 (hF.cd hs hk).2 rfl q693 q694 q696 q653 q660 (va_Decl_in S q653 q660) ⟨by decide +kernel, by decide +kernel, (by decide +kernel : (parseMethodDescriptor (⟨"SyncHall$Condition", "note", "(D)V"⟩ : MethodName).desc).map (fun d => d.parameters.length) = some 1)⟩ dX9_queue_17) hl.1 (Nat.le_of_ble_eq_true rfl) ⟨Nat.le_of_ble_eq_true rfl, Nat.le_of_ble_eq_true rfl⟩ ⟨Nat.le_of_ble_eq_true rfl, Nat.le_of_ble_eq_true rfl⟩ (fun H locs fB P hF hlv2 hfr2 => ?_)
    have hwe := (hfr2 _ hwo).trans hwe
    have hQe : hQ1 st t s why = sI (sD (sI (s_remove st t s) 1 t 0) 20 s (FP.dadd ((sI (s_remove st t s) 1 t 0).2.1 20 s) (FP.dsub nw (st.2.1 8 t)))) 21 s ((sI (s_remove st t s) 1 t 0).1 21 s + 1) := by
      unfold hQ1 hNote
      rw [if_pos c7, hnow]
    rw [← hQe] at hF
    have hfrB : ∀ a, ¬ hOwn st ad a → fB a = f a := fun a ha => (hfr2 a (hOwn_no (fun r hr => (rv_live hr).1) ha)).trans (hfr1 a ha)
    have hoQ := ho.q1 (why := why) hs hm
    have hk6 : (hQ1 st t s why).1 12 s = 6 := by rw [hQ1_I (by decide) (by decide) (by decide)]; exact hk
    have hlke : s_lk (hQ1 st t s why) s = s_lk st s := by unfold s_lk; rw [hQ1_I (by decide) (by decide) (by decide)]
    have hlkk2 : (hQ1 st t s why).1 12 (s_lk st s) = 0 ∨ (hQ1 st t s why).1 12 (s_lk st s) = 1 := by rw [hQ1_I (by decide) (by decide) (by decide)]; exact hlkk
    refine lv_aload_n hx hb dX9_queue_20 rfl (lv_at hl 0 rfl) ?_
    refine pw_get (q := (RX9, TX9, 4)) (k := 3) S P (hF.cd (by omega) hk6).1 (hF.cd (by omega) hk6).2 rfl (by decide) q333 (Or.inl rfl) rfl dX9_queue_21 ?_
    refine lw_eqv (w := .ref (ad (18 + s_lk st s))) (by rw [hlke]) ?_
    refine hq_new (q := (RX10, TX10, 8)) (ci := 2) (fs := [.null, .null, .int 0, .double 0, .double 0, .int 0, .int 0, .null]) S P rfl q697 q501 q52 (by decide) (Nat.le_of_ble_eq_true rfl) (Nat.le_of_ble_eq_true rfl) dX9_queue_24 (fun x H fC hxL hxm hLs hfx hfo P => ?_)
    have hF0 := hF
    have hF := hF.ext (f' := fC) hLs (fun a ha => hfo a (fun z => hxL (z ▸ ha)))
    have hwe := (hfo _ (fun z => hxL (z ▸ hwm))).trans hwe
    have hwm := hLs _ hwm
    refine lv_dup hx hb dX9_queue_27 rfl ?_
    refine lv_aload_n hx hb dX9_queue_28 rfl (lv_at hl 1 rfl) ?_
    refine pw_callR (nL' := 1) (rest := [.ref x, .ref x, .ref (ad (18 + s_lk st s))]) S P (hg_w_task hwm hwe) q550 q52 (pw_entV (q := (RX10, TX10, 8)) [] S P hwm hwe rfl q698 q548 q549 q550 ⟨by decide +kernel, by decide +kernel, (by decide +kernel : (parseMethodDescriptor yX10_task.desc).map (fun d => d.parameters.length) = some 0)⟩ dX9_queue_29) hl.1 (Nat.le_of_ble_eq_true rfl) ⟨Nat.le_of_ble_eq_true rfl, Nat.le_of_ble_eq_true rfl⟩ ⟨Nat.le_of_ble_eq_true rfl, Nat.le_of_ble_eq_true rfl⟩ (fun H locs P => ?_)
    refine W.eq (g2 := F0 m 32 ls [.ref (ad (12 + t)), .ref x, .ref x, .ref (ad (18 + s_lk st s))]) rfl ?_
    refine W.widen (k := 1) (n := 8) (Nat.le_of_ble_eq_true rfl) (Nat.le_of_ble_eq_true rfl) ?_
    refine lv_aload_n hx hb dX9_queue_32 rfl (lv_at hl 0 rfl) ?_
    refine pw_get (q := (RX9, TX9, 4)) (k := 3) S P (hF.cd (by omega) hk6).1 (hF.cd (by omega) hk6).2 rfl (by decide) q333 (Or.inl rfl) rfl dX9_queue_33 ?_
    refine lw_eqv (w := .ref (ad (18 + s_lk st s))) (by rw [hlke]) ?_
    refine lv_iconst (v := 0) hx hb dX9_queue_36 (by decide) ?_
    refine lv_ldc2d (v := 13830554455654793216) hx hb S.2.2.2.1 (S.2.2.2.2 _ q699) dX9_queue_37 ?_
    refine lv_dload_n hx hb dX9_queue_40 rfl (lv_at hl 3 rfl) ?_
    refine lv_aload_n hx hb dX9_queue_41 rfl (lv_at hl 1 rfl) ?_
    refine pw_callRW (Wd := 16) (nL' := 1) (rest := [.double nw, .double 13830554455654793216, .int 0, .ref (ad (18 + s_lk st s)), .ref (ad (12 + t)), .ref x, .ref x, .ref (ad (18 + s_lk st s))]) S P (hg_w_depth hwm hwe) q639 q52 (pw_entV (q := (RX10, TX10, 8)) [] S P hwm hwe rfl q700 q637 q638 q639 ⟨by decide +kernel, by decide +kernel, (by decide +kernel : (parseMethodDescriptor yX10_depth.desc).map (fun d => d.parameters.length) = some 0)⟩ dX9_queue_42) hl.1 (Nat.le_of_ble_eq_true rfl) ⟨Nat.le_of_ble_eq_true rfl, Nat.le_of_ble_eq_true rfl⟩ ⟨Nat.le_of_ble_eq_true rfl, Nat.le_of_ble_eq_true rfl⟩ (fun H locs P => ?_)
    refine W.eq (g2 := F0 m 45 ls [.int (st.1 9 t), .double nw, .double 13830554455654793216, .int 0, .ref (ad (18 + s_lk st s)), .ref (ad (12 + t)), .ref x, .ref x, .ref (ad (18 + s_lk st s))]) rfl ?_
    refine W.widen (k := 1) (n := 8) (Nat.le_of_ble_eq_true rfl) (Nat.le_of_ble_eq_true rfl) ?_
    refine lv_iload_n hx hb dX9_queue_45 rfl (lv_at hl 2 rfl) ?_
    refine pw_callI (nL' := 10) (a := x) S P (hi_waiter (wb := false) hxm hfx) q508 q52 (pw_entI [.ref (ad (12 + t)), .ref (ad (18 + s_lk st s)), .int 0, .double 13830554455654793216, .double nw, .int (st.1 9 t), .int why] S rfl q701 q507 q508 ⟨by decide +kernel, by decide +kernel, (by decide +kernel : (parseMethodDescriptor yX10_init.desc).map (fun d => d.parameters.length) = some 7)⟩ dX9_queue_46) hl.1 (Nat.le_of_ble_eq_true rfl) ⟨Nat.le_of_ble_eq_true rfl, Nat.le_of_ble_eq_true rfl⟩ ⟨Nat.le_of_ble_eq_true rfl, Nat.le_of_ble_eq_true rfl⟩ (fun H locs fD P hfx hfo2 => ?_)
    have hF := hF0.ext (f' := fD) hLs (fun a ha => (hfo2 a (fun z => hxL (z ▸ ha))).trans (hfo a (fun z => hxL (z ▸ ha))))
    have hfw : fD x = hWait (s_qpre st t s why) (va_up ad (34 + t) x) t := by rw [que_wait ho hs hm hk hn, hnow]; exact hfx
    refine pw_callA (nL' := 3) S P (hw_add hoQ hlk8 (Or.inl hlkk2) ht hQ1_b (hQ1_d h5) hxm (hF0.nown hxL) hfw hF) q546 q45 (pw_entU (q := (RX5, TX5, 6)) "SyncHall$Sync" [.ref x] S P (hF.lk hlk8 hlkk2).1 (hF.lk hlk8 hlkk2).2 rfl q702 q703 q704 q539 q546 (va_Decl_in S q539 q546) ⟨by decide +kernel, by decide +kernel, (by decide +kernel : (parseMethodDescriptor (⟨"SyncHall$Lock", "add", "(LSyncHall$Waiter;)V"⟩ : MethodName).desc).map (fun d => d.parameters.length) = some 1)⟩ dX9_queue_49) hl.1 (Nat.le_of_ble_eq_true rfl) ⟨Nat.le_of_ble_eq_true rfl, Nat.le_of_ble_eq_true rfl⟩ ⟨Nat.le_of_ble_eq_true rfl, Nat.le_of_ble_eq_true rfl⟩ (fun H locs fE P hF hfrA => ?_)
    have hcd := hF.cd hs (by rw [qpre_I h5 (by decide)]; exact hk)
    rw [show s_lk (s_qpre st t s why) s = s_lk st s from by unfold s_lk; rw [qpre_I h5 (by decide)], adw (r := 18 + s) (by omega), adw (r := 18 + s_lk st s) (by omega)] at hcd
    have hlc := hF.lk hlk8 (by rw [qpre_I h5 (by decide)]; exact hlkk)
    rw [adw (r := 18 + s_lk st s) (by omega)] at hlc
    refine lv_aload_n hx hb dX9_queue_52 rfl (lv_at hl 0 rfl) ?_
    refine pw_get (q := (RX9, TX9, 4)) (k := 3) S P hcd.1 hcd.2 rfl (by decide) q333 (Or.inl rfl) rfl dX9_queue_53 ?_
    refine lv_dload_n hx hb dX9_queue_56 rfl (lv_at hl 3 rfl) ?_
    have hM := hw_serve (l := l) (D := D) (nw := nw) (ho.qpre (why := why) hs hm hk) hlk8 (Or.inl (by rw [qpre_I h5 (by decide)]; exact hlkk)) hn (by rw [qpre_now h5]; exact hnow) hnb hF
    rw [adw (r := 18 + s_lk st s) (by omega)] at hM
    refine pw_callS (nL' := 4) S P (hM) q597 q45 (pw_entU (q := (RX5, TX5, 6)) "SyncHall$Sync" [.double nw] S P hlc.1 hlc.2 rfl q705 q706 q708 q590 q597 (va_Decl_in S q590 q597) ⟨by decide +kernel, by decide +kernel, (by decide +kernel : (parseMethodDescriptor (⟨"SyncHall$Lock", "serve", "(D)V"⟩ : MethodName).desc).map (fun d => d.parameters.length) = some 1)⟩ dX9_queue_57) hl.1 (Nat.le_of_ble_eq_true rfl) ⟨Nat.le_of_ble_eq_true rfl, Nat.le_of_ble_eq_true rfl⟩ ⟨Nat.le_of_ble_eq_true rfl, Nat.le_of_ble_eq_true rfl⟩ (fun H locs fG P hF hlvS hfrS => ?_)
    have hend : ∀ a, a ∈ L → ¬ hOwn st ad a → fG a = f a ∧ ¬ hOwn (s_queue st t s why) (va_up ad (34 + t) x) a := fun a ha hno => by
      have hax : a ≠ x := fun z => hxL (z ▸ ha)
      have h1 := hfrA a hax (hOwn_no (fun r hr => hQ1_live hr) hno)
      refine ⟨(hfrS a h1.2).trans (h1.1.trans ((hfo2 a hax).trans ((hfo a hax).trans (hfrB a hno)))), ?_⟩
      rw [s_queue_eq]
      exact hOwn_no hlvS h1.2
    exact gw_vret S P hQ hr hlk ⟨Nat.le_of_ble_eq_true rfl, Nat.le_of_ble_eq_true rfl⟩ dX9_queue_60 (⟨rfl, va_up ad (34 + t) x, by rw [s_queue_eq]; exact hF, fun i hi _ => adw (by omega), hLs, hend⟩)
