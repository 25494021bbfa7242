/-! the reference's methods, by gen_ref1.py -/
set_option maxHeartbeats 4000000 in
set_option maxRecDepth 100000 in
theorem rm_fail {l : Launch} {D : va_G} {cs : Nat → ClassId} {r : Nat} {ad : Nat → Nat} {L : List Nat} (st : St) (fl c0 : Int32) : RM l D cs yX3_fail cX3_fail 2 (some .int) (rmL 1 0 0) r ad L [.ref r, .int c0] st fl (some (.int 0)) st c0 := by
  refine rm_of rfl (Nat.le_of_ble_eq_true rfl) ?_
  intro f0 x sz p e u m below meth c S P hRw hfl hr hlk ls hl Q hQ
  have hl : lv_has ls 2 [(0, .ref r), (1, .int c0)] := hl
  have hx := S.1
  have hb := S.2.1
  generalize u.heap = H at P ⊢
  generalize ([] : List Loc) = locs at P ⊢
  refine lv_aload_n hx hb dX3_fail_0 rfl (lv_at hl 0 rfl) ?_
  refine lv_iload_n hx hb dX3_fail_1 rfl (lv_at hl 1 rfl) ?_
  refine rx_putF (v := c0) 0 S P rfl rfl rfl rfl q885 dX3_fail_2 (fun H locs P => ?_)
  obtain ⟨x, P, hRw, hfl⟩ := rw_fl (v := c0) P hRw
  refine lv_iconst (v := 0) hx hb dX3_fail_5 (by decide) ?_
  exact rx_iret S P hQ hr hlk dX3_fail_6 hRw hfl (rfl) (rfl)

set_option maxHeartbeats 4000000 in
set_option maxRecDepth 100000 in
theorem rm_out {l : Launch} {D : va_G} {cs : Nat → ClassId} {r : Nat} {ad : Nat → Nat} {L : List Nat} (st : St) (fl v n : Int32) : RM l D cs yX3_out cX3_out 3 (some .boolean) (rmL 1 0 0) r ad L [.ref r, .int v, .int n] st fl (some (.int (bI (isOut v n)))) st fl := by
  refine rm_of rfl (Nat.le_of_ble_eq_true rfl) ?_
  intro f0 x sz p e u m below meth c S P hRw hfl hr hlk ls hl Q hQ
  have hl : lv_has ls 3 [(0, .ref r), (1, .int v), (2, .int n)] := hl
  have hx := S.1
  have hb := S.2.1
  generalize u.heap = H at P ⊢
  generalize ([] : List Loc) = locs at P ⊢
  refine lv_iload_n hx hb dX3_out_0 rfl (lv_at hl 1 rfl) ?_
  refine lv_if_lt (tgt := 9) (x := v) hx hb dX3_out_1 (by decide) (fun c1 => ?_) (fun c1 => ?_)
  · have _h := True.intro
    refine lv_iconst (v := 1) hx hb dX3_out_9 (by decide) ?_
    refine lv_goto (tgt := 14) hx hb dX3_out_10 (by decide) ?_
    exact rx_zret S P hQ hr hlk dX3_out_14 hRw hfl (bI_or _) (by simp [isOut, bI, c1]) (rfl)
  · have _h := True.intro
    refine lv_iload_n hx hb dX3_out_4 rfl (lv_at hl 1 rfl) ?_
    refine lv_iload_n hx hb dX3_out_5 rfl (lv_at hl 2 rfl) ?_
    refine lv_icmp_lt (tgt := 13) (x := v) (y := n) hx hb dX3_out_6 (by decide) (fun c6 => ?_) (fun c6 => ?_)
    · have _h := True.intro
      refine lv_iconst (v := 0) hx hb dX3_out_13 (by decide) ?_
      exact rx_zret S P hQ hr hlk dX3_out_14 hRw hfl (bI_or _) (by simp [isOut, bI, c1, c6]) (rfl)
    · have _h := True.intro
      refine lv_iconst (v := 1) hx hb dX3_out_9 (by decide) ?_
      refine lv_goto (tgt := 14) hx hb dX3_out_10 (by decide) ?_
      exact rx_zret S P hQ hr hlk dX3_out_14 hRw hfl (bI_or _) (by simp [isOut, bI, c1, c6]) (rfl)

set_option maxHeartbeats 4000000 in
set_option maxRecDepth 100000 in
theorem rm_isLock {l : Launch} {D : va_G} {cs : Nat → ClassId} {r : Nat} {ad : Nat → Nat} {L : List Nat} (st : St) (fl : Int32) (s : Nat) (hs : s < 8) : RM l D cs yX3_isLock cX3_isLock 2 (some .boolean) (rmL 1 0 0) r ad L [.ref r, .int (nI s)] st fl (some (.int (bI (s_isLock st s)))) st fl := by
  refine rm_of rfl (Nat.le_of_ble_eq_true rfl) ?_
  intro f0 x sz p e u m below meth c S P hRw hfl hr hlk ls hl Q hQ
  have hl : lv_has ls 2 [(0, .ref r), (1, .int (nI s))] := hl
  have hx := S.1
  have hb := S.2.1
  generalize u.heap = H at P ⊢
  generalize ([] : List Loc) = locs at P ⊢
  refine lv_aload_n hx hb dX3_isLock_0 rfl (lv_at hl 0 rfl) ?_
  refine rx_ref 12 S P (by decide) q897 dX3_isLock_1 ?_
  refine lv_iload_n hx hb dX3_isLock_4 rfl (lv_at hl 1 rfl) ?_
  refine rx_iald 12 s S P rfl rfl (by show _ < _; simp only [rN]; omega) dX3_isLock_5 ?_
  refine lv_if_eq (tgt := 19) (x := st.1 12 s) hx hb dX3_isLock_6 (by decide) (fun c6 => ?_) (fun c6 => ?_)
  · have _h := True.intro
    refine lv_iconst (v := 1) hx hb dX3_isLock_19 (by decide) ?_
    refine lv_goto (tgt := 24) hx hb dX3_isLock_20 (by decide) ?_
    exact rx_zret S P hQ hr hlk dX3_isLock_24 hRw hfl (bI_or _) (by simp [s_isLock, bI, c6]) (rfl)
  · have _h := True.intro
    refine lv_aload_n hx hb dX3_isLock_9 rfl (lv_at hl 0 rfl) ?_
    refine rx_ref 12 S P (by decide) q897 dX3_isLock_10 ?_
    refine lv_iload_n hx hb dX3_isLock_13 rfl (lv_at hl 1 rfl) ?_
    refine rx_iald 12 s S P rfl rfl (by show _ < _; simp only [rN]; omega) dX3_isLock_14 ?_
    refine lv_iconst (v := 1) hx hb dX3_isLock_15 (by decide) ?_
    refine lv_icmp_ne (tgt := 23) (x := st.1 12 s) (y := 1) hx hb dX3_isLock_16 (by decide) (fun c16 => ?_) (fun c16 => ?_)
    · have _h := True.intro
      refine lv_iconst (v := 0) hx hb dX3_isLock_23 (by decide) ?_
      exact rx_zret S P hQ hr hlk dX3_isLock_24 hRw hfl (bI_or _) (by simp [s_isLock, bI, c6, c16]) (rfl)
    · have _h := True.intro
      refine lv_iconst (v := 1) hx hb dX3_isLock_19 (by decide) ?_
      refine lv_goto (tgt := 24) hx hb dX3_isLock_20 (by decide) ?_
      exact rx_zret S P hQ hr hlk dX3_isLock_24 hRw hfl (bI_or _) (by simp [s_isLock, bI, c6, c16]) (rfl)

set_option maxHeartbeats 4000000 in
set_option maxRecDepth 100000 in
theorem rm_badLimit {l : Launch} {D : va_G} {cs : Nat → ClassId} {r : Nat} {ad : Nat → Nat} {L : List Nat} (st : St) (fl : Int32) (v : UInt64) : RM l D cs yX3_badLimit cX3_badLimit 3 (some .boolean) (rmL 1 0 0) r ad L [.ref r, .double v] st fl (some (.int (bI (!inR cM1 cK v)))) st fl := by
  refine rm_of rfl (Nat.le_of_ble_eq_true rfl) ?_
  intro f0 x sz p e u m below meth c S P hRw hfl hr hlk ls hl Q hQ
  have hl : lv_has ls 3 [(0, .ref r), (1, .double v)] := hl
  have hx := S.1
  have hb := S.2.1
  generalize u.heap = H at P ⊢
  generalize ([] : List Loc) = locs at P ⊢
  refine lv_dload_n hx hb dX3_badLimit_0 rfl (lv_at hl 1 rfl) ?_
  refine lv_ldc2d (v := 13830554455654793216) hx hb S.2.2.2.1 (S.2.2.2.2 _ q995) dX3_badLimit_1 ?_
  refine lv_dcmp hx hb dX3_badLimit_4 ?_
  refine lv_if_lt (tgt := 16) (x := Op.cmpValue (FP.dcmp v 13830554455654793216) .l) hx hb dX3_badLimit_5 (by decide) (fun c5 => ?_) (fun c5 => ?_)
  · simp only [cv_l_lt0, Decidable.not_not] at c5
    refine lv_iconst (v := 1) hx hb dX3_badLimit_16 (by decide) ?_
    refine lv_goto (tgt := 21) hx hb dX3_badLimit_17 (by decide) ?_
    exact rx_zret S P hQ hr hlk dX3_badLimit_21 hRw hfl (bI_or _) (by simp [inR, bI, c5]) (rfl)
  · simp only [cv_l_lt0, Decidable.not_not] at c5
    refine lv_dload_n hx hb dX3_badLimit_8 rfl (lv_at hl 1 rfl) ?_
    refine lv_ldc2d (v := 4652007308841189376) hx hb S.2.2.2.1 (S.2.2.2.2 _ q986) dX3_badLimit_9 ?_
    refine lv_dcmp hx hb dX3_badLimit_12 ?_
    refine lw_if_le (tgt := 20) (x := Op.cmpValue (FP.dcmp v 4652007308841189376) .g) hx hb dX3_badLimit_13 (by decide) (fun c13 => ?_) (fun c13 => ?_)
    · simp only [cv_g_gt0, Decidable.not_not] at c13
      refine lv_iconst (v := 0) hx hb dX3_badLimit_20 (by decide) ?_
      exact rx_zret S P hQ hr hlk dX3_badLimit_21 hRw hfl (bI_or _) (by simp [inR, bI, c5, c13]) (rfl)
    · simp only [cv_g_gt0, Decidable.not_not] at c13
      refine lv_iconst (v := 1) hx hb dX3_badLimit_16 (by decide) ?_
      refine lv_goto (tgt := 21) hx hb dX3_badLimit_17 (by decide) ?_
      exact rx_zret S P hQ hr hlk dX3_badLimit_21 hRw hfl (bI_or _) (by simp [inR, bI, c5, c13]) (rfl)

set_option maxHeartbeats 4000000 in
set_option maxRecDepth 100000 in
theorem rm_check {l : Launch} {D : va_G} {cs : Nat → ClassId} {r : Nat} {ad : Nat → Nat} {L : List Nat} (st : St) (fl : Int32) (t s : Nat) (ht : t < 6) (hs : s < 8) : RM l D cs yX3_check cX3_check 3 (some .int) (rmL 1 0 0) r ad L [.ref r, .int (nI t), .int (nI s)] st fl (some (.int (s_check st t s))) st fl := by
  refine rm_of rfl (Nat.le_of_ble_eq_true rfl) ?_
  intro f0 x sz p e u m below meth c S P hRw hfl hr hlk ls hl Q hQ
  have hl : lv_has ls 3 [(0, .ref r), (1, .int (nI t)), (2, .int (nI s))] := hl
  have hx := S.1
  have hb := S.2.1
  generalize u.heap = H at P ⊢
  generalize ([] : List Loc) = locs at P ⊢
  refine lv_aload_n hx hb dX3_check_0 rfl (lv_at hl 0 rfl) ?_
  refine rx_ref 12 S P (by decide) q897 dX3_check_1 ?_
  refine lv_iload_n hx hb dX3_check_4 rfl (lv_at hl 2 rfl) ?_
  refine rx_iald 12 s S P rfl rfl (by show _ < _; simp only [rN]; omega) dX3_check_5 ?_
  refine lw_if_ge (tgt := 13) (x := st.1 12 s) hx hb dX3_check_6 (by decide) (fun c6 => ?_) (fun c6 => ?_)
  · have _h := True.intro
    refine lv_aload_n hx hb dX3_check_13 rfl (lv_at hl 0 rfl) ?_
    refine rx_ref 1 S P (by decide) q886 dX3_check_14 ?_
    refine lv_iload_n hx hb dX3_check_17 rfl (lv_at hl 1 rfl) ?_
    refine rx_zald 1 t S P rfl rfl (by show _ < _; simp only [rN]; omega) dX3_check_18 ?_
    refine lv_if_eq (tgt := 26) (x := st.1 1 t) hx hb dX3_check_19 (by decide) (fun c19 => ?_) (fun c19 => ?_)
    · have _h := True.intro
      refine lv_iconst (v := 0) hx hb dX3_check_26 (by decide) ?_
      exact rx_iret S P hQ hr hlk dX3_check_27 hRw hfl (by simp [s_check, bI, c6, c19]) (rfl)
    · have _h := True.intro
      refine lv_iconst (v := 3) hx hb dX3_check_22 (by decide) ?_
      refine lv_goto (tgt := 27) hx hb dX3_check_23 (by decide) ?_
      exact rx_iret S P hQ hr hlk dX3_check_27 hRw hfl (by simp [s_check, bI, c6, c19]) (rfl)
  · have _h := True.intro
    refine lv_iconst (v := 2) hx hb dX3_check_9 (by decide) ?_
    refine lv_goto (tgt := 27) hx hb dX3_check_10 (by decide) ?_
    exact rx_iret S P hQ hr hlk dX3_check_27 hRw hfl (by simp [s_check, bI, c6]) (rfl)

set_option maxHeartbeats 4000000 in
set_option maxRecDepth 100000 in
theorem rm_settle {l : Launch} {D : va_G} {cs : Nat → ClassId} {r : Nat} {ad : Nat → Nat} {L : List Nat} (st : St) (fl w : Int32) (t : Nat) (ht : t < 6) : RM l D cs yX3_settle cX3_settle 3 (some .int) (rmL 1 0 0) r ad L [.ref r, .int (nI t), .int w] st fl (some (.int w)) (sI st 4 t w) fl := by
  refine rm_of rfl (Nat.le_of_ble_eq_true rfl) ?_
  intro f0 x sz p e u m below meth c S P hRw hfl hr hlk ls hl Q hQ
  have hl : lv_has ls 3 [(0, .ref r), (1, .int (nI t)), (2, .int w)] := hl
  have hx := S.1
  have hb := S.2.1
  generalize u.heap = H at P ⊢
  generalize ([] : List Loc) = locs at P ⊢
  refine lv_aload_n hx hb dX3_settle_0 rfl (lv_at hl 0 rfl) ?_
  refine rx_ref 4 S P (by decide) q889 dX3_settle_1 ?_
  refine lv_iload_n hx hb dX3_settle_4 rfl (lv_at hl 1 rfl) ?_
  refine lv_iload_n hx hb dX3_settle_5 rfl (lv_at hl 2 rfl) ?_
  refine rx_iast (v := w) 4 t S P rfl rfl (by show _ < _; simp only [rN]; omega) dX3_settle_6 (fun H locs P => ?_)
  refine lv_iload_n hx hb dX3_settle_7 rfl (lv_at hl 2 rfl) ?_
  exact rx_iret S P hQ hr hlk dX3_settle_8 hRw hfl (rfl) (rfl)

set_option maxHeartbeats 4000000 in
set_option maxRecDepth 100000 in
theorem rm_thrown {l : Launch} {D : va_G} {cs : Nat → ClassId} {r : Nat} {ad : Nat → Nat} {L : List Nat} (st : St) (fl : Int32) : RM l D cs yX3_thrown cX3_thrown 1 (some .int) (rmL 1 0 0) r ad L [.ref r] st fl (some (.int fl)) st fl := by
  refine rm_of rfl (Nat.le_of_ble_eq_true rfl) ?_
  intro f0 x sz p e u m below meth c S P hRw hfl hr hlk ls hl Q hQ
  have hl : lv_has ls 1 [(0, .ref r)] := hl
  have hx := S.1
  have hb := S.2.1
  generalize u.heap = H at P ⊢
  generalize ([] : List Loc) = locs at P ⊢
  refine lv_aload_n hx hb dX3_thrown_0 rfl (lv_at hl 0 rfl) ?_
  refine rx_getF 0 S P rfl rfl q885 dX3_thrown_1 ?_
  rw [hfl]
  exact rx_iret S P hQ hr hlk dX3_thrown_4 hRw hfl (rfl) (rfl)

set_option maxHeartbeats 4000000 in
set_option maxRecDepth 100000 in
theorem rm_time {l : Launch} {D : va_G} {cs : Nat → ClassId} {r : Nat} {ad : Nat → Nat} {L : List Nat} (st : St) (fl : Int32) : RM l D cs yX3_time cX3_time 1 (some .double) (rmL 1 0 0) r ad L [.ref r] st fl (some (.double (st.2.1 11 0))) st 0 := by
  refine rm_of rfl (Nat.le_of_ble_eq_true rfl) ?_
  intro f0 x sz p e u m below meth c S P hRw hfl hr hlk ls hl Q hQ
  have hl : lv_has ls 1 [(0, .ref r)] := hl
  have hx := S.1
  have hb := S.2.1
  generalize u.heap = H at P ⊢
  generalize ([] : List Loc) = locs at P ⊢
  refine lv_aload_n hx hb dX3_time_0 rfl (lv_at hl 0 rfl) ?_
  refine lv_iconst (v := 0) hx hb dX3_time_1 (by decide) ?_
  refine rx_putF (v := 0) 0 S P rfl rfl rfl rfl q885 dX3_time_2 (fun H locs P => ?_)
  obtain ⟨x, P, hRw, hfl⟩ := rw_fl (v := 0) P hRw
  refine lv_aload_n hx hb dX3_time_5 rfl (lv_at hl 0 rfl) ?_
  refine rx_getD 11 S P rfl q896 dX3_time_6 ?_
  exact rx_dret S P hQ hr hlk dX3_time_9 hRw hfl (rfl) (rfl)
