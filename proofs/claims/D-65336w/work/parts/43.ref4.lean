/-! the reference's public methods, by gen_ref4.py -/
set_option maxHeartbeats 4000000 in
set_option maxRecDepth 100000 in
theorem rm_policy {l : Launch} {D : va_G} {cs : Nat → ClassId} {r : Nat} {ad : Nat → Nat} {L : List Nat} (n : Nat) (st : St) (fl : Int32) (hok : Ok n st) (v : Int32) : RM l D cs yX3_policy cX3_policy 2 (some .int) (rmL 2 0 0) r ad L [.ref r, .int v] st fl (some (.int (s_policy st v).2.1)) ((s_policy st v).2.2) ((s_policy st v).1) := by
  refine rm_of rfl (Nat.le_of_ble_eq_true rfl) ?_
  intro f0 x sz p e u m below meth c S P hRw hfl hr hlk ls hl Q hQ
  have hl : lv_has ls 2 [(0, .ref r), (1, .int v)] := hl
  have hx := S.1
  have hb := S.2.1
  generalize u.heap = H at P ⊢
  generalize ([] : List Loc) = locs at P ⊢
  refine lv_aload_n hx hb dX3_policy_0 rfl (lv_at hl 0 rfl) ?_
  refine lv_iconst (v := 0) hx hb dX3_policy_1 (by decide) ?_
  refine rx_putF (v := 0) 0 S P rfl rfl rfl rfl q885 dX3_policy_2 (fun H locs P => ?_)
  obtain ⟨x, P, hRw, hfl⟩ := rw_fl (v := 0) P hRw
  refine lv_aload_n hx hb dX3_policy_5 rfl (lv_at hl 0 rfl) ?_
  refine lv_iload_n hx hb dX3_policy_6 rfl (lv_at hl 1 rfl) ?_
  refine lv_iconst (v := 3) hx hb dX3_policy_7 (by decide) ?_
  refine rx_c (nL' := 3) (rest := []) [.int v, .int 3] S P hRw hfl (rm_out st 0 v 3) q973 q975 qs16 q976 q38 ⟨by decide +kernel, by decide +kernel, (by decide +kernel : (parseMethodDescriptor yX3_out.desc).map (fun d => d.parameters.length) = some 2)⟩ dX3_policy_8 hl.1 (Nat.le_of_ble_eq_true rfl) ⟨Nat.le_of_ble_eq_true rfl, Nat.le_of_ble_eq_true rfl⟩ ⟨Nat.le_refl _, Nat.le_refl _⟩ (fun H locs x P hRw hfl => ?_)
  refine W.eq (g2 := F0 m 11 ls [.int (bI (isOut v 3))]) rfl ?_
  refine lv_if_eq (tgt := 20) (x := bI (isOut v 3)) hx hb dX3_policy_11 (by decide) (fun c11 => ?_) (fun c11 => ?_)
  · rw [bI_eq0] at c11
    refine lv_aload_n hx hb dX3_policy_20 rfl (lv_at hl 0 rfl) ?_
    refine lv_iload_n hx hb dX3_policy_21 rfl (lv_at hl 1 rfl) ?_
    refine rx_putI (v := v) 24 S P rfl rfl rfl rfl q909 dX3_policy_22 (fun H locs P => ?_)
    refine lv_aload_n hx hb dX3_policy_25 rfl (lv_at hl 0 rfl) ?_
    refine rx_getI 25 S P rfl rfl q910 dX3_policy_26 ?_
    have hE : s_policy st v = (0, st.1 25 0, sI st 24 0 v) := by
      simp [s_policy, c11]
    exact rx_iret S P hQ hr hlk dX3_policy_29 hRw (hfl.trans (by rw [hE] <;> rfl)) (by rw [hE] <;> rfl) (by rw [hE] <;> rfl)
  · rw [bI_eq0, Bool.not_eq_false] at c11
    refine lv_aload_n hx hb dX3_policy_14 rfl (lv_at hl 0 rfl) ?_
    refine lv_iconst (v := 1) hx hb dX3_policy_15 (by decide) ?_
    refine rx_c (nL' := 2) (rest := []) [.int 1] S P hRw hfl (rm_fail st 0 1) q977 q979 qs17 q980 q38 ⟨by decide +kernel, by decide +kernel, (by decide +kernel : (parseMethodDescriptor yX3_fail.desc).map (fun d => d.parameters.length) = some 1)⟩ dX3_policy_16 hl.1 (Nat.le_of_ble_eq_true rfl) ⟨Nat.le_of_ble_eq_true rfl, Nat.le_of_ble_eq_true rfl⟩ ⟨Nat.le_refl _, Nat.le_refl _⟩ (fun H locs x P hRw hfl => ?_)
    refine W.eq (g2 := F0 m 19 ls [.int 0]) rfl ?_
    have hE : s_policy st v = (1, 0, st) := by
      simp [s_policy, c11]
    exact rx_iret S P hQ hr hlk dX3_policy_19 hRw (hfl.trans (by rw [hE] <;> rfl)) (by rw [hE] <;> rfl) (by rw [hE] <;> rfl)

set_option maxHeartbeats 4000000 in
set_option maxRecDepth 100000 in
theorem rm_rank {l : Launch} {D : va_G} {cs : Nat → ClassId} {r : Nat} {ad : Nat → Nat} {L : List Nat} (n : Nat) (st : St) (fl : Int32) (hok : Ok n st) (v : Int32) (pv : UInt64) : RM l D cs yX3_rank cX3_rank 4 none (rmL 2 0 0) r ad L [.ref r, .int v, .double pv] st fl none ((s_rank st v pv).2.2) ((s_rank st v pv).1) := by
  refine rm_of rfl (Nat.le_of_ble_eq_true rfl) ?_
  intro f0 x sz p e u m below meth c S P hRw hfl hr hlk ls hl Q hQ
  have hl : lv_has ls 4 [(0, .ref r), (1, .int v), (2, .double pv)] := hl
  have hx := S.1
  have hb := S.2.1
  generalize u.heap = H at P ⊢
  generalize ([] : List Loc) = locs at P ⊢
  refine lv_aload_n hx hb dX3_rank_0 rfl (lv_at hl 0 rfl) ?_
  refine lv_aload_n hx hb dX3_rank_1 rfl (lv_at hl 0 rfl) ?_
  refine lv_iload_n hx hb dX3_rank_2 rfl (lv_at hl 1 rfl) ?_
  refine lv_bipush (v := 6) hx hb dX3_rank_3 (by decide) ?_
  refine rx_c (nL' := 3) (rest := [.ref r]) [.int v, .int 6] S P hRw hfl (rm_out st fl v 6) q973 q975 qs16 q976 q38 ⟨by decide +kernel, by decide +kernel, (by decide +kernel : (parseMethodDescriptor yX3_out.desc).map (fun d => d.parameters.length) = some 2)⟩ dX3_rank_5 hl.1 (Nat.le_of_ble_eq_true rfl) ⟨Nat.le_of_ble_eq_true rfl, Nat.le_of_ble_eq_true rfl⟩ ⟨Nat.le_refl _, Nat.le_refl _⟩ (fun H locs x P hRw hfl => ?_)
  refine W.eq (g2 := F0 m 8 ls [.int (bI (isOut v 6)), .ref r]) rfl ?_
  refine lv_if_ne (tgt := 27) (x := bI (isOut v 6)) hx hb dX3_rank_8 (by decide) (fun c8 => ?_) (fun c8 => ?_)
  · rw [bI_eq0, Bool.not_eq_false] at c8
    refine lv_iconst (v := 1) hx hb dX3_rank_27 (by decide) ?_
    refine lv_goto (tgt := 32) hx hb dX3_rank_28 (by decide) ?_
    refine rx_putF (v := 1) 0 S P rfl rfl rfl rfl q885 dX3_rank_32 (fun H locs P => ?_)
    obtain ⟨x, P, hRw, hfl⟩ := rw_fl (v := 1) P hRw
    refine lv_aload_n hx hb dX3_rank_35 rfl (lv_at hl 0 rfl) ?_
    refine rx_getF 0 S P rfl rfl q885 dX3_rank_36 ?_
    rw [hfl]
    refine ni_if_ne (tgt := 49) (a := 1) hx hb (by omega) dX3_rank_39 (by decide) (fun c39 => ?_) (fun c39 => ?_)
    · have _h := True.intro
      have hE : s_rank st v pv = (1, 0, st) := by
        simp [s_rank, inR, c8]
      exact rx_vret S P hQ hr hlk dX3_rank_49 hRw (hfl.trans (by rw [hE] <;> rfl)) (by rw [hE] <;> rfl)
    · exact absurd c39 (by decide)
  · rw [bI_eq0] at c8
    obtain ⟨t, ht, rfl⟩ := isOut_f (N := 6) rfl (by decide) c8
    have hit := iN_nI (N := 6) ht (by decide)
    refine lv_dload_n hx hb dX3_rank_11 rfl (lv_at hl 2 rfl) ?_
    refine lv_ldc2d (v := 13875379345695965184) hx hb S.2.2.2.1 (S.2.2.2.2 _ q985) dX3_rank_12 ?_
    refine lv_dcmp hx hb dX3_rank_15 ?_
    refine lv_if_lt (tgt := 27) (x := Op.cmpValue (FP.dcmp pv 13875379345695965184) .l) hx hb dX3_rank_16 (by decide) (fun c16 => ?_) (fun c16 => ?_)
    · simp only [cv_l_lt0, Decidable.not_not] at c16
      refine lv_iconst (v := 1) hx hb dX3_rank_27 (by decide) ?_
      refine lv_goto (tgt := 32) hx hb dX3_rank_28 (by decide) ?_
      refine rx_putF (v := 1) 0 S P rfl rfl rfl rfl q885 dX3_rank_32 (fun H locs P => ?_)
      obtain ⟨x, P, hRw, hfl⟩ := rw_fl (v := 1) P hRw
      refine lv_aload_n hx hb dX3_rank_35 rfl (lv_at hl 0 rfl) ?_
      refine rx_getF 0 S P rfl rfl q885 dX3_rank_36 ?_
      rw [hfl]
      refine ni_if_ne (tgt := 49) (a := 1) hx hb (by omega) dX3_rank_39 (by decide) (fun c39 => ?_) (fun c39 => ?_)
      · have _h := True.intro
        have hE : s_rank st (nI t) pv = (1, 0, st) := by
          simp [s_rank, inR, hit, c8, c16]
        exact rx_vret S P hQ hr hlk dX3_rank_49 hRw (hfl.trans (by rw [hE] <;> rfl)) (by rw [hE] <;> rfl)
      · exact absurd c39 (by decide)
    · simp only [cv_l_lt0, Decidable.not_not] at c16
      refine lv_dload_n hx hb dX3_rank_19 rfl (lv_at hl 2 rfl) ?_
      refine lv_ldc2d (v := 4652007308841189376) hx hb S.2.2.2.1 (S.2.2.2.2 _ q986) dX3_rank_20 ?_
      refine lv_dcmp hx hb dX3_rank_23 ?_
      refine lw_if_le (tgt := 31) (x := Op.cmpValue (FP.dcmp pv 4652007308841189376) .g) hx hb dX3_rank_24 (by decide) (fun c24 => ?_) (fun c24 => ?_)
      · simp only [cv_g_gt0, Decidable.not_not] at c24
        refine lv_iconst (v := 0) hx hb dX3_rank_31 (by decide) ?_
        refine rx_putF (v := 0) 0 S P rfl rfl rfl rfl q885 dX3_rank_32 (fun H locs P => ?_)
        obtain ⟨x, P, hRw, hfl⟩ := rw_fl (v := 0) P hRw
        refine lv_aload_n hx hb dX3_rank_35 rfl (lv_at hl 0 rfl) ?_
        refine rx_getF 0 S P rfl rfl q885 dX3_rank_36 ?_
        rw [hfl]
        refine ni_if_ne (tgt := 49) (a := 0) hx hb (by omega) dX3_rank_39 (by decide) (fun c39 => ?_) (fun c39 => ?_)
        · exact absurd c39 (by decide)
        · have _h := True.intro
          refine lv_aload_n hx hb dX3_rank_42 rfl (lv_at hl 0 rfl) ?_
          refine rx_ref 3 S P (by decide) q888 dX3_rank_43 ?_
          refine lv_iload_n hx hb dX3_rank_46 rfl (lv_at hl 1 rfl) ?_
          refine lv_dload_n hx hb dX3_rank_47 rfl (lv_at hl 2 rfl) ?_
          refine rx_dast (v := pv) 3 t S P rfl (by show _ < _; simp only [rN]; omega) dX3_rank_48 (fun H locs P => ?_)
          have hE : s_rank st (nI t) pv = (0, 0, sD st 3 t pv) := by
            simp [s_rank, inR, hit, c8, c16, c24]
          exact rx_vret S P hQ hr hlk dX3_rank_49 hRw (hfl.trans (by rw [hE] <;> rfl)) (by rw [hE] <;> rfl)
      · simp only [cv_g_gt0, Decidable.not_not] at c24
        refine lv_iconst (v := 1) hx hb dX3_rank_27 (by decide) ?_
        refine lv_goto (tgt := 32) hx hb dX3_rank_28 (by decide) ?_
        refine rx_putF (v := 1) 0 S P rfl rfl rfl rfl q885 dX3_rank_32 (fun H locs P => ?_)
        obtain ⟨x, P, hRw, hfl⟩ := rw_fl (v := 1) P hRw
        refine lv_aload_n hx hb dX3_rank_35 rfl (lv_at hl 0 rfl) ?_
        refine rx_getF 0 S P rfl rfl q885 dX3_rank_36 ?_
        rw [hfl]
        refine ni_if_ne (tgt := 49) (a := 1) hx hb (by omega) dX3_rank_39 (by decide) (fun c39 => ?_) (fun c39 => ?_)
        · have _h := True.intro
          have hE : s_rank st (nI t) pv = (1, 0, st) := by
            simp [s_rank, inR, hit, c8, c16, c24]
          exact rx_vret S P hQ hr hlk dX3_rank_49 hRw (hfl.trans (by rw [hE] <;> rfl)) (by rw [hE] <;> rfl)
        · exact absurd c39 (by decide)

set_option maxHeartbeats 4000000 in
set_option maxRecDepth 100000 in
theorem rm_thread {l : Launch} {D : va_G} {cs : Nat → ClassId} {r : Nat} {ad : Nat → Nat} {L : List Nat} (n : Nat) (st : St) (fl : Int32) (hok : Ok n st) (v wv : Int32) : RM l D cs yX3_thread cX3_thread 4 (some .int) (rmL 2 0 0) r ad L [.ref r, .int v, .int wv] st fl (some (.int (s_thread st v wv).2.1)) ((s_thread st v wv).2.2) ((s_thread st v wv).1) := by
  refine rm_of rfl (Nat.le_of_ble_eq_true rfl) ?_
  intro f0 x sz p e u m below meth c S P hRw hfl hr hlk ls hl Q hQ
  have hl : lv_has ls 4 [(0, .ref r), (1, .int v), (2, .int wv)] := hl
  have hx := S.1
  have hb := S.2.1
  generalize u.heap = H at P ⊢
  generalize ([] : List Loc) = locs at P ⊢
  refine lv_aload_n hx hb dX3_thread_0 rfl (lv_at hl 0 rfl) ?_
  refine lv_iconst (v := 0) hx hb dX3_thread_1 (by decide) ?_
  refine rx_putF (v := 0) 0 S P rfl rfl rfl rfl q885 dX3_thread_2 (fun H locs P => ?_)
  obtain ⟨x, P, hRw, hfl⟩ := rw_fl (v := 0) P hRw
  refine lv_aload_n hx hb dX3_thread_5 rfl (lv_at hl 0 rfl) ?_
  refine lv_iload_n hx hb dX3_thread_6 rfl (lv_at hl 1 rfl) ?_
  refine lv_bipush (v := 6) hx hb dX3_thread_7 (by decide) ?_
  refine rx_c (nL' := 3) (rest := []) [.int v, .int 6] S P hRw hfl (rm_out st 0 v 6) q973 q975 qs16 q976 q38 ⟨by decide +kernel, by decide +kernel, (by decide +kernel : (parseMethodDescriptor yX3_out.desc).map (fun d => d.parameters.length) = some 2)⟩ dX3_thread_9 hl.1 (Nat.le_of_ble_eq_true rfl) ⟨Nat.le_of_ble_eq_true rfl, Nat.le_of_ble_eq_true rfl⟩ ⟨Nat.le_refl _, Nat.le_refl _⟩ (fun H locs x P hRw hfl => ?_)
  refine W.eq (g2 := F0 m 12 ls [.int (bI (isOut v 6))]) rfl ?_
  refine lv_if_ne (tgt := 25) (x := bI (isOut v 6)) hx hb dX3_thread_12 (by decide) (fun c12 => ?_) (fun c12 => ?_)
  · rw [bI_eq0, Bool.not_eq_false] at c12
    refine lv_aload_n hx hb dX3_thread_25 rfl (lv_at hl 0 rfl) ?_
    refine lv_iconst (v := 1) hx hb dX3_thread_26 (by decide) ?_
    refine rx_c (nL' := 2) (rest := []) [.int 1] S P hRw hfl (rm_fail st 0 1) q977 q979 qs17 q980 q38 ⟨by decide +kernel, by decide +kernel, (by decide +kernel : (parseMethodDescriptor yX3_fail.desc).map (fun d => d.parameters.length) = some 1)⟩ dX3_thread_27 hl.1 (Nat.le_of_ble_eq_true rfl) ⟨Nat.le_of_ble_eq_true rfl, Nat.le_of_ble_eq_true rfl⟩ ⟨Nat.le_refl _, Nat.le_refl _⟩ (fun H locs x P hRw hfl => ?_)
    refine W.eq (g2 := F0 m 30 ls [.int 0]) rfl ?_
    have hE : s_thread st v wv = (1, 0, st) := by
      simp [s_thread, c12]
    exact rx_iret S P hQ hr hlk dX3_thread_30 hRw (hfl.trans (by rw [hE] <;> rfl)) (by rw [hE] <;> rfl) (by rw [hE] <;> rfl)
  · rw [bI_eq0] at c12
    obtain ⟨t, ht, rfl⟩ := isOut_f (N := 6) rfl (by decide) c12
    have hit := iN_nI (N := 6) ht (by decide)
    refine lv_aload_n hx hb dX3_thread_15 rfl (lv_at hl 0 rfl) ?_
    refine lv_iload_n hx hb dX3_thread_16 rfl (lv_at hl 2 rfl) ?_
    refine lv_bipush (v := 11) hx hb dX3_thread_17 (by decide) ?_
    refine rx_c (nL' := 3) (rest := []) [.int wv, .int 11] S P hRw hfl (rm_out st 0 wv 11) q973 q975 qs16 q976 q38 ⟨by decide +kernel, by decide +kernel, (by decide +kernel : (parseMethodDescriptor yX3_out.desc).map (fun d => d.parameters.length) = some 2)⟩ dX3_thread_19 hl.1 (Nat.le_of_ble_eq_true rfl) ⟨Nat.le_of_ble_eq_true rfl, Nat.le_of_ble_eq_true rfl⟩ ⟨Nat.le_refl _, Nat.le_refl _⟩ (fun H locs x P hRw hfl => ?_)
    refine W.eq (g2 := F0 m 22 ls [.int (bI (isOut wv 11))]) rfl ?_
    refine lv_if_eq (tgt := 31) (x := bI (isOut wv 11)) hx hb dX3_thread_22 (by decide) (fun c22 => ?_) (fun c22 => ?_)
    · rw [bI_eq0] at c22
      obtain ⟨w, hw, rfl⟩ := isOut_f (N := 11) rfl (by decide) c22
      have hiw := iN_nI (N := 11) hw (by decide)
      refine lv_iload_n hx hb dX3_thread_31 rfl (lv_at hl 2 rfl) ?_
      refine ni_if_ne (tgt := 50) (a := w) hx hb (by omega) dX3_thread_32 (by decide) (fun c32 => ?_) (fun c32 => ?_)
      · have _h := True.intro
        refine lv_iload_n hx hb dX3_thread_50 rfl (lv_at hl 2 rfl) ?_
        refine lv_iconst (v := 1) hx hb dX3_thread_51 (by decide) ?_
        refine ni_icmp_ne (tgt := 62) (a := w) (b := 1) hx hb (by omega) (by omega) dX3_thread_52 (by decide) (fun c52 => ?_) (fun c52 => ?_)
        · have _h := True.intro
          refine lv_iload_n hx hb dX3_thread_62 rfl (lv_at hl 2 rfl) ?_
          refine lv_iconst (v := 2) hx hb dX3_thread_63 (by decide) ?_
          refine ni_icmp_ne (tgt := 82) (a := w) (b := 2) hx hb (by omega) (by omega) dX3_thread_64 (by decide) (fun c64 => ?_) (fun c64 => ?_)
          · have _h := True.intro
            refine lv_iload_n hx hb dX3_thread_82 rfl (lv_at hl 2 rfl) ?_
            refine lv_iconst (v := 3) hx hb dX3_thread_83 (by decide) ?_
            refine ni_isub (a := w) (b := 3) hx hb (by omega) dX3_thread_84 ?_
            refine lv_istore_n (lv' := [(3, .int (nI (w - 3))), (0, .ref r), (1, .int (nI t)), (2, .int (nI w))]) hx hb dX3_thread_85 rfl hl (by decide) rfl (fun ls hl => ?_)
            refine lv_aload_n hx hb dX3_thread_86 rfl (lv_at hl 1 rfl) ?_
            refine rx_ref 13 S P (by decide) q898 dX3_thread_87 ?_
            refine lv_iload_n hx hb dX3_thread_90 rfl (lv_at hl 0 rfl) ?_
            refine rx_iald 13 (w - 3) S P rfl rfl (by show _ < _; simp only [rN]; omega) dX3_thread_91 ?_
            refine lv_iload_n hx hb dX3_thread_92 rfl (lv_at hl 2 rfl) ?_
            refine lv_icmp_ne (tgt := 105) (x := st.1 13 (w - 3)) (y := nI t) hx hb dX3_thread_93 (by decide) (fun c93 => ?_) (fun c93 => ?_)
            · have _h := True.intro
              refine lv_iconst (v := 0) hx hb dX3_thread_105 (by decide) ?_
              refine lv_aload_n hx hb dX3_thread_106 rfl (lv_at hl 1 rfl) ?_
              refine rx_ref 17 S P (by decide) q902 dX3_thread_107 ?_
              refine lv_bipush (v := 6) hx hb dX3_thread_110 (by decide) ?_
              refine lv_iload_n hx hb dX3_thread_112 rfl (lv_at hl 0 rfl) ?_
              refine ni_imul (a := 6) (b := w - 3) hx hb dX3_thread_113 ?_
              refine lv_iload_n hx hb dX3_thread_114 rfl (lv_at hl 2 rfl) ?_
              refine ni_iadd (a := 6 * (w - 3)) (b := t) hx hb dX3_thread_115 ?_
              refine rx_iald 17 ((6 * (w - 3)) + t) S P rfl rfl (by show _ < _; simp only [rN]; omega) dX3_thread_116 ?_
              refine lv_iadd hx hb dX3_thread_117 ?_
              have hE : s_thread st (nI t) (nI w) = (0, 0 + (st.1 17 ((6 * (w - 3)) + t)), st) := by
                rw [s_thread_in hit c12 c22]
                rw [s_thr3 hw c32 c52 c64]; simp [c93]
              exact rx_iret S P hQ hr hlk dX3_thread_118 hRw (hfl.trans (by rw [hE] <;> rfl)) (by rw [hE] <;> rfl) (by rw [hE] <;> rfl)
            · have _h := True.intro
              refine lv_aload_n hx hb dX3_thread_96 rfl (lv_at hl 1 rfl) ?_
              refine rx_ref 14 S P (by decide) q899 dX3_thread_97 ?_
              refine lv_iload_n hx hb dX3_thread_100 rfl (lv_at hl 0 rfl) ?_
              refine rx_iald 14 (w - 3) S P rfl rfl (by show _ < _; simp only [rN]; omega) dX3_thread_101 ?_
              refine lv_goto (tgt := 106) hx hb dX3_thread_102 (by decide) ?_
              refine lv_aload_n hx hb dX3_thread_106 rfl (lv_at hl 1 rfl) ?_
              refine rx_ref 17 S P (by decide) q902 dX3_thread_107 ?_
              refine lv_bipush (v := 6) hx hb dX3_thread_110 (by decide) ?_
              refine lv_iload_n hx hb dX3_thread_112 rfl (lv_at hl 0 rfl) ?_
              refine ni_imul (a := 6) (b := w - 3) hx hb dX3_thread_113 ?_
              refine lv_iload_n hx hb dX3_thread_114 rfl (lv_at hl 2 rfl) ?_
              refine ni_iadd (a := 6 * (w - 3)) (b := t) hx hb dX3_thread_115 ?_
              refine rx_iald 17 ((6 * (w - 3)) + t) S P rfl rfl (by show _ < _; simp only [rN]; omega) dX3_thread_116 ?_
              refine lv_iadd hx hb dX3_thread_117 ?_
              have hE : s_thread st (nI t) (nI w) = (0, (st.1 14 (w - 3)) + (st.1 17 ((6 * (w - 3)) + t)), st) := by
                rw [s_thread_in hit c12 c22]
                rw [s_thr3 hw c32 c52 c64]; simp [c93]
              exact rx_iret S P hQ hr hlk dX3_thread_118 hRw (hfl.trans (by rw [hE] <;> rfl)) (by rw [hE] <;> rfl) (by rw [hE] <;> rfl)
          · have _h := True.intro
            refine lv_aload_n hx hb dX3_thread_67 rfl (lv_at hl 0 rfl) ?_
            refine rx_ref 2 S P (by decide) q887 dX3_thread_68 ?_
            refine lv_iload_n hx hb dX3_thread_71 rfl (lv_at hl 1 rfl) ?_
            refine rx_zald 2 t S P rfl rfl (by show _ < _; simp only [rN]; omega) dX3_thread_72 ?_
            refine lv_if_eq (tgt := 80) (x := st.1 2 t) hx hb dX3_thread_73 (by decide) (fun c73 => ?_) (fun c73 => ?_)
            · have _h := True.intro
              refine lv_iconst (v := 0) hx hb dX3_thread_80 (by decide) ?_
              have hE : s_thread st (nI t) (nI w) = (0, 0, st) := by
                rw [s_thread_in hit c12 c22]
                subst c64; rw [s_thr2]; simp [c73]
              exact rx_iret S P hQ hr hlk dX3_thread_81 hRw (hfl.trans (by rw [hE] <;> rfl)) (by rw [hE] <;> rfl) (by rw [hE] <;> rfl)
            · have _h := True.intro
              refine lv_iconst (v := 1) hx hb dX3_thread_76 (by decide) ?_
              refine lv_goto (tgt := 81) hx hb dX3_thread_77 (by decide) ?_
              have hE : s_thread st (nI t) (nI w) = (0, 1, st) := by
                rw [s_thread_in hit c12 c22]
                subst c64; rw [s_thr2]; simp [c73]
              exact rx_iret S P hQ hr hlk dX3_thread_81 hRw (hfl.trans (by rw [hE] <;> rfl)) (by rw [hE] <;> rfl) (by rw [hE] <;> rfl)
        · have _h := True.intro
          refine lv_aload_n hx hb dX3_thread_55 rfl (lv_at hl 0 rfl) ?_
          refine rx_ref 4 S P (by decide) q889 dX3_thread_56 ?_
          refine lv_iload_n hx hb dX3_thread_59 rfl (lv_at hl 1 rfl) ?_
          refine rx_iald 4 t S P rfl rfl (by show _ < _; simp only [rN]; omega) dX3_thread_60 ?_
          have hE : s_thread st (nI t) (nI w) = (0, st.1 4 t, st) := by
            rw [s_thread_in hit c12 c22]
            subst c52; rw [s_thr1]
          exact rx_iret S P hQ hr hlk dX3_thread_61 hRw (hfl.trans (by rw [hE] <;> rfl)) (by rw [hE] <;> rfl) (by rw [hE] <;> rfl)
      · have _h := True.intro
        refine lv_aload_n hx hb dX3_thread_35 rfl (lv_at hl 0 rfl) ?_
        refine rx_ref 1 S P (by decide) q886 dX3_thread_36 ?_
        refine lv_iload_n hx hb dX3_thread_39 rfl (lv_at hl 1 rfl) ?_
        refine rx_zald 1 t S P rfl rfl (by show _ < _; simp only [rN]; omega) dX3_thread_40 ?_
        refine lv_if_eq (tgt := 48) (x := st.1 1 t) hx hb dX3_thread_41 (by decide) (fun c41 => ?_) (fun c41 => ?_)
        · have _h := True.intro
          refine lv_iconst (v := 0) hx hb dX3_thread_48 (by decide) ?_
          have hE : s_thread st (nI t) (nI w) = (0, 0, st) := by
            rw [s_thread_in hit c12 c22]
            subst c32; simp [s_thr, nI_0, c41]
          exact rx_iret S P hQ hr hlk dX3_thread_49 hRw (hfl.trans (by rw [hE] <;> rfl)) (by rw [hE] <;> rfl) (by rw [hE] <;> rfl)
        · have _h := True.intro
          refine lv_iconst (v := 1) hx hb dX3_thread_44 (by decide) ?_
          refine lv_goto (tgt := 49) hx hb dX3_thread_45 (by decide) ?_
          have hE : s_thread st (nI t) (nI w) = (0, 1, st) := by
            rw [s_thread_in hit c12 c22]
            subst c32; simp [s_thr, nI_0, c41]
          exact rx_iret S P hQ hr hlk dX3_thread_49 hRw (hfl.trans (by rw [hE] <;> rfl)) (by rw [hE] <;> rfl) (by rw [hE] <;> rfl)
    · rw [bI_eq0, Bool.not_eq_false] at c22
      refine lv_aload_n hx hb dX3_thread_25 rfl (lv_at hl 0 rfl) ?_
      refine lv_iconst (v := 1) hx hb dX3_thread_26 (by decide) ?_
      refine rx_c (nL' := 2) (rest := []) [.int 1] S P hRw hfl (rm_fail st 0 1) q977 q979 qs17 q980 q38 ⟨by decide +kernel, by decide +kernel, (by decide +kernel : (parseMethodDescriptor yX3_fail.desc).map (fun d => d.parameters.length) = some 1)⟩ dX3_thread_27 hl.1 (Nat.le_of_ble_eq_true rfl) ⟨Nat.le_of_ble_eq_true rfl, Nat.le_of_ble_eq_true rfl⟩ ⟨Nat.le_refl _, Nat.le_refl _⟩ (fun H locs x P hRw hfl => ?_)
      refine W.eq (g2 := F0 m 30 ls [.int 0]) rfl ?_
      have hE : s_thread st (nI t) wv = (1, 0, st) := by
        simp [s_thread, c12, c22]
      exact rx_iret S P hQ hr hlk dX3_thread_30 hRw (hfl.trans (by rw [hE] <;> rfl)) (by rw [hE] <;> rfl) (by rw [hE] <;> rfl)
