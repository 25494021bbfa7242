/-! the reference's public methods, by gen_ref5.py -/
set_option maxHeartbeats 4000000 in
set_option maxRecDepth 100000 in
theorem rm_interrupt {l : Launch} {D : va_G} {cs : Nat → ClassId} {r : Nat} {ad : Nat → Nat} {L : List Nat} (n : Nat) (st : St) (fl : Int32) (hok : Ok n st) (v : Int32) : RM l D cs yX3_interrupt cX3_interrupt 3 (some .int) (rmL 4 0 0) r ad L [.ref r, .int v] st fl (some (.int (s_interrupt st v).2.1)) ((s_interrupt st v).2.2) ((s_interrupt st v).1) := by
  refine rm_of rfl (Nat.le_of_ble_eq_true rfl) ?_
  intro f0 x sz p e u m below meth c S P hRw hfl hr hlk ls hl Q hQ
  have hl : lv_has ls 3 [(0, .ref r), (1, .int v)] := hl
  have hx := S.1
  have hb := S.2.1
  generalize u.heap = H at P ⊢
  generalize ([] : List Loc) = locs at P ⊢
  refine lv_aload_n hx hb dX3_interrupt_0 rfl (lv_at hl 0 rfl) ?_
  refine lv_iconst (v := 0) hx hb dX3_interrupt_1 (by decide) ?_
  refine rx_putF (v := 0) 0 S P rfl rfl rfl rfl q885 dX3_interrupt_2 (fun H locs P => ?_)
  obtain ⟨x, P, hRw, hfl⟩ := rw_fl (v := 0) P hRw
  refine lv_aload_n hx hb dX3_interrupt_5 rfl (lv_at hl 0 rfl) ?_
  refine lv_iload_n hx hb dX3_interrupt_6 rfl (lv_at hl 1 rfl) ?_
  refine lv_bipush (v := 6) hx hb dX3_interrupt_7 (by decide) ?_
  refine rx_c (nL' := 3) (rest := []) [.int v, .int 6] S P hRw hfl (rm_out st 0 v 6) q973 q975 qs16 q976 q38 ⟨by decide +kernel, by decide +kernel, (by decide +kernel : (parseMethodDescriptor yX3_out.desc).map (fun d => d.parameters.length) = some 2)⟩ dX3_interrupt_9 hl.1 (Nat.le_of_ble_eq_true rfl) ⟨Nat.le_of_ble_eq_true rfl, Nat.le_of_ble_eq_true rfl⟩ ⟨Nat.le_refl _, Nat.le_refl _⟩ (fun H locs x P hRw hfl => ?_)
  refine W.eq (g2 := F0 m 12 ls [.int (bI (isOut v 6))]) rfl ?_
  refine lv_if_eq (tgt := 21) (x := bI (isOut v 6)) hx hb dX3_interrupt_12 (by decide) (fun c12 => ?_) (fun c12 => ?_)
  · rw [bI_eq0] at c12
    obtain ⟨t, ht, rfl⟩ := isOut_f (N := 6) rfl (by decide) c12
    have hit := iN_nI (N := 6) ht (by decide)
    refine lv_aload_n hx hb dX3_interrupt_21 rfl (lv_at hl 0 rfl) ?_
    refine rx_ref 5 S P (by decide) q890 dX3_interrupt_22 ?_
    refine lv_iload_n hx hb dX3_interrupt_25 rfl (lv_at hl 1 rfl) ?_
    refine rx_iald 5 t S P rfl rfl (by show _ < _; simp only [rN]; omega) dX3_interrupt_26 ?_
    refine lv_istore_n (lv' := [(2, .int (st.1 5 t)), (0, .ref r), (1, .int (nI t))]) hx hb dX3_interrupt_27 rfl hl (by decide) rfl (fun ls hl => ?_)
    refine lv_aload_n hx hb dX3_interrupt_28 rfl (lv_at hl 1 rfl) ?_
    refine rx_ref 1 S P (by decide) q886 dX3_interrupt_29 ?_
    refine lv_iload_n hx hb dX3_interrupt_32 rfl (lv_at hl 2 rfl) ?_
    refine rx_zald 1 t S P rfl rfl (by show _ < _; simp only [rN]; omega) dX3_interrupt_33 ?_
    refine lv_if_eq (tgt := 57) (x := st.1 1 t) hx hb dX3_interrupt_34 (by decide) (fun c34 => ?_) (fun c34 => ?_)
    · have _h := True.intro
      refine lv_aload_n hx hb dX3_interrupt_57 rfl (lv_at hl 1 rfl) ?_
      refine rx_ref 2 S P (by decide) q887 dX3_interrupt_58 ?_
      refine lv_iload_n hx hb dX3_interrupt_61 rfl (lv_at hl 2 rfl) ?_
      refine lv_iconst (v := 1) hx hb dX3_interrupt_62 (by decide) ?_
      refine rx_zast (v := 1) 2 t S P rfl rfl (by show _ < _; simp only [rN]; omega) (by decide) dX3_interrupt_63 (fun H locs P => ?_)
      refine lv_goto (tgt := 113) hx hb dX3_interrupt_64 (by decide) ?_
      refine lv_aload_n hx hb dX3_interrupt_113 rfl (lv_at hl 1 rfl) ?_
      refine rx_ref 4 S P (by decide) q889 dX3_interrupt_114 ?_
      refine lv_iload_n hx hb dX3_interrupt_117 rfl (lv_at hl 2 rfl) ?_
      refine rx_iald 4 t S P rfl rfl (by show _ < _; simp only [rN]; omega) dX3_interrupt_118 ?_
      have hE : s_interrupt st (nI t) = (0, st.1 4 t, sI st 2 t 1) := by
        have e0 : s_intr st t = sI st 2 t 1 := by unfold s_intr; rw [if_pos (Or.inl c34)]
        rw [s_int_in hit c12, e0] <;> rfl
      exact rx_iret S P hQ hr hlk dX3_interrupt_119 hRw (hfl.trans (by rw [hE] <;> rfl)) (by rw [hE] <;> rfl) (by rw [hE] <;> rfl)
    · have _h := True.intro
      obtain ⟨hs8, hmem, h5⟩ := hok.wfs ht c34
      rw [h5] at hl
      refine lv_aload_n hx hb dX3_interrupt_37 rfl (lv_at hl 1 rfl) ?_
      refine rx_ref 12 S P (by decide) q897 dX3_interrupt_38 ?_
      refine lv_iload_n hx hb dX3_interrupt_41 rfl (lv_at hl 0 rfl) ?_
      refine rx_iald 12 (s_wf st t) S P rfl rfl (by show _ < _; simp only [rN]; omega) dX3_interrupt_42 ?_
      refine lv_bipush (v := 6) hx hb dX3_interrupt_43 (by decide) ?_
      refine lv_icmp_eq (tgt := 67) (x := st.1 12 (s_wf st t)) (y := 6) hx hb dX3_interrupt_45 (by decide) (fun c45 => ?_) (fun c45 => ?_)
      · have _h := True.intro
        refine lv_aload_n hx hb dX3_interrupt_67 rfl (lv_at hl 1 rfl) ?_
        refine rx_ref 12 S P (by decide) q897 dX3_interrupt_68 ?_
        refine lv_iload_n hx hb dX3_interrupt_71 rfl (lv_at hl 0 rfl) ?_
        refine rx_iald 12 (s_wf st t) S P rfl rfl (by show _ < _; simp only [rN]; omega) dX3_interrupt_72 ?_
        refine lv_bipush (v := 6) hx hb dX3_interrupt_73 (by decide) ?_
        refine lv_icmp_ne (tgt := 88) (x := st.1 12 (s_wf st t)) (y := 6) hx hb dX3_interrupt_75 (by decide) (fun c75 => ?_) (fun c75 => ?_)
        · exact absurd c45 c75
        · have _h := True.intro
          refine lv_aload_n hx hb dX3_interrupt_78 rfl (lv_at hl 1 rfl) ?_
          refine lv_iload_n hx hb dX3_interrupt_79 rfl (lv_at hl 2 rfl) ?_
          refine lv_iload_n hx hb dX3_interrupt_80 rfl (lv_at hl 0 rfl) ?_
          refine lv_iconst (v := 3) hx hb dX3_interrupt_81 (by decide) ?_
          refine rx_c (nL' := 4) (rest := []) [.int (nI t), .int (nI (s_wf st t)), .int 3] S P hRw hfl (rm_queue st 0 t (s_wf st t) 3 (by omega) (by omega) hok.wf hok.db (fun _ => hmem) (hok.lkc (by omega) c75).1 (hok.lkc (by omega) c75).2 (hok.qh (by omega) hmem c75).1 (hok.qh (by omega) hmem c75).2.1 (hok.qh (by omega) hmem c75).2.2) q1060 q1062 qs33 q1063 q38 ⟨by decide +kernel, by decide +kernel, (by decide +kernel : (parseMethodDescriptor yX3_queue.desc).map (fun d => d.parameters.length) = some 3)⟩ dX3_interrupt_82 hl.1 (Nat.le_of_ble_eq_true rfl) ⟨Nat.le_of_ble_eq_true rfl, Nat.le_of_ble_eq_true rfl⟩ ⟨Nat.le_refl _, Nat.le_refl _⟩ (fun H locs x P hRw hfl => ?_)
          refine W.eq (g2 := F0 m 85 ls []) rfl ?_
          refine lv_goto (tgt := 113) hx hb dX3_interrupt_85 (by decide) ?_
          refine lv_aload_n hx hb dX3_interrupt_113 rfl (lv_at hl 1 rfl) ?_
          refine rx_ref 4 S P (by decide) q889 dX3_interrupt_114 ?_
          refine lv_iload_n hx hb dX3_interrupt_117 rfl (lv_at hl 2 rfl) ?_
          refine rx_iald 4 t S P rfl rfl (by show _ < _; simp only [rN]; omega) dX3_interrupt_118 ?_
          have hE : s_interrupt st (nI t) = (0, (s_queue st t (s_wf st t) 3).1 4 t, s_queue st t (s_wf st t) 3) := by
            have e0 : s_intr st t = s_queue st t (s_wf st t) 3 := by unfold s_intr; rw [if_neg (fun z => Or.elim z c34 (fun z => absurd c75 (And.left z))), show s_giveUp st t (s_wf st t) 3 = _ from if_pos c75]
            rw [s_int_in hit c12, e0] <;> rfl
          exact rx_iret S P hQ hr hlk dX3_interrupt_119 hRw (hfl.trans (by rw [hE] <;> rfl)) (by rw [hE] <;> rfl) (by rw [hE] <;> rfl)
      · have _h := True.intro
        refine lv_aload_n hx hb dX3_interrupt_48 rfl (lv_at hl 1 rfl) ?_
        refine rx_ref 9 S P (by decide) q894 dX3_interrupt_49 ?_
        refine lv_iload_n hx hb dX3_interrupt_52 rfl (lv_at hl 2 rfl) ?_
        refine rx_iald 9 t S P rfl rfl (by show _ < _; simp only [rN]; omega) dX3_interrupt_53 ?_
        refine lw_if_le (tgt := 67) (x := st.1 9 t) hx hb dX3_interrupt_54 (by decide) (fun c54 => ?_) (fun c54 => ?_)
        · have _h := True.intro
          refine lv_aload_n hx hb dX3_interrupt_67 rfl (lv_at hl 1 rfl) ?_
          refine rx_ref 12 S P (by decide) q897 dX3_interrupt_68 ?_
          refine lv_iload_n hx hb dX3_interrupt_71 rfl (lv_at hl 0 rfl) ?_
          refine rx_iald 12 (s_wf st t) S P rfl rfl (by show _ < _; simp only [rN]; omega) dX3_interrupt_72 ?_
          refine lv_bipush (v := 6) hx hb dX3_interrupt_73 (by decide) ?_
          refine lv_icmp_ne (tgt := 88) (x := st.1 12 (s_wf st t)) (y := 6) hx hb dX3_interrupt_75 (by decide) (fun c75 => ?_) (fun c75 => ?_)
          · have _h := True.intro
            refine lv_aload_n hx hb dX3_interrupt_88 rfl (lv_at hl 1 rfl) ?_
            refine lv_iload_n hx hb dX3_interrupt_89 rfl (lv_at hl 2 rfl) ?_
            refine lv_iload_n hx hb dX3_interrupt_90 rfl (lv_at hl 0 rfl) ?_
            refine rx_c (nL' := 5) (rest := []) [.int (nI t), .int (nI (s_wf st t))] S P hRw hfl (rm_remove st 0 t (s_wf st t) (by omega) (by omega) hmem hok.wf) q1044 q1046 qs30 q1047 q38 ⟨by decide +kernel, by decide +kernel, (by decide +kernel : (parseMethodDescriptor yX3_remove.desc).map (fun d => d.parameters.length) = some 2)⟩ dX3_interrupt_91 hl.1 (Nat.le_of_ble_eq_true rfl) ⟨Nat.le_of_ble_eq_true rfl, Nat.le_of_ble_eq_true rfl⟩ ⟨Nat.le_refl _, Nat.le_refl _⟩ (fun H locs x P hRw hfl => ?_)
            refine W.eq (g2 := F0 m 94 ls []) rfl ?_
            refine lv_aload_n hx hb dX3_interrupt_94 rfl (lv_at hl 1 rfl) ?_
            refine rx_ref 1 S P (by decide) q886 dX3_interrupt_95 ?_
            refine lv_iload_n hx hb dX3_interrupt_98 rfl (lv_at hl 2 rfl) ?_
            refine lv_iconst (v := 0) hx hb dX3_interrupt_99 (by decide) ?_
            refine rx_zast (v := 0) 1 t S P rfl rfl (by show _ < _; simp only [rN]; omega) (by decide) dX3_interrupt_100 (fun H locs P => ?_)
            refine lv_aload_n hx hb dX3_interrupt_101 rfl (lv_at hl 1 rfl) ?_
            refine rx_ref 4 S P (by decide) q889 dX3_interrupt_102 ?_
            refine lv_iload_n hx hb dX3_interrupt_105 rfl (lv_at hl 2 rfl) ?_
            refine lv_iconst (v := 3) hx hb dX3_interrupt_106 (by decide) ?_
            refine rx_iast (v := 3) 4 t S P rfl rfl (by show _ < _; simp only [rN]; omega) dX3_interrupt_107 (fun H locs P => ?_)
            refine lv_aload_n hx hb dX3_interrupt_108 rfl (lv_at hl 1 rfl) ?_
            refine lv_iload_n hx hb dX3_interrupt_109 rfl (lv_at hl 0 rfl) ?_
            refine rx_c (nL' := 3) (rest := []) [.int (nI (s_wf st t))] S P hRw hfl (rm_serve (sI (sI (s_remove st t (s_wf st t)) 1 t 0) 4 t 3) 0 (s_wf st t) (by omega) (hok.rmB hs8 hmem).1.wf hok.db) q1036 q1038 qs28 q1039 q38 ⟨by decide +kernel, by decide +kernel, (by decide +kernel : (parseMethodDescriptor yX3_serve.desc).map (fun d => d.parameters.length) = some 1)⟩ dX3_interrupt_110 hl.1 (Nat.le_of_ble_eq_true rfl) ⟨Nat.le_of_ble_eq_true rfl, Nat.le_of_ble_eq_true rfl⟩ ⟨Nat.le_refl _, Nat.le_refl _⟩ (fun H locs x P hRw hfl => ?_)
            refine W.eq (g2 := F0 m 113 ls []) rfl ?_
            refine lv_aload_n hx hb dX3_interrupt_113 rfl (lv_at hl 1 rfl) ?_
            refine rx_ref 4 S P (by decide) q889 dX3_interrupt_114 ?_
            refine lv_iload_n hx hb dX3_interrupt_117 rfl (lv_at hl 2 rfl) ?_
            refine rx_iald 4 t S P rfl rfl (by show _ < _; simp only [rN]; omega) dX3_interrupt_118 ?_
            have hE : s_interrupt st (nI t) = (0, (s_serve (sI (sI (s_remove st t (s_wf st t)) 1 t 0) 4 t 3) (s_wf st t)).1 4 t, s_serve (sI (sI (s_remove st t (s_wf st t)) 1 t 0) 4 t 3) (s_wf st t)) := by
              have e0 : s_intr st t = s_serve (sI (sI (s_remove st t (s_wf st t)) 1 t 0) 4 t 3) (s_wf st t) := by unfold s_intr; rw [if_neg (fun z => Or.elim z c34 (fun z => c54 (And.right z))), show s_giveUp st t (s_wf st t) 3 = _ from if_neg c75]
              rw [s_int_in hit c12, e0] <;> rfl
            exact rx_iret S P hQ hr hlk dX3_interrupt_119 hRw (hfl.trans (by rw [hE] <;> rfl)) (by rw [hE] <;> rfl) (by rw [hE] <;> rfl)
          · exact absurd c75 c45
        · have _h := True.intro
          refine lv_aload_n hx hb dX3_interrupt_57 rfl (lv_at hl 1 rfl) ?_
          refine rx_ref 2 S P (by decide) q887 dX3_interrupt_58 ?_
          refine lv_iload_n hx hb dX3_interrupt_61 rfl (lv_at hl 2 rfl) ?_
          refine lv_iconst (v := 1) hx hb dX3_interrupt_62 (by decide) ?_
          refine rx_zast (v := 1) 2 t S P rfl rfl (by show _ < _; simp only [rN]; omega) (by decide) dX3_interrupt_63 (fun H locs P => ?_)
          refine lv_goto (tgt := 113) hx hb dX3_interrupt_64 (by decide) ?_
          refine lv_aload_n hx hb dX3_interrupt_113 rfl (lv_at hl 1 rfl) ?_
          refine rx_ref 4 S P (by decide) q889 dX3_interrupt_114 ?_
          refine lv_iload_n hx hb dX3_interrupt_117 rfl (lv_at hl 2 rfl) ?_
          refine rx_iald 4 t S P rfl rfl (by show _ < _; simp only [rN]; omega) dX3_interrupt_118 ?_
          have hE : s_interrupt st (nI t) = (0, st.1 4 t, sI st 2 t 1) := by
            have e0 : s_intr st t = sI st 2 t 1 := by unfold s_intr; rw [if_pos (Or.inr (And.intro c45 c54))]
            rw [s_int_in hit c12, e0] <;> rfl
          exact rx_iret S P hQ hr hlk dX3_interrupt_119 hRw (hfl.trans (by rw [hE] <;> rfl)) (by rw [hE] <;> rfl) (by rw [hE] <;> rfl)
  · rw [bI_eq0, Bool.not_eq_false] at c12
    refine lv_aload_n hx hb dX3_interrupt_15 rfl (lv_at hl 0 rfl) ?_
    refine lv_iconst (v := 1) hx hb dX3_interrupt_16 (by decide) ?_
    refine rx_c (nL' := 2) (rest := []) [.int 1] S P hRw hfl (rm_fail st 0 1) q977 q979 qs17 q980 q38 ⟨by decide +kernel, by decide +kernel, (by decide +kernel : (parseMethodDescriptor yX3_fail.desc).map (fun d => d.parameters.length) = some 1)⟩ dX3_interrupt_17 hl.1 (Nat.le_of_ble_eq_true rfl) ⟨Nat.le_of_ble_eq_true rfl, Nat.le_of_ble_eq_true rfl⟩ ⟨Nat.le_refl _, Nat.le_refl _⟩ (fun H locs x P hRw hfl => ?_)
    refine W.eq (g2 := F0 m 20 ls [.int 0]) rfl ?_
    have hE : s_interrupt st v = (1, 0, st) := by
      simp [s_interrupt, c12]
    exact rx_iret S P hQ hr hlk dX3_interrupt_20 hRw (hfl.trans (by rw [hE] <;> rfl)) (by rw [hE] <;> rfl) (by rw [hE] <;> rfl)

set_option maxHeartbeats 4000000 in
set_option maxRecDepth 100000 in
theorem rm_tick {l : Launch} {D : va_G} {cs : Nat → ClassId} {r : Nat} {ad : Nat → Nat} {L : List Nat} (n : Nat) (st : St) (fl : Int32) (hok : Ok n st) (pv : UInt64) (hn : n ≤ 100) : RM l D cs yX3_tick cX3_tick 6 (some .int) (rmL 4 0 0) r ad L [.ref r, .double pv] st fl (some (.int (s_tick st pv).2.1)) ((s_tick st pv).2.2) ((s_tick st pv).1) := by
  refine rm_of rfl (Nat.le_of_ble_eq_true rfl) ?_
  intro f0 x sz p e u m below meth c S P hRw hfl hr hlk ls hl Q hQ
  have hl : lv_has ls 6 [(0, .ref r), (1, .double pv)] := hl
  have hx := S.1
  have hb := S.2.1
  generalize u.heap = H at P ⊢
  generalize ([] : List Loc) = locs at P ⊢
  refine lv_aload_n hx hb dX3_tick_0 rfl (lv_at hl 0 rfl) ?_
  refine lv_iconst (v := 0) hx hb dX3_tick_1 (by decide) ?_
  refine rx_putF (v := 0) 0 S P rfl rfl rfl rfl q885 dX3_tick_2 (fun H locs P => ?_)
  obtain ⟨x, P, hRw, hfl⟩ := rw_fl (v := 0) P hRw
  refine lv_dload_n hx hb dX3_tick_5 rfl (lv_at hl 1 rfl) ?_
  refine lv_dconst0 hx hb dX3_tick_6 ?_
  refine lv_dcmp hx hb dX3_tick_7 ?_
  refine lv_if_lt (tgt := 19) (x := Op.cmpValue (FP.dcmp pv FP.dconst0) .l) hx hb dX3_tick_8 (by decide) (fun c8 => ?_) (fun c8 => ?_)
  · simp only [cv_l_lt0, Decidable.not_not] at c8
    refine lv_aload_n hx hb dX3_tick_19 rfl (lv_at hl 0 rfl) ?_
    refine lv_iconst (v := 1) hx hb dX3_tick_20 (by decide) ?_
    refine rx_c (nL' := 2) (rest := []) [.int 1] S P hRw hfl (rm_fail st 0 1) q977 q979 qs17 q980 q38 ⟨by decide +kernel, by decide +kernel, (by decide +kernel : (parseMethodDescriptor yX3_fail.desc).map (fun d => d.parameters.length) = some 1)⟩ dX3_tick_21 hl.1 (Nat.le_of_ble_eq_true rfl) ⟨Nat.le_of_ble_eq_true rfl, Nat.le_of_ble_eq_true rfl⟩ ⟨Nat.le_refl _, Nat.le_refl _⟩ (fun H locs x P hRw hfl => ?_)
    refine W.eq (g2 := F0 m 24 ls [.int 0]) rfl ?_
    have hE : s_tick st pv = (1, 0, st) := by
      simp [s_tick, inR, c8]
    exact rx_iret S P hQ hr hlk dX3_tick_24 hRw (hfl.trans (by rw [hE] <;> rfl)) (by rw [hE] <;> rfl) (by rw [hE] <;> rfl)
  · simp only [cv_l_lt0, Decidable.not_not] at c8
    refine lv_dload_n hx hb dX3_tick_11 rfl (lv_at hl 1 rfl) ?_
    refine lv_ldc2d (v := 4652007308841189376) hx hb S.2.2.2.1 (S.2.2.2.2 _ q986) dX3_tick_12 ?_
    refine lv_dcmp hx hb dX3_tick_15 ?_
    refine lw_if_le (tgt := 25) (x := Op.cmpValue (FP.dcmp pv 4652007308841189376) .g) hx hb dX3_tick_16 (by decide) (fun c16 => ?_) (fun c16 => ?_)
    · simp only [cv_g_gt0, Decidable.not_not] at c16
      have hin : inR FP.dconst0 cK pv = true := by simp [inR, c8, c16]
      have hby := fb_by hin
      have hok0 := hok.time hby
      refine lv_aload_n hx hb dX3_tick_25 rfl (lv_at hl 0 rfl) ?_
      refine lv_dup hx hb dX3_tick_26 rfl ?_
      refine rx_getD 11 S P rfl q896 dX3_tick_27 ?_
      refine lv_dload_n hx hb dX3_tick_30 rfl (lv_at hl 1 rfl) ?_
      refine lv_dadd hx hb dX3_tick_31 ((fb_time hok.db.1 hby).2) ?_
      refine rx_putD (v := FP.dadd (st.2.1 11 0) pv) 11 S P rfl rfl rfl q896 dX3_tick_32 (fun H locs P => ?_)
      refine lv_iconst (v := 0) hx hb dX3_tick_35 (by decide) ?_
      refine lv_istore_n (lv' := [(3, .int 0), (0, .ref r), (1, .double pv)]) hx hb dX3_tick_36 rfl hl (by decide) rfl (fun ls hl => ?_)
      refine lv_aload_n hx hb dX3_tick_37 rfl (lv_at hl 1 rfl) ?_
      refine rx_c (nL' := 4) (rest := []) [] S P hRw hfl (rm_latest (sD st 11 0 (FP.dadd (st.2.1 11 0) pv)) 0) q1076 q1078 qs34 q1079 q38 ⟨by decide +kernel, by decide +kernel, (by decide +kernel : (parseMethodDescriptor yX3_latest.desc).map (fun d => d.parameters.length) = some 0)⟩ dX3_tick_38 hl.1 (Nat.le_of_ble_eq_true rfl) ⟨Nat.le_of_ble_eq_true rfl, Nat.le_of_ble_eq_true rfl⟩ ⟨Nat.le_refl _, Nat.le_refl _⟩ (fun H locs x P hRw hfl => ?_)
      refine W.eq (g2 := F0 m 41 ls [.int (oI (s_latest (sD st 11 0 (FP.dadd (st.2.1 11 0) pv)) 6))]) rfl ?_
      refine lv_istore (lv' := [(4, .int (oI (s_latest (sD st 11 0 (FP.dadd (st.2.1 11 0) pv)) 6))), (3, .int 0), (0, .ref r), (1, .double pv)]) hx hb dX3_tick_41 hl (by decide) rfl (fun ls hl => ?_)
      have loop43 : ∀ (d : Nat) (f : Nat) (st1 : St) (k : Nat) (x : Nat → Nat → Int32), f < d → (s_mu st1 ≤ f) → (Ok n st1) → (s_tickN 6 (sD st 11 0 (FP.dadd (st.2.1 11 0) pv)) 0 = s_tickN f st1 k) → ∀ (H : Heap) (locs : List Loc), RX D cs (pA L sz) u r ad L f0 st1 x H locs → Rows st1 x → x 0 0 = 0 → ∀ (ls : Array Slot), lv_has ls 6 [(4, .int (oI (s_latest st1 6))), (3, .int (nI k)), (0, .ref r)] → W p l e (rmL 4 0 0) u m ([.ref r, .double pv] : List Value).toArray below meth c H locs 0 0 Q (F0 m 43 ls []) := by
        intro d43
        induction d43 with
        | zero => intro f st1 k x hd; exact absurd hd (by omega)
        | succ d43 ih43 =>
          intro f st1 k x hd43 hmu hok1 hinv H locs P hRw hfl ls hl
          cases hla : s_latest st1 6 with
          | none =>
            rw [hla] at hl
            refine lv_iload hx hb dX3_tick_43 (lv_at hl 0 rfl) ?_
            refine lv_if_lt (tgt := 123) (x := oI none) hx hb dX3_tick_45 (by decide) (fun c45 => ?_) (fun c45 => ?_)
            · have _h := True.intro
              refine lv_iload_n hx hb dX3_tick_123 rfl (lv_at hl 1 rfl) ?_
              have hE : s_tick st pv = (0, nI k, st1) := by
                simp only [s_tick, hin, hinv, s_tickN_no hla, Bool.true_eq_false, if_false]
              exact rx_iret S P hQ hr hlk dX3_tick_124 hRw (hfl.trans (by rw [hE] <;> rfl)) (by rw [hE] <;> rfl) (by rw [hE] <;> rfl)
            · have _h := True.intro
              exact absurd (by decide) c45
          | some t =>
            rw [hla] at hl
            obtain ⟨ht, hov⟩ := s_latest_over 6 t hla
            have hbl := (of_decide_eq_true hov).1
            obtain ⟨hs8, hmem, h5⟩ := hok1.wfs ht hbl
            have hmu2 := s_giveUp_mu (why := 2) hok1 hs8 hmem (s_over_end hov)
            obtain ⟨f', rfl⟩ : ∃ f', f = f' + 1 := ⟨f - 1, by omega⟩
            refine lv_iload hx hb dX3_tick_43 (lv_at hl 0 rfl) ?_
            refine lv_if_lt (tgt := 123) (x := oI (some t)) hx hb dX3_tick_45 (by decide) (fun c45 => ?_) (fun c45 => ?_)
            · have _h := True.intro
              exact absurd c45 (nI_pos (n := t) (by omega))
            · have _h := True.intro
              refine lv_iinc (v := nI (k + 1)) (lv' := [(3, .int (nI (k + 1))), (4, .int (oI (some t))), (0, .ref r)]) hx hb dX3_tick_48 hl (k := 1) rfl (nI_1 _) (by decide) rfl (fun ls hl => ?_)
              refine lv_aload_n hx hb dX3_tick_51 rfl (lv_at hl 2 rfl) ?_
              refine rx_ref 5 S P (by decide) q890 dX3_tick_52 ?_
              refine lv_iload hx hb dX3_tick_55 (lv_at hl 1 rfl) ?_
              refine rx_iald 5 t S P rfl rfl (by show _ < _; simp only [rN]; omega) dX3_tick_57 ?_
              refine lw_eqi (y := nI (s_wf st1 t)) (h5) ?_
              refine lv_istore (lv' := [(5, .int (nI (s_wf st1 t))), (3, .int (nI (k + 1))), (4, .int (oI (some t))), (0, .ref r)]) hx hb dX3_tick_58 hl (by decide) rfl (fun ls hl => ?_)
              refine lv_aload_n hx hb dX3_tick_60 rfl (lv_at hl 3 rfl) ?_
              refine rx_ref 12 S P (by decide) q897 dX3_tick_61 ?_
              refine lv_iload hx hb dX3_tick_64 (lv_at hl 0 rfl) ?_
              refine rx_iald 12 (s_wf st1 t) S P rfl rfl (by show _ < _; simp only [rN]; omega) dX3_tick_66 ?_
              refine lv_bipush (v := 6) hx hb dX3_tick_67 (by decide) ?_
              refine lv_icmp_ne (tgt := 84) (x := st1.1 12 (s_wf st1 t)) (y := 6) hx hb dX3_tick_69 (by decide) (fun c69 => ?_) (fun c69 => ?_)
              · have _h := True.intro
                refine lv_aload_n hx hb dX3_tick_84 rfl (lv_at hl 3 rfl) ?_
                refine lv_iload hx hb dX3_tick_85 (lv_at hl 2 rfl) ?_
                refine lv_iload hx hb dX3_tick_87 (lv_at hl 0 rfl) ?_
                refine rx_c (nL' := 5) (rest := []) [.int (oI (some t)), .int (nI (s_wf st1 t))] S P hRw hfl (rm_remove st1 0 t (s_wf st1 t) (by omega) (by omega) hmem hok1.wf) q1044 q1046 qs30 q1047 q38 ⟨by decide +kernel, by decide +kernel, (by decide +kernel : (parseMethodDescriptor yX3_remove.desc).map (fun d => d.parameters.length) = some 2)⟩ dX3_tick_89 hl.1 (Nat.le_of_ble_eq_true rfl) ⟨Nat.le_of_ble_eq_true rfl, Nat.le_of_ble_eq_true rfl⟩ ⟨Nat.le_refl _, Nat.le_refl _⟩ (fun H locs x P hRw hfl => ?_)
                refine W.eq (g2 := F0 m 92 ls []) rfl ?_
                refine lv_aload_n hx hb dX3_tick_92 rfl (lv_at hl 3 rfl) ?_
                refine rx_ref 1 S P (by decide) q886 dX3_tick_93 ?_
                refine lv_iload hx hb dX3_tick_96 (lv_at hl 2 rfl) ?_
                refine lv_iconst (v := 0) hx hb dX3_tick_98 (by decide) ?_
                refine rx_zast (v := 0) 1 t S P rfl rfl (by show _ < _; simp only [rN]; omega) (by decide) dX3_tick_99 (fun H locs P => ?_)
                refine lv_aload_n hx hb dX3_tick_100 rfl (lv_at hl 3 rfl) ?_
                refine rx_ref 4 S P (by decide) q889 dX3_tick_101 ?_
                refine lv_iload hx hb dX3_tick_104 (lv_at hl 2 rfl) ?_
                refine lv_iconst (v := 2) hx hb dX3_tick_106 (by decide) ?_
                refine rx_iast (v := 2) 4 t S P rfl rfl (by show _ < _; simp only [rN]; omega) dX3_tick_107 (fun H locs P => ?_)
                refine lv_aload_n hx hb dX3_tick_108 rfl (lv_at hl 3 rfl) ?_
                refine lv_iload hx hb dX3_tick_109 (lv_at hl 0 rfl) ?_
                refine rx_c (nL' := 3) (rest := []) [.int (nI (s_wf st1 t))] S P hRw hfl (rm_serve (sI (sI (s_remove st1 t (s_wf st1 t)) 1 t 0) 4 t 2) 0 (s_wf st1 t) (by omega) (hok1.rmB hs8 hmem).1.wf hok1.db) q1036 q1038 qs28 q1039 q38 ⟨by decide +kernel, by decide +kernel, (by decide +kernel : (parseMethodDescriptor yX3_serve.desc).map (fun d => d.parameters.length) = some 1)⟩ dX3_tick_111 hl.1 (Nat.le_of_ble_eq_true rfl) ⟨Nat.le_of_ble_eq_true rfl, Nat.le_of_ble_eq_true rfl⟩ ⟨Nat.le_refl _, Nat.le_refl _⟩ (fun H locs x P hRw hfl => ?_)
                refine W.eq (g2 := F0 m 114 ls []) rfl ?_
                have hgu : s_giveUp st1 t (s_wf st1 t) 2 = s_serve (sI (sI (s_remove st1 t (s_wf st1 t)) 1 t 0) 4 t 2) (s_wf st1 t) := by unfold s_giveUp; rw [if_neg c69]
                have P : RX D cs (pA L sz) u r ad L f0 (s_giveUp st1 t (s_wf st1 t) 2) x H locs := by rw [hgu]; exact P
                have hRw : Rows (s_giveUp st1 t (s_wf st1 t) 2) x := by rw [hgu]; exact hRw
                clear hgu
                refine lv_aload_n hx hb dX3_tick_114 rfl (lv_at hl 3 rfl) ?_
                refine rx_c (nL' := 4) (rest := []) [] S P hRw hfl (rm_latest (s_giveUp st1 t (s_wf st1 t) 2) 0) q1076 q1078 qs34 q1079 q38 ⟨by decide +kernel, by decide +kernel, (by decide +kernel : (parseMethodDescriptor yX3_latest.desc).map (fun d => d.parameters.length) = some 0)⟩ dX3_tick_115 hl.1 (Nat.le_of_ble_eq_true rfl) ⟨Nat.le_of_ble_eq_true rfl, Nat.le_of_ble_eq_true rfl⟩ ⟨Nat.le_refl _, Nat.le_refl _⟩ (fun H locs x P hRw hfl => ?_)
                refine W.eq (g2 := F0 m 118 ls [.int (oI (s_latest (s_giveUp st1 t (s_wf st1 t) 2) 6))]) rfl ?_
                refine lv_istore (lv' := [(4, .int (oI (s_latest (s_giveUp st1 t (s_wf st1 t) 2) 6))), (5, .int (nI (s_wf st1 t))), (3, .int (nI (k + 1))), (0, .ref r)]) hx hb dX3_tick_118 hl (by decide) rfl (fun ls hl => ?_)
                refine lv_goto (tgt := 43) hx hb dX3_tick_120 (by decide) ?_
                exact ih43 f' (s_giveUp st1 t (s_wf st1 t) 2) (k + 1) _ (by omega) (by omega) (hok1.giveUp hs8 hmem hn) (by rw [hinv, s_tickN_go hla]) _ _ P hRw hfl ls (lv_sub hl [0, 2, 3] rfl)
              · have _h := True.intro
                refine lv_aload_n hx hb dX3_tick_72 rfl (lv_at hl 3 rfl) ?_
                refine lv_iload hx hb dX3_tick_73 (lv_at hl 2 rfl) ?_
                refine lv_iload hx hb dX3_tick_75 (lv_at hl 0 rfl) ?_
                refine lv_iconst (v := 2) hx hb dX3_tick_77 (by decide) ?_
                refine rx_c (nL' := 4) (rest := []) [.int (oI (some t)), .int (nI (s_wf st1 t)), .int 2] S P hRw hfl (rm_queue st1 0 t (s_wf st1 t) 2 (by omega) (by omega) hok1.wf hok1.db (fun _ => hmem) (hok1.lkc (by omega) c69).1 (hok1.lkc (by omega) c69).2 (hok1.qh (by omega) hmem c69).1 (hok1.qh (by omega) hmem c69).2.1 (hok1.qh (by omega) hmem c69).2.2) q1060 q1062 qs33 q1063 q38 ⟨by decide +kernel, by decide +kernel, (by decide +kernel : (parseMethodDescriptor yX3_queue.desc).map (fun d => d.parameters.length) = some 3)⟩ dX3_tick_78 hl.1 (Nat.le_of_ble_eq_true rfl) ⟨Nat.le_of_ble_eq_true rfl, Nat.le_of_ble_eq_true rfl⟩ ⟨Nat.le_refl _, Nat.le_refl _⟩ (fun H locs x P hRw hfl => ?_)
                refine W.eq (g2 := F0 m 81 ls []) rfl ?_
                refine lv_goto (tgt := 114) hx hb dX3_tick_81 (by decide) ?_
                have hgu : s_giveUp st1 t (s_wf st1 t) 2 = s_queue st1 t (s_wf st1 t) 2 := by unfold s_giveUp; rw [if_pos c69]
                have P : RX D cs (pA L sz) u r ad L f0 (s_giveUp st1 t (s_wf st1 t) 2) x H locs := by rw [hgu]; exact P
                have hRw : Rows (s_giveUp st1 t (s_wf st1 t) 2) x := by rw [hgu]; exact hRw
                clear hgu
                refine lv_aload_n hx hb dX3_tick_114 rfl (lv_at hl 3 rfl) ?_
                refine rx_c (nL' := 4) (rest := []) [] S P hRw hfl (rm_latest (s_giveUp st1 t (s_wf st1 t) 2) 0) q1076 q1078 qs34 q1079 q38 ⟨by decide +kernel, by decide +kernel, (by decide +kernel : (parseMethodDescriptor yX3_latest.desc).map (fun d => d.parameters.length) = some 0)⟩ dX3_tick_115 hl.1 (Nat.le_of_ble_eq_true rfl) ⟨Nat.le_of_ble_eq_true rfl, Nat.le_of_ble_eq_true rfl⟩ ⟨Nat.le_refl _, Nat.le_refl _⟩ (fun H locs x P hRw hfl => ?_)
                refine W.eq (g2 := F0 m 118 ls [.int (oI (s_latest (s_giveUp st1 t (s_wf st1 t) 2) 6))]) rfl ?_
                refine lv_istore (lv' := [(4, .int (oI (s_latest (s_giveUp st1 t (s_wf st1 t) 2) 6))), (5, .int (nI (s_wf st1 t))), (3, .int (nI (k + 1))), (0, .ref r)]) hx hb dX3_tick_118 hl (by decide) rfl (fun ls hl => ?_)
                refine lv_goto (tgt := 43) hx hb dX3_tick_120 (by decide) ?_
                exact ih43 f' (s_giveUp st1 t (s_wf st1 t) 2) (k + 1) _ (by omega) (by omega) (hok1.giveUp hs8 hmem hn) (by rw [hinv, s_tickN_go hla]) _ _ P hRw hfl ls (lv_sub hl [0, 2, 3] rfl)
      exact loop43 _ 6 _ 0 _ (Nat.lt_succ_self _) (s_mu_6 _) hok0 rfl _ _ P hRw hfl ls (lv_sub hl [0, 1, 2] (rfl))
    · simp only [cv_g_gt0, Decidable.not_not] at c16
      refine lv_aload_n hx hb dX3_tick_19 rfl (lv_at hl 0 rfl) ?_
      refine lv_iconst (v := 1) hx hb dX3_tick_20 (by decide) ?_
      refine rx_c (nL' := 2) (rest := []) [.int 1] S P hRw hfl (rm_fail st 0 1) q977 q979 qs17 q980 q38 ⟨by decide +kernel, by decide +kernel, (by decide +kernel : (parseMethodDescriptor yX3_fail.desc).map (fun d => d.parameters.length) = some 1)⟩ dX3_tick_21 hl.1 (Nat.le_of_ble_eq_true rfl) ⟨Nat.le_of_ble_eq_true rfl, Nat.le_of_ble_eq_true rfl⟩ ⟨Nat.le_refl _, Nat.le_refl _⟩ (fun H locs x P hRw hfl => ?_)
      refine W.eq (g2 := F0 m 24 ls [.int 0]) rfl ?_
      have hE : s_tick st pv = (1, 0, st) := by
        simp [s_tick, inR, c8, c16]
      exact rx_iret S P hQ hr hlk dX3_tick_24 hRw (hfl.trans (by rw [hE] <;> rfl)) (by rw [hE] <;> rfl) (by rw [hE] <;> rfl)

set_option maxHeartbeats 4000000 in
set_option maxRecDepth 100000 in
theorem rm_signal {l : Launch} {D : va_G} {cs : Nat → ClassId} {r : Nat} {ad : Nat → Nat} {L : List Nat} (n : Nat) (st : St) (fl : Int32) (hok : Ok n st) (v sv : Int32) (al : Bool) (hn : n ≤ 100) : RM l D cs yX3_signal cX3_signal 5 (some .int) (rmL 4 0 0) r ad L [.ref r, .int v, .int sv, .int (bI al)] st fl (some (.int (s_signal st v sv al).2.1)) ((s_signal st v sv al).2.2) ((s_signal st v sv al).1) := by
  refine rm_of rfl (Nat.le_of_ble_eq_true rfl) ?_
  intro f0 x sz p e u m below meth c S P hRw hfl hr hlk ls hl Q hQ
  have hl : lv_has ls 5 [(0, .ref r), (1, .int v), (2, .int sv), (3, .int (bI al))] := hl
  have hx := S.1
  have hb := S.2.1
  generalize u.heap = H at P ⊢
  generalize ([] : List Loc) = locs at P ⊢
  refine lv_aload_n hx hb dX3_signal_0 rfl (lv_at hl 0 rfl) ?_
  refine lv_aload_n hx hb dX3_signal_1 rfl (lv_at hl 0 rfl) ?_
  refine lv_iload_n hx hb dX3_signal_2 rfl (lv_at hl 1 rfl) ?_
  refine lv_bipush (v := 6) hx hb dX3_signal_3 (by decide) ?_
  refine rx_c (nL' := 3) (rest := [.ref r]) [.int v, .int 6] S P hRw hfl (rm_out st fl v 6) q973 q975 qs16 q976 q38 ⟨by decide +kernel, by decide +kernel, (by decide +kernel : (parseMethodDescriptor yX3_out.desc).map (fun d => d.parameters.length) = some 2)⟩ dX3_signal_5 hl.1 (Nat.le_of_ble_eq_true rfl) ⟨Nat.le_of_ble_eq_true rfl, Nat.le_of_ble_eq_true rfl⟩ ⟨Nat.le_refl _, Nat.le_refl _⟩ (fun H locs x P hRw hfl => ?_)
  refine W.eq (g2 := F0 m 8 ls [.int (bI (isOut v 6)), .ref r]) rfl ?_
  refine lv_if_ne (tgt := 21) (x := bI (isOut v 6)) hx hb dX3_signal_8 (by decide) (fun c8 => ?_) (fun c8 => ?_)
  · rw [bI_eq0, Bool.not_eq_false] at c8
    refine lv_iconst (v := 1) hx hb dX3_signal_21 (by decide) ?_
    refine lv_goto (tgt := 31) hx hb dX3_signal_22 (by decide) ?_
    refine rx_putF (v := 1) 0 S P rfl rfl rfl rfl q885 dX3_signal_31 (fun H locs P => ?_)
    obtain ⟨x, P, hRw, hfl⟩ := rw_fl (v := 1) P hRw
    refine lv_aload_n hx hb dX3_signal_34 rfl (lv_at hl 0 rfl) ?_
    refine rx_getF 0 S P rfl rfl q885 dX3_signal_35 ?_
    rw [hfl]
    refine ni_if_le (tgt := 43) (a := 1) hx hb (by omega) dX3_signal_38 (by decide) (fun c38 => ?_) (fun c38 => ?_)
    · exact absurd c38 (by decide)
    · have _h := True.intro
      refine lv_iconst (v := 0) hx hb dX3_signal_41 (by decide) ?_
      have hE : s_signal st v sv al = (1, 0, st) := by
        simp [s_signal, c8]
      exact rx_iret S P hQ hr hlk dX3_signal_42 hRw (hfl.trans (by rw [hE] <;> rfl)) (by rw [hE] <;> rfl) (by rw [hE] <;> rfl)
  · rw [bI_eq0] at c8
    obtain ⟨t, ht, rfl⟩ := isOut_f (N := 6) rfl (by decide) c8
    have hit := iN_nI (N := 6) ht (by decide)
    refine lv_aload_n hx hb dX3_signal_11 rfl (lv_at hl 0 rfl) ?_
    refine lv_iload_n hx hb dX3_signal_12 rfl (lv_at hl 2 rfl) ?_
    refine lv_bipush (v := 8) hx hb dX3_signal_13 (by decide) ?_
    refine rx_c (nL' := 3) (rest := [.ref r]) [.int sv, .int 8] S P hRw hfl (rm_out st fl sv 8) q973 q975 qs16 q976 q38 ⟨by decide +kernel, by decide +kernel, (by decide +kernel : (parseMethodDescriptor yX3_out.desc).map (fun d => d.parameters.length) = some 2)⟩ dX3_signal_15 hl.1 (Nat.le_of_ble_eq_true rfl) ⟨Nat.le_of_ble_eq_true rfl, Nat.le_of_ble_eq_true rfl⟩ ⟨Nat.le_refl _, Nat.le_refl _⟩ (fun H locs x P hRw hfl => ?_)
    refine W.eq (g2 := F0 m 18 ls [.int (bI (isOut sv 8)), .ref r]) rfl ?_
    refine lv_if_eq (tgt := 25) (x := bI (isOut sv 8)) hx hb dX3_signal_18 (by decide) (fun c18 => ?_) (fun c18 => ?_)
    · rw [bI_eq0] at c18
      obtain ⟨s, hs, rfl⟩ := isOut_f (N := 8) rfl (by decide) c18
      have his := iN_nI (N := 8) hs (by decide)
      refine lv_aload_n hx hb dX3_signal_25 rfl (lv_at hl 0 rfl) ?_
      refine lv_iload_n hx hb dX3_signal_26 rfl (lv_at hl 1 rfl) ?_
      refine lv_iload_n hx hb dX3_signal_27 rfl (lv_at hl 2 rfl) ?_
      refine rx_c (nL' := 4) (rest := [.ref r]) [.int (nI t), .int (nI s)] S P hRw hfl (rm_checkCondition st fl t s (by omega) (by omega) (hok.lkc hs)) q1056 q1058 qs32 q1059 q38 ⟨by decide +kernel, by decide +kernel, (by decide +kernel : (parseMethodDescriptor yX3_checkCondition.desc).map (fun d => d.parameters.length) = some 2)⟩ dX3_signal_28 hl.1 (Nat.le_of_ble_eq_true rfl) ⟨Nat.le_of_ble_eq_true rfl, Nat.le_of_ble_eq_true rfl⟩ ⟨Nat.le_refl _, Nat.le_refl _⟩ (fun H locs x P hRw hfl => ?_)
      refine W.eq (g2 := F0 m 31 ls [.int (s_checkC st t s), .ref r]) rfl ?_
      refine rx_putF (v := s_checkC st t s) 0 S P rfl rfl rfl rfl q885 dX3_signal_31 (fun H locs P => ?_)
      obtain ⟨x, P, hRw, hfl⟩ := rw_fl (v := s_checkC st t s) P hRw
      refine lv_aload_n hx hb dX3_signal_34 rfl (lv_at hl 0 rfl) ?_
      refine rx_getF 0 S P rfl rfl q885 dX3_signal_35 ?_
      rw [hfl]
      refine lw_if_le (tgt := 43) (x := s_checkC st t s) hx hb dX3_signal_38 (by decide) (fun c38 => ?_) (fun c38 => ?_)
      · have _h := True.intro
        rw [s_checkC_pos, Decidable.not_not] at c38
        rw [c38] at hfl
        obtain ⟨hk0, hb0, hk6, ho0⟩ := s_checkC_0 c38
        refine lv_iconst (v := 0) hx hb dX3_signal_43 (by decide) ?_
        refine lv_istore (lv' := [(4, .int 0), (0, .ref r), (1, .int (nI t)), (2, .int (nI s)), (3, .int (bI al))]) hx hb dX3_signal_44 hl (by decide) rfl (fun ls hl => ?_)
        have loop46 : ∀ (d : Nat) (st1 : St) (k : Nat) (x : Nat → Nat → Int32), (st1.2.2 s).length < d → (Ok n st1) → (st1.1 12 s = 6) → (k + (st1.2.2 s).length ≤ 6) → (s_sigN (st.2.2 s).length st s al 0 = s_sigN (st1.2.2 s).length st1 s al k) → ∀ (H : Heap) (locs : List Loc), RX D cs (pA L sz) u r ad L f0 st1 x H locs → Rows st1 x → x 0 0 = 0 → ∀ (ls : Array Slot), lv_has ls 5 [(4, .int (nI k)), (0, .ref r), (2, .int (nI s)), (3, .int (bI al))] → W p l e (rmL 4 0 0) u m ([.ref r, .int (nI t), .int (nI s), .int (bI al)] : List Value).toArray below meth c H locs 0 0 Q (F0 m 46 ls []) := by
          intro d46
          induction d46 with
          | zero => intro st1 k x hd; exact absurd hd (by omega)
          | succ d46 ih46 =>
            intro st1 k x hd46 hok1 hk1 hkl hinv H locs P hRw hfl ls hl
            refine lv_aload_n hx hb dX3_signal_46 rfl (lv_at hl 1 rfl) ?_
            refine rx_ref 19 S P (by decide) q904 dX3_signal_47 ?_
            refine lv_iload_n hx hb dX3_signal_50 rfl (lv_at hl 2 rfl) ?_
            refine rx_ialdG 19 s S P rfl rfl (by show _ < _; simp only [rN]; omega) dX3_signal_51 ?_
            have hlen := (hok1.wf s hs).1
            refine lw_eqi (y := nI ((st1.2.2 s).length)) ((hRw s hs).1) ?_
            refine ni_if_le (tgt := 85) (a := (st1.2.2 s).length) hx hb (by omega) dX3_signal_52 (by decide) (fun c52 => ?_) (fun c52 => ?_)
            · have _h := True.intro
              refine lv_iload hx hb dX3_signal_85 (lv_at hl 0 rfl) ?_
              have hE : s_signal st (nI t) (nI s) al = (0, nI k, st1) := by
                simp only [s_signal, c8, c18, hit, his, s_sig, c38, hinv, s_sigN_no (st := st1) (c := s) (k := k) (all := al) (fun z => by rw [ls_ie0 c52] at z; exact absurd z.1 (by decide)), Bool.false_eq_true, or_self, if_false, not_true_eq_false]
              exact rx_iret S P hQ hr hlk dX3_signal_87 hRw (hfl.trans (by rw [hE] <;> rfl)) (by rw [hE] <;> rfl) (by rw [hE] <;> rfl)
            · have _h := True.intro
              refine lv_iload_n hx hb dX3_signal_55 rfl (lv_at hl 3 rfl) ?_
              refine lv_if_ne (tgt := 64) (x := bI al) hx hb dX3_signal_56 (by decide) (fun c56 => ?_) (fun c56 => ?_)
              · rw [bI_eq0, Bool.not_eq_false] at c56
                refine lv_aload_n hx hb dX3_signal_64 rfl (lv_at hl 1 rfl) ?_
                refine lv_aload_n hx hb dX3_signal_65 rfl (lv_at hl 1 rfl) ?_
                refine rx_ref 18 S P (by decide) q903 dX3_signal_66 ?_
                refine lv_bipush (v := 6) hx hb dX3_signal_69 (by decide) ?_
                refine lv_iload_n hx hb dX3_signal_71 rfl (lv_at hl 2 rfl) ?_
                refine ni_imul (a := 6) (b := s) hx hb dX3_signal_72 ?_
                refine rx_ialdG 18 (6 * s) S P rfl rfl (by show _ < _; simp only [rN]; omega) dX3_signal_73 ?_
                have hh6 := (hok1.wf s hs).2 _ (s_hd_mem c52).1
                refine lw_eqi (y := nI (s_hd st1 s)) (by rw [show (6 * s : Nat) = 6 * s + 0 from rfl, (hRw s hs).2 0 c52, (s_hd_mem c52).2]) ?_
                refine lv_iload_n hx hb dX3_signal_74 rfl (lv_at hl 2 rfl) ?_
                refine lv_iconst (v := 1) hx hb dX3_signal_75 (by decide) ?_
                refine rx_c (nL' := 4) (rest := []) [.int (nI (s_hd st1 s)), .int (nI s), .int 1] S P hRw hfl (rm_queue st1 0 (s_hd st1 s) s 1 (by omega) (by omega) hok1.wf hok1.db (fun _ => (s_hd_mem c52).1) (hok1.lkc (by omega) hk1).1 (hok1.lkc (by omega) hk1).2 (hok1.qh (by omega) (s_hd_mem c52).1 hk1).1 (hok1.qh (by omega) (s_hd_mem c52).1 hk1).2.1 (hok1.qh (by omega) (s_hd_mem c52).1 hk1).2.2) q1060 q1062 qs33 q1063 q38 ⟨by decide +kernel, by decide +kernel, (by decide +kernel : (parseMethodDescriptor yX3_queue.desc).map (fun d => d.parameters.length) = some 3)⟩ dX3_signal_76 hl.1 (Nat.le_of_ble_eq_true rfl) ⟨Nat.le_of_ble_eq_true rfl, Nat.le_of_ble_eq_true rfl⟩ ⟨Nat.le_refl _, Nat.le_refl _⟩ (fun H locs x P hRw hfl => ?_)
                refine W.eq (g2 := F0 m 79 ls []) rfl ?_
                refine lv_iinc (v := nI (k + 1)) (lv' := [(4, .int (nI (k + 1))), (0, .ref r), (2, .int (nI s)), (3, .int (bI al))]) hx hb dX3_signal_79 hl (k := 0) rfl (nI_1 _) (by decide) rfl (fun ls hl => ?_)
                refine lv_goto (tgt := 46) hx hb dX3_signal_82 (by decide) ?_
                have hlen1 := s_sig_len hok1 hs c52 hk1
                exact ih46 (s_queue st1 (s_hd st1 s) s 1) (k + 1) _ (by omega) (hok1.queue hs (s_hd_mem c52).1 hk1 hn) (by rw [s_queue_I (by decide)]; exact hk1) (by omega) (by
                  rw [hinv, s_sigN_go hlen1.symm (Or.inl c56)]) _ _ P hRw hfl ls (lv_sub hl [0, 1, 2, 3] rfl)
              · rw [bI_eq0] at c56
                refine lv_iload hx hb dX3_signal_59 (lv_at hl 0 rfl) ?_
                refine ni_if_ne (tgt := 85) (a := k) hx hb (by omega) dX3_signal_61 (by decide) (fun c61 => ?_) (fun c61 => ?_)
                · have _h := True.intro
                  refine lv_iload hx hb dX3_signal_85 (lv_at hl 0 rfl) ?_
                  have hE : s_signal st (nI t) (nI s) al = (0, nI k, st1) := by
                    simp only [s_signal, c8, c18, hit, his, s_sig, c38, hinv, s_sigN_no (st := st1) (c := s) (k := k) (all := al) (fun z => z.2.elim (fun z => absurd (c56.symm.trans z) (by decide)) c61), Bool.false_eq_true, or_self, if_false, not_true_eq_false]
                  exact rx_iret S P hQ hr hlk dX3_signal_87 hRw (hfl.trans (by rw [hE] <;> rfl)) (by rw [hE] <;> rfl) (by rw [hE] <;> rfl)
                · have _h := True.intro
                  refine lv_aload_n hx hb dX3_signal_64 rfl (lv_at hl 1 rfl) ?_
                  refine lv_aload_n hx hb dX3_signal_65 rfl (lv_at hl 1 rfl) ?_
                  refine rx_ref 18 S P (by decide) q903 dX3_signal_66 ?_
                  refine lv_bipush (v := 6) hx hb dX3_signal_69 (by decide) ?_
                  refine lv_iload_n hx hb dX3_signal_71 rfl (lv_at hl 2 rfl) ?_
                  refine ni_imul (a := 6) (b := s) hx hb dX3_signal_72 ?_
                  refine rx_ialdG 18 (6 * s) S P rfl rfl (by show _ < _; simp only [rN]; omega) dX3_signal_73 ?_
                  have hh6 := (hok1.wf s hs).2 _ (s_hd_mem c52).1
                  refine lw_eqi (y := nI (s_hd st1 s)) (by rw [show (6 * s : Nat) = 6 * s + 0 from rfl, (hRw s hs).2 0 c52, (s_hd_mem c52).2]) ?_
                  refine lv_iload_n hx hb dX3_signal_74 rfl (lv_at hl 2 rfl) ?_
                  refine lv_iconst (v := 1) hx hb dX3_signal_75 (by decide) ?_
                  refine rx_c (nL' := 4) (rest := []) [.int (nI (s_hd st1 s)), .int (nI s), .int 1] S P hRw hfl (rm_queue st1 0 (s_hd st1 s) s 1 (by omega) (by omega) hok1.wf hok1.db (fun _ => (s_hd_mem c52).1) (hok1.lkc (by omega) hk1).1 (hok1.lkc (by omega) hk1).2 (hok1.qh (by omega) (s_hd_mem c52).1 hk1).1 (hok1.qh (by omega) (s_hd_mem c52).1 hk1).2.1 (hok1.qh (by omega) (s_hd_mem c52).1 hk1).2.2) q1060 q1062 qs33 q1063 q38 ⟨by decide +kernel, by decide +kernel, (by decide +kernel : (parseMethodDescriptor yX3_queue.desc).map (fun d => d.parameters.length) = some 3)⟩ dX3_signal_76 hl.1 (Nat.le_of_ble_eq_true rfl) ⟨Nat.le_of_ble_eq_true rfl, Nat.le_of_ble_eq_true rfl⟩ ⟨Nat.le_refl _, Nat.le_refl _⟩ (fun H locs x P hRw hfl => ?_)
                  refine W.eq (g2 := F0 m 79 ls []) rfl ?_
                  refine lv_iinc (v := nI (k + 1)) (lv' := [(4, .int (nI (k + 1))), (0, .ref r), (2, .int (nI s)), (3, .int (bI al))]) hx hb dX3_signal_79 hl (k := 0) rfl (nI_1 _) (by decide) rfl (fun ls hl => ?_)
                  refine lv_goto (tgt := 46) hx hb dX3_signal_82 (by decide) ?_
                  have hlen1 := s_sig_len hok1 hs c52 hk1
                  exact ih46 (s_queue st1 (s_hd st1 s) s 1) (k + 1) _ (by omega) (hok1.queue hs (s_hd_mem c52).1 hk1 hn) (by rw [s_queue_I (by decide)]; exact hk1) (by omega) (by
                    rw [hinv, s_sigN_go hlen1.symm (Or.inr c61)]) _ _ P hRw hfl ls (lv_sub hl [0, 1, 2, 3] rfl)
        exact loop46 _ st 0 _ (Nat.lt_succ_self _) hok hk6 (by have := (hok.wf s hs).1; omega) rfl _ _ P hRw hfl ls (lv_sub hl [0, 1, 3, 4] (rfl))
      · rw [s_checkC_pos] at c38
        refine lv_iconst (v := 0) hx hb dX3_signal_41 (by decide) ?_
        have hE : s_signal st (nI t) (nI s) al = (s_checkC st t s, 0, st) := by
          simp [s_signal, s_sig, hit, his, c8, c18, c38]
        exact rx_iret S P hQ hr hlk dX3_signal_42 hRw (hfl.trans (by rw [hE] <;> rfl)) (by rw [hE] <;> rfl) (by rw [hE] <;> rfl)
    · rw [bI_eq0, Bool.not_eq_false] at c18
      refine lv_iconst (v := 1) hx hb dX3_signal_21 (by decide) ?_
      refine lv_goto (tgt := 31) hx hb dX3_signal_22 (by decide) ?_
      refine rx_putF (v := 1) 0 S P rfl rfl rfl rfl q885 dX3_signal_31 (fun H locs P => ?_)
      obtain ⟨x, P, hRw, hfl⟩ := rw_fl (v := 1) P hRw
      refine lv_aload_n hx hb dX3_signal_34 rfl (lv_at hl 0 rfl) ?_
      refine rx_getF 0 S P rfl rfl q885 dX3_signal_35 ?_
      rw [hfl]
      refine ni_if_le (tgt := 43) (a := 1) hx hb (by omega) dX3_signal_38 (by decide) (fun c38 => ?_) (fun c38 => ?_)
      · exact absurd c38 (by decide)
      · have _h := True.intro
        refine lv_iconst (v := 0) hx hb dX3_signal_41 (by decide) ?_
        have hE : s_signal st (nI t) sv al = (1, 0, st) := by
          simp [s_signal, c8, c18]
        exact rx_iret S P hQ hr hlk dX3_signal_42 hRw (hfl.trans (by rw [hE] <;> rfl)) (by rw [hE] <;> rfl) (by rw [hE] <;> rfl)
