/-! the reference's public methods, by gen_ref5.py -/
set_option maxHeartbeats 4000000 in
set_option maxRecDepth 100000 in
theorem rm_sync {l : Launch} {D : va_G} {cs : Nat → ClassId} {r : Nat} {ad : Nat → Nat} {L : List Nat} (n : Nat) (st : St) (fl : Int32) (hok : Ok n st) (v wv : Int32) : RM l D cs yX3_sync cX3_sync 3 (some .int) (rmL 2 0 0) r ad L [.ref r, .int v, .int wv] st fl (some (.int (s_sync st v wv).2.1)) ((s_sync st v wv).2.2) ((s_sync st v wv).1) := by
  refine rm_of rfl (Nat.le_of_ble_eq_true rfl) ?_
  intro f0 x sz p e u m below meth c S P hRw hfl hr hlk ls hl Q hQ
  have hl : lv_has ls 3 [(0, .ref r), (1, .int v), (2, .int wv)] := hl
  have hx := S.1
  have hb := S.2.1
  generalize u.heap = H at P ⊢
  generalize ([] : List Loc) = locs at P ⊢
  refine lv_aload_n hx hb dX3_sync_0 rfl (lv_at hl 0 rfl) ?_
  refine lv_iconst (v := 0) hx hb dX3_sync_1 (by decide) ?_
  refine rx_putF (v := 0) 0 S P rfl rfl rfl rfl q885 dX3_sync_2 (fun H locs P => ?_)
  obtain ⟨x, P, hRw, hfl⟩ := rw_fl (v := 0) P hRw
  refine lv_aload_n hx hb dX3_sync_5 rfl (lv_at hl 0 rfl) ?_
  refine lv_iload_n hx hb dX3_sync_6 rfl (lv_at hl 1 rfl) ?_
  refine lv_bipush (v := 8) hx hb dX3_sync_7 (by decide) ?_
  refine rx_c (nL' := 3) (rest := []) [.int v, .int 8] S P hRw hfl (rm_out st 0 v 8) q973 q975 qs16 q976 q38 ⟨by decide +kernel, by decide +kernel, (by decide +kernel : (parseMethodDescriptor yX3_out.desc).map (fun d => d.parameters.length) = some 2)⟩ dX3_sync_9 hl.1 (Nat.le_of_ble_eq_true rfl) ⟨Nat.le_of_ble_eq_true rfl, Nat.le_of_ble_eq_true rfl⟩ ⟨Nat.le_refl _, Nat.le_refl _⟩ (fun H locs x P hRw hfl => ?_)
  refine W.eq (g2 := F0 m 12 ls [.int (bI (isOut v 8))]) rfl ?_
  refine lv_if_ne (tgt := 25) (x := bI (isOut v 8)) hx hb dX3_sync_12 (by decide) (fun c12 => ?_) (fun c12 => ?_)
  · rw [bI_eq0, Bool.not_eq_false] at c12
    refine lv_aload_n hx hb dX3_sync_25 rfl (lv_at hl 0 rfl) ?_
    refine lv_iconst (v := 1) hx hb dX3_sync_26 (by decide) ?_
    refine rx_c (nL' := 2) (rest := []) [.int 1] S P hRw hfl (rm_fail st 0 1) q977 q979 qs17 q980 q38 ⟨by decide +kernel, by decide +kernel, (by decide +kernel : (parseMethodDescriptor yX3_fail.desc).map (fun d => d.parameters.length) = some 1)⟩ dX3_sync_27 hl.1 (Nat.le_of_ble_eq_true rfl) ⟨Nat.le_of_ble_eq_true rfl, Nat.le_of_ble_eq_true rfl⟩ ⟨Nat.le_refl _, Nat.le_refl _⟩ (fun H locs x P hRw hfl => ?_)
    refine W.eq (g2 := F0 m 30 ls [.int 0]) rfl ?_
    have hE : s_sync st v wv = (1, 0, st) := by
      simp [s_sync, c12]
    exact rx_iret S P hQ hr hlk dX3_sync_30 hRw (hfl.trans (by rw [hE] <;> rfl)) (by rw [hE] <;> rfl) (by rw [hE] <;> rfl)
  · rw [bI_eq0] at c12
    obtain ⟨s, hs, rfl⟩ := isOut_f (N := 8) rfl (by decide) c12
    have his := iN_nI (N := 8) hs (by decide)
    have hlen := (hok.wf s hs).1
    refine lv_aload_n hx hb dX3_sync_15 rfl (lv_at hl 0 rfl) ?_
    refine lv_iload_n hx hb dX3_sync_16 rfl (lv_at hl 2 rfl) ?_
    refine lv_bipush (v := 9) hx hb dX3_sync_17 (by decide) ?_
    refine rx_c (nL' := 3) (rest := []) [.int wv, .int 9] S P hRw hfl (rm_out st 0 wv 9) q973 q975 qs16 q976 q38 ⟨by decide +kernel, by decide +kernel, (by decide +kernel : (parseMethodDescriptor yX3_out.desc).map (fun d => d.parameters.length) = some 2)⟩ dX3_sync_19 hl.1 (Nat.le_of_ble_eq_true rfl) ⟨Nat.le_of_ble_eq_true rfl, Nat.le_of_ble_eq_true rfl⟩ ⟨Nat.le_refl _, Nat.le_refl _⟩ (fun H locs x P hRw hfl => ?_)
    refine W.eq (g2 := F0 m 22 ls [.int (bI (isOut wv 9))]) rfl ?_
    refine lv_if_eq (tgt := 31) (x := bI (isOut wv 9)) hx hb dX3_sync_22 (by decide) (fun c22 => ?_) (fun c22 => ?_)
    · rw [bI_eq0] at c22
      obtain ⟨w, hw, rfl⟩ := isOut_f (N := 9) rfl (by decide) c22
      have hiw := iN_nI (N := 9) hw (by decide)
      refine lv_aload_n hx hb dX3_sync_31 rfl (lv_at hl 0 rfl) ?_
      refine rx_ref 12 S P (by decide) q897 dX3_sync_32 ?_
      refine lv_iload_n hx hb dX3_sync_35 rfl (lv_at hl 1 rfl) ?_
      refine rx_iald 12 s S P rfl rfl (by show _ < _; simp only [rN]; omega) dX3_sync_36 ?_
      refine lw_if_ge (tgt := 46) (x := st.1 12 s) hx hb dX3_sync_37 (by decide) (fun c37 => ?_) (fun c37 => ?_)
      · have _h := True.intro
        refine lv_iload_n hx hb dX3_sync_46 rfl (lv_at hl 2 rfl) ?_
        refine ni_if_ne (tgt := 57) (a := w) hx hb (by omega) dX3_sync_47 (by decide) (fun c47 => ?_) (fun c47 => ?_)
        · have _h := True.intro
          refine lv_iload_n hx hb dX3_sync_57 rfl (lv_at hl 2 rfl) ?_
          refine lv_iconst (v := 1) hx hb dX3_sync_58 (by decide) ?_
          refine ni_icmp_ne (tgt := 69) (a := w) (b := 1) hx hb (by omega) (by omega) dX3_sync_59 (by decide) (fun c59 => ?_) (fun c59 => ?_)
          · have _h := True.intro
            refine lv_iload_n hx hb dX3_sync_69 rfl (lv_at hl 2 rfl) ?_
            refine lv_bipush (v := 8) hx hb dX3_sync_70 (by decide) ?_
            refine ni_icmp_ne (tgt := 82) (a := w) (b := 8) hx hb (by omega) (by omega) dX3_sync_72 (by decide) (fun c72 => ?_) (fun c72 => ?_)
            · have _h := True.intro
              refine lv_iload_n hx hb dX3_sync_82 rfl (lv_at hl 2 rfl) ?_
              refine lv_iconst (v := 2) hx hb dX3_sync_83 (by decide) ?_
              refine ni_isub (a := w) (b := 2) hx hb (by omega) dX3_sync_84 ?_
              refine lv_aload_n hx hb dX3_sync_85 rfl (lv_at hl 0 rfl) ?_
              refine rx_ref 19 S P (by decide) q904 dX3_sync_86 ?_
              refine lv_iload_n hx hb dX3_sync_89 rfl (lv_at hl 1 rfl) ?_
              refine rx_ialdG 19 s S P rfl rfl (by show _ < _; simp only [rN]; omega) dX3_sync_90 ?_
              refine lw_eqi (y := nI ((st.2.2 s).length)) ((hRw s hs).1) ?_
              refine ni_icmp_ge (tgt := 110) (a := w - 2) (b := (st.2.2 s).length) hx hb (by omega) (by omega) dX3_sync_91 (by decide) (fun c91 => ?_) (fun c91 => ?_)
              · have _h := True.intro
                refine lv_iconst (v := (-1)) hx hb dX3_sync_110 (by decide) ?_
                have hE : s_sync st (nI s) (nI w) = (0, (-1), st) := by
                  rw [s_sync_in his c12 c22 c37]
                  rw [s_syn2 hw c47 c59 c72, if_neg c91]
                exact rx_iret S P hQ hr hlk dX3_sync_111 hRw (hfl.trans (by rw [hE] <;> rfl)) (by rw [hE] <;> rfl) (by rw [hE] <;> rfl)
              · have _h := True.intro
                refine lv_aload_n hx hb dX3_sync_94 rfl (lv_at hl 0 rfl) ?_
                refine rx_ref 18 S P (by decide) q903 dX3_sync_95 ?_
                refine lv_bipush (v := 6) hx hb dX3_sync_98 (by decide) ?_
                refine lv_iload_n hx hb dX3_sync_100 rfl (lv_at hl 1 rfl) ?_
                refine ni_imul (a := 6) (b := s) hx hb dX3_sync_101 ?_
                refine lv_iload_n hx hb dX3_sync_102 rfl (lv_at hl 2 rfl) ?_
                refine ni_iadd (a := 6 * s) (b := w) hx hb dX3_sync_103 ?_
                refine lv_iconst (v := 2) hx hb dX3_sync_104 (by decide) ?_
                refine ni_isub (a := (6 * s) + w) (b := 2) hx hb (by omega) dX3_sync_105 ?_
                refine rx_ialdG 18 (((6 * s) + w) - 2) S P rfl rfl (by show _ < _; simp only [rN]; omega) dX3_sync_106 ?_
                refine lw_eqi (y := nI ((st.2.2 s).getD (w - 2) 0)) (by rw [show 6 * s + w - 2 = 6 * s + (w - 2) by omega]; exact (hRw s hs).2 (w - 2) c91) ?_
                refine lv_goto (tgt := 111) hx hb dX3_sync_107 (by decide) ?_
                have hE : s_sync st (nI s) (nI w) = (0, nI ((st.2.2 s).getD (w - 2) 0), st) := by
                  rw [s_sync_in his c12 c22 c37]
                  rw [s_syn2 hw c47 c59 c72, if_pos c91]
                exact rx_iret S P hQ hr hlk dX3_sync_111 hRw (hfl.trans (by rw [hE] <;> rfl)) (by rw [hE] <;> rfl) (by rw [hE] <;> rfl)
            · have _h := True.intro
              refine lv_aload_n hx hb dX3_sync_75 rfl (lv_at hl 0 rfl) ?_
              refine rx_ref 15 S P (by decide) q900 dX3_sync_76 ?_
              refine lv_iload_n hx hb dX3_sync_79 rfl (lv_at hl 1 rfl) ?_
              refine rx_iald 15 s S P rfl rfl (by show _ < _; simp only [rN]; omega) dX3_sync_80 ?_
              have hE : s_sync st (nI s) (nI w) = (0, st.1 15 s, st) := by
                rw [s_sync_in his c12 c22 c37]
                subst c72; rfl
              exact rx_iret S P hQ hr hlk dX3_sync_81 hRw (hfl.trans (by rw [hE] <;> rfl)) (by rw [hE] <;> rfl) (by rw [hE] <;> rfl)
          · have _h := True.intro
            refine lv_aload_n hx hb dX3_sync_62 rfl (lv_at hl 0 rfl) ?_
            refine rx_ref 19 S P (by decide) q904 dX3_sync_63 ?_
            refine lv_iload_n hx hb dX3_sync_66 rfl (lv_at hl 1 rfl) ?_
            refine rx_ialdG 19 s S P rfl rfl (by show _ < _; simp only [rN]; omega) dX3_sync_67 ?_
            refine lw_eqi (y := nI ((st.2.2 s).length)) ((hRw s hs).1) ?_
            have hE : s_sync st (nI s) (nI w) = (0, nI ((st.2.2 s).length), st) := by
              rw [s_sync_in his c12 c22 c37]
              subst c59; rfl
            exact rx_iret S P hQ hr hlk dX3_sync_68 hRw (hfl.trans (by rw [hE] <;> rfl)) (by rw [hE] <;> rfl) (by rw [hE] <;> rfl)
        · have _h := True.intro
          refine lv_aload_n hx hb dX3_sync_50 rfl (lv_at hl 0 rfl) ?_
          refine rx_ref 12 S P (by decide) q897 dX3_sync_51 ?_
          refine lv_iload_n hx hb dX3_sync_54 rfl (lv_at hl 1 rfl) ?_
          refine rx_iald 12 s S P rfl rfl (by show _ < _; simp only [rN]; omega) dX3_sync_55 ?_
          have hE : s_sync st (nI s) (nI w) = (0, st.1 12 s, st) := by
            rw [s_sync_in his c12 c22 c37]
            subst c47; rfl
          exact rx_iret S P hQ hr hlk dX3_sync_56 hRw (hfl.trans (by rw [hE] <;> rfl)) (by rw [hE] <;> rfl) (by rw [hE] <;> rfl)
      · have _h := True.intro
        refine lv_aload_n hx hb dX3_sync_40 rfl (lv_at hl 0 rfl) ?_
        refine lv_iconst (v := 2) hx hb dX3_sync_41 (by decide) ?_
        refine rx_c (nL' := 2) (rest := []) [.int 2] S P hRw hfl (rm_fail st 0 2) q977 q979 qs17 q980 q38 ⟨by decide +kernel, by decide +kernel, (by decide +kernel : (parseMethodDescriptor yX3_fail.desc).map (fun d => d.parameters.length) = some 1)⟩ dX3_sync_42 hl.1 (Nat.le_of_ble_eq_true rfl) ⟨Nat.le_of_ble_eq_true rfl, Nat.le_of_ble_eq_true rfl⟩ ⟨Nat.le_refl _, Nat.le_refl _⟩ (fun H locs x P hRw hfl => ?_)
        refine W.eq (g2 := F0 m 45 ls [.int 0]) rfl ?_
        have hE : s_sync st (nI s) (nI w) = (2, 0, st) := by
          simp [s_sync, his, c12, c22, c37]
        exact rx_iret S P hQ hr hlk dX3_sync_45 hRw (hfl.trans (by rw [hE] <;> rfl)) (by rw [hE] <;> rfl) (by rw [hE] <;> rfl)
    · rw [bI_eq0, Bool.not_eq_false] at c22
      refine lv_aload_n hx hb dX3_sync_25 rfl (lv_at hl 0 rfl) ?_
      refine lv_iconst (v := 1) hx hb dX3_sync_26 (by decide) ?_
      refine rx_c (nL' := 2) (rest := []) [.int 1] S P hRw hfl (rm_fail st 0 1) q977 q979 qs17 q980 q38 ⟨by decide +kernel, by decide +kernel, (by decide +kernel : (parseMethodDescriptor yX3_fail.desc).map (fun d => d.parameters.length) = some 1)⟩ dX3_sync_27 hl.1 (Nat.le_of_ble_eq_true rfl) ⟨Nat.le_of_ble_eq_true rfl, Nat.le_of_ble_eq_true rfl⟩ ⟨Nat.le_refl _, Nat.le_refl _⟩ (fun H locs x P hRw hfl => ?_)
      refine W.eq (g2 := F0 m 30 ls [.int 0]) rfl ?_
      have hE : s_sync st (nI s) wv = (1, 0, st) := by
        simp [s_sync, his, c12, c22]
      exact rx_iret S P hQ hr hlk dX3_sync_30 hRw (hfl.trans (by rw [hE] <;> rfl)) (by rw [hE] <;> rfl) (by rw [hE] <;> rfl)

set_option maxHeartbeats 4000000 in
set_option maxRecDepth 100000 in
theorem rm_waited {l : Launch} {D : va_G} {cs : Nat → ClassId} {r : Nat} {ad : Nat → Nat} {L : List Nat} (n : Nat) (st : St) (fl : Int32) (hok : Ok n st) (v : Int32) : RM l D cs yX3_waited cX3_waited 2 (some .double) (rmL 2 0 0) r ad L [.ref r, .int v] st fl (some (.double (s_waited st v).2)) st ((s_waited st v).1) := by
  refine rm_of rfl (Nat.le_of_ble_eq_true rfl) ?_
  intro f0 x sz p e u m below meth c S P hRw hfl hr hlk ls hl Q hQ
  have hl : lv_has ls 2 [(0, .ref r), (1, .int v)] := hl
  have hx := S.1
  have hb := S.2.1
  generalize u.heap = H at P ⊢
  generalize ([] : List Loc) = locs at P ⊢
  refine lv_aload_n hx hb dX3_waited_0 rfl (lv_at hl 0 rfl) ?_
  refine lv_iconst (v := 0) hx hb dX3_waited_1 (by decide) ?_
  refine rx_putF (v := 0) 0 S P rfl rfl rfl rfl q885 dX3_waited_2 (fun H locs P => ?_)
  obtain ⟨x, P, hRw, hfl⟩ := rw_fl (v := 0) P hRw
  refine lv_aload_n hx hb dX3_waited_5 rfl (lv_at hl 0 rfl) ?_
  refine lv_iload_n hx hb dX3_waited_6 rfl (lv_at hl 1 rfl) ?_
  refine lv_bipush (v := 8) hx hb dX3_waited_7 (by decide) ?_
  refine rx_c (nL' := 3) (rest := []) [.int v, .int 8] S P hRw hfl (rm_out st 0 v 8) q973 q975 qs16 q976 q38 ⟨by decide +kernel, by decide +kernel, (by decide +kernel : (parseMethodDescriptor yX3_out.desc).map (fun d => d.parameters.length) = some 2)⟩ dX3_waited_9 hl.1 (Nat.le_of_ble_eq_true rfl) ⟨Nat.le_of_ble_eq_true rfl, Nat.le_of_ble_eq_true rfl⟩ ⟨Nat.le_refl _, Nat.le_refl _⟩ (fun H locs x P hRw hfl => ?_)
  refine W.eq (g2 := F0 m 12 ls [.int (bI (isOut v 8))]) rfl ?_
  refine lv_if_eq (tgt := 22) (x := bI (isOut v 8)) hx hb dX3_waited_12 (by decide) (fun c12 => ?_) (fun c12 => ?_)
  · rw [bI_eq0] at c12
    obtain ⟨s, hs, rfl⟩ := isOut_f (N := 8) rfl (by decide) c12
    have his := iN_nI (N := 8) hs (by decide)
    refine lv_aload_n hx hb dX3_waited_22 rfl (lv_at hl 0 rfl) ?_
    refine rx_ref 12 S P (by decide) q897 dX3_waited_23 ?_
    refine lv_iload_n hx hb dX3_waited_26 rfl (lv_at hl 1 rfl) ?_
    refine rx_iald 12 s S P rfl rfl (by show _ < _; simp only [rN]; omega) dX3_waited_27 ?_
    refine lw_if_ge (tgt := 38) (x := st.1 12 s) hx hb dX3_waited_28 (by decide) (fun c28 => ?_) (fun c28 => ?_)
    · have _h := True.intro
      refine lv_aload_n hx hb dX3_waited_38 rfl (lv_at hl 0 rfl) ?_
      refine rx_ref 21 S P (by decide) q906 dX3_waited_39 ?_
      refine lv_iload_n hx hb dX3_waited_42 rfl (lv_at hl 1 rfl) ?_
      refine rx_iald 21 s S P rfl rfl (by show _ < _; simp only [rN]; omega) dX3_waited_43 ?_
      refine lv_if_ne (tgt := 54) (x := st.1 21 s) hx hb dX3_waited_44 (by decide) (fun c44 => ?_) (fun c44 => ?_)
      · have _h := True.intro
        refine lv_aload_n hx hb dX3_waited_54 rfl (lv_at hl 0 rfl) ?_
        refine rx_ref 20 S P (by decide) q905 dX3_waited_55 ?_
        refine lv_iload_n hx hb dX3_waited_58 rfl (lv_at hl 1 rfl) ?_
        refine rx_dald 20 s S P rfl (by show _ < _; simp only [rN]; omega) dX3_waited_59 ?_
        refine lv_aload_n hx hb dX3_waited_60 rfl (lv_at hl 0 rfl) ?_
        refine rx_ref 21 S P (by decide) q906 dX3_waited_61 ?_
        refine lv_iload_n hx hb dX3_waited_64 rfl (lv_at hl 1 rfl) ?_
        refine rx_iald 21 s S P rfl rfl (by show _ < _; simp only [rN]; omega) dX3_waited_65 ?_
        refine lv_i2d hx hb dX3_waited_66 ?_
        refine lv_ddiv hx hb dX3_waited_67 (fb_ddiv (hok.db.2.2 s hs) c44) ?_
        have hE : s_waited st (nI s) = (0, FP.ddiv (st.2.1 20 s) (FP.i2d (st.1 21 s))) := by
          simp [s_waited, his, c12, c28, c44]
        exact rx_dret S P hQ hr hlk dX3_waited_68 hRw (hfl.trans (by rw [hE] <;> rfl)) (by rw [hE] <;> rfl) rfl
      · have _h := True.intro
        refine lv_aload_n hx hb dX3_waited_47 rfl (lv_at hl 0 rfl) ?_
        refine lv_iconst (v := 3) hx hb dX3_waited_48 (by decide) ?_
        refine rx_c (nL' := 2) (rest := []) [.int 3] S P hRw hfl (rm_fail st 0 3) q977 q979 qs17 q980 q38 ⟨by decide +kernel, by decide +kernel, (by decide +kernel : (parseMethodDescriptor yX3_fail.desc).map (fun d => d.parameters.length) = some 1)⟩ dX3_waited_49 hl.1 (Nat.le_of_ble_eq_true rfl) ⟨Nat.le_of_ble_eq_true rfl, Nat.le_of_ble_eq_true rfl⟩ ⟨Nat.le_refl _, Nat.le_refl _⟩ (fun H locs x P hRw hfl => ?_)
        refine W.eq (g2 := F0 m 52 ls [.int 0]) rfl ?_
        refine lv_i2d hx hb dX3_waited_52 ?_
        have hE : s_waited st (nI s) = (3, FP.i2d 0) := by
          simp [s_waited, his, c12, c28, c44]
        exact rx_dret S P hQ hr hlk dX3_waited_53 hRw (hfl.trans (by rw [hE] <;> rfl)) (by rw [hE] <;> rfl) rfl
    · have _h := True.intro
      refine lv_aload_n hx hb dX3_waited_31 rfl (lv_at hl 0 rfl) ?_
      refine lv_iconst (v := 2) hx hb dX3_waited_32 (by decide) ?_
      refine rx_c (nL' := 2) (rest := []) [.int 2] S P hRw hfl (rm_fail st 0 2) q977 q979 qs17 q980 q38 ⟨by decide +kernel, by decide +kernel, (by decide +kernel : (parseMethodDescriptor yX3_fail.desc).map (fun d => d.parameters.length) = some 1)⟩ dX3_waited_33 hl.1 (Nat.le_of_ble_eq_true rfl) ⟨Nat.le_of_ble_eq_true rfl, Nat.le_of_ble_eq_true rfl⟩ ⟨Nat.le_refl _, Nat.le_refl _⟩ (fun H locs x P hRw hfl => ?_)
      refine W.eq (g2 := F0 m 36 ls [.int 0]) rfl ?_
      refine lv_i2d hx hb dX3_waited_36 ?_
      have hE : s_waited st (nI s) = (2, FP.i2d 0) := by
        simp [s_waited, his, c12, c28]
      exact rx_dret S P hQ hr hlk dX3_waited_37 hRw (hfl.trans (by rw [hE] <;> rfl)) (by rw [hE] <;> rfl) rfl
  · rw [bI_eq0, Bool.not_eq_false] at c12
    refine lv_aload_n hx hb dX3_waited_15 rfl (lv_at hl 0 rfl) ?_
    refine lv_iconst (v := 1) hx hb dX3_waited_16 (by decide) ?_
    refine rx_c (nL' := 2) (rest := []) [.int 1] S P hRw hfl (rm_fail st 0 1) q977 q979 qs17 q980 q38 ⟨by decide +kernel, by decide +kernel, (by decide +kernel : (parseMethodDescriptor yX3_fail.desc).map (fun d => d.parameters.length) = some 1)⟩ dX3_waited_17 hl.1 (Nat.le_of_ble_eq_true rfl) ⟨Nat.le_of_ble_eq_true rfl, Nat.le_of_ble_eq_true rfl⟩ ⟨Nat.le_refl _, Nat.le_refl _⟩ (fun H locs x P hRw hfl => ?_)
    refine W.eq (g2 := F0 m 20 ls [.int 0]) rfl ?_
    refine lv_i2d hx hb dX3_waited_20 ?_
    have hE : s_waited st v = (1, FP.i2d 0) := by
      simp [s_waited, c12]
    exact rx_dret S P hQ hr hlk dX3_waited_21 hRw (hfl.trans (by rw [hE] <;> rfl)) (by rw [hE] <;> rfl) rfl

set_option maxHeartbeats 4000000 in
set_option maxRecDepth 100000 in
theorem rm_make {l : Launch} {D : va_G} {cs : Nat → ClassId} {r : Nat} {ad : Nat → Nat} {L : List Nat} (n : Nat) (st : St) (fl : Int32) (hok : Ok n st) (sv k a : Int32) : RM l D cs yX3_make cX3_make 7 (some .int) (rmL 2 0 0) r ad L [.ref r, .int sv, .int k, .int a] st fl (some (.int (s_make st sv k a).2.1)) ((s_make st sv k a).2.2) ((s_make st sv k a).1) := by
  refine rm_of rfl (Nat.le_of_ble_eq_true rfl) ?_
  intro f0 x sz p e u m below meth c S P hRw hfl hr hlk ls hl Q hQ
  have hl : lv_has ls 7 [(0, .ref r), (1, .int sv), (2, .int k), (3, .int a)] := hl
  have hx := S.1
  have hb := S.2.1
  generalize u.heap = H at P ⊢
  generalize ([] : List Loc) = locs at P ⊢
  refine lv_aload_n hx hb dX3_make_0 rfl (lv_at hl 0 rfl) ?_
  refine lv_iconst (v := 0) hx hb dX3_make_1 (by decide) ?_
  refine rx_putF (v := 0) 0 S P rfl rfl rfl rfl q885 dX3_make_2 (fun H locs P => ?_)
  obtain ⟨x, P, hRw, hfl⟩ := rw_fl (v := 0) P hRw
  refine lv_iload_n hx hb dX3_make_5 rfl (lv_at hl 2 rfl) ?_
  refine lv_iconst (v := 2) hx hb dX3_make_6 (by decide) ?_
  refine lv_icmp_lt (tgt := 19) (x := k) (y := 2) hx hb dX3_make_7 (by decide) (fun c7 => ?_) (fun c7 => ?_)
  · have _h := True.intro
    refine lv_iload_n hx hb dX3_make_19 rfl (lv_at hl 2 rfl) ?_
    refine lv_bipush (v := 6) hx hb dX3_make_20 (by decide) ?_
    refine lv_icmp_ne (tgt := 30) (x := k) (y := 6) hx hb dX3_make_22 (by decide) (fun c22 => ?_) (fun c22 => ?_)
    · have _h := True.intro
      refine lv_iconst (v := 0) hx hb dX3_make_30 (by decide) ?_
      refine lv_istore (lv' := [(4, .int 0), (0, .ref r), (1, .int sv), (2, .int k), (3, .int a)]) hx hb dX3_make_31 hl (by decide) rfl (fun ls hl => ?_)
      refine lv_aload_n hx hb dX3_make_33 rfl (lv_at hl 1 rfl) ?_
      refine lv_iload_n hx hb dX3_make_34 rfl (lv_at hl 2 rfl) ?_
      refine lv_bipush (v := 8) hx hb dX3_make_35 (by decide) ?_
      refine rx_c (nL' := 3) (rest := []) [.int sv, .int 8] S P hRw hfl (rm_out st 0 sv 8) q973 q975 qs16 q976 q38 ⟨by decide +kernel, by decide +kernel, (by decide +kernel : (parseMethodDescriptor yX3_out.desc).map (fun d => d.parameters.length) = some 2)⟩ dX3_make_37 hl.1 (Nat.le_of_ble_eq_true rfl) ⟨Nat.le_of_ble_eq_true rfl, Nat.le_of_ble_eq_true rfl⟩ ⟨Nat.le_refl _, Nat.le_refl _⟩ (fun H locs x P hRw hfl => ?_)
      refine W.eq (g2 := F0 m 40 ls [.int (bI (isOut sv 8))]) rfl ?_
      refine lv_if_ne (tgt := 65) (x := bI (isOut sv 8)) hx hb dX3_make_40 (by decide) (fun c40 => ?_) (fun c40 => ?_)
      · rw [bI_eq0, Bool.not_eq_false] at c40
        refine lv_aload_n hx hb dX3_make_65 rfl (lv_at hl 1 rfl) ?_
        refine lv_iconst (v := 1) hx hb dX3_make_66 (by decide) ?_
        refine rx_c (nL' := 2) (rest := []) [.int 1] S P hRw hfl (rm_fail st 0 1) q977 q979 qs17 q980 q38 ⟨by decide +kernel, by decide +kernel, (by decide +kernel : (parseMethodDescriptor yX3_fail.desc).map (fun d => d.parameters.length) = some 1)⟩ dX3_make_67 hl.1 (Nat.le_of_ble_eq_true rfl) ⟨Nat.le_of_ble_eq_true rfl, Nat.le_of_ble_eq_true rfl⟩ ⟨Nat.le_refl _, Nat.le_refl _⟩ (fun H locs x P hRw hfl => ?_)
        refine W.eq (g2 := F0 m 70 ls [.int 0]) rfl ?_
        have hE : s_make st sv k a = (1, 0, st) := by
          simp [s_make, s_most, c7, c22, c40]
        exact rx_iret S P hQ hr hlk dX3_make_70 hRw (hfl.trans (by rw [hE] <;> rfl)) (by rw [hE] <;> rfl) (by rw [hE] <;> rfl)
      · rw [bI_eq0] at c40
        refine lv_aload_n hx hb dX3_make_43 rfl (lv_at hl 1 rfl) ?_
        refine lv_iload_n hx hb dX3_make_44 rfl (lv_at hl 3 rfl) ?_
        refine lv_bipush (v := 7) hx hb dX3_make_45 (by decide) ?_
        refine rx_c (nL' := 3) (rest := []) [.int k, .int 7] S P hRw hfl (rm_out st 0 k 7) q973 q975 qs16 q976 q38 ⟨by decide +kernel, by decide +kernel, (by decide +kernel : (parseMethodDescriptor yX3_out.desc).map (fun d => d.parameters.length) = some 2)⟩ dX3_make_47 hl.1 (Nat.le_of_ble_eq_true rfl) ⟨Nat.le_of_ble_eq_true rfl, Nat.le_of_ble_eq_true rfl⟩ ⟨Nat.le_refl _, Nat.le_refl _⟩ (fun H locs x P hRw hfl => ?_)
        refine W.eq (g2 := F0 m 50 ls [.int (bI (isOut k 7))]) rfl ?_
        refine lv_if_ne (tgt := 65) (x := bI (isOut k 7)) hx hb dX3_make_50 (by decide) (fun c50 => ?_) (fun c50 => ?_)
        · rw [bI_eq0, Bool.not_eq_false] at c50
          refine lv_aload_n hx hb dX3_make_65 rfl (lv_at hl 1 rfl) ?_
          refine lv_iconst (v := 1) hx hb dX3_make_66 (by decide) ?_
          refine rx_c (nL' := 2) (rest := []) [.int 1] S P hRw hfl (rm_fail st 0 1) q977 q979 qs17 q980 q38 ⟨by decide +kernel, by decide +kernel, (by decide +kernel : (parseMethodDescriptor yX3_fail.desc).map (fun d => d.parameters.length) = some 1)⟩ dX3_make_67 hl.1 (Nat.le_of_ble_eq_true rfl) ⟨Nat.le_of_ble_eq_true rfl, Nat.le_of_ble_eq_true rfl⟩ ⟨Nat.le_refl _, Nat.le_refl _⟩ (fun H locs x P hRw hfl => ?_)
          refine W.eq (g2 := F0 m 70 ls [.int 0]) rfl ?_
          have hE : s_make st sv k a = (1, 0, st) := by
            simp [s_make, s_most, c7, c22, c40, c50]
          exact rx_iret S P hQ hr hlk dX3_make_70 hRw (hfl.trans (by rw [hE] <;> rfl)) (by rw [hE] <;> rfl) (by rw [hE] <;> rfl)
        · rw [bI_eq0] at c50
          refine lv_aload_n hx hb dX3_make_53 rfl (lv_at hl 1 rfl) ?_
          refine lv_iload_n hx hb dX3_make_54 rfl (lv_at hl 4 rfl) ?_
          refine lv_iload hx hb dX3_make_55 (lv_at hl 0 rfl) ?_
          refine lv_iconst (v := 1) hx hb dX3_make_57 (by decide) ?_
          refine lv_iadd hx hb dX3_make_58 ?_
          refine lw_eqi (y := 1) (by decide) ?_
          refine rx_c (nL' := 3) (rest := []) [.int a, .int 1] S P hRw hfl (rm_out st 0 a 1) q973 q975 qs16 q976 q38 ⟨by decide +kernel, by decide +kernel, (by decide +kernel : (parseMethodDescriptor yX3_out.desc).map (fun d => d.parameters.length) = some 2)⟩ dX3_make_59 hl.1 (Nat.le_of_ble_eq_true rfl) ⟨Nat.le_of_ble_eq_true rfl, Nat.le_of_ble_eq_true rfl⟩ ⟨Nat.le_refl _, Nat.le_refl _⟩ (fun H locs x P hRw hfl => ?_)
          refine W.eq (g2 := F0 m 62 ls [.int (bI (isOut a 1))]) rfl ?_
          refine lv_if_eq (tgt := 71) (x := bI (isOut a 1)) hx hb dX3_make_62 (by decide) (fun c62 => ?_) (fun c62 => ?_)
          · rw [bI_eq0] at c62
            obtain ⟨s, hs, rfl⟩ := isOut_f (N := 8) rfl (by decide) c40
            have his := iN_nI (N := 8) hs (by decide)
            refine lv_iload_n hx hb dX3_make_71 rfl (lv_at hl 3 rfl) ?_
            refine lv_bipush (v := 6) hx hb dX3_make_72 (by decide) ?_
            refine lv_icmp_ne (tgt := 102) (x := k) (y := 6) hx hb dX3_make_74 (by decide) (fun c74 => ?_) (fun c74 => ?_)
            · have _h := True.intro
              refine lv_aload_n hx hb dX3_make_102 rfl (lv_at hl 1 rfl) ?_
              refine rx_ref 12 S P (by decide) q897 dX3_make_103 ?_
              refine lv_iload_n hx hb dX3_make_106 rfl (lv_at hl 2 rfl) ?_
              refine rx_iald 12 s S P rfl rfl (by show _ < _; simp only [rN]; omega) dX3_make_107 ?_
              refine lv_if_lt (tgt := 117) (x := st.1 12 s) hx hb dX3_make_108 (by decide) (fun c108 => ?_) (fun c108 => ?_)
              · have _h := True.intro
                refine lv_aload_n hx hb dX3_make_117 rfl (lv_at hl 1 rfl) ?_
                refine rx_ref 12 S P (by decide) q897 dX3_make_118 ?_
                refine lv_iload_n hx hb dX3_make_121 rfl (lv_at hl 2 rfl) ?_
                refine lv_iload_n hx hb dX3_make_122 rfl (lv_at hl 3 rfl) ?_
                refine rx_iast (v := k) 12 s S P rfl rfl (by show _ < _; simp only [rN]; omega) dX3_make_123 (fun H locs P => ?_)
                refine lv_aload_n hx hb dX3_make_124 rfl (lv_at hl 1 rfl) ?_
                refine rx_ref 15 S P (by decide) q900 dX3_make_125 ?_
                refine lv_iload_n hx hb dX3_make_128 rfl (lv_at hl 2 rfl) ?_
                refine lv_iload_n hx hb dX3_make_129 rfl (lv_at hl 3 rfl) ?_
                refine lv_iconst (v := 2) hx hb dX3_make_130 (by decide) ?_
                refine lv_icmp_lt (tgt := 143) (x := k) (y := 2) hx hb dX3_make_131 (by decide) (fun c131 => ?_) (fun c131 => ?_)
                · have _h := True.intro
                  refine lv_iconst (v := 0) hx hb dX3_make_143 (by decide) ?_
                  refine rx_iast (v := 0) 15 s S P rfl rfl (by show _ < _; simp only [rN]; omega) dX3_make_144 (fun H locs P => ?_)
                  refine lv_aload_n hx hb dX3_make_145 rfl (lv_at hl 1 rfl) ?_
                  refine rx_ref 16 S P (by decide) q901 dX3_make_146 ?_
                  refine lv_iload_n hx hb dX3_make_149 rfl (lv_at hl 2 rfl) ?_
                  refine lv_iload_n hx hb dX3_make_150 rfl (lv_at hl 3 rfl) ?_
                  refine lv_bipush (v := 6) hx hb dX3_make_151 (by decide) ?_
                  refine lv_icmp_ne (tgt := 160) (x := k) (y := 6) hx hb dX3_make_153 (by decide) (fun c153 => ?_) (fun c153 => ?_)
                  · have _h := True.intro
                    refine lv_iconst (v := (-1)) hx hb dX3_make_160 (by decide) ?_
                    refine rx_iast (v := (-1)) 16 s S P rfl rfl (by show _ < _; simp only [rN]; omega) dX3_make_161 (fun H locs P => ?_)
                    refine lv_iconst (v := 0) hx hb dX3_make_162 (by decide) ?_
                    refine lv_istore (lv' := [(5, .int 0), (4, .int 0), (0, .ref r), (1, .int (nI s)), (2, .int k), (3, .int a)]) hx hb dX3_make_163 hl (by decide) rfl (fun ls hl => ?_)
                    refine lv_iconst (v := 0) hx hb dX3_make_165 (by decide) ?_
                    refine lv_istore (lv' := [(6, .int 0), (5, .int 0), (4, .int 0), (0, .ref r), (1, .int (nI s)), (2, .int k), (3, .int a)]) hx hb dX3_make_166 hl (by decide) rfl (fun ls hl => ?_)
                    have loop168 : ∀ (d : Nat) (i : Nat) (nv : Int32), 8 - i < d → (i ≤ 8) → (nv = s_cnt (sI (sI (sI st 12 s k) 15 s 0) 16 s (-1)) i) → ∀ (H : Heap) (locs : List Loc), RX D cs (pA L sz) u r ad L f0 (sI (sI (sI st 12 s k) 15 s 0) 16 s (-1)) x H locs → ∀ (ls : Array Slot), lv_has ls 7 [(6, .int (nI i)), (5, .int nv), (0, .ref r)] → W p l e (rmL 2 0 0) u m ([.ref r, .int (nI s), .int k, .int a] : List Value).toArray below meth c H locs 0 0 Q (F0 m 168 ls []) := by
                      intro d168
                      induction d168 with
                      | zero => intro i nv hd; exact absurd hd (by omega)
                      | succ d168 ih168 =>
                        intro i nv hd168 hi hnv H locs P ls hl
                        refine lv_iload hx hb dX3_make_168 (lv_at hl 0 rfl) ?_
                        refine lv_bipush (v := 8) hx hb dX3_make_170 (by decide) ?_
                        refine ni_icmp_ge (tgt := 201) (a := i) (b := 8) hx hb (by omega) (by omega) dX3_make_172 (by decide) (fun c172 => ?_) (fun c172 => ?_)
                        · have _h := True.intro
                          refine lv_iload hx hb dX3_make_201 (lv_at hl 1 rfl) ?_
                          have hE : s_make st (nI s) k a = (0, nv, sI (sI (sI st 12 s k) 15 s 0) 16 s (-1)) := by
                            rw [hnv, show i = 8 by omega]
                            simp [s_make, s_most, his, c7, c22, c40, c50, c62, c74, c108, c131, c153]
                          exact rx_iret S P hQ hr hlk dX3_make_203 hRw (hfl.trans (by rw [hE] <;> rfl)) (by rw [hE] <;> rfl) (by rw [hE] <;> rfl)
                        · have _h := True.intro
                          refine lv_iload hx hb dX3_make_175 (lv_at hl 1 rfl) ?_
                          refine lv_aload_n hx hb dX3_make_177 rfl (lv_at hl 2 rfl) ?_
                          refine rx_ref 12 S P (by decide) q897 dX3_make_178 ?_
                          refine lv_iload hx hb dX3_make_181 (lv_at hl 0 rfl) ?_
                          refine rx_iald 12 i S P rfl rfl (by show _ < _; simp only [rN]; omega) dX3_make_183 ?_
                          refine lv_if_lt (tgt := 191) (x := (sI st 12 s k).1 12 i) hx hb dX3_make_184 (by decide) (fun c184 => ?_) (fun c184 => ?_)
                          · have _h := True.intro
                            refine lv_iconst (v := 0) hx hb dX3_make_191 (by decide) ?_
                            refine lv_iadd hx hb dX3_make_192 ?_
                            refine lv_istore (lv' := [(5, .int (nv + 0)), (6, .int (nI i)), (0, .ref r)]) hx hb dX3_make_193 hl (by decide) rfl (fun ls hl => ?_)
                            refine lv_iinc (v := nI (i + 1)) (lv' := [(6, .int (nI (i + 1))), (5, .int (nv + 0)), (0, .ref r)]) hx hb dX3_make_195 hl (k := 1) rfl (nI_1 _) (by decide) rfl (fun ls hl => ?_)
                            refine lv_goto (tgt := 168) hx hb dX3_make_198 (by decide) ?_
                            exact ih168 (i + 1) (nv + 0) (by omega) (by omega) (by
                              rw [hnv]
                              exact congrArg (fun z => s_cnt (sI (sI (sI st 12 s k) 15 s 0) 16 s (-1)) i + z) (if_neg (fun z => z c184)).symm) _ _ P ls (lv_sub hl [0, 1, 2] rfl)
                          · have _h := True.intro
                            refine lv_iconst (v := 1) hx hb dX3_make_187 (by decide) ?_
                            refine lv_goto (tgt := 192) hx hb dX3_make_188 (by decide) ?_
                            refine lv_iadd hx hb dX3_make_192 ?_
                            refine lv_istore (lv' := [(5, .int (nv + 1)), (6, .int (nI i)), (0, .ref r)]) hx hb dX3_make_193 hl (by decide) rfl (fun ls hl => ?_)
                            refine lv_iinc (v := nI (i + 1)) (lv' := [(6, .int (nI (i + 1))), (5, .int (nv + 1)), (0, .ref r)]) hx hb dX3_make_195 hl (k := 1) rfl (nI_1 _) (by decide) rfl (fun ls hl => ?_)
                            refine lv_goto (tgt := 168) hx hb dX3_make_198 (by decide) ?_
                            exact ih168 (i + 1) (nv + 1) (by omega) (by omega) (by
                              rw [hnv]
                              exact congrArg (fun z => s_cnt (sI (sI (sI st 12 s k) 15 s 0) 16 s (-1)) i + z) (if_pos c184).symm) _ _ P ls (lv_sub hl [0, 1, 2] rfl)
                    exact loop168 _ 0 0 (Nat.lt_succ_self _) (by omega) rfl _ _ P ls (lv_sub hl [0, 1, 3] (rfl))
                  · exact absurd c153 c74
                · exact absurd c7 c131
              · have _h := True.intro
                refine lv_aload_n hx hb dX3_make_111 rfl (lv_at hl 1 rfl) ?_
                refine lv_iconst (v := 3) hx hb dX3_make_112 (by decide) ?_
                refine rx_c (nL' := 2) (rest := []) [.int 3] S P hRw hfl (rm_fail st 0 3) q977 q979 qs17 q980 q38 ⟨by decide +kernel, by decide +kernel, (by decide +kernel : (parseMethodDescriptor yX3_fail.desc).map (fun d => d.parameters.length) = some 1)⟩ dX3_make_113 hl.1 (Nat.le_of_ble_eq_true rfl) ⟨Nat.le_of_ble_eq_true rfl, Nat.le_of_ble_eq_true rfl⟩ ⟨Nat.le_refl _, Nat.le_refl _⟩ (fun H locs x P hRw hfl => ?_)
                refine W.eq (g2 := F0 m 116 ls [.int 0]) rfl ?_
                have hE : s_make st (nI s) k a = (3, 0, st) := by
                  simp [s_make, s_most, his, c7, c22, c40, c50, c62, c74, c108]
                exact rx_iret S P hQ hr hlk dX3_make_116 hRw (hfl.trans (by rw [hE] <;> rfl)) (by rw [hE] <;> rfl) (by rw [hE] <;> rfl)
            · exact absurd c74 c22
          · rw [bI_eq0, Bool.not_eq_false] at c62
            refine lv_aload_n hx hb dX3_make_65 rfl (lv_at hl 1 rfl) ?_
            refine lv_iconst (v := 1) hx hb dX3_make_66 (by decide) ?_
            refine rx_c (nL' := 2) (rest := []) [.int 1] S P hRw hfl (rm_fail st 0 1) q977 q979 qs17 q980 q38 ⟨by decide +kernel, by decide +kernel, (by decide +kernel : (parseMethodDescriptor yX3_fail.desc).map (fun d => d.parameters.length) = some 1)⟩ dX3_make_67 hl.1 (Nat.le_of_ble_eq_true rfl) ⟨Nat.le_of_ble_eq_true rfl, Nat.le_of_ble_eq_true rfl⟩ ⟨Nat.le_refl _, Nat.le_refl _⟩ (fun H locs x P hRw hfl => ?_)
            refine W.eq (g2 := F0 m 70 ls [.int 0]) rfl ?_
            have hE : s_make st sv k a = (1, 0, st) := by
              simp [s_make, s_most, c7, c22, c40, c50, c62]
            exact rx_iret S P hQ hr hlk dX3_make_70 hRw (hfl.trans (by rw [hE] <;> rfl)) (by rw [hE] <;> rfl) (by rw [hE] <;> rfl)
    · have _h := True.intro
      exact absurd c7 (by rw [c22]; decide)
  · have _h := True.intro
    refine lv_iload_n hx hb dX3_make_10 rfl (lv_at hl 2 rfl) ?_
    refine lv_iconst (v := 4) hx hb dX3_make_11 (by decide) ?_
    refine lv_icmp_gt (tgt := 19) (x := k) (y := 4) hx hb dX3_make_12 (by decide) (fun c12 => ?_) (fun c12 => ?_)
    · have _h := True.intro
      refine lv_iload_n hx hb dX3_make_19 rfl (lv_at hl 2 rfl) ?_
      refine lv_bipush (v := 6) hx hb dX3_make_20 (by decide) ?_
      refine lv_icmp_ne (tgt := 30) (x := k) (y := 6) hx hb dX3_make_22 (by decide) (fun c22 => ?_) (fun c22 => ?_)
      · have _h := True.intro
        refine lv_iconst (v := 0) hx hb dX3_make_30 (by decide) ?_
        refine lv_istore (lv' := [(4, .int 0), (0, .ref r), (1, .int sv), (2, .int k), (3, .int a)]) hx hb dX3_make_31 hl (by decide) rfl (fun ls hl => ?_)
        refine lv_aload_n hx hb dX3_make_33 rfl (lv_at hl 1 rfl) ?_
        refine lv_iload_n hx hb dX3_make_34 rfl (lv_at hl 2 rfl) ?_
        refine lv_bipush (v := 8) hx hb dX3_make_35 (by decide) ?_
        refine rx_c (nL' := 3) (rest := []) [.int sv, .int 8] S P hRw hfl (rm_out st 0 sv 8) q973 q975 qs16 q976 q38 ⟨by decide +kernel, by decide +kernel, (by decide +kernel : (parseMethodDescriptor yX3_out.desc).map (fun d => d.parameters.length) = some 2)⟩ dX3_make_37 hl.1 (Nat.le_of_ble_eq_true rfl) ⟨Nat.le_of_ble_eq_true rfl, Nat.le_of_ble_eq_true rfl⟩ ⟨Nat.le_refl _, Nat.le_refl _⟩ (fun H locs x P hRw hfl => ?_)
        refine W.eq (g2 := F0 m 40 ls [.int (bI (isOut sv 8))]) rfl ?_
        refine lv_if_ne (tgt := 65) (x := bI (isOut sv 8)) hx hb dX3_make_40 (by decide) (fun c40 => ?_) (fun c40 => ?_)
        · rw [bI_eq0, Bool.not_eq_false] at c40
          refine lv_aload_n hx hb dX3_make_65 rfl (lv_at hl 1 rfl) ?_
          refine lv_iconst (v := 1) hx hb dX3_make_66 (by decide) ?_
          refine rx_c (nL' := 2) (rest := []) [.int 1] S P hRw hfl (rm_fail st 0 1) q977 q979 qs17 q980 q38 ⟨by decide +kernel, by decide +kernel, (by decide +kernel : (parseMethodDescriptor yX3_fail.desc).map (fun d => d.parameters.length) = some 1)⟩ dX3_make_67 hl.1 (Nat.le_of_ble_eq_true rfl) ⟨Nat.le_of_ble_eq_true rfl, Nat.le_of_ble_eq_true rfl⟩ ⟨Nat.le_refl _, Nat.le_refl _⟩ (fun H locs x P hRw hfl => ?_)
          refine W.eq (g2 := F0 m 70 ls [.int 0]) rfl ?_
          have hE : s_make st sv k a = (1, 0, st) := by
            simp [s_make, s_most, c7, c12, c22, c40]
          exact rx_iret S P hQ hr hlk dX3_make_70 hRw (hfl.trans (by rw [hE] <;> rfl)) (by rw [hE] <;> rfl) (by rw [hE] <;> rfl)
        · rw [bI_eq0] at c40
          refine lv_aload_n hx hb dX3_make_43 rfl (lv_at hl 1 rfl) ?_
          refine lv_iload_n hx hb dX3_make_44 rfl (lv_at hl 3 rfl) ?_
          refine lv_bipush (v := 7) hx hb dX3_make_45 (by decide) ?_
          refine rx_c (nL' := 3) (rest := []) [.int k, .int 7] S P hRw hfl (rm_out st 0 k 7) q973 q975 qs16 q976 q38 ⟨by decide +kernel, by decide +kernel, (by decide +kernel : (parseMethodDescriptor yX3_out.desc).map (fun d => d.parameters.length) = some 2)⟩ dX3_make_47 hl.1 (Nat.le_of_ble_eq_true rfl) ⟨Nat.le_of_ble_eq_true rfl, Nat.le_of_ble_eq_true rfl⟩ ⟨Nat.le_refl _, Nat.le_refl _⟩ (fun H locs x P hRw hfl => ?_)
          refine W.eq (g2 := F0 m 50 ls [.int (bI (isOut k 7))]) rfl ?_
          refine lv_if_ne (tgt := 65) (x := bI (isOut k 7)) hx hb dX3_make_50 (by decide) (fun c50 => ?_) (fun c50 => ?_)
          · rw [bI_eq0, Bool.not_eq_false] at c50
            refine lv_aload_n hx hb dX3_make_65 rfl (lv_at hl 1 rfl) ?_
            refine lv_iconst (v := 1) hx hb dX3_make_66 (by decide) ?_
            refine rx_c (nL' := 2) (rest := []) [.int 1] S P hRw hfl (rm_fail st 0 1) q977 q979 qs17 q980 q38 ⟨by decide +kernel, by decide +kernel, (by decide +kernel : (parseMethodDescriptor yX3_fail.desc).map (fun d => d.parameters.length) = some 1)⟩ dX3_make_67 hl.1 (Nat.le_of_ble_eq_true rfl) ⟨Nat.le_of_ble_eq_true rfl, Nat.le_of_ble_eq_true rfl⟩ ⟨Nat.le_refl _, Nat.le_refl _⟩ (fun H locs x P hRw hfl => ?_)
            refine W.eq (g2 := F0 m 70 ls [.int 0]) rfl ?_
            have hE : s_make st sv k a = (1, 0, st) := by
              simp [s_make, s_most, c7, c12, c22, c40, c50]
            exact rx_iret S P hQ hr hlk dX3_make_70 hRw (hfl.trans (by rw [hE] <;> rfl)) (by rw [hE] <;> rfl) (by rw [hE] <;> rfl)
          · rw [bI_eq0] at c50
            refine lv_aload_n hx hb dX3_make_53 rfl (lv_at hl 1 rfl) ?_
            refine lv_iload_n hx hb dX3_make_54 rfl (lv_at hl 4 rfl) ?_
            refine lv_iload hx hb dX3_make_55 (lv_at hl 0 rfl) ?_
            refine lv_iconst (v := 1) hx hb dX3_make_57 (by decide) ?_
            refine lv_iadd hx hb dX3_make_58 ?_
            refine lw_eqi (y := 1) (by decide) ?_
            refine rx_c (nL' := 3) (rest := []) [.int a, .int 1] S P hRw hfl (rm_out st 0 a 1) q973 q975 qs16 q976 q38 ⟨by decide +kernel, by decide +kernel, (by decide +kernel : (parseMethodDescriptor yX3_out.desc).map (fun d => d.parameters.length) = some 2)⟩ dX3_make_59 hl.1 (Nat.le_of_ble_eq_true rfl) ⟨Nat.le_of_ble_eq_true rfl, Nat.le_of_ble_eq_true rfl⟩ ⟨Nat.le_refl _, Nat.le_refl _⟩ (fun H locs x P hRw hfl => ?_)
            refine W.eq (g2 := F0 m 62 ls [.int (bI (isOut a 1))]) rfl ?_
            refine lv_if_eq (tgt := 71) (x := bI (isOut a 1)) hx hb dX3_make_62 (by decide) (fun c62 => ?_) (fun c62 => ?_)
            · rw [bI_eq0] at c62
              obtain ⟨s, hs, rfl⟩ := isOut_f (N := 8) rfl (by decide) c40
              have his := iN_nI (N := 8) hs (by decide)
              refine lv_iload_n hx hb dX3_make_71 rfl (lv_at hl 3 rfl) ?_
              refine lv_bipush (v := 6) hx hb dX3_make_72 (by decide) ?_
              refine lv_icmp_ne (tgt := 102) (x := k) (y := 6) hx hb dX3_make_74 (by decide) (fun c74 => ?_) (fun c74 => ?_)
              · have _h := True.intro
                refine lv_aload_n hx hb dX3_make_102 rfl (lv_at hl 1 rfl) ?_
                refine rx_ref 12 S P (by decide) q897 dX3_make_103 ?_
                refine lv_iload_n hx hb dX3_make_106 rfl (lv_at hl 2 rfl) ?_
                refine rx_iald 12 s S P rfl rfl (by show _ < _; simp only [rN]; omega) dX3_make_107 ?_
                refine lv_if_lt (tgt := 117) (x := st.1 12 s) hx hb dX3_make_108 (by decide) (fun c108 => ?_) (fun c108 => ?_)
                · have _h := True.intro
                  refine lv_aload_n hx hb dX3_make_117 rfl (lv_at hl 1 rfl) ?_
                  refine rx_ref 12 S P (by decide) q897 dX3_make_118 ?_
                  refine lv_iload_n hx hb dX3_make_121 rfl (lv_at hl 2 rfl) ?_
                  refine lv_iload_n hx hb dX3_make_122 rfl (lv_at hl 3 rfl) ?_
                  refine rx_iast (v := k) 12 s S P rfl rfl (by show _ < _; simp only [rN]; omega) dX3_make_123 (fun H locs P => ?_)
                  refine lv_aload_n hx hb dX3_make_124 rfl (lv_at hl 1 rfl) ?_
                  refine rx_ref 15 S P (by decide) q900 dX3_make_125 ?_
                  refine lv_iload_n hx hb dX3_make_128 rfl (lv_at hl 2 rfl) ?_
                  refine lv_iload_n hx hb dX3_make_129 rfl (lv_at hl 3 rfl) ?_
                  refine lv_iconst (v := 2) hx hb dX3_make_130 (by decide) ?_
                  refine lv_icmp_lt (tgt := 143) (x := k) (y := 2) hx hb dX3_make_131 (by decide) (fun c131 => ?_) (fun c131 => ?_)
                  · exact absurd c131 c7
                  · have _h := True.intro
                    refine lv_iload_n hx hb dX3_make_134 rfl (lv_at hl 3 rfl) ?_
                    refine lv_iconst (v := 4) hx hb dX3_make_135 (by decide) ?_
                    refine lv_icmp_gt (tgt := 143) (x := k) (y := 4) hx hb dX3_make_136 (by decide) (fun c136 => ?_) (fun c136 => ?_)
                    · have _h := True.intro
                      refine lv_iconst (v := 0) hx hb dX3_make_143 (by decide) ?_
                      refine rx_iast (v := 0) 15 s S P rfl rfl (by show _ < _; simp only [rN]; omega) dX3_make_144 (fun H locs P => ?_)
                      refine lv_aload_n hx hb dX3_make_145 rfl (lv_at hl 1 rfl) ?_
                      refine rx_ref 16 S P (by decide) q901 dX3_make_146 ?_
                      refine lv_iload_n hx hb dX3_make_149 rfl (lv_at hl 2 rfl) ?_
                      refine lv_iload_n hx hb dX3_make_150 rfl (lv_at hl 3 rfl) ?_
                      refine lv_bipush (v := 6) hx hb dX3_make_151 (by decide) ?_
                      refine lv_icmp_ne (tgt := 160) (x := k) (y := 6) hx hb dX3_make_153 (by decide) (fun c153 => ?_) (fun c153 => ?_)
                      · have _h := True.intro
                        refine lv_iconst (v := (-1)) hx hb dX3_make_160 (by decide) ?_
                        refine rx_iast (v := (-1)) 16 s S P rfl rfl (by show _ < _; simp only [rN]; omega) dX3_make_161 (fun H locs P => ?_)
                        refine lv_iconst (v := 0) hx hb dX3_make_162 (by decide) ?_
                        refine lv_istore (lv' := [(5, .int 0), (4, .int 0), (0, .ref r), (1, .int (nI s)), (2, .int k), (3, .int a)]) hx hb dX3_make_163 hl (by decide) rfl (fun ls hl => ?_)
                        refine lv_iconst (v := 0) hx hb dX3_make_165 (by decide) ?_
                        refine lv_istore (lv' := [(6, .int 0), (5, .int 0), (4, .int 0), (0, .ref r), (1, .int (nI s)), (2, .int k), (3, .int a)]) hx hb dX3_make_166 hl (by decide) rfl (fun ls hl => ?_)
                        have loop168 : ∀ (d : Nat) (i : Nat) (nv : Int32), 8 - i < d → (i ≤ 8) → (nv = s_cnt (sI (sI (sI st 12 s k) 15 s 0) 16 s (-1)) i) → ∀ (H : Heap) (locs : List Loc), RX D cs (pA L sz) u r ad L f0 (sI (sI (sI st 12 s k) 15 s 0) 16 s (-1)) x H locs → ∀ (ls : Array Slot), lv_has ls 7 [(6, .int (nI i)), (5, .int nv), (0, .ref r)] → W p l e (rmL 2 0 0) u m ([.ref r, .int (nI s), .int k, .int a] : List Value).toArray below meth c H locs 0 0 Q (F0 m 168 ls []) := by
                          intro d168
                          induction d168 with
                          | zero => intro i nv hd; exact absurd hd (by omega)
                          | succ d168 ih168 =>
                            intro i nv hd168 hi hnv H locs P ls hl
                            refine lv_iload hx hb dX3_make_168 (lv_at hl 0 rfl) ?_
                            refine lv_bipush (v := 8) hx hb dX3_make_170 (by decide) ?_
                            refine ni_icmp_ge (tgt := 201) (a := i) (b := 8) hx hb (by omega) (by omega) dX3_make_172 (by decide) (fun c172 => ?_) (fun c172 => ?_)
                            · have _h := True.intro
                              refine lv_iload hx hb dX3_make_201 (lv_at hl 1 rfl) ?_
                              have hE : s_make st (nI s) k a = (0, nv, sI (sI (sI st 12 s k) 15 s 0) 16 s (-1)) := by
                                rw [hnv, show i = 8 by omega]
                                simp [s_make, s_most, his, c7, c12, c22, c40, c50, c62, c74, c108, c131, c136, c153]
                              exact rx_iret S P hQ hr hlk dX3_make_203 hRw (hfl.trans (by rw [hE] <;> rfl)) (by rw [hE] <;> rfl) (by rw [hE] <;> rfl)
                            · have _h := True.intro
                              refine lv_iload hx hb dX3_make_175 (lv_at hl 1 rfl) ?_
                              refine lv_aload_n hx hb dX3_make_177 rfl (lv_at hl 2 rfl) ?_
                              refine rx_ref 12 S P (by decide) q897 dX3_make_178 ?_
                              refine lv_iload hx hb dX3_make_181 (lv_at hl 0 rfl) ?_
                              refine rx_iald 12 i S P rfl rfl (by show _ < _; simp only [rN]; omega) dX3_make_183 ?_
                              refine lv_if_lt (tgt := 191) (x := (sI st 12 s k).1 12 i) hx hb dX3_make_184 (by decide) (fun c184 => ?_) (fun c184 => ?_)
                              · have _h := True.intro
                                refine lv_iconst (v := 0) hx hb dX3_make_191 (by decide) ?_
                                refine lv_iadd hx hb dX3_make_192 ?_
                                refine lv_istore (lv' := [(5, .int (nv + 0)), (6, .int (nI i)), (0, .ref r)]) hx hb dX3_make_193 hl (by decide) rfl (fun ls hl => ?_)
                                refine lv_iinc (v := nI (i + 1)) (lv' := [(6, .int (nI (i + 1))), (5, .int (nv + 0)), (0, .ref r)]) hx hb dX3_make_195 hl (k := 1) rfl (nI_1 _) (by decide) rfl (fun ls hl => ?_)
                                refine lv_goto (tgt := 168) hx hb dX3_make_198 (by decide) ?_
                                exact ih168 (i + 1) (nv + 0) (by omega) (by omega) (by
                                  rw [hnv]
                                  exact congrArg (fun z => s_cnt (sI (sI (sI st 12 s k) 15 s 0) 16 s (-1)) i + z) (if_neg (fun z => z c184)).symm) _ _ P ls (lv_sub hl [0, 1, 2] rfl)
                              · have _h := True.intro
                                refine lv_iconst (v := 1) hx hb dX3_make_187 (by decide) ?_
                                refine lv_goto (tgt := 192) hx hb dX3_make_188 (by decide) ?_
                                refine lv_iadd hx hb dX3_make_192 ?_
                                refine lv_istore (lv' := [(5, .int (nv + 1)), (6, .int (nI i)), (0, .ref r)]) hx hb dX3_make_193 hl (by decide) rfl (fun ls hl => ?_)
                                refine lv_iinc (v := nI (i + 1)) (lv' := [(6, .int (nI (i + 1))), (5, .int (nv + 1)), (0, .ref r)]) hx hb dX3_make_195 hl (k := 1) rfl (nI_1 _) (by decide) rfl (fun ls hl => ?_)
                                refine lv_goto (tgt := 168) hx hb dX3_make_198 (by decide) ?_
                                exact ih168 (i + 1) (nv + 1) (by omega) (by omega) (by
                                  rw [hnv]
                                  exact congrArg (fun z => s_cnt (sI (sI (sI st 12 s k) 15 s 0) 16 s (-1)) i + z) (if_pos c184).symm) _ _ P ls (lv_sub hl [0, 1, 2] rfl)
                        exact loop168 _ 0 0 (Nat.lt_succ_self _) (by omega) rfl _ _ P ls (lv_sub hl [0, 1, 3] (rfl))
                      · exact absurd c153 c74
                    · exact absurd c12 c136
                · have _h := True.intro
                  refine lv_aload_n hx hb dX3_make_111 rfl (lv_at hl 1 rfl) ?_
                  refine lv_iconst (v := 3) hx hb dX3_make_112 (by decide) ?_
                  refine rx_c (nL' := 2) (rest := []) [.int 3] S P hRw hfl (rm_fail st 0 3) q977 q979 qs17 q980 q38 ⟨by decide +kernel, by decide +kernel, (by decide +kernel : (parseMethodDescriptor yX3_fail.desc).map (fun d => d.parameters.length) = some 1)⟩ dX3_make_113 hl.1 (Nat.le_of_ble_eq_true rfl) ⟨Nat.le_of_ble_eq_true rfl, Nat.le_of_ble_eq_true rfl⟩ ⟨Nat.le_refl _, Nat.le_refl _⟩ (fun H locs x P hRw hfl => ?_)
                  refine W.eq (g2 := F0 m 116 ls [.int 0]) rfl ?_
                  have hE : s_make st (nI s) k a = (3, 0, st) := by
                    simp [s_make, s_most, his, c7, c12, c22, c40, c50, c62, c74, c108]
                  exact rx_iret S P hQ hr hlk dX3_make_116 hRw (hfl.trans (by rw [hE] <;> rfl)) (by rw [hE] <;> rfl) (by rw [hE] <;> rfl)
              · exact absurd c74 c22
            · rw [bI_eq0, Bool.not_eq_false] at c62
              refine lv_aload_n hx hb dX3_make_65 rfl (lv_at hl 1 rfl) ?_
              refine lv_iconst (v := 1) hx hb dX3_make_66 (by decide) ?_
              refine rx_c (nL' := 2) (rest := []) [.int 1] S P hRw hfl (rm_fail st 0 1) q977 q979 qs17 q980 q38 ⟨by decide +kernel, by decide +kernel, (by decide +kernel : (parseMethodDescriptor yX3_fail.desc).map (fun d => d.parameters.length) = some 1)⟩ dX3_make_67 hl.1 (Nat.le_of_ble_eq_true rfl) ⟨Nat.le_of_ble_eq_true rfl, Nat.le_of_ble_eq_true rfl⟩ ⟨Nat.le_refl _, Nat.le_refl _⟩ (fun H locs x P hRw hfl => ?_)
              refine W.eq (g2 := F0 m 70 ls [.int 0]) rfl ?_
              have hE : s_make st sv k a = (1, 0, st) := by
                simp [s_make, s_most, c7, c12, c22, c40, c50, c62]
              exact rx_iret S P hQ hr hlk dX3_make_70 hRw (hfl.trans (by rw [hE] <;> rfl)) (by rw [hE] <;> rfl) (by rw [hE] <;> rfl)
      · have _h := True.intro
        refine lv_bipush (v := 7) hx hb dX3_make_25 (by decide) ?_
        refine lv_goto (tgt := 31) hx hb dX3_make_27 (by decide) ?_
        refine lv_istore (lv' := [(4, .int 7), (0, .ref r), (1, .int sv), (2, .int k), (3, .int a)]) hx hb dX3_make_31 hl (by decide) rfl (fun ls hl => ?_)
        refine lv_aload_n hx hb dX3_make_33 rfl (lv_at hl 1 rfl) ?_
        refine lv_iload_n hx hb dX3_make_34 rfl (lv_at hl 2 rfl) ?_
        refine lv_bipush (v := 8) hx hb dX3_make_35 (by decide) ?_
        refine rx_c (nL' := 3) (rest := []) [.int sv, .int 8] S P hRw hfl (rm_out st 0 sv 8) q973 q975 qs16 q976 q38 ⟨by decide +kernel, by decide +kernel, (by decide +kernel : (parseMethodDescriptor yX3_out.desc).map (fun d => d.parameters.length) = some 2)⟩ dX3_make_37 hl.1 (Nat.le_of_ble_eq_true rfl) ⟨Nat.le_of_ble_eq_true rfl, Nat.le_of_ble_eq_true rfl⟩ ⟨Nat.le_refl _, Nat.le_refl _⟩ (fun H locs x P hRw hfl => ?_)
        refine W.eq (g2 := F0 m 40 ls [.int (bI (isOut sv 8))]) rfl ?_
        refine lv_if_ne (tgt := 65) (x := bI (isOut sv 8)) hx hb dX3_make_40 (by decide) (fun c40 => ?_) (fun c40 => ?_)
        · rw [bI_eq0, Bool.not_eq_false] at c40
          refine lv_aload_n hx hb dX3_make_65 rfl (lv_at hl 1 rfl) ?_
          refine lv_iconst (v := 1) hx hb dX3_make_66 (by decide) ?_
          refine rx_c (nL' := 2) (rest := []) [.int 1] S P hRw hfl (rm_fail st 0 1) q977 q979 qs17 q980 q38 ⟨by decide +kernel, by decide +kernel, (by decide +kernel : (parseMethodDescriptor yX3_fail.desc).map (fun d => d.parameters.length) = some 1)⟩ dX3_make_67 hl.1 (Nat.le_of_ble_eq_true rfl) ⟨Nat.le_of_ble_eq_true rfl, Nat.le_of_ble_eq_true rfl⟩ ⟨Nat.le_refl _, Nat.le_refl _⟩ (fun H locs x P hRw hfl => ?_)
          refine W.eq (g2 := F0 m 70 ls [.int 0]) rfl ?_
          have hE : s_make st sv k a = (1, 0, st) := by
            simp [s_make, s_most, c7, c12, c22, c40]
          exact rx_iret S P hQ hr hlk dX3_make_70 hRw (hfl.trans (by rw [hE] <;> rfl)) (by rw [hE] <;> rfl) (by rw [hE] <;> rfl)
        · rw [bI_eq0] at c40
          refine lv_aload_n hx hb dX3_make_43 rfl (lv_at hl 1 rfl) ?_
          refine lv_iload_n hx hb dX3_make_44 rfl (lv_at hl 3 rfl) ?_
          refine lv_bipush (v := 7) hx hb dX3_make_45 (by decide) ?_
          refine rx_c (nL' := 3) (rest := []) [.int k, .int 7] S P hRw hfl (rm_out st 0 k 7) q973 q975 qs16 q976 q38 ⟨by decide +kernel, by decide +kernel, (by decide +kernel : (parseMethodDescriptor yX3_out.desc).map (fun d => d.parameters.length) = some 2)⟩ dX3_make_47 hl.1 (Nat.le_of_ble_eq_true rfl) ⟨Nat.le_of_ble_eq_true rfl, Nat.le_of_ble_eq_true rfl⟩ ⟨Nat.le_refl _, Nat.le_refl _⟩ (fun H locs x P hRw hfl => ?_)
          refine W.eq (g2 := F0 m 50 ls [.int (bI (isOut k 7))]) rfl ?_
          refine lv_if_ne (tgt := 65) (x := bI (isOut k 7)) hx hb dX3_make_50 (by decide) (fun c50 => ?_) (fun c50 => ?_)
          · rw [bI_eq0, Bool.not_eq_false] at c50
            rw [c22] at c50
            exact absurd c50 (by decide)
          · rw [bI_eq0] at c50
            refine lv_aload_n hx hb dX3_make_53 rfl (lv_at hl 1 rfl) ?_
            refine lv_iload_n hx hb dX3_make_54 rfl (lv_at hl 4 rfl) ?_
            refine lv_iload hx hb dX3_make_55 (lv_at hl 0 rfl) ?_
            refine lv_iconst (v := 1) hx hb dX3_make_57 (by decide) ?_
            refine lv_iadd hx hb dX3_make_58 ?_
            refine lw_eqi (y := 8) (by decide) ?_
            refine rx_c (nL' := 3) (rest := []) [.int a, .int 8] S P hRw hfl (rm_out st 0 a 8) q973 q975 qs16 q976 q38 ⟨by decide +kernel, by decide +kernel, (by decide +kernel : (parseMethodDescriptor yX3_out.desc).map (fun d => d.parameters.length) = some 2)⟩ dX3_make_59 hl.1 (Nat.le_of_ble_eq_true rfl) ⟨Nat.le_of_ble_eq_true rfl, Nat.le_of_ble_eq_true rfl⟩ ⟨Nat.le_refl _, Nat.le_refl _⟩ (fun H locs x P hRw hfl => ?_)
            refine W.eq (g2 := F0 m 62 ls [.int (bI (isOut a 8))]) rfl ?_
            refine lv_if_eq (tgt := 71) (x := bI (isOut a 8)) hx hb dX3_make_62 (by decide) (fun c62 => ?_) (fun c62 => ?_)
            · rw [bI_eq0] at c62
              obtain ⟨s, hs, rfl⟩ := isOut_f (N := 8) rfl (by decide) c40
              have his := iN_nI (N := 8) hs (by decide)
              obtain ⟨g, hg, rfl⟩ := isOut_f (N := 8) rfl (by decide) c62
              have hig := iN_nI (N := 8) hg (by decide)
              refine lv_iload_n hx hb dX3_make_71 rfl (lv_at hl 3 rfl) ?_
              refine lv_bipush (v := 6) hx hb dX3_make_72 (by decide) ?_
              refine lv_icmp_ne (tgt := 102) (x := k) (y := 6) hx hb dX3_make_74 (by decide) (fun c74 => ?_) (fun c74 => ?_)
              · exact absurd c22 c74
              · have _h := True.intro
                refine lv_aload_n hx hb dX3_make_77 rfl (lv_at hl 1 rfl) ?_
                refine rx_ref 12 S P (by decide) q897 dX3_make_78 ?_
                refine lv_iload_n hx hb dX3_make_81 rfl (lv_at hl 4 rfl) ?_
                refine rx_iald 12 g S P rfl rfl (by show _ < _; simp only [rN]; omega) dX3_make_82 ?_
                refine lv_if_eq (tgt := 102) (x := st.1 12 g) hx hb dX3_make_83 (by decide) (fun c83 => ?_) (fun c83 => ?_)
                · have _h := True.intro
                  refine lv_aload_n hx hb dX3_make_102 rfl (lv_at hl 1 rfl) ?_
                  refine rx_ref 12 S P (by decide) q897 dX3_make_103 ?_
                  refine lv_iload_n hx hb dX3_make_106 rfl (lv_at hl 2 rfl) ?_
                  refine rx_iald 12 s S P rfl rfl (by show _ < _; simp only [rN]; omega) dX3_make_107 ?_
                  refine lv_if_lt (tgt := 117) (x := st.1 12 s) hx hb dX3_make_108 (by decide) (fun c108 => ?_) (fun c108 => ?_)
                  · have _h := True.intro
                    refine lv_aload_n hx hb dX3_make_117 rfl (lv_at hl 1 rfl) ?_
                    refine rx_ref 12 S P (by decide) q897 dX3_make_118 ?_
                    refine lv_iload_n hx hb dX3_make_121 rfl (lv_at hl 2 rfl) ?_
                    refine lv_iload_n hx hb dX3_make_122 rfl (lv_at hl 3 rfl) ?_
                    refine rx_iast (v := k) 12 s S P rfl rfl (by show _ < _; simp only [rN]; omega) dX3_make_123 (fun H locs P => ?_)
                    refine lv_aload_n hx hb dX3_make_124 rfl (lv_at hl 1 rfl) ?_
                    refine rx_ref 15 S P (by decide) q900 dX3_make_125 ?_
                    refine lv_iload_n hx hb dX3_make_128 rfl (lv_at hl 2 rfl) ?_
                    refine lv_iload_n hx hb dX3_make_129 rfl (lv_at hl 3 rfl) ?_
                    refine lv_iconst (v := 2) hx hb dX3_make_130 (by decide) ?_
                    refine lv_icmp_lt (tgt := 143) (x := k) (y := 2) hx hb dX3_make_131 (by decide) (fun c131 => ?_) (fun c131 => ?_)
                    · exact absurd c131 c7
                    · have _h := True.intro
                      refine lv_iload_n hx hb dX3_make_134 rfl (lv_at hl 3 rfl) ?_
                      refine lv_iconst (v := 4) hx hb dX3_make_135 (by decide) ?_
                      refine lv_icmp_gt (tgt := 143) (x := k) (y := 4) hx hb dX3_make_136 (by decide) (fun c136 => ?_) (fun c136 => ?_)
                      · have _h := True.intro
                        refine lv_iconst (v := 0) hx hb dX3_make_143 (by decide) ?_
                        refine rx_iast (v := 0) 15 s S P rfl rfl (by show _ < _; simp only [rN]; omega) dX3_make_144 (fun H locs P => ?_)
                        refine lv_aload_n hx hb dX3_make_145 rfl (lv_at hl 1 rfl) ?_
                        refine rx_ref 16 S P (by decide) q901 dX3_make_146 ?_
                        refine lv_iload_n hx hb dX3_make_149 rfl (lv_at hl 2 rfl) ?_
                        refine lv_iload_n hx hb dX3_make_150 rfl (lv_at hl 3 rfl) ?_
                        refine lv_bipush (v := 6) hx hb dX3_make_151 (by decide) ?_
                        refine lv_icmp_ne (tgt := 160) (x := k) (y := 6) hx hb dX3_make_153 (by decide) (fun c153 => ?_) (fun c153 => ?_)
                        · exact absurd c74 c153
                        · have _h := True.intro
                          refine lv_iload_n hx hb dX3_make_156 rfl (lv_at hl 4 rfl) ?_
                          refine lv_goto (tgt := 161) hx hb dX3_make_157 (by decide) ?_
                          refine rx_iast (v := nI g) 16 s S P rfl rfl (by show _ < _; simp only [rN]; omega) dX3_make_161 (fun H locs P => ?_)
                          refine lv_iconst (v := 0) hx hb dX3_make_162 (by decide) ?_
                          refine lv_istore (lv' := [(5, .int 0), (4, .int 7), (0, .ref r), (1, .int (nI s)), (2, .int k), (3, .int (nI g))]) hx hb dX3_make_163 hl (by decide) rfl (fun ls hl => ?_)
                          refine lv_iconst (v := 0) hx hb dX3_make_165 (by decide) ?_
                          refine lv_istore (lv' := [(6, .int 0), (5, .int 0), (4, .int 7), (0, .ref r), (1, .int (nI s)), (2, .int k), (3, .int (nI g))]) hx hb dX3_make_166 hl (by decide) rfl (fun ls hl => ?_)
                          have loop168 : ∀ (d : Nat) (i : Nat) (nv : Int32), 8 - i < d → (i ≤ 8) → (nv = s_cnt (sI (sI (sI st 12 s k) 15 s 0) 16 s (nI g)) i) → ∀ (H : Heap) (locs : List Loc), RX D cs (pA L sz) u r ad L f0 (sI (sI (sI st 12 s k) 15 s 0) 16 s (nI g)) x H locs → ∀ (ls : Array Slot), lv_has ls 7 [(6, .int (nI i)), (5, .int nv), (0, .ref r)] → W p l e (rmL 2 0 0) u m ([.ref r, .int (nI s), .int k, .int (nI g)] : List Value).toArray below meth c H locs 0 0 Q (F0 m 168 ls []) := by
                            intro d168
                            induction d168 with
                            | zero => intro i nv hd; exact absurd hd (by omega)
                            | succ d168 ih168 =>
                              intro i nv hd168 hi hnv H locs P ls hl
                              refine lv_iload hx hb dX3_make_168 (lv_at hl 0 rfl) ?_
                              refine lv_bipush (v := 8) hx hb dX3_make_170 (by decide) ?_
                              refine ni_icmp_ge (tgt := 201) (a := i) (b := 8) hx hb (by omega) (by omega) dX3_make_172 (by decide) (fun c172 => ?_) (fun c172 => ?_)
                              · have _h := True.intro
                                refine lv_iload hx hb dX3_make_201 (lv_at hl 1 rfl) ?_
                                have hE : s_make st (nI s) k (nI g) = (0, nv, sI (sI (sI st 12 s k) 15 s 0) 16 s (nI g)) := by
                                  rw [hnv, show i = 8 by omega]
                                  simp [s_make, s_most, his, hig, show isOut 6 7 = false by decide, c7, c12, c22, c40, c50, c62, c74, c83, c108, c131, c136, c153]
                                exact rx_iret S P hQ hr hlk dX3_make_203 hRw (hfl.trans (by rw [hE] <;> rfl)) (by rw [hE] <;> rfl) (by rw [hE] <;> rfl)
                              · have _h := True.intro
                                refine lv_iload hx hb dX3_make_175 (lv_at hl 1 rfl) ?_
                                refine lv_aload_n hx hb dX3_make_177 rfl (lv_at hl 2 rfl) ?_
                                refine rx_ref 12 S P (by decide) q897 dX3_make_178 ?_
                                refine lv_iload hx hb dX3_make_181 (lv_at hl 0 rfl) ?_
                                refine rx_iald 12 i S P rfl rfl (by show _ < _; simp only [rN]; omega) dX3_make_183 ?_
                                refine lv_if_lt (tgt := 191) (x := (sI st 12 s k).1 12 i) hx hb dX3_make_184 (by decide) (fun c184 => ?_) (fun c184 => ?_)
                                · have _h := True.intro
                                  refine lv_iconst (v := 0) hx hb dX3_make_191 (by decide) ?_
                                  refine lv_iadd hx hb dX3_make_192 ?_
                                  refine lv_istore (lv' := [(5, .int (nv + 0)), (6, .int (nI i)), (0, .ref r)]) hx hb dX3_make_193 hl (by decide) rfl (fun ls hl => ?_)
                                  refine lv_iinc (v := nI (i + 1)) (lv' := [(6, .int (nI (i + 1))), (5, .int (nv + 0)), (0, .ref r)]) hx hb dX3_make_195 hl (k := 1) rfl (nI_1 _) (by decide) rfl (fun ls hl => ?_)
                                  refine lv_goto (tgt := 168) hx hb dX3_make_198 (by decide) ?_
                                  exact ih168 (i + 1) (nv + 0) (by omega) (by omega) (by
                                    rw [hnv]
                                    exact congrArg (fun z => s_cnt (sI (sI (sI st 12 s k) 15 s 0) 16 s (nI g)) i + z) (if_neg (fun z => z c184)).symm) _ _ P ls (lv_sub hl [0, 1, 2] rfl)
                                · have _h := True.intro
                                  refine lv_iconst (v := 1) hx hb dX3_make_187 (by decide) ?_
                                  refine lv_goto (tgt := 192) hx hb dX3_make_188 (by decide) ?_
                                  refine lv_iadd hx hb dX3_make_192 ?_
                                  refine lv_istore (lv' := [(5, .int (nv + 1)), (6, .int (nI i)), (0, .ref r)]) hx hb dX3_make_193 hl (by decide) rfl (fun ls hl => ?_)
                                  refine lv_iinc (v := nI (i + 1)) (lv' := [(6, .int (nI (i + 1))), (5, .int (nv + 1)), (0, .ref r)]) hx hb dX3_make_195 hl (k := 1) rfl (nI_1 _) (by decide) rfl (fun ls hl => ?_)
                                  refine lv_goto (tgt := 168) hx hb dX3_make_198 (by decide) ?_
                                  exact ih168 (i + 1) (nv + 1) (by omega) (by omega) (by
                                    rw [hnv]
                                    exact congrArg (fun z => s_cnt (sI (sI (sI st 12 s k) 15 s 0) 16 s (nI g)) i + z) (if_pos c184).symm) _ _ P ls (lv_sub hl [0, 1, 2] rfl)
                          exact loop168 _ 0 0 (Nat.lt_succ_self _) (by omega) rfl _ _ P ls (lv_sub hl [0, 1, 3] (rfl))
                      · exact absurd c12 c136
                  · have _h := True.intro
                    refine lv_aload_n hx hb dX3_make_111 rfl (lv_at hl 1 rfl) ?_
                    refine lv_iconst (v := 3) hx hb dX3_make_112 (by decide) ?_
                    refine rx_c (nL' := 2) (rest := []) [.int 3] S P hRw hfl (rm_fail st 0 3) q977 q979 qs17 q980 q38 ⟨by decide +kernel, by decide +kernel, (by decide +kernel : (parseMethodDescriptor yX3_fail.desc).map (fun d => d.parameters.length) = some 1)⟩ dX3_make_113 hl.1 (Nat.le_of_ble_eq_true rfl) ⟨Nat.le_of_ble_eq_true rfl, Nat.le_of_ble_eq_true rfl⟩ ⟨Nat.le_refl _, Nat.le_refl _⟩ (fun H locs x P hRw hfl => ?_)
                    refine W.eq (g2 := F0 m 116 ls [.int 0]) rfl ?_
                    have hE : s_make st (nI s) k (nI g) = (3, 0, st) := by
                      simp [s_make, s_most, his, hig, show isOut 6 7 = false by decide, c7, c12, c22, c40, c50, c62, c74, c83, c108]
                    exact rx_iret S P hQ hr hlk dX3_make_116 hRw (hfl.trans (by rw [hE] <;> rfl)) (by rw [hE] <;> rfl) (by rw [hE] <;> rfl)
                · have _h := True.intro
                  refine lv_aload_n hx hb dX3_make_86 rfl (lv_at hl 1 rfl) ?_
                  refine rx_ref 12 S P (by decide) q897 dX3_make_87 ?_
                  refine lv_iload_n hx hb dX3_make_90 rfl (lv_at hl 4 rfl) ?_
                  refine rx_iald 12 g S P rfl rfl (by show _ < _; simp only [rN]; omega) dX3_make_91 ?_
                  refine lv_iconst (v := 1) hx hb dX3_make_92 (by decide) ?_
                  refine lv_icmp_eq (tgt := 102) (x := st.1 12 g) (y := 1) hx hb dX3_make_93 (by decide) (fun c93 => ?_) (fun c93 => ?_)
                  · have _h := True.intro
                    refine lv_aload_n hx hb dX3_make_102 rfl (lv_at hl 1 rfl) ?_
                    refine rx_ref 12 S P (by decide) q897 dX3_make_103 ?_
                    refine lv_iload_n hx hb dX3_make_106 rfl (lv_at hl 2 rfl) ?_
                    refine rx_iald 12 s S P rfl rfl (by show _ < _; simp only [rN]; omega) dX3_make_107 ?_
                    refine lv_if_lt (tgt := 117) (x := st.1 12 s) hx hb dX3_make_108 (by decide) (fun c108 => ?_) (fun c108 => ?_)
                    · have _h := True.intro
                      refine lv_aload_n hx hb dX3_make_117 rfl (lv_at hl 1 rfl) ?_
                      refine rx_ref 12 S P (by decide) q897 dX3_make_118 ?_
                      refine lv_iload_n hx hb dX3_make_121 rfl (lv_at hl 2 rfl) ?_
                      refine lv_iload_n hx hb dX3_make_122 rfl (lv_at hl 3 rfl) ?_
                      refine rx_iast (v := k) 12 s S P rfl rfl (by show _ < _; simp only [rN]; omega) dX3_make_123 (fun H locs P => ?_)
                      refine lv_aload_n hx hb dX3_make_124 rfl (lv_at hl 1 rfl) ?_
                      refine rx_ref 15 S P (by decide) q900 dX3_make_125 ?_
                      refine lv_iload_n hx hb dX3_make_128 rfl (lv_at hl 2 rfl) ?_
                      refine lv_iload_n hx hb dX3_make_129 rfl (lv_at hl 3 rfl) ?_
                      refine lv_iconst (v := 2) hx hb dX3_make_130 (by decide) ?_
                      refine lv_icmp_lt (tgt := 143) (x := k) (y := 2) hx hb dX3_make_131 (by decide) (fun c131 => ?_) (fun c131 => ?_)
                      · exact absurd c131 c7
                      · have _h := True.intro
                        refine lv_iload_n hx hb dX3_make_134 rfl (lv_at hl 3 rfl) ?_
                        refine lv_iconst (v := 4) hx hb dX3_make_135 (by decide) ?_
                        refine lv_icmp_gt (tgt := 143) (x := k) (y := 4) hx hb dX3_make_136 (by decide) (fun c136 => ?_) (fun c136 => ?_)
                        · have _h := True.intro
                          refine lv_iconst (v := 0) hx hb dX3_make_143 (by decide) ?_
                          refine rx_iast (v := 0) 15 s S P rfl rfl (by show _ < _; simp only [rN]; omega) dX3_make_144 (fun H locs P => ?_)
                          refine lv_aload_n hx hb dX3_make_145 rfl (lv_at hl 1 rfl) ?_
                          refine rx_ref 16 S P (by decide) q901 dX3_make_146 ?_
                          refine lv_iload_n hx hb dX3_make_149 rfl (lv_at hl 2 rfl) ?_
                          refine lv_iload_n hx hb dX3_make_150 rfl (lv_at hl 3 rfl) ?_
                          refine lv_bipush (v := 6) hx hb dX3_make_151 (by decide) ?_
                          refine lv_icmp_ne (tgt := 160) (x := k) (y := 6) hx hb dX3_make_153 (by decide) (fun c153 => ?_) (fun c153 => ?_)
                          · exact absurd c74 c153
                          · have _h := True.intro
                            refine lv_iload_n hx hb dX3_make_156 rfl (lv_at hl 4 rfl) ?_
                            refine lv_goto (tgt := 161) hx hb dX3_make_157 (by decide) ?_
                            refine rx_iast (v := nI g) 16 s S P rfl rfl (by show _ < _; simp only [rN]; omega) dX3_make_161 (fun H locs P => ?_)
                            refine lv_iconst (v := 0) hx hb dX3_make_162 (by decide) ?_
                            refine lv_istore (lv' := [(5, .int 0), (4, .int 7), (0, .ref r), (1, .int (nI s)), (2, .int k), (3, .int (nI g))]) hx hb dX3_make_163 hl (by decide) rfl (fun ls hl => ?_)
                            refine lv_iconst (v := 0) hx hb dX3_make_165 (by decide) ?_
                            refine lv_istore (lv' := [(6, .int 0), (5, .int 0), (4, .int 7), (0, .ref r), (1, .int (nI s)), (2, .int k), (3, .int (nI g))]) hx hb dX3_make_166 hl (by decide) rfl (fun ls hl => ?_)
                            have loop168 : ∀ (d : Nat) (i : Nat) (nv : Int32), 8 - i < d → (i ≤ 8) → (nv = s_cnt (sI (sI (sI st 12 s k) 15 s 0) 16 s (nI g)) i) → ∀ (H : Heap) (locs : List Loc), RX D cs (pA L sz) u r ad L f0 (sI (sI (sI st 12 s k) 15 s 0) 16 s (nI g)) x H locs → ∀ (ls : Array Slot), lv_has ls 7 [(6, .int (nI i)), (5, .int nv), (0, .ref r)] → W p l e (rmL 2 0 0) u m ([.ref r, .int (nI s), .int k, .int (nI g)] : List Value).toArray below meth c H locs 0 0 Q (F0 m 168 ls []) := by
                              intro d168
                              induction d168 with
                              | zero => intro i nv hd; exact absurd hd (by omega)
                              | succ d168 ih168 =>
                                intro i nv hd168 hi hnv H locs P ls hl
                                refine lv_iload hx hb dX3_make_168 (lv_at hl 0 rfl) ?_
                                refine lv_bipush (v := 8) hx hb dX3_make_170 (by decide) ?_
                                refine ni_icmp_ge (tgt := 201) (a := i) (b := 8) hx hb (by omega) (by omega) dX3_make_172 (by decide) (fun c172 => ?_) (fun c172 => ?_)
                                · have _h := True.intro
                                  refine lv_iload hx hb dX3_make_201 (lv_at hl 1 rfl) ?_
                                  have hE : s_make st (nI s) k (nI g) = (0, nv, sI (sI (sI st 12 s k) 15 s 0) 16 s (nI g)) := by
                                    rw [hnv, show i = 8 by omega]
                                    simp [s_make, s_most, his, hig, show isOut 6 7 = false by decide, c7, c12, c22, c40, c50, c62, c74, c83, c93, c108, c131, c136, c153]
                                  exact rx_iret S P hQ hr hlk dX3_make_203 hRw (hfl.trans (by rw [hE] <;> rfl)) (by rw [hE] <;> rfl) (by rw [hE] <;> rfl)
                                · have _h := True.intro
                                  refine lv_iload hx hb dX3_make_175 (lv_at hl 1 rfl) ?_
                                  refine lv_aload_n hx hb dX3_make_177 rfl (lv_at hl 2 rfl) ?_
                                  refine rx_ref 12 S P (by decide) q897 dX3_make_178 ?_
                                  refine lv_iload hx hb dX3_make_181 (lv_at hl 0 rfl) ?_
                                  refine rx_iald 12 i S P rfl rfl (by show _ < _; simp only [rN]; omega) dX3_make_183 ?_
                                  refine lv_if_lt (tgt := 191) (x := (sI st 12 s k).1 12 i) hx hb dX3_make_184 (by decide) (fun c184 => ?_) (fun c184 => ?_)
                                  · have _h := True.intro
                                    refine lv_iconst (v := 0) hx hb dX3_make_191 (by decide) ?_
                                    refine lv_iadd hx hb dX3_make_192 ?_
                                    refine lv_istore (lv' := [(5, .int (nv + 0)), (6, .int (nI i)), (0, .ref r)]) hx hb dX3_make_193 hl (by decide) rfl (fun ls hl => ?_)
                                    refine lv_iinc (v := nI (i + 1)) (lv' := [(6, .int (nI (i + 1))), (5, .int (nv + 0)), (0, .ref r)]) hx hb dX3_make_195 hl (k := 1) rfl (nI_1 _) (by decide) rfl (fun ls hl => ?_)
                                    refine lv_goto (tgt := 168) hx hb dX3_make_198 (by decide) ?_
                                    exact ih168 (i + 1) (nv + 0) (by omega) (by omega) (by
                                      rw [hnv]
                                      exact congrArg (fun z => s_cnt (sI (sI (sI st 12 s k) 15 s 0) 16 s (nI g)) i + z) (if_neg (fun z => z c184)).symm) _ _ P ls (lv_sub hl [0, 1, 2] rfl)
                                  · have _h := True.intro
                                    refine lv_iconst (v := 1) hx hb dX3_make_187 (by decide) ?_
                                    refine lv_goto (tgt := 192) hx hb dX3_make_188 (by decide) ?_
                                    refine lv_iadd hx hb dX3_make_192 ?_
                                    refine lv_istore (lv' := [(5, .int (nv + 1)), (6, .int (nI i)), (0, .ref r)]) hx hb dX3_make_193 hl (by decide) rfl (fun ls hl => ?_)
                                    refine lv_iinc (v := nI (i + 1)) (lv' := [(6, .int (nI (i + 1))), (5, .int (nv + 1)), (0, .ref r)]) hx hb dX3_make_195 hl (k := 1) rfl (nI_1 _) (by decide) rfl (fun ls hl => ?_)
                                    refine lv_goto (tgt := 168) hx hb dX3_make_198 (by decide) ?_
                                    exact ih168 (i + 1) (nv + 1) (by omega) (by omega) (by
                                      rw [hnv]
                                      exact congrArg (fun z => s_cnt (sI (sI (sI st 12 s k) 15 s 0) 16 s (nI g)) i + z) (if_pos c184).symm) _ _ P ls (lv_sub hl [0, 1, 2] rfl)
                            exact loop168 _ 0 0 (Nat.lt_succ_self _) (by omega) rfl _ _ P ls (lv_sub hl [0, 1, 3] (rfl))
                        · exact absurd c12 c136
                    · have _h := True.intro
                      refine lv_aload_n hx hb dX3_make_111 rfl (lv_at hl 1 rfl) ?_
                      refine lv_iconst (v := 3) hx hb dX3_make_112 (by decide) ?_
                      refine rx_c (nL' := 2) (rest := []) [.int 3] S P hRw hfl (rm_fail st 0 3) q977 q979 qs17 q980 q38 ⟨by decide +kernel, by decide +kernel, (by decide +kernel : (parseMethodDescriptor yX3_fail.desc).map (fun d => d.parameters.length) = some 1)⟩ dX3_make_113 hl.1 (Nat.le_of_ble_eq_true rfl) ⟨Nat.le_of_ble_eq_true rfl, Nat.le_of_ble_eq_true rfl⟩ ⟨Nat.le_refl _, Nat.le_refl _⟩ (fun H locs x P hRw hfl => ?_)
                      refine W.eq (g2 := F0 m 116 ls [.int 0]) rfl ?_
                      have hE : s_make st (nI s) k (nI g) = (3, 0, st) := by
                        simp [s_make, s_most, his, hig, show isOut 6 7 = false by decide, c7, c12, c22, c40, c50, c62, c74, c83, c93, c108]
                      exact rx_iret S P hQ hr hlk dX3_make_116 hRw (hfl.trans (by rw [hE] <;> rfl)) (by rw [hE] <;> rfl) (by rw [hE] <;> rfl)
                  · have _h := True.intro
                    refine lv_aload_n hx hb dX3_make_96 rfl (lv_at hl 1 rfl) ?_
                    refine lv_iconst (v := 2) hx hb dX3_make_97 (by decide) ?_
                    refine rx_c (nL' := 2) (rest := []) [.int 2] S P hRw hfl (rm_fail st 0 2) q977 q979 qs17 q980 q38 ⟨by decide +kernel, by decide +kernel, (by decide +kernel : (parseMethodDescriptor yX3_fail.desc).map (fun d => d.parameters.length) = some 1)⟩ dX3_make_98 hl.1 (Nat.le_of_ble_eq_true rfl) ⟨Nat.le_of_ble_eq_true rfl, Nat.le_of_ble_eq_true rfl⟩ ⟨Nat.le_refl _, Nat.le_refl _⟩ (fun H locs x P hRw hfl => ?_)
                    refine W.eq (g2 := F0 m 101 ls [.int 0]) rfl ?_
                    have hE : s_make st (nI s) k (nI g) = (2, 0, st) := by
                      simp [s_make, s_most, his, hig, show isOut 6 7 = false by decide, c7, c12, c22, c40, c50, c62, c74, c83, c93]
                    exact rx_iret S P hQ hr hlk dX3_make_101 hRw (hfl.trans (by rw [hE] <;> rfl)) (by rw [hE] <;> rfl) (by rw [hE] <;> rfl)
            · rw [bI_eq0, Bool.not_eq_false] at c62
              refine lv_aload_n hx hb dX3_make_65 rfl (lv_at hl 1 rfl) ?_
              refine lv_iconst (v := 1) hx hb dX3_make_66 (by decide) ?_
              refine rx_c (nL' := 2) (rest := []) [.int 1] S P hRw hfl (rm_fail st 0 1) q977 q979 qs17 q980 q38 ⟨by decide +kernel, by decide +kernel, (by decide +kernel : (parseMethodDescriptor yX3_fail.desc).map (fun d => d.parameters.length) = some 1)⟩ dX3_make_67 hl.1 (Nat.le_of_ble_eq_true rfl) ⟨Nat.le_of_ble_eq_true rfl, Nat.le_of_ble_eq_true rfl⟩ ⟨Nat.le_refl _, Nat.le_refl _⟩ (fun H locs x P hRw hfl => ?_)
              refine W.eq (g2 := F0 m 70 ls [.int 0]) rfl ?_
              have hE : s_make st sv k a = (1, 0, st) := by
                simp [s_make, s_most, show isOut 6 7 = false by decide, c7, c12, c22, c40, c50, c62]
              exact rx_iret S P hQ hr hlk dX3_make_70 hRw (hfl.trans (by rw [hE] <;> rfl)) (by rw [hE] <;> rfl) (by rw [hE] <;> rfl)
    · have _h := True.intro
      refine lv_iconst (v := 5) hx hb dX3_make_15 (by decide) ?_
      refine lv_goto (tgt := 31) hx hb dX3_make_16 (by decide) ?_
      refine lv_istore (lv' := [(4, .int 5), (0, .ref r), (1, .int sv), (2, .int k), (3, .int a)]) hx hb dX3_make_31 hl (by decide) rfl (fun ls hl => ?_)
      refine lv_aload_n hx hb dX3_make_33 rfl (lv_at hl 1 rfl) ?_
      refine lv_iload_n hx hb dX3_make_34 rfl (lv_at hl 2 rfl) ?_
      refine lv_bipush (v := 8) hx hb dX3_make_35 (by decide) ?_
      refine rx_c (nL' := 3) (rest := []) [.int sv, .int 8] S P hRw hfl (rm_out st 0 sv 8) q973 q975 qs16 q976 q38 ⟨by decide +kernel, by decide +kernel, (by decide +kernel : (parseMethodDescriptor yX3_out.desc).map (fun d => d.parameters.length) = some 2)⟩ dX3_make_37 hl.1 (Nat.le_of_ble_eq_true rfl) ⟨Nat.le_of_ble_eq_true rfl, Nat.le_of_ble_eq_true rfl⟩ ⟨Nat.le_refl _, Nat.le_refl _⟩ (fun H locs x P hRw hfl => ?_)
      refine W.eq (g2 := F0 m 40 ls [.int (bI (isOut sv 8))]) rfl ?_
      refine lv_if_ne (tgt := 65) (x := bI (isOut sv 8)) hx hb dX3_make_40 (by decide) (fun c40 => ?_) (fun c40 => ?_)
      · rw [bI_eq0, Bool.not_eq_false] at c40
        refine lv_aload_n hx hb dX3_make_65 rfl (lv_at hl 1 rfl) ?_
        refine lv_iconst (v := 1) hx hb dX3_make_66 (by decide) ?_
        refine rx_c (nL' := 2) (rest := []) [.int 1] S P hRw hfl (rm_fail st 0 1) q977 q979 qs17 q980 q38 ⟨by decide +kernel, by decide +kernel, (by decide +kernel : (parseMethodDescriptor yX3_fail.desc).map (fun d => d.parameters.length) = some 1)⟩ dX3_make_67 hl.1 (Nat.le_of_ble_eq_true rfl) ⟨Nat.le_of_ble_eq_true rfl, Nat.le_of_ble_eq_true rfl⟩ ⟨Nat.le_refl _, Nat.le_refl _⟩ (fun H locs x P hRw hfl => ?_)
        refine W.eq (g2 := F0 m 70 ls [.int 0]) rfl ?_
        have hE : s_make st sv k a = (1, 0, st) := by
          simp [s_make, s_most, c7, c12, c40]
        exact rx_iret S P hQ hr hlk dX3_make_70 hRw (hfl.trans (by rw [hE] <;> rfl)) (by rw [hE] <;> rfl) (by rw [hE] <;> rfl)
      · rw [bI_eq0] at c40
        refine lv_aload_n hx hb dX3_make_43 rfl (lv_at hl 1 rfl) ?_
        refine lv_iload_n hx hb dX3_make_44 rfl (lv_at hl 3 rfl) ?_
        refine lv_bipush (v := 7) hx hb dX3_make_45 (by decide) ?_
        refine rx_c (nL' := 3) (rest := []) [.int k, .int 7] S P hRw hfl (rm_out st 0 k 7) q973 q975 qs16 q976 q38 ⟨by decide +kernel, by decide +kernel, (by decide +kernel : (parseMethodDescriptor yX3_out.desc).map (fun d => d.parameters.length) = some 2)⟩ dX3_make_47 hl.1 (Nat.le_of_ble_eq_true rfl) ⟨Nat.le_of_ble_eq_true rfl, Nat.le_of_ble_eq_true rfl⟩ ⟨Nat.le_refl _, Nat.le_refl _⟩ (fun H locs x P hRw hfl => ?_)
        refine W.eq (g2 := F0 m 50 ls [.int (bI (isOut k 7))]) rfl ?_
        refine lv_if_ne (tgt := 65) (x := bI (isOut k 7)) hx hb dX3_make_50 (by decide) (fun c50 => ?_) (fun c50 => ?_)
        · rw [bI_eq0, Bool.not_eq_false] at c50
          refine lv_aload_n hx hb dX3_make_65 rfl (lv_at hl 1 rfl) ?_
          refine lv_iconst (v := 1) hx hb dX3_make_66 (by decide) ?_
          refine rx_c (nL' := 2) (rest := []) [.int 1] S P hRw hfl (rm_fail st 0 1) q977 q979 qs17 q980 q38 ⟨by decide +kernel, by decide +kernel, (by decide +kernel : (parseMethodDescriptor yX3_fail.desc).map (fun d => d.parameters.length) = some 1)⟩ dX3_make_67 hl.1 (Nat.le_of_ble_eq_true rfl) ⟨Nat.le_of_ble_eq_true rfl, Nat.le_of_ble_eq_true rfl⟩ ⟨Nat.le_refl _, Nat.le_refl _⟩ (fun H locs x P hRw hfl => ?_)
          refine W.eq (g2 := F0 m 70 ls [.int 0]) rfl ?_
          have hE : s_make st sv k a = (1, 0, st) := by
            simp [s_make, s_most, c7, c12, c40, c50]
          exact rx_iret S P hQ hr hlk dX3_make_70 hRw (hfl.trans (by rw [hE] <;> rfl)) (by rw [hE] <;> rfl) (by rw [hE] <;> rfl)
        · rw [bI_eq0] at c50
          refine lv_aload_n hx hb dX3_make_53 rfl (lv_at hl 1 rfl) ?_
          refine lv_iload_n hx hb dX3_make_54 rfl (lv_at hl 4 rfl) ?_
          refine lv_iload hx hb dX3_make_55 (lv_at hl 0 rfl) ?_
          refine lv_iconst (v := 1) hx hb dX3_make_57 (by decide) ?_
          refine lv_iadd hx hb dX3_make_58 ?_
          refine lw_eqi (y := 6) (by decide) ?_
          refine rx_c (nL' := 3) (rest := []) [.int a, .int 6] S P hRw hfl (rm_out st 0 a 6) q973 q975 qs16 q976 q38 ⟨by decide +kernel, by decide +kernel, (by decide +kernel : (parseMethodDescriptor yX3_out.desc).map (fun d => d.parameters.length) = some 2)⟩ dX3_make_59 hl.1 (Nat.le_of_ble_eq_true rfl) ⟨Nat.le_of_ble_eq_true rfl, Nat.le_of_ble_eq_true rfl⟩ ⟨Nat.le_refl _, Nat.le_refl _⟩ (fun H locs x P hRw hfl => ?_)
          refine W.eq (g2 := F0 m 62 ls [.int (bI (isOut a 6))]) rfl ?_
          refine lv_if_eq (tgt := 71) (x := bI (isOut a 6)) hx hb dX3_make_62 (by decide) (fun c62 => ?_) (fun c62 => ?_)
          · rw [bI_eq0] at c62
            obtain ⟨s, hs, rfl⟩ := isOut_f (N := 8) rfl (by decide) c40
            have his := iN_nI (N := 8) hs (by decide)
            refine lv_iload_n hx hb dX3_make_71 rfl (lv_at hl 3 rfl) ?_
            refine lv_bipush (v := 6) hx hb dX3_make_72 (by decide) ?_
            refine lv_icmp_ne (tgt := 102) (x := k) (y := 6) hx hb dX3_make_74 (by decide) (fun c74 => ?_) (fun c74 => ?_)
            · have _h := True.intro
              refine lv_aload_n hx hb dX3_make_102 rfl (lv_at hl 1 rfl) ?_
              refine rx_ref 12 S P (by decide) q897 dX3_make_103 ?_
              refine lv_iload_n hx hb dX3_make_106 rfl (lv_at hl 2 rfl) ?_
              refine rx_iald 12 s S P rfl rfl (by show _ < _; simp only [rN]; omega) dX3_make_107 ?_
              refine lv_if_lt (tgt := 117) (x := st.1 12 s) hx hb dX3_make_108 (by decide) (fun c108 => ?_) (fun c108 => ?_)
              · have _h := True.intro
                refine lv_aload_n hx hb dX3_make_117 rfl (lv_at hl 1 rfl) ?_
                refine rx_ref 12 S P (by decide) q897 dX3_make_118 ?_
                refine lv_iload_n hx hb dX3_make_121 rfl (lv_at hl 2 rfl) ?_
                refine lv_iload_n hx hb dX3_make_122 rfl (lv_at hl 3 rfl) ?_
                refine rx_iast (v := k) 12 s S P rfl rfl (by show _ < _; simp only [rN]; omega) dX3_make_123 (fun H locs P => ?_)
                refine lv_aload_n hx hb dX3_make_124 rfl (lv_at hl 1 rfl) ?_
                refine rx_ref 15 S P (by decide) q900 dX3_make_125 ?_
                refine lv_iload_n hx hb dX3_make_128 rfl (lv_at hl 2 rfl) ?_
                refine lv_iload_n hx hb dX3_make_129 rfl (lv_at hl 3 rfl) ?_
                refine lv_iconst (v := 2) hx hb dX3_make_130 (by decide) ?_
                refine lv_icmp_lt (tgt := 143) (x := k) (y := 2) hx hb dX3_make_131 (by decide) (fun c131 => ?_) (fun c131 => ?_)
                · exact absurd c131 c7
                · have _h := True.intro
                  refine lv_iload_n hx hb dX3_make_134 rfl (lv_at hl 3 rfl) ?_
                  refine lv_iconst (v := 4) hx hb dX3_make_135 (by decide) ?_
                  refine lv_icmp_gt (tgt := 143) (x := k) (y := 4) hx hb dX3_make_136 (by decide) (fun c136 => ?_) (fun c136 => ?_)
                  · exact absurd c136 c12
                  · have _h := True.intro
                    refine lv_iload_n hx hb dX3_make_139 rfl (lv_at hl 4 rfl) ?_
                    refine lv_goto (tgt := 144) hx hb dX3_make_140 (by decide) ?_
                    refine rx_iast (v := a) 15 s S P rfl rfl (by show _ < _; simp only [rN]; omega) dX3_make_144 (fun H locs P => ?_)
                    refine lv_aload_n hx hb dX3_make_145 rfl (lv_at hl 1 rfl) ?_
                    refine rx_ref 16 S P (by decide) q901 dX3_make_146 ?_
                    refine lv_iload_n hx hb dX3_make_149 rfl (lv_at hl 2 rfl) ?_
                    refine lv_iload_n hx hb dX3_make_150 rfl (lv_at hl 3 rfl) ?_
                    refine lv_bipush (v := 6) hx hb dX3_make_151 (by decide) ?_
                    refine lv_icmp_ne (tgt := 160) (x := k) (y := 6) hx hb dX3_make_153 (by decide) (fun c153 => ?_) (fun c153 => ?_)
                    · have _h := True.intro
                      refine lv_iconst (v := (-1)) hx hb dX3_make_160 (by decide) ?_
                      refine rx_iast (v := (-1)) 16 s S P rfl rfl (by show _ < _; simp only [rN]; omega) dX3_make_161 (fun H locs P => ?_)
                      refine lv_iconst (v := 0) hx hb dX3_make_162 (by decide) ?_
                      refine lv_istore (lv' := [(5, .int 0), (4, .int 5), (0, .ref r), (1, .int (nI s)), (2, .int k), (3, .int a)]) hx hb dX3_make_163 hl (by decide) rfl (fun ls hl => ?_)
                      refine lv_iconst (v := 0) hx hb dX3_make_165 (by decide) ?_
                      refine lv_istore (lv' := [(6, .int 0), (5, .int 0), (4, .int 5), (0, .ref r), (1, .int (nI s)), (2, .int k), (3, .int a)]) hx hb dX3_make_166 hl (by decide) rfl (fun ls hl => ?_)
                      have loop168 : ∀ (d : Nat) (i : Nat) (nv : Int32), 8 - i < d → (i ≤ 8) → (nv = s_cnt (sI (sI (sI st 12 s k) 15 s a) 16 s (-1)) i) → ∀ (H : Heap) (locs : List Loc), RX D cs (pA L sz) u r ad L f0 (sI (sI (sI st 12 s k) 15 s a) 16 s (-1)) x H locs → ∀ (ls : Array Slot), lv_has ls 7 [(6, .int (nI i)), (5, .int nv), (0, .ref r)] → W p l e (rmL 2 0 0) u m ([.ref r, .int (nI s), .int k, .int a] : List Value).toArray below meth c H locs 0 0 Q (F0 m 168 ls []) := by
                        intro d168
                        induction d168 with
                        | zero => intro i nv hd; exact absurd hd (by omega)
                        | succ d168 ih168 =>
                          intro i nv hd168 hi hnv H locs P ls hl
                          refine lv_iload hx hb dX3_make_168 (lv_at hl 0 rfl) ?_
                          refine lv_bipush (v := 8) hx hb dX3_make_170 (by decide) ?_
                          refine ni_icmp_ge (tgt := 201) (a := i) (b := 8) hx hb (by omega) (by omega) dX3_make_172 (by decide) (fun c172 => ?_) (fun c172 => ?_)
                          · have _h := True.intro
                            refine lv_iload hx hb dX3_make_201 (lv_at hl 1 rfl) ?_
                            have hE : s_make st (nI s) k a = (0, nv, sI (sI (sI st 12 s k) 15 s a) 16 s (-1)) := by
                              rw [hnv, show i = 8 by omega]
                              simp [s_make, s_most, his, c7, c12, c40, c50, c62, c74, c108, c131, c136, c153]
                            exact rx_iret S P hQ hr hlk dX3_make_203 hRw (hfl.trans (by rw [hE] <;> rfl)) (by rw [hE] <;> rfl) (by rw [hE] <;> rfl)
                          · have _h := True.intro
                            refine lv_iload hx hb dX3_make_175 (lv_at hl 1 rfl) ?_
                            refine lv_aload_n hx hb dX3_make_177 rfl (lv_at hl 2 rfl) ?_
                            refine rx_ref 12 S P (by decide) q897 dX3_make_178 ?_
                            refine lv_iload hx hb dX3_make_181 (lv_at hl 0 rfl) ?_
                            refine rx_iald 12 i S P rfl rfl (by show _ < _; simp only [rN]; omega) dX3_make_183 ?_
                            refine lv_if_lt (tgt := 191) (x := (sI st 12 s k).1 12 i) hx hb dX3_make_184 (by decide) (fun c184 => ?_) (fun c184 => ?_)
                            · have _h := True.intro
                              refine lv_iconst (v := 0) hx hb dX3_make_191 (by decide) ?_
                              refine lv_iadd hx hb dX3_make_192 ?_
                              refine lv_istore (lv' := [(5, .int (nv + 0)), (6, .int (nI i)), (0, .ref r)]) hx hb dX3_make_193 hl (by decide) rfl (fun ls hl => ?_)
                              refine lv_iinc (v := nI (i + 1)) (lv' := [(6, .int (nI (i + 1))), (5, .int (nv + 0)), (0, .ref r)]) hx hb dX3_make_195 hl (k := 1) rfl (nI_1 _) (by decide) rfl (fun ls hl => ?_)
                              refine lv_goto (tgt := 168) hx hb dX3_make_198 (by decide) ?_
                              exact ih168 (i + 1) (nv + 0) (by omega) (by omega) (by
                                rw [hnv]
                                exact congrArg (fun z => s_cnt (sI (sI (sI st 12 s k) 15 s a) 16 s (-1)) i + z) (if_neg (fun z => z c184)).symm) _ _ P ls (lv_sub hl [0, 1, 2] rfl)
                            · have _h := True.intro
                              refine lv_iconst (v := 1) hx hb dX3_make_187 (by decide) ?_
                              refine lv_goto (tgt := 192) hx hb dX3_make_188 (by decide) ?_
                              refine lv_iadd hx hb dX3_make_192 ?_
                              refine lv_istore (lv' := [(5, .int (nv + 1)), (6, .int (nI i)), (0, .ref r)]) hx hb dX3_make_193 hl (by decide) rfl (fun ls hl => ?_)
                              refine lv_iinc (v := nI (i + 1)) (lv' := [(6, .int (nI (i + 1))), (5, .int (nv + 1)), (0, .ref r)]) hx hb dX3_make_195 hl (k := 1) rfl (nI_1 _) (by decide) rfl (fun ls hl => ?_)
                              refine lv_goto (tgt := 168) hx hb dX3_make_198 (by decide) ?_
                              exact ih168 (i + 1) (nv + 1) (by omega) (by omega) (by
                                rw [hnv]
                                exact congrArg (fun z => s_cnt (sI (sI (sI st 12 s k) 15 s a) 16 s (-1)) i + z) (if_pos c184).symm) _ _ P ls (lv_sub hl [0, 1, 2] rfl)
                      exact loop168 _ 0 0 (Nat.lt_succ_self _) (by omega) rfl _ _ P ls (lv_sub hl [0, 1, 3] (rfl))
                    · exact absurd c153 c74
              · have _h := True.intro
                refine lv_aload_n hx hb dX3_make_111 rfl (lv_at hl 1 rfl) ?_
                refine lv_iconst (v := 3) hx hb dX3_make_112 (by decide) ?_
                refine rx_c (nL' := 2) (rest := []) [.int 3] S P hRw hfl (rm_fail st 0 3) q977 q979 qs17 q980 q38 ⟨by decide +kernel, by decide +kernel, (by decide +kernel : (parseMethodDescriptor yX3_fail.desc).map (fun d => d.parameters.length) = some 1)⟩ dX3_make_113 hl.1 (Nat.le_of_ble_eq_true rfl) ⟨Nat.le_of_ble_eq_true rfl, Nat.le_of_ble_eq_true rfl⟩ ⟨Nat.le_refl _, Nat.le_refl _⟩ (fun H locs x P hRw hfl => ?_)
                refine W.eq (g2 := F0 m 116 ls [.int 0]) rfl ?_
                have hE : s_make st (nI s) k a = (3, 0, st) := by
                  simp [s_make, s_most, his, c7, c12, c40, c50, c62, c74, c108]
                exact rx_iret S P hQ hr hlk dX3_make_116 hRw (hfl.trans (by rw [hE] <;> rfl)) (by rw [hE] <;> rfl) (by rw [hE] <;> rfl)
            · have _h := True.intro
              exact absurd (by rw [c74]; decide) c12
          · rw [bI_eq0, Bool.not_eq_false] at c62
            refine lv_aload_n hx hb dX3_make_65 rfl (lv_at hl 1 rfl) ?_
            refine lv_iconst (v := 1) hx hb dX3_make_66 (by decide) ?_
            refine rx_c (nL' := 2) (rest := []) [.int 1] S P hRw hfl (rm_fail st 0 1) q977 q979 qs17 q980 q38 ⟨by decide +kernel, by decide +kernel, (by decide +kernel : (parseMethodDescriptor yX3_fail.desc).map (fun d => d.parameters.length) = some 1)⟩ dX3_make_67 hl.1 (Nat.le_of_ble_eq_true rfl) ⟨Nat.le_of_ble_eq_true rfl, Nat.le_of_ble_eq_true rfl⟩ ⟨Nat.le_refl _, Nat.le_refl _⟩ (fun H locs x P hRw hfl => ?_)
            refine W.eq (g2 := F0 m 70 ls [.int 0]) rfl ?_
            have hE : s_make st sv k a = (1, 0, st) := by
              simp [s_make, s_most, c7, c12, c40, c50, c62]
            exact rx_iret S P hQ hr hlk dX3_make_70 hRw (hfl.trans (by rw [hE] <;> rfl)) (by rw [hE] <;> rfl) (by rw [hE] <;> rfl)
