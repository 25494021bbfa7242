/-! the reference's public methods, by gen_ref5.py -/
set_option maxHeartbeats 4000000 in
set_option maxRecDepth 100000 in
theorem rm_release {l : Launch} {D : va_G} {cs : Nat → ClassId} {r : Nat} {ad : Nat → Nat} {L : List Nat} (n : Nat) (st : St) (fl : Int32) (hok : Ok n st) (v sv mm : Int32) : RM l D cs yX3_release cX3_release 7 (some .int) (rmL 4 0 0) r ad L [.ref r, .int v, .int sv, .int mm] st fl (some (.int (s_release st v sv mm).2.1)) ((s_release st v sv mm).2.2) ((s_release st v sv mm).1) := by
  refine rm_of rfl (Nat.le_of_ble_eq_true rfl) ?_
  intro f0 x sz p e u m below meth c S P hRw hfl hr hlk ls hl Q hQ
  have hl : lv_has ls 7 [(0, .ref r), (1, .int v), (2, .int sv), (3, .int mm)] := hl
  have hx := S.1
  have hb := S.2.1
  generalize u.heap = H at P ⊢
  generalize ([] : List Loc) = locs at P ⊢
  refine lv_aload_n hx hb dX3_release_0 rfl (lv_at hl 0 rfl) ?_
  refine lv_aload_n hx hb dX3_release_1 rfl (lv_at hl 0 rfl) ?_
  refine lv_iload_n hx hb dX3_release_2 rfl (lv_at hl 1 rfl) ?_
  refine lv_bipush (v := 6) hx hb dX3_release_3 (by decide) ?_
  refine rx_c (nL' := 3) (rest := [.ref r]) [.int v, .int 6] S P hRw hfl (rm_out st fl v 6) q973 q975 qs16 q976 q38 ⟨by decide +kernel, by decide +kernel, (by decide +kernel : (parseMethodDescriptor yX3_out.desc).map (fun d => d.parameters.length) = some 2)⟩ dX3_release_5 hl.1 (Nat.le_of_ble_eq_true rfl) ⟨Nat.le_of_ble_eq_true rfl, Nat.le_of_ble_eq_true rfl⟩ ⟨Nat.le_refl _, Nat.le_refl _⟩ (fun H locs x P hRw hfl => ?_)
  refine W.eq (g2 := F0 m 8 ls [.int (bI (isOut v 6)), .ref r]) rfl ?_
  refine lv_if_ne (tgt := 30) (x := bI (isOut v 6)) hx hb dX3_release_8 (by decide) (fun c8 => ?_) (fun c8 => ?_)
  · rw [bI_eq0, Bool.not_eq_false] at c8
    refine lv_iconst (v := 1) hx hb dX3_release_30 (by decide) ?_
    refine lv_goto (tgt := 40) hx hb dX3_release_31 (by decide) ?_
    refine rx_putF (v := 1) 0 S P rfl rfl rfl rfl q885 dX3_release_40 (fun H locs P => ?_)
    obtain ⟨x, P, hRw, hfl⟩ := rw_fl (v := 1) P hRw
    refine lv_aload_n hx hb dX3_release_43 rfl (lv_at hl 0 rfl) ?_
    refine rx_getF 0 S P rfl rfl q885 dX3_release_44 ?_
    rw [hfl]
    refine ni_if_le (tgt := 52) (a := 1) hx hb (by omega) dX3_release_47 (by decide) (fun c47 => ?_) (fun c47 => ?_)
    · exact absurd c47 (by decide)
    · have _h := True.intro
      refine lv_iconst (v := 0) hx hb dX3_release_50 (by decide) ?_
      have hE : s_release st v sv mm = (1, 0, st) := by
        simp [isOut02, isOut12, s_release, s_rel, c8]
      exact rx_iret S P hQ hr hlk dX3_release_51 hRw (hfl.trans (by rw [hE] <;> rfl)) (by rw [hE] <;> rfl) (by rw [hE] <;> rfl)
  · rw [bI_eq0] at c8
    obtain ⟨t, ht, rfl⟩ := isOut_f (N := 6) rfl (by decide) c8
    have hit := iN_nI (N := 6) ht (by decide)
    refine lv_aload_n hx hb dX3_release_11 rfl (lv_at hl 0 rfl) ?_
    refine lv_iload_n hx hb dX3_release_12 rfl (lv_at hl 2 rfl) ?_
    refine lv_bipush (v := 8) hx hb dX3_release_13 (by decide) ?_
    refine rx_c (nL' := 3) (rest := [.ref r]) [.int sv, .int 8] S P hRw hfl (rm_out st fl sv 8) q973 q975 qs16 q976 q38 ⟨by decide +kernel, by decide +kernel, (by decide +kernel : (parseMethodDescriptor yX3_out.desc).map (fun d => d.parameters.length) = some 2)⟩ dX3_release_15 hl.1 (Nat.le_of_ble_eq_true rfl) ⟨Nat.le_of_ble_eq_true rfl, Nat.le_of_ble_eq_true rfl⟩ ⟨Nat.le_refl _, Nat.le_refl _⟩ (fun H locs x P hRw hfl => ?_)
    refine W.eq (g2 := F0 m 18 ls [.int (bI (isOut sv 8)), .ref r]) rfl ?_
    refine lv_if_ne (tgt := 30) (x := bI (isOut sv 8)) hx hb dX3_release_18 (by decide) (fun c18 => ?_) (fun c18 => ?_)
    · rw [bI_eq0, Bool.not_eq_false] at c18
      refine lv_iconst (v := 1) hx hb dX3_release_30 (by decide) ?_
      refine lv_goto (tgt := 40) hx hb dX3_release_31 (by decide) ?_
      refine rx_putF (v := 1) 0 S P rfl rfl rfl rfl q885 dX3_release_40 (fun H locs P => ?_)
      obtain ⟨x, P, hRw, hfl⟩ := rw_fl (v := 1) P hRw
      refine lv_aload_n hx hb dX3_release_43 rfl (lv_at hl 0 rfl) ?_
      refine rx_getF 0 S P rfl rfl q885 dX3_release_44 ?_
      rw [hfl]
      refine ni_if_le (tgt := 52) (a := 1) hx hb (by omega) dX3_release_47 (by decide) (fun c47 => ?_) (fun c47 => ?_)
      · exact absurd c47 (by decide)
      · have _h := True.intro
        refine lv_iconst (v := 0) hx hb dX3_release_50 (by decide) ?_
        have hE : s_release st (nI t) sv mm = (1, 0, st) := by
          simp [isOut02, isOut12, s_release, s_rel, hit, c8, c18]
        exact rx_iret S P hQ hr hlk dX3_release_51 hRw (hfl.trans (by rw [hE] <;> rfl)) (by rw [hE] <;> rfl) (by rw [hE] <;> rfl)
    · rw [bI_eq0] at c18
      obtain ⟨s, hs, rfl⟩ := isOut_f (N := 8) rfl (by decide) c18
      have his := iN_nI (N := 8) hs (by decide)
      refine lv_aload_n hx hb dX3_release_21 rfl (lv_at hl 0 rfl) ?_
      refine lv_iload_n hx hb dX3_release_22 rfl (lv_at hl 3 rfl) ?_
      refine lv_iconst (v := 2) hx hb dX3_release_23 (by decide) ?_
      refine rx_c (nL' := 3) (rest := [.ref r]) [.int mm, .int 2] S P hRw hfl (rm_out st fl mm 2) q973 q975 qs16 q976 q38 ⟨by decide +kernel, by decide +kernel, (by decide +kernel : (parseMethodDescriptor yX3_out.desc).map (fun d => d.parameters.length) = some 2)⟩ dX3_release_24 hl.1 (Nat.le_of_ble_eq_true rfl) ⟨Nat.le_of_ble_eq_true rfl, Nat.le_of_ble_eq_true rfl⟩ ⟨Nat.le_refl _, Nat.le_refl _⟩ (fun H locs x P hRw hfl => ?_)
      refine W.eq (g2 := F0 m 27 ls [.int (bI (isOut mm 2)), .ref r]) rfl ?_
      refine lv_if_eq (tgt := 34) (x := bI (isOut mm 2)) hx hb dX3_release_27 (by decide) (fun c27 => ?_) (fun c27 => ?_)
      · rw [bI_eq0] at c27
        refine lv_aload_n hx hb dX3_release_34 rfl (lv_at hl 0 rfl) ?_
        refine lv_iload_n hx hb dX3_release_35 rfl (lv_at hl 1 rfl) ?_
        refine lv_iload_n hx hb dX3_release_36 rfl (lv_at hl 2 rfl) ?_
        refine rx_c (nL' := 3) (rest := [.ref r]) [.int (nI t), .int (nI s)] S P hRw hfl (rm_check st fl t s (by omega) (by omega)) q996 q998 qs19 q999 q38 ⟨by decide +kernel, by decide +kernel, (by decide +kernel : (parseMethodDescriptor yX3_check.desc).map (fun d => d.parameters.length) = some 2)⟩ dX3_release_37 hl.1 (Nat.le_of_ble_eq_true rfl) ⟨Nat.le_of_ble_eq_true rfl, Nat.le_of_ble_eq_true rfl⟩ ⟨Nat.le_refl _, Nat.le_refl _⟩ (fun H locs x P hRw hfl => ?_)
        refine W.eq (g2 := F0 m 40 ls [.int (s_check st t s), .ref r]) rfl ?_
        refine rx_putF (v := s_check st t s) 0 S P rfl rfl rfl rfl q885 dX3_release_40 (fun H locs P => ?_)
        obtain ⟨x, P, hRw, hfl⟩ := rw_fl (v := s_check st t s) P hRw
        refine lv_aload_n hx hb dX3_release_43 rfl (lv_at hl 0 rfl) ?_
        refine rx_getF 0 S P rfl rfl q885 dX3_release_44 ?_
        rw [hfl]
        refine lw_if_le (tgt := 52) (x := s_check st t s) hx hb dX3_release_47 (by decide) (fun c47 => ?_) (fun c47 => ?_)
        · have _h := True.intro
          rw [s_check_pos, Decidable.not_not] at c47
          rw [c47] at hfl
          refine lv_aload_n hx hb dX3_release_52 rfl (lv_at hl 0 rfl) ?_
          refine rx_ref 12 S P (by decide) q897 dX3_release_53 ?_
          refine lv_iload_n hx hb dX3_release_56 rfl (lv_at hl 2 rfl) ?_
          refine rx_iald 12 s S P rfl rfl (by show _ < _; simp only [rN]; omega) dX3_release_57 ?_
          refine lv_istore (lv' := [(4, .int (st.1 12 s)), (0, .ref r), (1, .int (nI t)), (2, .int (nI s)), (3, .int mm)]) hx hb dX3_release_58 hl (by decide) rfl (fun ls hl => ?_)
          refine lv_aload_n hx hb dX3_release_60 rfl (lv_at hl 1 rfl) ?_
          refine rx_ref 19 S P (by decide) q904 dX3_release_61 ?_
          refine lv_iload_n hx hb dX3_release_64 rfl (lv_at hl 3 rfl) ?_
          refine rx_ialdG 19 s S P rfl rfl (by show _ < _; simp only [rN]; omega) dX3_release_65 ?_
          refine lw_eqi (y := nI ((st.2.2 s).length)) ((hRw s hs).1) ?_
          refine lv_istore (lv' := [(5, .int (nI ((st.2.2 s).length))), (4, .int (st.1 12 s)), (0, .ref r), (1, .int (nI t)), (2, .int (nI s)), (3, .int mm)]) hx hb dX3_release_66 hl (by decide) rfl (fun ls hl => ?_)
          refine lv_iload hx hb dX3_release_68 (lv_at hl 1 rfl) ?_
          refine lv_bipush (v := 6) hx hb dX3_release_70 (by decide) ?_
          refine lv_icmp_eq (tgt := 98) (x := st.1 12 s) (y := 6) hx hb dX3_release_72 (by decide) (fun c72 => ?_) (fun c72 => ?_)
          · have _h := True.intro
            refine lv_aload_n hx hb dX3_release_98 rfl (lv_at hl 2 rfl) ?_
            refine lv_iconst (v := 4) hx hb dX3_release_99 (by decide) ?_
            refine rx_c (nL' := 2) (rest := []) [.int 4] S P hRw hfl (rm_fail st 0 4) q977 q979 qs17 q980 q38 ⟨by decide +kernel, by decide +kernel, (by decide +kernel : (parseMethodDescriptor yX3_fail.desc).map (fun d => d.parameters.length) = some 1)⟩ dX3_release_100 hl.1 (Nat.le_of_ble_eq_true rfl) ⟨Nat.le_of_ble_eq_true rfl, Nat.le_of_ble_eq_true rfl⟩ ⟨Nat.le_refl _, Nat.le_refl _⟩ (fun H locs x P hRw hfl => ?_)
            refine W.eq (g2 := F0 m 103 ls [.int 0]) rfl ?_
            have hE : s_release st (nI t) (nI s) mm = (4, 0, st) := by
              simp [isOut02, isOut12, s_release, s_rel, hit, his, c8, c18, c27, c47, c72]
            exact rx_iret S P hQ hr hlk dX3_release_103 hRw (hfl.trans (by rw [hE] <;> rfl)) (by rw [hE] <;> rfl) (by rw [hE] <;> rfl)
          · have _h := True.intro
            refine lv_iload hx hb dX3_release_75 (lv_at hl 1 rfl) ?_
            refine lv_iconst (v := 2) hx hb dX3_release_77 (by decide) ?_
            refine lv_icmp_eq (tgt := 87) (x := st.1 12 s) (y := 2) hx hb dX3_release_78 (by decide) (fun c78 => ?_) (fun c78 => ?_)
            · have _h := True.intro
              refine lv_aload_n hx hb dX3_release_87 rfl (lv_at hl 2 rfl) ?_
              refine rx_ref 15 S P (by decide) q900 dX3_release_88 ?_
              refine lv_iload_n hx hb dX3_release_91 rfl (lv_at hl 4 rfl) ?_
              refine rx_iald 15 s S P rfl rfl (by show _ < _; simp only [rN]; omega) dX3_release_92 ?_
              refine lv_bipush (v := 100) hx hb dX3_release_93 (by decide) ?_
              refine lv_icmp_ne (tgt := 104) (x := st.1 15 s) (y := 100) hx hb dX3_release_95 (by decide) (fun c95 => ?_) (fun c95 => ?_)
              · have _h := True.intro
                refine lv_aload_n hx hb dX3_release_104 rfl (lv_at hl 2 rfl) ?_
                refine rx_ref 13 S P (by decide) q898 dX3_release_105 ?_
                refine lv_iload_n hx hb dX3_release_108 rfl (lv_at hl 4 rfl) ?_
                refine rx_iald 13 s S P rfl rfl (by show _ < _; simp only [rN]; omega) dX3_release_109 ?_
                refine lv_iload_n hx hb dX3_release_110 rfl (lv_at hl 3 rfl) ?_
                refine lv_icmp_ne (tgt := 118) (x := st.1 13 s) (y := nI t) hx hb dX3_release_111 (by decide) (fun c111 => ?_) (fun c111 => ?_)
                · have _h := True.intro
                  refine lv_iconst (v := 0) hx hb dX3_release_118 (by decide) ?_
                  refine lv_istore (lv' := [(6, .int 0), (5, .int (nI ((st.2.2 s).length))), (4, .int (st.1 12 s)), (0, .ref r), (1, .int (nI t)), (2, .int (nI s)), (3, .int mm)]) hx hb dX3_release_119 hl (by decide) rfl (fun ls hl => ?_)
                  refine lv_iload hx hb dX3_release_121 (lv_at hl 2 rfl) ?_
                  refine lv_iconst (v := 5) hx hb dX3_release_123 (by decide) ?_
                  refine lv_icmp_ne (tgt := 169) (x := st.1 12 s) (y := 5) hx hb dX3_release_124 (by decide) (fun c124 => ?_) (fun c124 => ?_)
                  · have _h := True.intro
                    refine lv_iload hx hb dX3_release_169 (lv_at hl 2 rfl) ?_
                    refine lv_iconst (v := 2) hx hb dX3_release_171 (by decide) ?_
                    refine lv_icmp_eq (tgt := 181) (x := st.1 12 s) (y := 2) hx hb dX3_release_172 (by decide) (fun c172 => ?_) (fun c172 => ?_)
                    · have _h := True.intro
                      refine lv_aload_n hx hb dX3_release_181 rfl (lv_at hl 3 rfl) ?_
                      refine rx_ref 15 S P (by decide) q900 dX3_release_182 ?_
                      refine lv_iload_n hx hb dX3_release_185 rfl (lv_at hl 5 rfl) ?_
                      refine lv_dup2_11 hx hb dX3_release_186 rfl rfl ?_
                      refine rx_iald 15 s S P rfl rfl (by show _ < _; simp only [rN]; omega) dX3_release_187 ?_
                      refine lv_iconst (v := 1) hx hb dX3_release_188 (by decide) ?_
                      refine lv_iadd hx hb dX3_release_189 ?_
                      refine rx_iast (v := (st.1 15 s) + 1) 15 s S P rfl rfl (by show _ < _; simp only [rN]; omega) dX3_release_190 (fun H locs P => ?_)
                      refine lv_goto (tgt := 267) hx hb dX3_release_191 (by decide) ?_
                      refine lv_aload_n hx hb dX3_release_267 rfl (lv_at hl 3 rfl) ?_
                      refine lv_iload_n hx hb dX3_release_268 rfl (lv_at hl 5 rfl) ?_
                      refine rx_c (nL' := 3) (rest := []) [.int (nI s)] S P hRw hfl (rm_serve (sI st 15 s ((st.1 15 s) + 1)) 0 s (by omega) hok.wf hok.db) q1036 q1038 qs28 q1039 q38 ⟨by decide +kernel, by decide +kernel, (by decide +kernel : (parseMethodDescriptor yX3_serve.desc).map (fun d => d.parameters.length) = some 1)⟩ dX3_release_269 hl.1 (Nat.le_of_ble_eq_true rfl) ⟨Nat.le_of_ble_eq_true rfl, Nat.le_of_ble_eq_true rfl⟩ ⟨Nat.le_refl _, Nat.le_refl _⟩ (fun H locs x P hRw hfl => ?_)
                      refine W.eq (g2 := F0 m 272 ls []) rfl ?_
                      refine lv_iload hx hb dX3_release_272 (lv_at hl 1 rfl) ?_
                      have hE : s_release st (nI t) (nI s) mm = (0, nI ((st.2.2 s).length), s_serve (sI st 15 s ((st.1 15 s) + 1)) s) := by
                        simp [isOut02, isOut12, s_release, s_rel, hit, his, c8, c18, c27, c47, c72, c78, c95, c111, c124, c172]
                      exact rx_iret S P hQ hr hlk dX3_release_274 hRw (hfl.trans (by rw [hE] <;> rfl)) (by rw [hE] <;> rfl) (by rw [hE] <;> rfl)
                    · exact absurd c78 c172
                  · exact absurd (c78.symm.trans c124) (by decide)
                · have _h := True.intro
                  refine lv_iconst (v := 1) hx hb dX3_release_114 (by decide) ?_
                  refine lv_goto (tgt := 119) hx hb dX3_release_115 (by decide) ?_
                  refine lv_istore (lv' := [(6, .int 1), (5, .int (nI ((st.2.2 s).length))), (4, .int (st.1 12 s)), (0, .ref r), (1, .int (nI t)), (2, .int (nI s)), (3, .int mm)]) hx hb dX3_release_119 hl (by decide) rfl (fun ls hl => ?_)
                  refine lv_iload hx hb dX3_release_121 (lv_at hl 2 rfl) ?_
                  refine lv_iconst (v := 5) hx hb dX3_release_123 (by decide) ?_
                  refine lv_icmp_ne (tgt := 169) (x := st.1 12 s) (y := 5) hx hb dX3_release_124 (by decide) (fun c124 => ?_) (fun c124 => ?_)
                  · have _h := True.intro
                    refine lv_iload hx hb dX3_release_169 (lv_at hl 2 rfl) ?_
                    refine lv_iconst (v := 2) hx hb dX3_release_171 (by decide) ?_
                    refine lv_icmp_eq (tgt := 181) (x := st.1 12 s) (y := 2) hx hb dX3_release_172 (by decide) (fun c172 => ?_) (fun c172 => ?_)
                    · have _h := True.intro
                      refine lv_aload_n hx hb dX3_release_181 rfl (lv_at hl 3 rfl) ?_
                      refine rx_ref 15 S P (by decide) q900 dX3_release_182 ?_
                      refine lv_iload_n hx hb dX3_release_185 rfl (lv_at hl 5 rfl) ?_
                      refine lv_dup2_11 hx hb dX3_release_186 rfl rfl ?_
                      refine rx_iald 15 s S P rfl rfl (by show _ < _; simp only [rN]; omega) dX3_release_187 ?_
                      refine lv_iconst (v := 1) hx hb dX3_release_188 (by decide) ?_
                      refine lv_iadd hx hb dX3_release_189 ?_
                      refine rx_iast (v := (st.1 15 s) + 1) 15 s S P rfl rfl (by show _ < _; simp only [rN]; omega) dX3_release_190 (fun H locs P => ?_)
                      refine lv_goto (tgt := 267) hx hb dX3_release_191 (by decide) ?_
                      refine lv_aload_n hx hb dX3_release_267 rfl (lv_at hl 3 rfl) ?_
                      refine lv_iload_n hx hb dX3_release_268 rfl (lv_at hl 5 rfl) ?_
                      refine rx_c (nL' := 3) (rest := []) [.int (nI s)] S P hRw hfl (rm_serve (sI st 15 s ((st.1 15 s) + 1)) 0 s (by omega) hok.wf hok.db) q1036 q1038 qs28 q1039 q38 ⟨by decide +kernel, by decide +kernel, (by decide +kernel : (parseMethodDescriptor yX3_serve.desc).map (fun d => d.parameters.length) = some 1)⟩ dX3_release_269 hl.1 (Nat.le_of_ble_eq_true rfl) ⟨Nat.le_of_ble_eq_true rfl, Nat.le_of_ble_eq_true rfl⟩ ⟨Nat.le_refl _, Nat.le_refl _⟩ (fun H locs x P hRw hfl => ?_)
                      refine W.eq (g2 := F0 m 272 ls []) rfl ?_
                      refine lv_iload hx hb dX3_release_272 (lv_at hl 1 rfl) ?_
                      have hE : s_release st (nI t) (nI s) mm = (0, nI ((st.2.2 s).length), s_serve (sI st 15 s ((st.1 15 s) + 1)) s) := by
                        simp [isOut02, isOut12, s_release, s_rel, hit, his, c8, c18, c27, c47, c72, c78, c95, c111, c124, c172]
                      exact rx_iret S P hQ hr hlk dX3_release_274 hRw (hfl.trans (by rw [hE] <;> rfl)) (by rw [hE] <;> rfl) (by rw [hE] <;> rfl)
                    · exact absurd c78 c172
                  · exact absurd (c78.symm.trans c124) (by decide)
              · have _h := True.intro
                refine lv_aload_n hx hb dX3_release_98 rfl (lv_at hl 2 rfl) ?_
                refine lv_iconst (v := 4) hx hb dX3_release_99 (by decide) ?_
                refine rx_c (nL' := 2) (rest := []) [.int 4] S P hRw hfl (rm_fail st 0 4) q977 q979 qs17 q980 q38 ⟨by decide +kernel, by decide +kernel, (by decide +kernel : (parseMethodDescriptor yX3_fail.desc).map (fun d => d.parameters.length) = some 1)⟩ dX3_release_100 hl.1 (Nat.le_of_ble_eq_true rfl) ⟨Nat.le_of_ble_eq_true rfl, Nat.le_of_ble_eq_true rfl⟩ ⟨Nat.le_refl _, Nat.le_refl _⟩ (fun H locs x P hRw hfl => ?_)
                refine W.eq (g2 := F0 m 103 ls [.int 0]) rfl ?_
                have hE : s_release st (nI t) (nI s) mm = (4, 0, st) := by
                  simp [isOut02, isOut12, s_release, s_rel, hit, his, c8, c18, c27, c47, c72, c78, c95]
                exact rx_iret S P hQ hr hlk dX3_release_103 hRw (hfl.trans (by rw [hE] <;> rfl)) (by rw [hE] <;> rfl) (by rw [hE] <;> rfl)
            · have _h := True.intro
              refine lv_iload hx hb dX3_release_81 (lv_at hl 1 rfl) ?_
              refine lv_iconst (v := 3) hx hb dX3_release_83 (by decide) ?_
              refine lv_icmp_ne (tgt := 104) (x := st.1 12 s) (y := 3) hx hb dX3_release_84 (by decide) (fun c84 => ?_) (fun c84 => ?_)
              · have _h := True.intro
                refine lv_aload_n hx hb dX3_release_104 rfl (lv_at hl 2 rfl) ?_
                refine rx_ref 13 S P (by decide) q898 dX3_release_105 ?_
                refine lv_iload_n hx hb dX3_release_108 rfl (lv_at hl 4 rfl) ?_
                refine rx_iald 13 s S P rfl rfl (by show _ < _; simp only [rN]; omega) dX3_release_109 ?_
                refine lv_iload_n hx hb dX3_release_110 rfl (lv_at hl 3 rfl) ?_
                refine lv_icmp_ne (tgt := 118) (x := st.1 13 s) (y := nI t) hx hb dX3_release_111 (by decide) (fun c111 => ?_) (fun c111 => ?_)
                · have _h := True.intro
                  refine lv_iconst (v := 0) hx hb dX3_release_118 (by decide) ?_
                  refine lv_istore (lv' := [(6, .int 0), (5, .int (nI ((st.2.2 s).length))), (4, .int (st.1 12 s)), (0, .ref r), (1, .int (nI t)), (2, .int (nI s)), (3, .int mm)]) hx hb dX3_release_119 hl (by decide) rfl (fun ls hl => ?_)
                  refine lv_iload hx hb dX3_release_121 (lv_at hl 2 rfl) ?_
                  refine lv_iconst (v := 5) hx hb dX3_release_123 (by decide) ?_
                  refine lv_icmp_ne (tgt := 169) (x := st.1 12 s) (y := 5) hx hb dX3_release_124 (by decide) (fun c124 => ?_) (fun c124 => ?_)
                  · have _h := True.intro
                    refine lv_iload hx hb dX3_release_169 (lv_at hl 2 rfl) ?_
                    refine lv_iconst (v := 2) hx hb dX3_release_171 (by decide) ?_
                    refine lv_icmp_eq (tgt := 181) (x := st.1 12 s) (y := 2) hx hb dX3_release_172 (by decide) (fun c172 => ?_) (fun c172 => ?_)
                    · exact absurd c172 c78
                    · have _h := True.intro
                      refine lv_iload hx hb dX3_release_175 (lv_at hl 2 rfl) ?_
                      refine lv_iconst (v := 3) hx hb dX3_release_177 (by decide) ?_
                      refine lv_icmp_ne (tgt := 194) (x := st.1 12 s) (y := 3) hx hb dX3_release_178 (by decide) (fun c178 => ?_) (fun c178 => ?_)
                      · have _h := True.intro
                        refine lv_iload hx hb dX3_release_194 (lv_at hl 2 rfl) ?_
                        refine lv_iconst (v := 4) hx hb dX3_release_196 (by decide) ?_
                        refine lv_icmp_ne (tgt := 230) (x := st.1 12 s) (y := 4) hx hb dX3_release_197 (by decide) (fun c197 => ?_) (fun c197 => ?_)
                        · have _h := True.intro
                          refine lv_iload hx hb dX3_release_230 (lv_at hl 0 rfl) ?_
                          refine ni_if_ne (tgt := 241) (a := 0) hx hb (by omega) dX3_release_232 (by decide) (fun c232 => ?_) (fun c232 => ?_)
                          · exact absurd c232 (by decide)
                          · have _h := True.intro
                            refine lv_aload_n hx hb dX3_release_235 rfl (lv_at hl 3 rfl) ?_
                            refine lv_iconst (v := 3) hx hb dX3_release_236 (by decide) ?_
                            refine rx_c (nL' := 2) (rest := []) [.int 3] S P hRw hfl (rm_fail st 0 3) q977 q979 qs17 q980 q38 ⟨by decide +kernel, by decide +kernel, (by decide +kernel : (parseMethodDescriptor yX3_fail.desc).map (fun d => d.parameters.length) = some 1)⟩ dX3_release_237 hl.1 (Nat.le_of_ble_eq_true rfl) ⟨Nat.le_of_ble_eq_true rfl, Nat.le_of_ble_eq_true rfl⟩ ⟨Nat.le_refl _, Nat.le_refl _⟩ (fun H locs x P hRw hfl => ?_)
                            refine W.eq (g2 := F0 m 240 ls [.int 0]) rfl ?_
                            have hE : s_release st (nI t) (nI s) mm = (3, 0, st) := by
                              simp [isOut02, isOut12, s_release, s_rel, hit, his, c8, c18, c27, c47, c72, c78, c84, c111, c124, c172, c178, c197]
                            exact rx_iret S P hQ hr hlk dX3_release_240 hRw (hfl.trans (by rw [hE] <;> rfl)) (by rw [hE] <;> rfl) (by rw [hE] <;> rfl)
                        · have _h := True.intro
                          refine lv_aload_n hx hb dX3_release_200 rfl (lv_at hl 3 rfl) ?_
                          refine rx_ref 15 S P (by decide) q900 dX3_release_201 ?_
                          refine lv_iload_n hx hb dX3_release_204 rfl (lv_at hl 5 rfl) ?_
                          refine lv_aload_n hx hb dX3_release_205 rfl (lv_at hl 3 rfl) ?_
                          refine rx_ref 15 S P (by decide) q900 dX3_release_206 ?_
                          refine lv_iload_n hx hb dX3_release_209 rfl (lv_at hl 5 rfl) ?_
                          refine rx_iald 15 s S P rfl rfl (by show _ < _; simp only [rN]; omega) dX3_release_210 ?_
                          refine lw_if_le (tgt := 225) (x := st.1 15 s) hx hb dX3_release_211 (by decide) (fun c211 => ?_) (fun c211 => ?_)
                          · have _h := True.intro
                            refine lv_iconst (v := 0) hx hb dX3_release_225 (by decide) ?_
                            refine rx_iast (v := 0) 15 s S P rfl rfl (by show _ < _; simp only [rN]; omega) dX3_release_226 (fun H locs P => ?_)
                            refine lv_goto (tgt := 267) hx hb dX3_release_227 (by decide) ?_
                            refine lv_aload_n hx hb dX3_release_267 rfl (lv_at hl 3 rfl) ?_
                            refine lv_iload_n hx hb dX3_release_268 rfl (lv_at hl 5 rfl) ?_
                            refine rx_c (nL' := 3) (rest := []) [.int (nI s)] S P hRw hfl (rm_serve (sI st 15 s 0) 0 s (by omega) hok.wf hok.db) q1036 q1038 qs28 q1039 q38 ⟨by decide +kernel, by decide +kernel, (by decide +kernel : (parseMethodDescriptor yX3_serve.desc).map (fun d => d.parameters.length) = some 1)⟩ dX3_release_269 hl.1 (Nat.le_of_ble_eq_true rfl) ⟨Nat.le_of_ble_eq_true rfl, Nat.le_of_ble_eq_true rfl⟩ ⟨Nat.le_refl _, Nat.le_refl _⟩ (fun H locs x P hRw hfl => ?_)
                            refine W.eq (g2 := F0 m 272 ls []) rfl ?_
                            refine lv_iload hx hb dX3_release_272 (lv_at hl 1 rfl) ?_
                            have hE : s_release st (nI t) (nI s) mm = (0, nI ((st.2.2 s).length), s_serve (sI st 15 s 0) s) := by
                              simp [isOut02, isOut12, s_release, s_rel, hit, his, c8, c18, c27, c47, c72, c78, c84, c111, c124, c172, c178, c197, c211]
                            exact rx_iret S P hQ hr hlk dX3_release_274 hRw (hfl.trans (by rw [hE] <;> rfl)) (by rw [hE] <;> rfl) (by rw [hE] <;> rfl)
                          · have _h := True.intro
                            refine lv_aload_n hx hb dX3_release_214 rfl (lv_at hl 3 rfl) ?_
                            refine rx_ref 15 S P (by decide) q900 dX3_release_215 ?_
                            refine lv_iload_n hx hb dX3_release_218 rfl (lv_at hl 5 rfl) ?_
                            refine rx_iald 15 s S P rfl rfl (by show _ < _; simp only [rN]; omega) dX3_release_219 ?_
                            refine lv_iconst (v := 1) hx hb dX3_release_220 (by decide) ?_
                            refine lv_isub hx hb dX3_release_221 ?_
                            refine lv_goto (tgt := 226) hx hb dX3_release_222 (by decide) ?_
                            refine rx_iast (v := (st.1 15 s) - 1) 15 s S P rfl rfl (by show _ < _; simp only [rN]; omega) dX3_release_226 (fun H locs P => ?_)
                            refine lv_goto (tgt := 267) hx hb dX3_release_227 (by decide) ?_
                            refine lv_aload_n hx hb dX3_release_267 rfl (lv_at hl 3 rfl) ?_
                            refine lv_iload_n hx hb dX3_release_268 rfl (lv_at hl 5 rfl) ?_
                            refine rx_c (nL' := 3) (rest := []) [.int (nI s)] S P hRw hfl (rm_serve (sI st 15 s ((st.1 15 s) - 1)) 0 s (by omega) hok.wf hok.db) q1036 q1038 qs28 q1039 q38 ⟨by decide +kernel, by decide +kernel, (by decide +kernel : (parseMethodDescriptor yX3_serve.desc).map (fun d => d.parameters.length) = some 1)⟩ dX3_release_269 hl.1 (Nat.le_of_ble_eq_true rfl) ⟨Nat.le_of_ble_eq_true rfl, Nat.le_of_ble_eq_true rfl⟩ ⟨Nat.le_refl _, Nat.le_refl _⟩ (fun H locs x P hRw hfl => ?_)
                            refine W.eq (g2 := F0 m 272 ls []) rfl ?_
                            refine lv_iload hx hb dX3_release_272 (lv_at hl 1 rfl) ?_
                            have hE : s_release st (nI t) (nI s) mm = (0, nI ((st.2.2 s).length), s_serve (sI st 15 s ((st.1 15 s) - 1)) s) := by
                              simp [isOut02, isOut12, s_release, s_rel, hit, his, c8, c18, c27, c47, c72, c78, c84, c111, c124, c172, c178, c197, c211]
                            exact rx_iret S P hQ hr hlk dX3_release_274 hRw (hfl.trans (by rw [hE] <;> rfl)) (by rw [hE] <;> rfl) (by rw [hE] <;> rfl)
                      · exact absurd c178 c84
                  · have _h := True.intro
                    refine lv_iload_n hx hb dX3_release_127 rfl (lv_at hl 6 rfl) ?_
                    refine lv_if_ne (tgt := 169) (x := mm) hx hb dX3_release_128 (by decide) (fun c128 => ?_) (fun c128 => ?_)
                    · have _h := True.intro
                      refine lv_iload hx hb dX3_release_169 (lv_at hl 2 rfl) ?_
                      refine lv_iconst (v := 2) hx hb dX3_release_171 (by decide) ?_
                      refine lv_icmp_eq (tgt := 181) (x := st.1 12 s) (y := 2) hx hb dX3_release_172 (by decide) (fun c172 => ?_) (fun c172 => ?_)
                      · exact absurd (c124.symm.trans c172) (by decide)
                      · have _h := True.intro
                        refine lv_iload hx hb dX3_release_175 (lv_at hl 2 rfl) ?_
                        refine lv_iconst (v := 3) hx hb dX3_release_177 (by decide) ?_
                        refine lv_icmp_ne (tgt := 194) (x := st.1 12 s) (y := 3) hx hb dX3_release_178 (by decide) (fun c178 => ?_) (fun c178 => ?_)
                        · have _h := True.intro
                          refine lv_iload hx hb dX3_release_194 (lv_at hl 2 rfl) ?_
                          refine lv_iconst (v := 4) hx hb dX3_release_196 (by decide) ?_
                          refine lv_icmp_ne (tgt := 230) (x := st.1 12 s) (y := 4) hx hb dX3_release_197 (by decide) (fun c197 => ?_) (fun c197 => ?_)
                          · have _h := True.intro
                            refine lv_iload hx hb dX3_release_230 (lv_at hl 0 rfl) ?_
                            refine ni_if_ne (tgt := 241) (a := 0) hx hb (by omega) dX3_release_232 (by decide) (fun c232 => ?_) (fun c232 => ?_)
                            · exact absurd c232 (by decide)
                            · have _h := True.intro
                              refine lv_aload_n hx hb dX3_release_235 rfl (lv_at hl 3 rfl) ?_
                              refine lv_iconst (v := 3) hx hb dX3_release_236 (by decide) ?_
                              refine rx_c (nL' := 2) (rest := []) [.int 3] S P hRw hfl (rm_fail st 0 3) q977 q979 qs17 q980 q38 ⟨by decide +kernel, by decide +kernel, (by decide +kernel : (parseMethodDescriptor yX3_fail.desc).map (fun d => d.parameters.length) = some 1)⟩ dX3_release_237 hl.1 (Nat.le_of_ble_eq_true rfl) ⟨Nat.le_of_ble_eq_true rfl, Nat.le_of_ble_eq_true rfl⟩ ⟨Nat.le_refl _, Nat.le_refl _⟩ (fun H locs x P hRw hfl => ?_)
                              refine W.eq (g2 := F0 m 240 ls [.int 0]) rfl ?_
                              have hE : s_release st (nI t) (nI s) mm = (3, 0, st) := by
                                simp [isOut02, isOut12, s_release, s_rel, hit, his, c8, c18, c27, c47, c72, c78, c84, c111, c124, c128, c172, c178, c197]
                              exact rx_iret S P hQ hr hlk dX3_release_240 hRw (hfl.trans (by rw [hE] <;> rfl)) (by rw [hE] <;> rfl) (by rw [hE] <;> rfl)
                          · exact absurd (c124.symm.trans c197) (by decide)
                        · exact absurd (c124.symm.trans c178) (by decide)
                    · have _h := True.intro
                      refine lv_aload_n hx hb dX3_release_131 rfl (lv_at hl 3 rfl) ?_
                      refine rx_ref 17 S P (by decide) q902 dX3_release_132 ?_
                      refine lv_bipush (v := 6) hx hb dX3_release_135 (by decide) ?_
                      refine lv_iload_n hx hb dX3_release_137 rfl (lv_at hl 5 rfl) ?_
                      refine ni_imul (a := 6) (b := s) hx hb dX3_release_138 ?_
                      refine lv_iload_n hx hb dX3_release_139 rfl (lv_at hl 4 rfl) ?_
                      refine ni_iadd (a := 6 * s) (b := t) hx hb dX3_release_140 ?_
                      refine rx_iald 17 ((6 * s) + t) S P rfl rfl (by show _ < _; simp only [rN]; omega) dX3_release_141 ?_
                      refine lv_if_ne (tgt := 151) (x := st.1 17 ((6 * s) + t)) hx hb dX3_release_142 (by decide) (fun c142 => ?_) (fun c142 => ?_)
                      · have _h := True.intro
                        refine lv_aload_n hx hb dX3_release_151 rfl (lv_at hl 3 rfl) ?_
                        refine rx_ref 17 S P (by decide) q902 dX3_release_152 ?_
                        refine lv_bipush (v := 6) hx hb dX3_release_155 (by decide) ?_
                        refine lv_iload_n hx hb dX3_release_157 rfl (lv_at hl 5 rfl) ?_
                        refine ni_imul (a := 6) (b := s) hx hb dX3_release_158 ?_
                        refine lv_iload_n hx hb dX3_release_159 rfl (lv_at hl 4 rfl) ?_
                        refine ni_iadd (a := 6 * s) (b := t) hx hb dX3_release_160 ?_
                        refine lv_dup2_11 hx hb dX3_release_161 rfl rfl ?_
                        refine rx_iald 17 ((6 * s) + t) S P rfl rfl (by show _ < _; simp only [rN]; omega) dX3_release_162 ?_
                        refine lv_iconst (v := 1) hx hb dX3_release_163 (by decide) ?_
                        refine lv_isub hx hb dX3_release_164 ?_
                        refine rx_iast (v := (st.1 17 ((6 * s) + t)) - 1) 17 ((6 * s) + t) S P rfl rfl (by show _ < _; simp only [rN]; omega) dX3_release_165 (fun H locs P => ?_)
                        refine lv_goto (tgt := 267) hx hb dX3_release_166 (by decide) ?_
                        refine lv_aload_n hx hb dX3_release_267 rfl (lv_at hl 3 rfl) ?_
                        refine lv_iload_n hx hb dX3_release_268 rfl (lv_at hl 5 rfl) ?_
                        refine rx_c (nL' := 3) (rest := []) [.int (nI s)] S P hRw hfl (rm_serve (sI st 17 ((6 * s) + t) ((st.1 17 ((6 * s) + t)) - 1)) 0 s (by omega) hok.wf hok.db) q1036 q1038 qs28 q1039 q38 ⟨by decide +kernel, by decide +kernel, (by decide +kernel : (parseMethodDescriptor yX3_serve.desc).map (fun d => d.parameters.length) = some 1)⟩ dX3_release_269 hl.1 (Nat.le_of_ble_eq_true rfl) ⟨Nat.le_of_ble_eq_true rfl, Nat.le_of_ble_eq_true rfl⟩ ⟨Nat.le_refl _, Nat.le_refl _⟩ (fun H locs x P hRw hfl => ?_)
                        refine W.eq (g2 := F0 m 272 ls []) rfl ?_
                        refine lv_iload hx hb dX3_release_272 (lv_at hl 1 rfl) ?_
                        have hE : s_release st (nI t) (nI s) mm = (0, nI ((st.2.2 s).length), s_serve (sI st 17 ((6 * s) + t) ((st.1 17 ((6 * s) + t)) - 1)) s) := by
                          simp [isOut02, isOut12, s_release, s_rel, hit, his, c8, c18, c27, c47, c72, c78, c84, c111, c124, c128, c142]
                        exact rx_iret S P hQ hr hlk dX3_release_274 hRw (hfl.trans (by rw [hE] <;> rfl)) (by rw [hE] <;> rfl) (by rw [hE] <;> rfl)
                      · have _h := True.intro
                        refine lv_aload_n hx hb dX3_release_145 rfl (lv_at hl 3 rfl) ?_
                        refine lv_iconst (v := 3) hx hb dX3_release_146 (by decide) ?_
                        refine rx_c (nL' := 2) (rest := []) [.int 3] S P hRw hfl (rm_fail st 0 3) q977 q979 qs17 q980 q38 ⟨by decide +kernel, by decide +kernel, (by decide +kernel : (parseMethodDescriptor yX3_fail.desc).map (fun d => d.parameters.length) = some 1)⟩ dX3_release_147 hl.1 (Nat.le_of_ble_eq_true rfl) ⟨Nat.le_of_ble_eq_true rfl, Nat.le_of_ble_eq_true rfl⟩ ⟨Nat.le_refl _, Nat.le_refl _⟩ (fun H locs x P hRw hfl => ?_)
                        refine W.eq (g2 := F0 m 150 ls [.int 0]) rfl ?_
                        have hE : s_release st (nI t) (nI s) mm = (3, 0, st) := by
                          simp [isOut02, isOut12, s_release, s_rel, hit, his, c8, c18, c27, c47, c72, c78, c84, c111, c124, c128, c142]
                        exact rx_iret S P hQ hr hlk dX3_release_150 hRw (hfl.trans (by rw [hE] <;> rfl)) (by rw [hE] <;> rfl) (by rw [hE] <;> rfl)
                · have _h := True.intro
                  refine lv_iconst (v := 1) hx hb dX3_release_114 (by decide) ?_
                  refine lv_goto (tgt := 119) hx hb dX3_release_115 (by decide) ?_
                  refine lv_istore (lv' := [(6, .int 1), (5, .int (nI ((st.2.2 s).length))), (4, .int (st.1 12 s)), (0, .ref r), (1, .int (nI t)), (2, .int (nI s)), (3, .int mm)]) hx hb dX3_release_119 hl (by decide) rfl (fun ls hl => ?_)
                  refine lv_iload hx hb dX3_release_121 (lv_at hl 2 rfl) ?_
                  refine lv_iconst (v := 5) hx hb dX3_release_123 (by decide) ?_
                  refine lv_icmp_ne (tgt := 169) (x := st.1 12 s) (y := 5) hx hb dX3_release_124 (by decide) (fun c124 => ?_) (fun c124 => ?_)
                  · have _h := True.intro
                    refine lv_iload hx hb dX3_release_169 (lv_at hl 2 rfl) ?_
                    refine lv_iconst (v := 2) hx hb dX3_release_171 (by decide) ?_
                    refine lv_icmp_eq (tgt := 181) (x := st.1 12 s) (y := 2) hx hb dX3_release_172 (by decide) (fun c172 => ?_) (fun c172 => ?_)
                    · exact absurd c172 c78
                    · have _h := True.intro
                      refine lv_iload hx hb dX3_release_175 (lv_at hl 2 rfl) ?_
                      refine lv_iconst (v := 3) hx hb dX3_release_177 (by decide) ?_
                      refine lv_icmp_ne (tgt := 194) (x := st.1 12 s) (y := 3) hx hb dX3_release_178 (by decide) (fun c178 => ?_) (fun c178 => ?_)
                      · have _h := True.intro
                        refine lv_iload hx hb dX3_release_194 (lv_at hl 2 rfl) ?_
                        refine lv_iconst (v := 4) hx hb dX3_release_196 (by decide) ?_
                        refine lv_icmp_ne (tgt := 230) (x := st.1 12 s) (y := 4) hx hb dX3_release_197 (by decide) (fun c197 => ?_) (fun c197 => ?_)
                        · have _h := True.intro
                          refine lv_iload hx hb dX3_release_230 (lv_at hl 0 rfl) ?_
                          refine ni_if_ne (tgt := 241) (a := 1) hx hb (by omega) dX3_release_232 (by decide) (fun c232 => ?_) (fun c232 => ?_)
                          · have _h := True.intro
                            refine lv_aload_n hx hb dX3_release_241 rfl (lv_at hl 3 rfl) ?_
                            refine rx_ref 14 S P (by decide) q899 dX3_release_242 ?_
                            refine lv_iload_n hx hb dX3_release_245 rfl (lv_at hl 5 rfl) ?_
                            refine lv_dup2_11 hx hb dX3_release_246 rfl rfl ?_
                            refine rx_iald 14 s S P rfl rfl (by show _ < _; simp only [rN]; omega) dX3_release_247 ?_
                            refine lv_iconst (v := 1) hx hb dX3_release_248 (by decide) ?_
                            refine lv_isub hx hb dX3_release_249 ?_
                            refine rx_iast (v := (st.1 14 s) - 1) 14 s S P rfl rfl (by show _ < _; simp only [rN]; omega) dX3_release_250 (fun H locs P => ?_)
                            refine lv_aload_n hx hb dX3_release_251 rfl (lv_at hl 3 rfl) ?_
                            refine rx_ref 14 S P (by decide) q899 dX3_release_252 ?_
                            refine lv_iload_n hx hb dX3_release_255 rfl (lv_at hl 5 rfl) ?_
                            refine rx_iald 14 s S P rfl rfl (by show _ < _; simp only [rN]; omega) dX3_release_256 ?_
                            refine lw_eqi (y := st.1 14 s - 1) (by exact pk_us) ?_
                            refine lv_if_ne (tgt := 267) (x := st.1 14 s - 1) hx hb dX3_release_257 (by decide) (fun c257 => ?_) (fun c257 => ?_)
                            · have _h := True.intro
                              refine lv_aload_n hx hb dX3_release_267 rfl (lv_at hl 3 rfl) ?_
                              refine lv_iload_n hx hb dX3_release_268 rfl (lv_at hl 5 rfl) ?_
                              refine rx_c (nL' := 3) (rest := []) [.int (nI s)] S P hRw hfl (rm_serve (sI st 14 s ((st.1 14 s) - 1)) 0 s (by omega) hok.wf hok.db) q1036 q1038 qs28 q1039 q38 ⟨by decide +kernel, by decide +kernel, (by decide +kernel : (parseMethodDescriptor yX3_serve.desc).map (fun d => d.parameters.length) = some 1)⟩ dX3_release_269 hl.1 (Nat.le_of_ble_eq_true rfl) ⟨Nat.le_of_ble_eq_true rfl, Nat.le_of_ble_eq_true rfl⟩ ⟨Nat.le_refl _, Nat.le_refl _⟩ (fun H locs x P hRw hfl => ?_)
                              refine W.eq (g2 := F0 m 272 ls []) rfl ?_
                              refine lv_iload hx hb dX3_release_272 (lv_at hl 1 rfl) ?_
                              have hE : s_release st (nI t) (nI s) mm = (0, nI ((st.2.2 s).length), s_serve (sI st 14 s ((st.1 14 s) - 1)) s) := by
                                simp [isOut02, isOut12, s_release, s_rel, hit, his, c8, c18, c27, c47, c72, c78, c84, c111, c124, c172, c178, c197, c257]
                              exact rx_iret S P hQ hr hlk dX3_release_274 hRw (hfl.trans (by rw [hE] <;> rfl)) (by rw [hE] <;> rfl) (by rw [hE] <;> rfl)
                            · have _h := True.intro
                              refine lv_aload_n hx hb dX3_release_260 rfl (lv_at hl 3 rfl) ?_
                              refine rx_ref 13 S P (by decide) q898 dX3_release_261 ?_
                              refine lv_iload_n hx hb dX3_release_264 rfl (lv_at hl 5 rfl) ?_
                              refine lv_iconst (v := (-1)) hx hb dX3_release_265 (by decide) ?_
                              refine rx_iast (v := (-1)) 13 s S P rfl rfl (by show _ < _; simp only [rN]; omega) dX3_release_266 (fun H locs P => ?_)
                              refine lv_aload_n hx hb dX3_release_267 rfl (lv_at hl 3 rfl) ?_
                              refine lv_iload_n hx hb dX3_release_268 rfl (lv_at hl 5 rfl) ?_
                              refine rx_c (nL' := 3) (rest := []) [.int (nI s)] S P hRw hfl (rm_serve (sI (sI st 14 s ((st.1 14 s) - 1)) 13 s (-1)) 0 s (by omega) hok.wf hok.db) q1036 q1038 qs28 q1039 q38 ⟨by decide +kernel, by decide +kernel, (by decide +kernel : (parseMethodDescriptor yX3_serve.desc).map (fun d => d.parameters.length) = some 1)⟩ dX3_release_269 hl.1 (Nat.le_of_ble_eq_true rfl) ⟨Nat.le_of_ble_eq_true rfl, Nat.le_of_ble_eq_true rfl⟩ ⟨Nat.le_refl _, Nat.le_refl _⟩ (fun H locs x P hRw hfl => ?_)
                              refine W.eq (g2 := F0 m 272 ls []) rfl ?_
                              refine lv_iload hx hb dX3_release_272 (lv_at hl 1 rfl) ?_
                              have hE : s_release st (nI t) (nI s) mm = (0, nI ((st.2.2 s).length), s_serve (sI (sI st 14 s ((st.1 14 s) - 1)) 13 s (-1)) s) := by
                                simp [isOut02, isOut12, s_release, s_rel, hit, his, c8, c18, c27, c47, c72, c78, c84, c111, c124, c172, c178, c197, c257]
                              exact rx_iret S P hQ hr hlk dX3_release_274 hRw (hfl.trans (by rw [hE] <;> rfl)) (by rw [hE] <;> rfl) (by rw [hE] <;> rfl)
                          · exact absurd c232 (by decide)
                        · have _h := True.intro
                          refine lv_aload_n hx hb dX3_release_200 rfl (lv_at hl 3 rfl) ?_
                          refine rx_ref 15 S P (by decide) q900 dX3_release_201 ?_
                          refine lv_iload_n hx hb dX3_release_204 rfl (lv_at hl 5 rfl) ?_
                          refine lv_aload_n hx hb dX3_release_205 rfl (lv_at hl 3 rfl) ?_
                          refine rx_ref 15 S P (by decide) q900 dX3_release_206 ?_
                          refine lv_iload_n hx hb dX3_release_209 rfl (lv_at hl 5 rfl) ?_
                          refine rx_iald 15 s S P rfl rfl (by show _ < _; simp only [rN]; omega) dX3_release_210 ?_
                          refine lw_if_le (tgt := 225) (x := st.1 15 s) hx hb dX3_release_211 (by decide) (fun c211 => ?_) (fun c211 => ?_)
                          · have _h := True.intro
                            refine lv_iconst (v := 0) hx hb dX3_release_225 (by decide) ?_
                            refine rx_iast (v := 0) 15 s S P rfl rfl (by show _ < _; simp only [rN]; omega) dX3_release_226 (fun H locs P => ?_)
                            refine lv_goto (tgt := 267) hx hb dX3_release_227 (by decide) ?_
                            refine lv_aload_n hx hb dX3_release_267 rfl (lv_at hl 3 rfl) ?_
                            refine lv_iload_n hx hb dX3_release_268 rfl (lv_at hl 5 rfl) ?_
                            refine rx_c (nL' := 3) (rest := []) [.int (nI s)] S P hRw hfl (rm_serve (sI st 15 s 0) 0 s (by omega) hok.wf hok.db) q1036 q1038 qs28 q1039 q38 ⟨by decide +kernel, by decide +kernel, (by decide +kernel : (parseMethodDescriptor yX3_serve.desc).map (fun d => d.parameters.length) = some 1)⟩ dX3_release_269 hl.1 (Nat.le_of_ble_eq_true rfl) ⟨Nat.le_of_ble_eq_true rfl, Nat.le_of_ble_eq_true rfl⟩ ⟨Nat.le_refl _, Nat.le_refl _⟩ (fun H locs x P hRw hfl => ?_)
                            refine W.eq (g2 := F0 m 272 ls []) rfl ?_
                            refine lv_iload hx hb dX3_release_272 (lv_at hl 1 rfl) ?_
                            have hE : s_release st (nI t) (nI s) mm = (0, nI ((st.2.2 s).length), s_serve (sI st 15 s 0) s) := by
                              simp [isOut02, isOut12, s_release, s_rel, hit, his, c8, c18, c27, c47, c72, c78, c84, c111, c124, c172, c178, c197, c211]
                            exact rx_iret S P hQ hr hlk dX3_release_274 hRw (hfl.trans (by rw [hE] <;> rfl)) (by rw [hE] <;> rfl) (by rw [hE] <;> rfl)
                          · have _h := True.intro
                            refine lv_aload_n hx hb dX3_release_214 rfl (lv_at hl 3 rfl) ?_
                            refine rx_ref 15 S P (by decide) q900 dX3_release_215 ?_
                            refine lv_iload_n hx hb dX3_release_218 rfl (lv_at hl 5 rfl) ?_
                            refine rx_iald 15 s S P rfl rfl (by show _ < _; simp only [rN]; omega) dX3_release_219 ?_
                            refine lv_iconst (v := 1) hx hb dX3_release_220 (by decide) ?_
                            refine lv_isub hx hb dX3_release_221 ?_
                            refine lv_goto (tgt := 226) hx hb dX3_release_222 (by decide) ?_
                            refine rx_iast (v := (st.1 15 s) - 1) 15 s S P rfl rfl (by show _ < _; simp only [rN]; omega) dX3_release_226 (fun H locs P => ?_)
                            refine lv_goto (tgt := 267) hx hb dX3_release_227 (by decide) ?_
                            refine lv_aload_n hx hb dX3_release_267 rfl (lv_at hl 3 rfl) ?_
                            refine lv_iload_n hx hb dX3_release_268 rfl (lv_at hl 5 rfl) ?_
                            refine rx_c (nL' := 3) (rest := []) [.int (nI s)] S P hRw hfl (rm_serve (sI st 15 s ((st.1 15 s) - 1)) 0 s (by omega) hok.wf hok.db) q1036 q1038 qs28 q1039 q38 ⟨by decide +kernel, by decide +kernel, (by decide +kernel : (parseMethodDescriptor yX3_serve.desc).map (fun d => d.parameters.length) = some 1)⟩ dX3_release_269 hl.1 (Nat.le_of_ble_eq_true rfl) ⟨Nat.le_of_ble_eq_true rfl, Nat.le_of_ble_eq_true rfl⟩ ⟨Nat.le_refl _, Nat.le_refl _⟩ (fun H locs x P hRw hfl => ?_)
                            refine W.eq (g2 := F0 m 272 ls []) rfl ?_
                            refine lv_iload hx hb dX3_release_272 (lv_at hl 1 rfl) ?_
                            have hE : s_release st (nI t) (nI s) mm = (0, nI ((st.2.2 s).length), s_serve (sI st 15 s ((st.1 15 s) - 1)) s) := by
                              simp [isOut02, isOut12, s_release, s_rel, hit, his, c8, c18, c27, c47, c72, c78, c84, c111, c124, c172, c178, c197, c211]
                            exact rx_iret S P hQ hr hlk dX3_release_274 hRw (hfl.trans (by rw [hE] <;> rfl)) (by rw [hE] <;> rfl) (by rw [hE] <;> rfl)
                      · exact absurd c178 c84
                  · have _h := True.intro
                    refine lv_iload_n hx hb dX3_release_127 rfl (lv_at hl 6 rfl) ?_
                    refine lv_if_ne (tgt := 169) (x := mm) hx hb dX3_release_128 (by decide) (fun c128 => ?_) (fun c128 => ?_)
                    · have _h := True.intro
                      refine lv_iload hx hb dX3_release_169 (lv_at hl 2 rfl) ?_
                      refine lv_iconst (v := 2) hx hb dX3_release_171 (by decide) ?_
                      refine lv_icmp_eq (tgt := 181) (x := st.1 12 s) (y := 2) hx hb dX3_release_172 (by decide) (fun c172 => ?_) (fun c172 => ?_)
                      · exact absurd (c124.symm.trans c172) (by decide)
                      · have _h := True.intro
                        refine lv_iload hx hb dX3_release_175 (lv_at hl 2 rfl) ?_
                        refine lv_iconst (v := 3) hx hb dX3_release_177 (by decide) ?_
                        refine lv_icmp_ne (tgt := 194) (x := st.1 12 s) (y := 3) hx hb dX3_release_178 (by decide) (fun c178 => ?_) (fun c178 => ?_)
                        · have _h := True.intro
                          refine lv_iload hx hb dX3_release_194 (lv_at hl 2 rfl) ?_
                          refine lv_iconst (v := 4) hx hb dX3_release_196 (by decide) ?_
                          refine lv_icmp_ne (tgt := 230) (x := st.1 12 s) (y := 4) hx hb dX3_release_197 (by decide) (fun c197 => ?_) (fun c197 => ?_)
                          · have _h := True.intro
                            refine lv_iload hx hb dX3_release_230 (lv_at hl 0 rfl) ?_
                            refine ni_if_ne (tgt := 241) (a := 1) hx hb (by omega) dX3_release_232 (by decide) (fun c232 => ?_) (fun c232 => ?_)
                            · have _h := True.intro
                              refine lv_aload_n hx hb dX3_release_241 rfl (lv_at hl 3 rfl) ?_
                              refine rx_ref 14 S P (by decide) q899 dX3_release_242 ?_
                              refine lv_iload_n hx hb dX3_release_245 rfl (lv_at hl 5 rfl) ?_
                              refine lv_dup2_11 hx hb dX3_release_246 rfl rfl ?_
                              refine rx_iald 14 s S P rfl rfl (by show _ < _; simp only [rN]; omega) dX3_release_247 ?_
                              refine lv_iconst (v := 1) hx hb dX3_release_248 (by decide) ?_
                              refine lv_isub hx hb dX3_release_249 ?_
                              refine rx_iast (v := (st.1 14 s) - 1) 14 s S P rfl rfl (by show _ < _; simp only [rN]; omega) dX3_release_250 (fun H locs P => ?_)
                              refine lv_aload_n hx hb dX3_release_251 rfl (lv_at hl 3 rfl) ?_
                              refine rx_ref 14 S P (by decide) q899 dX3_release_252 ?_
                              refine lv_iload_n hx hb dX3_release_255 rfl (lv_at hl 5 rfl) ?_
                              refine rx_iald 14 s S P rfl rfl (by show _ < _; simp only [rN]; omega) dX3_release_256 ?_
                              refine lw_eqi (y := st.1 14 s - 1) (by exact pk_us) ?_
                              refine lv_if_ne (tgt := 267) (x := st.1 14 s - 1) hx hb dX3_release_257 (by decide) (fun c257 => ?_) (fun c257 => ?_)
                              · have _h := True.intro
                                refine lv_aload_n hx hb dX3_release_267 rfl (lv_at hl 3 rfl) ?_
                                refine lv_iload_n hx hb dX3_release_268 rfl (lv_at hl 5 rfl) ?_
                                refine rx_c (nL' := 3) (rest := []) [.int (nI s)] S P hRw hfl (rm_serve (sI st 14 s ((st.1 14 s) - 1)) 0 s (by omega) hok.wf hok.db) q1036 q1038 qs28 q1039 q38 ⟨by decide +kernel, by decide +kernel, (by decide +kernel : (parseMethodDescriptor yX3_serve.desc).map (fun d => d.parameters.length) = some 1)⟩ dX3_release_269 hl.1 (Nat.le_of_ble_eq_true rfl) ⟨Nat.le_of_ble_eq_true rfl, Nat.le_of_ble_eq_true rfl⟩ ⟨Nat.le_refl _, Nat.le_refl _⟩ (fun H locs x P hRw hfl => ?_)
                                refine W.eq (g2 := F0 m 272 ls []) rfl ?_
                                refine lv_iload hx hb dX3_release_272 (lv_at hl 1 rfl) ?_
                                have hE : s_release st (nI t) (nI s) mm = (0, nI ((st.2.2 s).length), s_serve (sI st 14 s ((st.1 14 s) - 1)) s) := by
                                  simp [isOut02, isOut12, s_release, s_rel, hit, his, c8, c18, c27, c47, c72, c78, c84, c111, c124, c128, c172, c178, c197, c257]
                                exact rx_iret S P hQ hr hlk dX3_release_274 hRw (hfl.trans (by rw [hE] <;> rfl)) (by rw [hE] <;> rfl) (by rw [hE] <;> rfl)
                              · have _h := True.intro
                                refine lv_aload_n hx hb dX3_release_260 rfl (lv_at hl 3 rfl) ?_
                                refine rx_ref 13 S P (by decide) q898 dX3_release_261 ?_
                                refine lv_iload_n hx hb dX3_release_264 rfl (lv_at hl 5 rfl) ?_
                                refine lv_iconst (v := (-1)) hx hb dX3_release_265 (by decide) ?_
                                refine rx_iast (v := (-1)) 13 s S P rfl rfl (by show _ < _; simp only [rN]; omega) dX3_release_266 (fun H locs P => ?_)
                                refine lv_aload_n hx hb dX3_release_267 rfl (lv_at hl 3 rfl) ?_
                                refine lv_iload_n hx hb dX3_release_268 rfl (lv_at hl 5 rfl) ?_
                                refine rx_c (nL' := 3) (rest := []) [.int (nI s)] S P hRw hfl (rm_serve (sI (sI st 14 s ((st.1 14 s) - 1)) 13 s (-1)) 0 s (by omega) hok.wf hok.db) q1036 q1038 qs28 q1039 q38 ⟨by decide +kernel, by decide +kernel, (by decide +kernel : (parseMethodDescriptor yX3_serve.desc).map (fun d => d.parameters.length) = some 1)⟩ dX3_release_269 hl.1 (Nat.le_of_ble_eq_true rfl) ⟨Nat.le_of_ble_eq_true rfl, Nat.le_of_ble_eq_true rfl⟩ ⟨Nat.le_refl _, Nat.le_refl _⟩ (fun H locs x P hRw hfl => ?_)
                                refine W.eq (g2 := F0 m 272 ls []) rfl ?_
                                refine lv_iload hx hb dX3_release_272 (lv_at hl 1 rfl) ?_
                                have hE : s_release st (nI t) (nI s) mm = (0, nI ((st.2.2 s).length), s_serve (sI (sI st 14 s ((st.1 14 s) - 1)) 13 s (-1)) s) := by
                                  simp [isOut02, isOut12, s_release, s_rel, hit, his, c8, c18, c27, c47, c72, c78, c84, c111, c124, c128, c172, c178, c197, c257]
                                exact rx_iret S P hQ hr hlk dX3_release_274 hRw (hfl.trans (by rw [hE] <;> rfl)) (by rw [hE] <;> rfl) (by rw [hE] <;> rfl)
                            · exact absurd c232 (by decide)
                          · exact absurd (c124.symm.trans c197) (by decide)
                        · exact absurd (c124.symm.trans c178) (by decide)
                    · have _h := True.intro
                      refine lv_aload_n hx hb dX3_release_131 rfl (lv_at hl 3 rfl) ?_
                      refine rx_ref 17 S P (by decide) q902 dX3_release_132 ?_
                      refine lv_bipush (v := 6) hx hb dX3_release_135 (by decide) ?_
                      refine lv_iload_n hx hb dX3_release_137 rfl (lv_at hl 5 rfl) ?_
                      refine ni_imul (a := 6) (b := s) hx hb dX3_release_138 ?_
                      refine lv_iload_n hx hb dX3_release_139 rfl (lv_at hl 4 rfl) ?_
                      refine ni_iadd (a := 6 * s) (b := t) hx hb dX3_release_140 ?_
                      refine rx_iald 17 ((6 * s) + t) S P rfl rfl (by show _ < _; simp only [rN]; omega) dX3_release_141 ?_
                      refine lv_if_ne (tgt := 151) (x := st.1 17 ((6 * s) + t)) hx hb dX3_release_142 (by decide) (fun c142 => ?_) (fun c142 => ?_)
                      · have _h := True.intro
                        refine lv_aload_n hx hb dX3_release_151 rfl (lv_at hl 3 rfl) ?_
                        refine rx_ref 17 S P (by decide) q902 dX3_release_152 ?_
                        refine lv_bipush (v := 6) hx hb dX3_release_155 (by decide) ?_
                        refine lv_iload_n hx hb dX3_release_157 rfl (lv_at hl 5 rfl) ?_
                        refine ni_imul (a := 6) (b := s) hx hb dX3_release_158 ?_
                        refine lv_iload_n hx hb dX3_release_159 rfl (lv_at hl 4 rfl) ?_
                        refine ni_iadd (a := 6 * s) (b := t) hx hb dX3_release_160 ?_
                        refine lv_dup2_11 hx hb dX3_release_161 rfl rfl ?_
                        refine rx_iald 17 ((6 * s) + t) S P rfl rfl (by show _ < _; simp only [rN]; omega) dX3_release_162 ?_
                        refine lv_iconst (v := 1) hx hb dX3_release_163 (by decide) ?_
                        refine lv_isub hx hb dX3_release_164 ?_
                        refine rx_iast (v := (st.1 17 ((6 * s) + t)) - 1) 17 ((6 * s) + t) S P rfl rfl (by show _ < _; simp only [rN]; omega) dX3_release_165 (fun H locs P => ?_)
                        refine lv_goto (tgt := 267) hx hb dX3_release_166 (by decide) ?_
                        refine lv_aload_n hx hb dX3_release_267 rfl (lv_at hl 3 rfl) ?_
                        refine lv_iload_n hx hb dX3_release_268 rfl (lv_at hl 5 rfl) ?_
                        refine rx_c (nL' := 3) (rest := []) [.int (nI s)] S P hRw hfl (rm_serve (sI st 17 ((6 * s) + t) ((st.1 17 ((6 * s) + t)) - 1)) 0 s (by omega) hok.wf hok.db) q1036 q1038 qs28 q1039 q38 ⟨by decide +kernel, by decide +kernel, (by decide +kernel : (parseMethodDescriptor yX3_serve.desc).map (fun d => d.parameters.length) = some 1)⟩ dX3_release_269 hl.1 (Nat.le_of_ble_eq_true rfl) ⟨Nat.le_of_ble_eq_true rfl, Nat.le_of_ble_eq_true rfl⟩ ⟨Nat.le_refl _, Nat.le_refl _⟩ (fun H locs x P hRw hfl => ?_)
                        refine W.eq (g2 := F0 m 272 ls []) rfl ?_
                        refine lv_iload hx hb dX3_release_272 (lv_at hl 1 rfl) ?_
                        have hE : s_release st (nI t) (nI s) mm = (0, nI ((st.2.2 s).length), s_serve (sI st 17 ((6 * s) + t) ((st.1 17 ((6 * s) + t)) - 1)) s) := by
                          simp [isOut02, isOut12, s_release, s_rel, hit, his, c8, c18, c27, c47, c72, c78, c84, c111, c124, c128, c142]
                        exact rx_iret S P hQ hr hlk dX3_release_274 hRw (hfl.trans (by rw [hE] <;> rfl)) (by rw [hE] <;> rfl) (by rw [hE] <;> rfl)
                      · have _h := True.intro
                        refine lv_aload_n hx hb dX3_release_145 rfl (lv_at hl 3 rfl) ?_
                        refine lv_iconst (v := 3) hx hb dX3_release_146 (by decide) ?_
                        refine rx_c (nL' := 2) (rest := []) [.int 3] S P hRw hfl (rm_fail st 0 3) q977 q979 qs17 q980 q38 ⟨by decide +kernel, by decide +kernel, (by decide +kernel : (parseMethodDescriptor yX3_fail.desc).map (fun d => d.parameters.length) = some 1)⟩ dX3_release_147 hl.1 (Nat.le_of_ble_eq_true rfl) ⟨Nat.le_of_ble_eq_true rfl, Nat.le_of_ble_eq_true rfl⟩ ⟨Nat.le_refl _, Nat.le_refl _⟩ (fun H locs x P hRw hfl => ?_)
                        refine W.eq (g2 := F0 m 150 ls [.int 0]) rfl ?_
                        have hE : s_release st (nI t) (nI s) mm = (3, 0, st) := by
                          simp [isOut02, isOut12, s_release, s_rel, hit, his, c8, c18, c27, c47, c72, c78, c84, c111, c124, c128, c142]
                        exact rx_iret S P hQ hr hlk dX3_release_150 hRw (hfl.trans (by rw [hE] <;> rfl)) (by rw [hE] <;> rfl) (by rw [hE] <;> rfl)
              · have _h := True.intro
                refine lv_aload_n hx hb dX3_release_87 rfl (lv_at hl 2 rfl) ?_
                refine rx_ref 15 S P (by decide) q900 dX3_release_88 ?_
                refine lv_iload_n hx hb dX3_release_91 rfl (lv_at hl 4 rfl) ?_
                refine rx_iald 15 s S P rfl rfl (by show _ < _; simp only [rN]; omega) dX3_release_92 ?_
                refine lv_bipush (v := 100) hx hb dX3_release_93 (by decide) ?_
                refine lv_icmp_ne (tgt := 104) (x := st.1 15 s) (y := 100) hx hb dX3_release_95 (by decide) (fun c95 => ?_) (fun c95 => ?_)
                · have _h := True.intro
                  refine lv_aload_n hx hb dX3_release_104 rfl (lv_at hl 2 rfl) ?_
                  refine rx_ref 13 S P (by decide) q898 dX3_release_105 ?_
                  refine lv_iload_n hx hb dX3_release_108 rfl (lv_at hl 4 rfl) ?_
                  refine rx_iald 13 s S P rfl rfl (by show _ < _; simp only [rN]; omega) dX3_release_109 ?_
                  refine lv_iload_n hx hb dX3_release_110 rfl (lv_at hl 3 rfl) ?_
                  refine lv_icmp_ne (tgt := 118) (x := st.1 13 s) (y := nI t) hx hb dX3_release_111 (by decide) (fun c111 => ?_) (fun c111 => ?_)
                  · have _h := True.intro
                    refine lv_iconst (v := 0) hx hb dX3_release_118 (by decide) ?_
                    refine lv_istore (lv' := [(6, .int 0), (5, .int (nI ((st.2.2 s).length))), (4, .int (st.1 12 s)), (0, .ref r), (1, .int (nI t)), (2, .int (nI s)), (3, .int mm)]) hx hb dX3_release_119 hl (by decide) rfl (fun ls hl => ?_)
                    refine lv_iload hx hb dX3_release_121 (lv_at hl 2 rfl) ?_
                    refine lv_iconst (v := 5) hx hb dX3_release_123 (by decide) ?_
                    refine lv_icmp_ne (tgt := 169) (x := st.1 12 s) (y := 5) hx hb dX3_release_124 (by decide) (fun c124 => ?_) (fun c124 => ?_)
                    · have _h := True.intro
                      refine lv_iload hx hb dX3_release_169 (lv_at hl 2 rfl) ?_
                      refine lv_iconst (v := 2) hx hb dX3_release_171 (by decide) ?_
                      refine lv_icmp_eq (tgt := 181) (x := st.1 12 s) (y := 2) hx hb dX3_release_172 (by decide) (fun c172 => ?_) (fun c172 => ?_)
                      · exact absurd (c84.symm.trans c172) (by decide)
                      · have _h := True.intro
                        refine lv_iload hx hb dX3_release_175 (lv_at hl 2 rfl) ?_
                        refine lv_iconst (v := 3) hx hb dX3_release_177 (by decide) ?_
                        refine lv_icmp_ne (tgt := 194) (x := st.1 12 s) (y := 3) hx hb dX3_release_178 (by decide) (fun c178 => ?_) (fun c178 => ?_)
                        · exact absurd c84 c178
                        · have _h := True.intro
                          refine lv_aload_n hx hb dX3_release_181 rfl (lv_at hl 3 rfl) ?_
                          refine rx_ref 15 S P (by decide) q900 dX3_release_182 ?_
                          refine lv_iload_n hx hb dX3_release_185 rfl (lv_at hl 5 rfl) ?_
                          refine lv_dup2_11 hx hb dX3_release_186 rfl rfl ?_
                          refine rx_iald 15 s S P rfl rfl (by show _ < _; simp only [rN]; omega) dX3_release_187 ?_
                          refine lv_iconst (v := 1) hx hb dX3_release_188 (by decide) ?_
                          refine lv_iadd hx hb dX3_release_189 ?_
                          refine rx_iast (v := (st.1 15 s) + 1) 15 s S P rfl rfl (by show _ < _; simp only [rN]; omega) dX3_release_190 (fun H locs P => ?_)
                          refine lv_goto (tgt := 267) hx hb dX3_release_191 (by decide) ?_
                          refine lv_aload_n hx hb dX3_release_267 rfl (lv_at hl 3 rfl) ?_
                          refine lv_iload_n hx hb dX3_release_268 rfl (lv_at hl 5 rfl) ?_
                          refine rx_c (nL' := 3) (rest := []) [.int (nI s)] S P hRw hfl (rm_serve (sI st 15 s ((st.1 15 s) + 1)) 0 s (by omega) hok.wf hok.db) q1036 q1038 qs28 q1039 q38 ⟨by decide +kernel, by decide +kernel, (by decide +kernel : (parseMethodDescriptor yX3_serve.desc).map (fun d => d.parameters.length) = some 1)⟩ dX3_release_269 hl.1 (Nat.le_of_ble_eq_true rfl) ⟨Nat.le_of_ble_eq_true rfl, Nat.le_of_ble_eq_true rfl⟩ ⟨Nat.le_refl _, Nat.le_refl _⟩ (fun H locs x P hRw hfl => ?_)
                          refine W.eq (g2 := F0 m 272 ls []) rfl ?_
                          refine lv_iload hx hb dX3_release_272 (lv_at hl 1 rfl) ?_
                          have hE : s_release st (nI t) (nI s) mm = (0, nI ((st.2.2 s).length), s_serve (sI st 15 s ((st.1 15 s) + 1)) s) := by
                            simp [isOut02, isOut12, s_release, s_rel, hit, his, c8, c18, c27, c47, c72, c78, c84, c95, c111, c124, c172, c178]
                          exact rx_iret S P hQ hr hlk dX3_release_274 hRw (hfl.trans (by rw [hE] <;> rfl)) (by rw [hE] <;> rfl) (by rw [hE] <;> rfl)
                    · exact absurd (c84.symm.trans c124) (by decide)
                  · have _h := True.intro
                    refine lv_iconst (v := 1) hx hb dX3_release_114 (by decide) ?_
                    refine lv_goto (tgt := 119) hx hb dX3_release_115 (by decide) ?_
                    refine lv_istore (lv' := [(6, .int 1), (5, .int (nI ((st.2.2 s).length))), (4, .int (st.1 12 s)), (0, .ref r), (1, .int (nI t)), (2, .int (nI s)), (3, .int mm)]) hx hb dX3_release_119 hl (by decide) rfl (fun ls hl => ?_)
                    refine lv_iload hx hb dX3_release_121 (lv_at hl 2 rfl) ?_
                    refine lv_iconst (v := 5) hx hb dX3_release_123 (by decide) ?_
                    refine lv_icmp_ne (tgt := 169) (x := st.1 12 s) (y := 5) hx hb dX3_release_124 (by decide) (fun c124 => ?_) (fun c124 => ?_)
                    · have _h := True.intro
                      refine lv_iload hx hb dX3_release_169 (lv_at hl 2 rfl) ?_
                      refine lv_iconst (v := 2) hx hb dX3_release_171 (by decide) ?_
                      refine lv_icmp_eq (tgt := 181) (x := st.1 12 s) (y := 2) hx hb dX3_release_172 (by decide) (fun c172 => ?_) (fun c172 => ?_)
                      · exact absurd (c84.symm.trans c172) (by decide)
                      · have _h := True.intro
                        refine lv_iload hx hb dX3_release_175 (lv_at hl 2 rfl) ?_
                        refine lv_iconst (v := 3) hx hb dX3_release_177 (by decide) ?_
                        refine lv_icmp_ne (tgt := 194) (x := st.1 12 s) (y := 3) hx hb dX3_release_178 (by decide) (fun c178 => ?_) (fun c178 => ?_)
                        · exact absurd c84 c178
                        · have _h := True.intro
                          refine lv_aload_n hx hb dX3_release_181 rfl (lv_at hl 3 rfl) ?_
                          refine rx_ref 15 S P (by decide) q900 dX3_release_182 ?_
                          refine lv_iload_n hx hb dX3_release_185 rfl (lv_at hl 5 rfl) ?_
                          refine lv_dup2_11 hx hb dX3_release_186 rfl rfl ?_
                          refine rx_iald 15 s S P rfl rfl (by show _ < _; simp only [rN]; omega) dX3_release_187 ?_
                          refine lv_iconst (v := 1) hx hb dX3_release_188 (by decide) ?_
                          refine lv_iadd hx hb dX3_release_189 ?_
                          refine rx_iast (v := (st.1 15 s) + 1) 15 s S P rfl rfl (by show _ < _; simp only [rN]; omega) dX3_release_190 (fun H locs P => ?_)
                          refine lv_goto (tgt := 267) hx hb dX3_release_191 (by decide) ?_
                          refine lv_aload_n hx hb dX3_release_267 rfl (lv_at hl 3 rfl) ?_
                          refine lv_iload_n hx hb dX3_release_268 rfl (lv_at hl 5 rfl) ?_
                          refine rx_c (nL' := 3) (rest := []) [.int (nI s)] S P hRw hfl (rm_serve (sI st 15 s ((st.1 15 s) + 1)) 0 s (by omega) hok.wf hok.db) q1036 q1038 qs28 q1039 q38 ⟨by decide +kernel, by decide +kernel, (by decide +kernel : (parseMethodDescriptor yX3_serve.desc).map (fun d => d.parameters.length) = some 1)⟩ dX3_release_269 hl.1 (Nat.le_of_ble_eq_true rfl) ⟨Nat.le_of_ble_eq_true rfl, Nat.le_of_ble_eq_true rfl⟩ ⟨Nat.le_refl _, Nat.le_refl _⟩ (fun H locs x P hRw hfl => ?_)
                          refine W.eq (g2 := F0 m 272 ls []) rfl ?_
                          refine lv_iload hx hb dX3_release_272 (lv_at hl 1 rfl) ?_
                          have hE : s_release st (nI t) (nI s) mm = (0, nI ((st.2.2 s).length), s_serve (sI st 15 s ((st.1 15 s) + 1)) s) := by
                            simp [isOut02, isOut12, s_release, s_rel, hit, his, c8, c18, c27, c47, c72, c78, c84, c95, c111, c124, c172, c178]
                          exact rx_iret S P hQ hr hlk dX3_release_274 hRw (hfl.trans (by rw [hE] <;> rfl)) (by rw [hE] <;> rfl) (by rw [hE] <;> rfl)
                    · exact absurd (c84.symm.trans c124) (by decide)
                · have _h := True.intro
                  refine lv_aload_n hx hb dX3_release_98 rfl (lv_at hl 2 rfl) ?_
                  refine lv_iconst (v := 4) hx hb dX3_release_99 (by decide) ?_
                  refine rx_c (nL' := 2) (rest := []) [.int 4] S P hRw hfl (rm_fail st 0 4) q977 q979 qs17 q980 q38 ⟨by decide +kernel, by decide +kernel, (by decide +kernel : (parseMethodDescriptor yX3_fail.desc).map (fun d => d.parameters.length) = some 1)⟩ dX3_release_100 hl.1 (Nat.le_of_ble_eq_true rfl) ⟨Nat.le_of_ble_eq_true rfl, Nat.le_of_ble_eq_true rfl⟩ ⟨Nat.le_refl _, Nat.le_refl _⟩ (fun H locs x P hRw hfl => ?_)
                  refine W.eq (g2 := F0 m 103 ls [.int 0]) rfl ?_
                  have hE : s_release st (nI t) (nI s) mm = (4, 0, st) := by
                    simp [isOut02, isOut12, s_release, s_rel, hit, his, c8, c18, c27, c47, c72, c78, c84, c95]
                  exact rx_iret S P hQ hr hlk dX3_release_103 hRw (hfl.trans (by rw [hE] <;> rfl)) (by rw [hE] <;> rfl) (by rw [hE] <;> rfl)
        · rw [s_check_pos] at c47
          refine lv_iconst (v := 0) hx hb dX3_release_50 (by decide) ?_
          have hE : s_release st (nI t) (nI s) mm = (s_check st t s, 0, st) := by
            simp [isOut02, isOut12, s_release, s_rel, hit, his, c8, c18, c27, c47]
          exact rx_iret S P hQ hr hlk dX3_release_51 hRw (hfl.trans (by rw [hE] <;> rfl)) (by rw [hE] <;> rfl) (by rw [hE] <;> rfl)
      · rw [bI_eq0, Bool.not_eq_false] at c27
        refine lv_iconst (v := 1) hx hb dX3_release_30 (by decide) ?_
        refine lv_goto (tgt := 40) hx hb dX3_release_31 (by decide) ?_
        refine rx_putF (v := 1) 0 S P rfl rfl rfl rfl q885 dX3_release_40 (fun H locs P => ?_)
        obtain ⟨x, P, hRw, hfl⟩ := rw_fl (v := 1) P hRw
        refine lv_aload_n hx hb dX3_release_43 rfl (lv_at hl 0 rfl) ?_
        refine rx_getF 0 S P rfl rfl q885 dX3_release_44 ?_
        rw [hfl]
        refine ni_if_le (tgt := 52) (a := 1) hx hb (by omega) dX3_release_47 (by decide) (fun c47 => ?_) (fun c47 => ?_)
        · exact absurd c47 (by decide)
        · have _h := True.intro
          refine lv_iconst (v := 0) hx hb dX3_release_50 (by decide) ?_
          have hE : s_release st (nI t) (nI s) mm = (1, 0, st) := by
            simp [isOut02, isOut12, s_release, s_rel, hit, his, c8, c18, c27]
          exact rx_iret S P hQ hr hlk dX3_release_51 hRw (hfl.trans (by rw [hE] <;> rfl)) (by rw [hE] <;> rfl) (by rw [hE] <;> rfl)

set_option maxHeartbeats 4000000 in
set_option maxRecDepth 100000 in
theorem rm_acquire {l : Launch} {D : va_G} {cs : Nat → ClassId} {r : Nat} {ad : Nat → Nat} {L : List Nat} (n : Nat) (st : St) (fl : Int32) (hok : Ok n st) (v sv mm : Int32) (lim : UInt64) : RM l D cs yX3_acquire cX3_acquire 6 (some .int) (rmL 4 0 0) r ad L [.ref r, .int v, .int sv, .int mm, .double lim] st fl (some (.int (s_acquire st v sv mm lim).2.1)) ((s_acquire st v sv mm lim).2.2) ((s_acquire st v sv mm lim).1) := by
  refine rm_of rfl (Nat.le_of_ble_eq_true rfl) ?_
  intro f0 x sz p e u m below meth c S P hRw hfl hr hlk ls hl Q hQ
  have hl : lv_has ls 6 [(0, .ref r), (1, .int v), (2, .int sv), (3, .int mm), (4, .double lim)] := hl
  have hx := S.1
  have hb := S.2.1
  generalize u.heap = H at P ⊢
  generalize ([] : List Loc) = locs at P ⊢
  refine lv_aload_n hx hb dX3_acquire_0 rfl (lv_at hl 0 rfl) ?_
  refine lv_aload_n hx hb dX3_acquire_1 rfl (lv_at hl 0 rfl) ?_
  refine lv_iload_n hx hb dX3_acquire_2 rfl (lv_at hl 1 rfl) ?_
  refine lv_bipush (v := 6) hx hb dX3_acquire_3 (by decide) ?_
  refine rx_c (nL' := 3) (rest := [.ref r]) [.int v, .int 6] S P hRw hfl (rm_out st fl v 6) q973 q975 qs16 q976 q38 ⟨by decide +kernel, by decide +kernel, (by decide +kernel : (parseMethodDescriptor yX3_out.desc).map (fun d => d.parameters.length) = some 2)⟩ dX3_acquire_5 hl.1 (Nat.le_of_ble_eq_true rfl) ⟨Nat.le_of_ble_eq_true rfl, Nat.le_of_ble_eq_true rfl⟩ ⟨Nat.le_refl _, Nat.le_refl _⟩ (fun H locs x P hRw hfl => ?_)
  refine W.eq (g2 := F0 m 8 ls [.int (bI (isOut v 6)), .ref r]) rfl ?_
  refine lv_if_ne (tgt := 39) (x := bI (isOut v 6)) hx hb dX3_acquire_8 (by decide) (fun c8 => ?_) (fun c8 => ?_)
  · rw [bI_eq0, Bool.not_eq_false] at c8
    refine lv_iconst (v := 1) hx hb dX3_acquire_39 (by decide) ?_
    refine lv_goto (tgt := 49) hx hb dX3_acquire_40 (by decide) ?_
    refine rx_putF (v := 1) 0 S P rfl rfl rfl rfl q885 dX3_acquire_49 (fun H locs P => ?_)
    obtain ⟨x, P, hRw, hfl⟩ := rw_fl (v := 1) P hRw
    refine lv_aload_n hx hb dX3_acquire_52 rfl (lv_at hl 0 rfl) ?_
    refine rx_getF 0 S P rfl rfl q885 dX3_acquire_53 ?_
    rw [hfl]
    refine ni_if_le (tgt := 61) (a := 1) hx hb (by omega) dX3_acquire_56 (by decide) (fun c56 => ?_) (fun c56 => ?_)
    · exact absurd c56 (by decide)
    · have _h := True.intro
      refine lv_iconst (v := 0) hx hb dX3_acquire_59 (by decide) ?_
      have hE : s_acquire st v sv mm lim = (1, 0, st) := by
        simp [isOut02, isOut12, s_acquire, s_acq, c8]
      exact rx_iret S P hQ hr hlk dX3_acquire_60 hRw (hfl.trans (by rw [hE] <;> rfl)) (by rw [hE] <;> rfl) (by rw [hE] <;> rfl)
  · rw [bI_eq0] at c8
    obtain ⟨t, ht, rfl⟩ := isOut_f (N := 6) rfl (by decide) c8
    have hit := iN_nI (N := 6) ht (by decide)
    refine lv_aload_n hx hb dX3_acquire_11 rfl (lv_at hl 0 rfl) ?_
    refine lv_iload_n hx hb dX3_acquire_12 rfl (lv_at hl 2 rfl) ?_
    refine lv_bipush (v := 8) hx hb dX3_acquire_13 (by decide) ?_
    refine rx_c (nL' := 3) (rest := [.ref r]) [.int sv, .int 8] S P hRw hfl (rm_out st fl sv 8) q973 q975 qs16 q976 q38 ⟨by decide +kernel, by decide +kernel, (by decide +kernel : (parseMethodDescriptor yX3_out.desc).map (fun d => d.parameters.length) = some 2)⟩ dX3_acquire_15 hl.1 (Nat.le_of_ble_eq_true rfl) ⟨Nat.le_of_ble_eq_true rfl, Nat.le_of_ble_eq_true rfl⟩ ⟨Nat.le_refl _, Nat.le_refl _⟩ (fun H locs x P hRw hfl => ?_)
    refine W.eq (g2 := F0 m 18 ls [.int (bI (isOut sv 8)), .ref r]) rfl ?_
    refine lv_if_ne (tgt := 39) (x := bI (isOut sv 8)) hx hb dX3_acquire_18 (by decide) (fun c18 => ?_) (fun c18 => ?_)
    · rw [bI_eq0, Bool.not_eq_false] at c18
      refine lv_iconst (v := 1) hx hb dX3_acquire_39 (by decide) ?_
      refine lv_goto (tgt := 49) hx hb dX3_acquire_40 (by decide) ?_
      refine rx_putF (v := 1) 0 S P rfl rfl rfl rfl q885 dX3_acquire_49 (fun H locs P => ?_)
      obtain ⟨x, P, hRw, hfl⟩ := rw_fl (v := 1) P hRw
      refine lv_aload_n hx hb dX3_acquire_52 rfl (lv_at hl 0 rfl) ?_
      refine rx_getF 0 S P rfl rfl q885 dX3_acquire_53 ?_
      rw [hfl]
      refine ni_if_le (tgt := 61) (a := 1) hx hb (by omega) dX3_acquire_56 (by decide) (fun c56 => ?_) (fun c56 => ?_)
      · exact absurd c56 (by decide)
      · have _h := True.intro
        refine lv_iconst (v := 0) hx hb dX3_acquire_59 (by decide) ?_
        have hE : s_acquire st (nI t) sv mm lim = (1, 0, st) := by
          simp [isOut02, isOut12, s_acquire, s_acq, hit, c8, c18]
        exact rx_iret S P hQ hr hlk dX3_acquire_60 hRw (hfl.trans (by rw [hE] <;> rfl)) (by rw [hE] <;> rfl) (by rw [hE] <;> rfl)
    · rw [bI_eq0] at c18
      obtain ⟨s, hs, rfl⟩ := isOut_f (N := 8) rfl (by decide) c18
      have his := iN_nI (N := 8) hs (by decide)
      refine lv_aload_n hx hb dX3_acquire_21 rfl (lv_at hl 0 rfl) ?_
      refine lv_iload_n hx hb dX3_acquire_22 rfl (lv_at hl 3 rfl) ?_
      refine lv_iconst (v := 2) hx hb dX3_acquire_23 (by decide) ?_
      refine rx_c (nL' := 3) (rest := [.ref r]) [.int mm, .int 2] S P hRw hfl (rm_out st fl mm 2) q973 q975 qs16 q976 q38 ⟨by decide +kernel, by decide +kernel, (by decide +kernel : (parseMethodDescriptor yX3_out.desc).map (fun d => d.parameters.length) = some 2)⟩ dX3_acquire_24 hl.1 (Nat.le_of_ble_eq_true rfl) ⟨Nat.le_of_ble_eq_true rfl, Nat.le_of_ble_eq_true rfl⟩ ⟨Nat.le_refl _, Nat.le_refl _⟩ (fun H locs x P hRw hfl => ?_)
      refine W.eq (g2 := F0 m 27 ls [.int (bI (isOut mm 2)), .ref r]) rfl ?_
      refine lv_if_ne (tgt := 39) (x := bI (isOut mm 2)) hx hb dX3_acquire_27 (by decide) (fun c27 => ?_) (fun c27 => ?_)
      · rw [bI_eq0, Bool.not_eq_false] at c27
        refine lv_iconst (v := 1) hx hb dX3_acquire_39 (by decide) ?_
        refine lv_goto (tgt := 49) hx hb dX3_acquire_40 (by decide) ?_
        refine rx_putF (v := 1) 0 S P rfl rfl rfl rfl q885 dX3_acquire_49 (fun H locs P => ?_)
        obtain ⟨x, P, hRw, hfl⟩ := rw_fl (v := 1) P hRw
        refine lv_aload_n hx hb dX3_acquire_52 rfl (lv_at hl 0 rfl) ?_
        refine rx_getF 0 S P rfl rfl q885 dX3_acquire_53 ?_
        rw [hfl]
        refine ni_if_le (tgt := 61) (a := 1) hx hb (by omega) dX3_acquire_56 (by decide) (fun c56 => ?_) (fun c56 => ?_)
        · exact absurd c56 (by decide)
        · have _h := True.intro
          refine lv_iconst (v := 0) hx hb dX3_acquire_59 (by decide) ?_
          have hE : s_acquire st (nI t) (nI s) mm lim = (1, 0, st) := by
            simp [isOut02, isOut12, s_acquire, s_acq, hit, his, c8, c18, c27]
          exact rx_iret S P hQ hr hlk dX3_acquire_60 hRw (hfl.trans (by rw [hE] <;> rfl)) (by rw [hE] <;> rfl) (by rw [hE] <;> rfl)
      · rw [bI_eq0] at c27
        refine lv_aload_n hx hb dX3_acquire_30 rfl (lv_at hl 0 rfl) ?_
        refine lv_dload hx hb dX3_acquire_31 (lv_at hl 4 rfl) ?_
        refine rx_c (nL' := 3) (rest := [.ref r]) [.double lim] S P hRw hfl (rm_badLimit st fl lim) q991 q993 qs18 q994 q38 ⟨by decide +kernel, by decide +kernel, (by decide +kernel : (parseMethodDescriptor yX3_badLimit.desc).map (fun d => d.parameters.length) = some 1)⟩ dX3_acquire_33 hl.1 (Nat.le_of_ble_eq_true rfl) ⟨Nat.le_of_ble_eq_true rfl, Nat.le_of_ble_eq_true rfl⟩ ⟨Nat.le_refl _, Nat.le_refl _⟩ (fun H locs x P hRw hfl => ?_)
        refine W.eq (g2 := F0 m 36 ls [.int (bI (!inR cM1 cK lim)), .ref r]) rfl ?_
        refine lv_if_eq (tgt := 43) (x := bI (!inR cM1 cK lim)) hx hb dX3_acquire_36 (by decide) (fun c36 => ?_) (fun c36 => ?_)
        · rw [bI_eq0] at c36
          have hin : inR cM1 cK lim = true := by simpa using c36
          refine lv_aload_n hx hb dX3_acquire_43 rfl (lv_at hl 0 rfl) ?_
          refine lv_iload_n hx hb dX3_acquire_44 rfl (lv_at hl 1 rfl) ?_
          refine lv_iload_n hx hb dX3_acquire_45 rfl (lv_at hl 2 rfl) ?_
          refine rx_c (nL' := 3) (rest := [.ref r]) [.int (nI t), .int (nI s)] S P hRw hfl (rm_check st fl t s (by omega) (by omega)) q996 q998 qs19 q999 q38 ⟨by decide +kernel, by decide +kernel, (by decide +kernel : (parseMethodDescriptor yX3_check.desc).map (fun d => d.parameters.length) = some 2)⟩ dX3_acquire_46 hl.1 (Nat.le_of_ble_eq_true rfl) ⟨Nat.le_of_ble_eq_true rfl, Nat.le_of_ble_eq_true rfl⟩ ⟨Nat.le_refl _, Nat.le_refl _⟩ (fun H locs x P hRw hfl => ?_)
          refine W.eq (g2 := F0 m 49 ls [.int (s_check st t s), .ref r]) rfl ?_
          refine rx_putF (v := s_check st t s) 0 S P rfl rfl rfl rfl q885 dX3_acquire_49 (fun H locs P => ?_)
          obtain ⟨x, P, hRw, hfl⟩ := rw_fl (v := s_check st t s) P hRw
          refine lv_aload_n hx hb dX3_acquire_52 rfl (lv_at hl 0 rfl) ?_
          refine rx_getF 0 S P rfl rfl q885 dX3_acquire_53 ?_
          rw [hfl]
          refine lw_if_le (tgt := 61) (x := s_check st t s) hx hb dX3_acquire_56 (by decide) (fun c56 => ?_) (fun c56 => ?_)
          · have _h := True.intro
            rw [s_check_pos, Decidable.not_not] at c56
            rw [c56] at hfl
            have hck := s_check_0 c56
            refine lv_aload_n hx hb dX3_acquire_61 rfl (lv_at hl 0 rfl) ?_
            refine rx_ref 12 S P (by decide) q897 dX3_acquire_62 ?_
            refine lv_iload_n hx hb dX3_acquire_65 rfl (lv_at hl 2 rfl) ?_
            refine rx_iald 12 s S P rfl rfl (by show _ < _; simp only [rN]; omega) dX3_acquire_66 ?_
            refine lv_bipush (v := 6) hx hb dX3_acquire_67 (by decide) ?_
            refine lv_icmp_ne (tgt := 78) (x := st.1 12 s) (y := 6) hx hb dX3_acquire_69 (by decide) (fun c69 => ?_) (fun c69 => ?_)
            · have _h := True.intro
              refine lv_aload_n hx hb dX3_acquire_78 rfl (lv_at hl 0 rfl) ?_
              refine rx_ref 2 S P (by decide) q887 dX3_acquire_79 ?_
              refine lv_iload_n hx hb dX3_acquire_82 rfl (lv_at hl 1 rfl) ?_
              refine rx_zald 2 t S P rfl rfl (by show _ < _; simp only [rN]; omega) dX3_acquire_83 ?_
              refine lv_if_eq (tgt := 101) (x := st.1 2 t) hx hb dX3_acquire_84 (by decide) (fun c84 => ?_) (fun c84 => ?_)
              · have _h := True.intro
                have hok1 := hok.ordered (t := t) (s := s)
                have hb1 : (s_ordered st t s).2.1 1 t = 0 := by rw [so_I (by decide)]; exact hck.2
                have hroom := hok1.room hs ht hb1
                refine lv_aload_n hx hb dX3_acquire_101 rfl (lv_at hl 0 rfl) ?_
                refine lv_iload_n hx hb dX3_acquire_102 rfl (lv_at hl 1 rfl) ?_
                refine lv_iload_n hx hb dX3_acquire_103 rfl (lv_at hl 2 rfl) ?_
                refine rx_c (nL' := 5) (rest := []) [.int (nI t), .int (nI s)] S P hRw hfl (rm_ordered st 0 t s (by omega) (by omega) hok.bf) q1004 q1006 qs21 q1007 q38 ⟨by decide +kernel, by decide +kernel, (by decide +kernel : (parseMethodDescriptor yX3_ordered.desc).map (fun d => d.parameters.length) = some 2)⟩ dX3_acquire_104 hl.1 (Nat.le_of_ble_eq_true rfl) ⟨Nat.le_of_ble_eq_true rfl, Nat.le_of_ble_eq_true rfl⟩ ⟨Nat.le_refl _, Nat.le_refl _⟩ (fun H locs x P hRw hfl => ?_)
                refine W.eq (g2 := F0 m 107 ls [.int (bI (s_ordered st t s).1)]) rfl ?_
                refine lv_if_ne (tgt := 116) (x := bI (s_ordered st t s).1) hx hb dX3_acquire_107 (by decide) (fun c107 => ?_) (fun c107 => ?_)
                · rw [bI_eq0, Bool.not_eq_false] at c107
                  refine lv_aload_n hx hb dX3_acquire_116 rfl (lv_at hl 0 rfl) ?_
                  refine rx_ref 12 S P (by decide) q897 dX3_acquire_117 ?_
                  refine lv_iload_n hx hb dX3_acquire_120 rfl (lv_at hl 2 rfl) ?_
                  refine rx_iald 12 s S P rfl rfl (by show _ < _; simp only [rN]; omega) dX3_acquire_121 ?_
                  refine lv_iconst (v := 5) hx hb dX3_acquire_122 (by decide) ?_
                  refine lv_icmp_ne (tgt := 161) (x := (s_ordered st t s).2.1 12 s) (y := 5) hx hb dX3_acquire_123 (by decide) (fun c123 => ?_) (fun c123 => ?_)
                  · have _h := True.intro
                    refine lv_aload_n hx hb dX3_acquire_161 rfl (lv_at hl 0 rfl) ?_
                    refine lv_iload_n hx hb dX3_acquire_162 rfl (lv_at hl 1 rfl) ?_
                    refine lv_iload_n hx hb dX3_acquire_163 rfl (lv_at hl 2 rfl) ?_
                    refine lv_iload_n hx hb dX3_acquire_164 rfl (lv_at hl 3 rfl) ?_
                    refine rx_c (nL' := 6) (rest := []) [.int (nI t), .int (nI s), .int mm] S P hRw hfl (rm_mustQueue ((s_ordered st t s).2) 0 t s mm (by omega) (by omega) hok1.wf) q1016 q1018 qs24 q1019 q38 ⟨by decide +kernel, by decide +kernel, (by decide +kernel : (parseMethodDescriptor yX3_mustQueue.desc).map (fun d => d.parameters.length) = some 3)⟩ dX3_acquire_165 hl.1 (Nat.le_of_ble_eq_true rfl) ⟨Nat.le_of_ble_eq_true rfl, Nat.le_of_ble_eq_true rfl⟩ ⟨Nat.le_refl _, Nat.le_refl _⟩ (fun H locs x P hRw hfl => ?_)
                    refine W.eq (g2 := F0 m 168 ls [.int (bI (s_mustQueue ((s_ordered st t s).2) t s mm))]) rfl ?_
                    refine lv_if_ne (tgt := 195) (x := bI (s_mustQueue ((s_ordered st t s).2) t s mm)) hx hb dX3_acquire_168 (by decide) (fun c168 => ?_) (fun c168 => ?_)
                    · rw [bI_eq0, Bool.not_eq_false] at c168
                      refine lv_dload hx hb dX3_acquire_195 (lv_at hl 4 rfl) ?_
                      refine lv_dconst0 hx hb dX3_acquire_197 ?_
                      refine lv_dcmp hx hb dX3_acquire_198 ?_
                      refine lv_if_ne (tgt := 209) (x := Op.cmpValue (FP.dcmp lim FP.dconst0) .l) hx hb dX3_acquire_199 (by decide) (fun c199 => ?_) (fun c199 => ?_)
                      · simp only [cv_l_eq0, Decidable.not_not] at c199
                        refine lv_aload_n hx hb dX3_acquire_209 rfl (lv_at hl 0 rfl) ?_
                        refine rx_ref 6 S P (by decide) q891 dX3_acquire_210 ?_
                        refine lv_iload_n hx hb dX3_acquire_213 rfl (lv_at hl 1 rfl) ?_
                        refine lv_iload_n hx hb dX3_acquire_214 rfl (lv_at hl 3 rfl) ?_
                        refine rx_iast (v := mm) 6 t S P rfl rfl (by show _ < _; simp only [rN]; omega) dX3_acquire_215 (fun H locs P => ?_)
                        refine lv_aload_n hx hb dX3_acquire_216 rfl (lv_at hl 0 rfl) ?_
                        refine rx_ref 7 S P (by decide) q892 dX3_acquire_217 ?_
                        refine lv_iload_n hx hb dX3_acquire_220 rfl (lv_at hl 1 rfl) ?_
                        refine lv_dload hx hb dX3_acquire_221 (lv_at hl 4 rfl) ?_
                        refine lv_dconst0 hx hb dX3_acquire_223 ?_
                        refine lv_dcmp hx hb dX3_acquire_224 ?_
                        refine lw_if_le (tgt := 238) (x := Op.cmpValue (FP.dcmp lim FP.dconst0) .l) hx hb dX3_acquire_225 (by decide) (fun c225 => ?_) (fun c225 => ?_)
                        · simp only [cv_l_gt0, Decidable.not_not] at c225
                          refine lv_ldc2d (v := 13830554455654793216) hx hb S.2.2.2.1 (S.2.2.2.2 _ q995) dX3_acquire_238 ?_
                          refine rx_dast (v := 13830554455654793216) 7 t S P rfl (by show _ < _; simp only [rN]; omega) dX3_acquire_241 (fun H locs P => ?_)
                          refine lv_aload_n hx hb dX3_acquire_242 rfl (lv_at hl 0 rfl) ?_
                          refine rx_ref 9 S P (by decide) q894 dX3_acquire_243 ?_
                          refine lv_iload_n hx hb dX3_acquire_246 rfl (lv_at hl 1 rfl) ?_
                          refine lv_iconst (v := 0) hx hb dX3_acquire_247 (by decide) ?_
                          refine rx_iast (v := 0) 9 t S P rfl rfl (by show _ < _; simp only [rN]; omega) dX3_acquire_248 (fun H locs P => ?_)
                          refine lv_aload_n hx hb dX3_acquire_249 rfl (lv_at hl 0 rfl) ?_
                          refine lv_iload_n hx hb dX3_acquire_250 rfl (lv_at hl 1 rfl) ?_
                          refine lv_iload_n hx hb dX3_acquire_251 rfl (lv_at hl 2 rfl) ?_
                          refine rx_c (nL' := 3) (rest := []) [.int (nI t), .int (nI s)] S P hRw hfl (rm_enter (sI (sD (sI ((s_ordered st t s).2) 6 t mm) 7 t 13830554455654793216) 9 t 0) 0 t s (by omega) (by omega) hroom hok1.wf) q1028 q1030 qs27 q1031 q38 ⟨by decide +kernel, by decide +kernel, (by decide +kernel : (parseMethodDescriptor yX3_enter.desc).map (fun d => d.parameters.length) = some 2)⟩ dX3_acquire_252 hl.1 (Nat.le_of_ble_eq_true rfl) ⟨Nat.le_of_ble_eq_true rfl, Nat.le_of_ble_eq_true rfl⟩ ⟨Nat.le_refl _, Nat.le_refl _⟩ (fun H locs x P hRw hfl => ?_)
                          refine W.eq (g2 := F0 m 255 ls []) rfl ?_
                          refine lv_aload_n hx hb dX3_acquire_255 rfl (lv_at hl 0 rfl) ?_
                          refine lv_iload_n hx hb dX3_acquire_256 rfl (lv_at hl 1 rfl) ?_
                          refine lv_iconst (v := 0) hx hb dX3_acquire_257 (by decide) ?_
                          refine rx_c (nL' := 3) (rest := []) [.int (nI t), .int 0] S P hRw hfl (rm_settle (s_enter (sI (sD (sI ((s_ordered st t s).2) 6 t mm) 7 t 13830554455654793216) 9 t 0) t s) 0 0 t (by omega)) q1000 q1002 qs20 q1003 q38 ⟨by decide +kernel, by decide +kernel, (by decide +kernel : (parseMethodDescriptor yX3_settle.desc).map (fun d => d.parameters.length) = some 2)⟩ dX3_acquire_258 hl.1 (Nat.le_of_ble_eq_true rfl) ⟨Nat.le_of_ble_eq_true rfl, Nat.le_of_ble_eq_true rfl⟩ ⟨Nat.le_refl _, Nat.le_refl _⟩ (fun H locs x P hRw hfl => ?_)
                          refine W.eq (g2 := F0 m 261 ls [.int 0]) rfl ?_
                          have hE : s_acquire st (nI t) (nI s) mm lim = (0, 0, sI (s_enter (sI (sD (sI ((s_ordered st t s).2) 6 t mm) 7 t 13830554455654793216) 9 t 0) t s) 4 t 0) := by
                            simp [isOut02, isOut12, s_acquire, s_acq, s_wait, s_end, hit, his, hin, c8, c18, c27, c56, c69, c84, c107, c123, c168, c199, c225]
                          exact rx_iret S P hQ hr hlk dX3_acquire_261 hRw (hfl.trans (by rw [hE] <;> rfl)) (by rw [hE] <;> rfl) (by rw [hE] <;> rfl)
                        · simp only [cv_l_gt0, Decidable.not_not] at c225
                          refine lv_aload_n hx hb dX3_acquire_228 rfl (lv_at hl 0 rfl) ?_
                          refine rx_getD 11 S P rfl q896 dX3_acquire_229 ?_
                          refine lv_dload hx hb dX3_acquire_232 (lv_at hl 4 rfl) ?_
                          refine lv_dadd hx hb dX3_acquire_234 ((fb_time hok1.db.1 (fb_lim hin)).2) ?_
                          refine lv_goto (tgt := 241) hx hb dX3_acquire_235 (by decide) ?_
                          refine rx_dast (v := FP.dadd ((s_ordered st t s).2.2.1 11 0) lim) 7 t S P rfl (by show _ < _; simp only [rN]; omega) dX3_acquire_241 (fun H locs P => ?_)
                          refine lv_aload_n hx hb dX3_acquire_242 rfl (lv_at hl 0 rfl) ?_
                          refine rx_ref 9 S P (by decide) q894 dX3_acquire_243 ?_
                          refine lv_iload_n hx hb dX3_acquire_246 rfl (lv_at hl 1 rfl) ?_
                          refine lv_iconst (v := 0) hx hb dX3_acquire_247 (by decide) ?_
                          refine rx_iast (v := 0) 9 t S P rfl rfl (by show _ < _; simp only [rN]; omega) dX3_acquire_248 (fun H locs P => ?_)
                          refine lv_aload_n hx hb dX3_acquire_249 rfl (lv_at hl 0 rfl) ?_
                          refine lv_iload_n hx hb dX3_acquire_250 rfl (lv_at hl 1 rfl) ?_
                          refine lv_iload_n hx hb dX3_acquire_251 rfl (lv_at hl 2 rfl) ?_
                          refine rx_c (nL' := 3) (rest := []) [.int (nI t), .int (nI s)] S P hRw hfl (rm_enter (sI (sD (sI ((s_ordered st t s).2) 6 t mm) 7 t (FP.dadd ((s_ordered st t s).2.2.1 11 0) lim)) 9 t 0) 0 t s (by omega) (by omega) hroom hok1.wf) q1028 q1030 qs27 q1031 q38 ⟨by decide +kernel, by decide +kernel, (by decide +kernel : (parseMethodDescriptor yX3_enter.desc).map (fun d => d.parameters.length) = some 2)⟩ dX3_acquire_252 hl.1 (Nat.le_of_ble_eq_true rfl) ⟨Nat.le_of_ble_eq_true rfl, Nat.le_of_ble_eq_true rfl⟩ ⟨Nat.le_refl _, Nat.le_refl _⟩ (fun H locs x P hRw hfl => ?_)
                          refine W.eq (g2 := F0 m 255 ls []) rfl ?_
                          refine lv_aload_n hx hb dX3_acquire_255 rfl (lv_at hl 0 rfl) ?_
                          refine lv_iload_n hx hb dX3_acquire_256 rfl (lv_at hl 1 rfl) ?_
                          refine lv_iconst (v := 0) hx hb dX3_acquire_257 (by decide) ?_
                          refine rx_c (nL' := 3) (rest := []) [.int (nI t), .int 0] S P hRw hfl (rm_settle (s_enter (sI (sD (sI ((s_ordered st t s).2) 6 t mm) 7 t (FP.dadd ((s_ordered st t s).2.2.1 11 0) lim)) 9 t 0) t s) 0 0 t (by omega)) q1000 q1002 qs20 q1003 q38 ⟨by decide +kernel, by decide +kernel, (by decide +kernel : (parseMethodDescriptor yX3_settle.desc).map (fun d => d.parameters.length) = some 2)⟩ dX3_acquire_258 hl.1 (Nat.le_of_ble_eq_true rfl) ⟨Nat.le_of_ble_eq_true rfl, Nat.le_of_ble_eq_true rfl⟩ ⟨Nat.le_refl _, Nat.le_refl _⟩ (fun H locs x P hRw hfl => ?_)
                          refine W.eq (g2 := F0 m 261 ls [.int 0]) rfl ?_
                          have hE : s_acquire st (nI t) (nI s) mm lim = (0, 0, sI (s_enter (sI (sD (sI ((s_ordered st t s).2) 6 t mm) 7 t (FP.dadd ((s_ordered st t s).2.2.1 11 0) lim)) 9 t 0) t s) 4 t 0) := by
                            simp [isOut02, isOut12, s_acquire, s_acq, s_wait, s_end, hit, his, hin, c8, c18, c27, c56, c69, c84, c107, c123, c168, c199, c225]
                          exact rx_iret S P hQ hr hlk dX3_acquire_261 hRw (hfl.trans (by rw [hE] <;> rfl)) (by rw [hE] <;> rfl) (by rw [hE] <;> rfl)
                      · simp only [cv_l_eq0, Decidable.not_not] at c199
                        refine lv_aload_n hx hb dX3_acquire_202 rfl (lv_at hl 0 rfl) ?_
                        refine lv_iload_n hx hb dX3_acquire_203 rfl (lv_at hl 1 rfl) ?_
                        refine lv_iconst (v := 2) hx hb dX3_acquire_204 (by decide) ?_
                        refine rx_c (nL' := 3) (rest := []) [.int (nI t), .int 2] S P hRw hfl (rm_settle ((s_ordered st t s).2) 0 2 t (by omega)) q1000 q1002 qs20 q1003 q38 ⟨by decide +kernel, by decide +kernel, (by decide +kernel : (parseMethodDescriptor yX3_settle.desc).map (fun d => d.parameters.length) = some 2)⟩ dX3_acquire_205 hl.1 (Nat.le_of_ble_eq_true rfl) ⟨Nat.le_of_ble_eq_true rfl, Nat.le_of_ble_eq_true rfl⟩ ⟨Nat.le_refl _, Nat.le_refl _⟩ (fun H locs x P hRw hfl => ?_)
                        refine W.eq (g2 := F0 m 208 ls [.int 2]) rfl ?_
                        have hE : s_acquire st (nI t) (nI s) mm lim = (0, 2, sI ((s_ordered st t s).2) 4 t 2) := by
                          simp [isOut02, isOut12, s_acquire, s_acq, hit, his, hin, c8, c18, c27, c56, c69, c84, c107, c123, c168, c199]
                        exact rx_iret S P hQ hr hlk dX3_acquire_208 hRw (hfl.trans (by rw [hE] <;> rfl)) (by rw [hE] <;> rfl) (by rw [hE] <;> rfl)
                    · rw [bI_eq0] at c168
                      refine lv_aload_n hx hb dX3_acquire_171 rfl (lv_at hl 0 rfl) ?_
                      refine lv_iload_n hx hb dX3_acquire_172 rfl (lv_at hl 1 rfl) ?_
                      refine lv_iload_n hx hb dX3_acquire_173 rfl (lv_at hl 2 rfl) ?_
                      refine lv_iload_n hx hb dX3_acquire_174 rfl (lv_at hl 3 rfl) ?_
                      refine rx_c (nL' := 6) (rest := []) [.int (nI t), .int (nI s), .int mm] S P hRw hfl (rm_canTake ((s_ordered st t s).2) 0 t s mm (by omega) (by omega)) q1020 q1022 qs25 q1023 q38 ⟨by decide +kernel, by decide +kernel, (by decide +kernel : (parseMethodDescriptor yX3_canTake.desc).map (fun d => d.parameters.length) = some 3)⟩ dX3_acquire_175 hl.1 (Nat.le_of_ble_eq_true rfl) ⟨Nat.le_of_ble_eq_true rfl, Nat.le_of_ble_eq_true rfl⟩ ⟨Nat.le_refl _, Nat.le_refl _⟩ (fun H locs x P hRw hfl => ?_)
                      refine W.eq (g2 := F0 m 178 ls [.int (bI (s_canTake ((s_ordered st t s).2) t s mm))]) rfl ?_
                      refine lv_if_eq (tgt := 195) (x := bI (s_canTake ((s_ordered st t s).2) t s mm)) hx hb dX3_acquire_178 (by decide) (fun c178 => ?_) (fun c178 => ?_)
                      · rw [bI_eq0] at c178
                        refine lv_dload hx hb dX3_acquire_195 (lv_at hl 4 rfl) ?_
                        refine lv_dconst0 hx hb dX3_acquire_197 ?_
                        refine lv_dcmp hx hb dX3_acquire_198 ?_
                        refine lv_if_ne (tgt := 209) (x := Op.cmpValue (FP.dcmp lim FP.dconst0) .l) hx hb dX3_acquire_199 (by decide) (fun c199 => ?_) (fun c199 => ?_)
                        · simp only [cv_l_eq0, Decidable.not_not] at c199
                          refine lv_aload_n hx hb dX3_acquire_209 rfl (lv_at hl 0 rfl) ?_
                          refine rx_ref 6 S P (by decide) q891 dX3_acquire_210 ?_
                          refine lv_iload_n hx hb dX3_acquire_213 rfl (lv_at hl 1 rfl) ?_
                          refine lv_iload_n hx hb dX3_acquire_214 rfl (lv_at hl 3 rfl) ?_
                          refine rx_iast (v := mm) 6 t S P rfl rfl (by show _ < _; simp only [rN]; omega) dX3_acquire_215 (fun H locs P => ?_)
                          refine lv_aload_n hx hb dX3_acquire_216 rfl (lv_at hl 0 rfl) ?_
                          refine rx_ref 7 S P (by decide) q892 dX3_acquire_217 ?_
                          refine lv_iload_n hx hb dX3_acquire_220 rfl (lv_at hl 1 rfl) ?_
                          refine lv_dload hx hb dX3_acquire_221 (lv_at hl 4 rfl) ?_
                          refine lv_dconst0 hx hb dX3_acquire_223 ?_
                          refine lv_dcmp hx hb dX3_acquire_224 ?_
                          refine lw_if_le (tgt := 238) (x := Op.cmpValue (FP.dcmp lim FP.dconst0) .l) hx hb dX3_acquire_225 (by decide) (fun c225 => ?_) (fun c225 => ?_)
                          · simp only [cv_l_gt0, Decidable.not_not] at c225
                            refine lv_ldc2d (v := 13830554455654793216) hx hb S.2.2.2.1 (S.2.2.2.2 _ q995) dX3_acquire_238 ?_
                            refine rx_dast (v := 13830554455654793216) 7 t S P rfl (by show _ < _; simp only [rN]; omega) dX3_acquire_241 (fun H locs P => ?_)
                            refine lv_aload_n hx hb dX3_acquire_242 rfl (lv_at hl 0 rfl) ?_
                            refine rx_ref 9 S P (by decide) q894 dX3_acquire_243 ?_
                            refine lv_iload_n hx hb dX3_acquire_246 rfl (lv_at hl 1 rfl) ?_
                            refine lv_iconst (v := 0) hx hb dX3_acquire_247 (by decide) ?_
                            refine rx_iast (v := 0) 9 t S P rfl rfl (by show _ < _; simp only [rN]; omega) dX3_acquire_248 (fun H locs P => ?_)
                            refine lv_aload_n hx hb dX3_acquire_249 rfl (lv_at hl 0 rfl) ?_
                            refine lv_iload_n hx hb dX3_acquire_250 rfl (lv_at hl 1 rfl) ?_
                            refine lv_iload_n hx hb dX3_acquire_251 rfl (lv_at hl 2 rfl) ?_
                            refine rx_c (nL' := 3) (rest := []) [.int (nI t), .int (nI s)] S P hRw hfl (rm_enter (sI (sD (sI ((s_ordered st t s).2) 6 t mm) 7 t 13830554455654793216) 9 t 0) 0 t s (by omega) (by omega) hroom hok1.wf) q1028 q1030 qs27 q1031 q38 ⟨by decide +kernel, by decide +kernel, (by decide +kernel : (parseMethodDescriptor yX3_enter.desc).map (fun d => d.parameters.length) = some 2)⟩ dX3_acquire_252 hl.1 (Nat.le_of_ble_eq_true rfl) ⟨Nat.le_of_ble_eq_true rfl, Nat.le_of_ble_eq_true rfl⟩ ⟨Nat.le_refl _, Nat.le_refl _⟩ (fun H locs x P hRw hfl => ?_)
                            refine W.eq (g2 := F0 m 255 ls []) rfl ?_
                            refine lv_aload_n hx hb dX3_acquire_255 rfl (lv_at hl 0 rfl) ?_
                            refine lv_iload_n hx hb dX3_acquire_256 rfl (lv_at hl 1 rfl) ?_
                            refine lv_iconst (v := 0) hx hb dX3_acquire_257 (by decide) ?_
                            refine rx_c (nL' := 3) (rest := []) [.int (nI t), .int 0] S P hRw hfl (rm_settle (s_enter (sI (sD (sI ((s_ordered st t s).2) 6 t mm) 7 t 13830554455654793216) 9 t 0) t s) 0 0 t (by omega)) q1000 q1002 qs20 q1003 q38 ⟨by decide +kernel, by decide +kernel, (by decide +kernel : (parseMethodDescriptor yX3_settle.desc).map (fun d => d.parameters.length) = some 2)⟩ dX3_acquire_258 hl.1 (Nat.le_of_ble_eq_true rfl) ⟨Nat.le_of_ble_eq_true rfl, Nat.le_of_ble_eq_true rfl⟩ ⟨Nat.le_refl _, Nat.le_refl _⟩ (fun H locs x P hRw hfl => ?_)
                            refine W.eq (g2 := F0 m 261 ls [.int 0]) rfl ?_
                            have hE : s_acquire st (nI t) (nI s) mm lim = (0, 0, sI (s_enter (sI (sD (sI ((s_ordered st t s).2) 6 t mm) 7 t 13830554455654793216) 9 t 0) t s) 4 t 0) := by
                              simp [isOut02, isOut12, s_acquire, s_acq, s_wait, s_end, hit, his, hin, c8, c18, c27, c56, c69, c84, c107, c123, c168, c178, c199, c225]
                            exact rx_iret S P hQ hr hlk dX3_acquire_261 hRw (hfl.trans (by rw [hE] <;> rfl)) (by rw [hE] <;> rfl) (by rw [hE] <;> rfl)
                          · simp only [cv_l_gt0, Decidable.not_not] at c225
                            refine lv_aload_n hx hb dX3_acquire_228 rfl (lv_at hl 0 rfl) ?_
                            refine rx_getD 11 S P rfl q896 dX3_acquire_229 ?_
                            refine lv_dload hx hb dX3_acquire_232 (lv_at hl 4 rfl) ?_
                            refine lv_dadd hx hb dX3_acquire_234 ((fb_time hok1.db.1 (fb_lim hin)).2) ?_
                            refine lv_goto (tgt := 241) hx hb dX3_acquire_235 (by decide) ?_
                            refine rx_dast (v := FP.dadd ((s_ordered st t s).2.2.1 11 0) lim) 7 t S P rfl (by show _ < _; simp only [rN]; omega) dX3_acquire_241 (fun H locs P => ?_)
                            refine lv_aload_n hx hb dX3_acquire_242 rfl (lv_at hl 0 rfl) ?_
                            refine rx_ref 9 S P (by decide) q894 dX3_acquire_243 ?_
                            refine lv_iload_n hx hb dX3_acquire_246 rfl (lv_at hl 1 rfl) ?_
                            refine lv_iconst (v := 0) hx hb dX3_acquire_247 (by decide) ?_
                            refine rx_iast (v := 0) 9 t S P rfl rfl (by show _ < _; simp only [rN]; omega) dX3_acquire_248 (fun H locs P => ?_)
                            refine lv_aload_n hx hb dX3_acquire_249 rfl (lv_at hl 0 rfl) ?_
                            refine lv_iload_n hx hb dX3_acquire_250 rfl (lv_at hl 1 rfl) ?_
                            refine lv_iload_n hx hb dX3_acquire_251 rfl (lv_at hl 2 rfl) ?_
                            refine rx_c (nL' := 3) (rest := []) [.int (nI t), .int (nI s)] S P hRw hfl (rm_enter (sI (sD (sI ((s_ordered st t s).2) 6 t mm) 7 t (FP.dadd ((s_ordered st t s).2.2.1 11 0) lim)) 9 t 0) 0 t s (by omega) (by omega) hroom hok1.wf) q1028 q1030 qs27 q1031 q38 ⟨by decide +kernel, by decide +kernel, (by decide +kernel : (parseMethodDescriptor yX3_enter.desc).map (fun d => d.parameters.length) = some 2)⟩ dX3_acquire_252 hl.1 (Nat.le_of_ble_eq_true rfl) ⟨Nat.le_of_ble_eq_true rfl, Nat.le_of_ble_eq_true rfl⟩ ⟨Nat.le_refl _, Nat.le_refl _⟩ (fun H locs x P hRw hfl => ?_)
                            refine W.eq (g2 := F0 m 255 ls []) rfl ?_
                            refine lv_aload_n hx hb dX3_acquire_255 rfl (lv_at hl 0 rfl) ?_
                            refine lv_iload_n hx hb dX3_acquire_256 rfl (lv_at hl 1 rfl) ?_
                            refine lv_iconst (v := 0) hx hb dX3_acquire_257 (by decide) ?_
                            refine rx_c (nL' := 3) (rest := []) [.int (nI t), .int 0] S P hRw hfl (rm_settle (s_enter (sI (sD (sI ((s_ordered st t s).2) 6 t mm) 7 t (FP.dadd ((s_ordered st t s).2.2.1 11 0) lim)) 9 t 0) t s) 0 0 t (by omega)) q1000 q1002 qs20 q1003 q38 ⟨by decide +kernel, by decide +kernel, (by decide +kernel : (parseMethodDescriptor yX3_settle.desc).map (fun d => d.parameters.length) = some 2)⟩ dX3_acquire_258 hl.1 (Nat.le_of_ble_eq_true rfl) ⟨Nat.le_of_ble_eq_true rfl, Nat.le_of_ble_eq_true rfl⟩ ⟨Nat.le_refl _, Nat.le_refl _⟩ (fun H locs x P hRw hfl => ?_)
                            refine W.eq (g2 := F0 m 261 ls [.int 0]) rfl ?_
                            have hE : s_acquire st (nI t) (nI s) mm lim = (0, 0, sI (s_enter (sI (sD (sI ((s_ordered st t s).2) 6 t mm) 7 t (FP.dadd ((s_ordered st t s).2.2.1 11 0) lim)) 9 t 0) t s) 4 t 0) := by
                              simp [isOut02, isOut12, s_acquire, s_acq, s_wait, s_end, hit, his, hin, c8, c18, c27, c56, c69, c84, c107, c123, c168, c178, c199, c225]
                            exact rx_iret S P hQ hr hlk dX3_acquire_261 hRw (hfl.trans (by rw [hE] <;> rfl)) (by rw [hE] <;> rfl) (by rw [hE] <;> rfl)
                        · simp only [cv_l_eq0, Decidable.not_not] at c199
                          refine lv_aload_n hx hb dX3_acquire_202 rfl (lv_at hl 0 rfl) ?_
                          refine lv_iload_n hx hb dX3_acquire_203 rfl (lv_at hl 1 rfl) ?_
                          refine lv_iconst (v := 2) hx hb dX3_acquire_204 (by decide) ?_
                          refine rx_c (nL' := 3) (rest := []) [.int (nI t), .int 2] S P hRw hfl (rm_settle ((s_ordered st t s).2) 0 2 t (by omega)) q1000 q1002 qs20 q1003 q38 ⟨by decide +kernel, by decide +kernel, (by decide +kernel : (parseMethodDescriptor yX3_settle.desc).map (fun d => d.parameters.length) = some 2)⟩ dX3_acquire_205 hl.1 (Nat.le_of_ble_eq_true rfl) ⟨Nat.le_of_ble_eq_true rfl, Nat.le_of_ble_eq_true rfl⟩ ⟨Nat.le_refl _, Nat.le_refl _⟩ (fun H locs x P hRw hfl => ?_)
                          refine W.eq (g2 := F0 m 208 ls [.int 2]) rfl ?_
                          have hE : s_acquire st (nI t) (nI s) mm lim = (0, 2, sI ((s_ordered st t s).2) 4 t 2) := by
                            simp [isOut02, isOut12, s_acquire, s_acq, hit, his, hin, c8, c18, c27, c56, c69, c84, c107, c123, c168, c178, c199]
                          exact rx_iret S P hQ hr hlk dX3_acquire_208 hRw (hfl.trans (by rw [hE] <;> rfl)) (by rw [hE] <;> rfl) (by rw [hE] <;> rfl)
                      · rw [bI_eq0, Bool.not_eq_false] at c178
                        refine lv_aload_n hx hb dX3_acquire_181 rfl (lv_at hl 0 rfl) ?_
                        refine lv_iload_n hx hb dX3_acquire_182 rfl (lv_at hl 1 rfl) ?_
                        refine lv_iload_n hx hb dX3_acquire_183 rfl (lv_at hl 2 rfl) ?_
                        refine lv_iload_n hx hb dX3_acquire_184 rfl (lv_at hl 3 rfl) ?_
                        refine rx_c (nL' := 5) (rest := []) [.int (nI t), .int (nI s), .int mm] S P hRw hfl (rm_take ((s_ordered st t s).2) 0 t s mm (by omega) (by omega)) q1024 q1026 qs26 q1027 q38 ⟨by decide +kernel, by decide +kernel, (by decide +kernel : (parseMethodDescriptor yX3_take.desc).map (fun d => d.parameters.length) = some 3)⟩ dX3_acquire_185 hl.1 (Nat.le_of_ble_eq_true rfl) ⟨Nat.le_of_ble_eq_true rfl, Nat.le_of_ble_eq_true rfl⟩ ⟨Nat.le_refl _, Nat.le_refl _⟩ (fun H locs x P hRw hfl => ?_)
                        refine W.eq (g2 := F0 m 188 ls []) rfl ?_
                        refine lv_aload_n hx hb dX3_acquire_188 rfl (lv_at hl 0 rfl) ?_
                        refine lv_iload_n hx hb dX3_acquire_189 rfl (lv_at hl 1 rfl) ?_
                        refine lv_iconst (v := 1) hx hb dX3_acquire_190 (by decide) ?_
                        refine rx_c (nL' := 3) (rest := []) [.int (nI t), .int 1] S P hRw hfl (rm_settle (s_take ((s_ordered st t s).2) t s mm) 0 1 t (by omega)) q1000 q1002 qs20 q1003 q38 ⟨by decide +kernel, by decide +kernel, (by decide +kernel : (parseMethodDescriptor yX3_settle.desc).map (fun d => d.parameters.length) = some 2)⟩ dX3_acquire_191 hl.1 (Nat.le_of_ble_eq_true rfl) ⟨Nat.le_of_ble_eq_true rfl, Nat.le_of_ble_eq_true rfl⟩ ⟨Nat.le_refl _, Nat.le_refl _⟩ (fun H locs x P hRw hfl => ?_)
                        refine W.eq (g2 := F0 m 194 ls [.int 1]) rfl ?_
                        have hE : s_acquire st (nI t) (nI s) mm lim = (0, 1, sI (s_take ((s_ordered st t s).2) t s mm) 4 t 1) := by
                          simp [isOut02, isOut12, s_acquire, s_acq, hit, his, hin, c8, c18, c27, c56, c69, c84, c107, c123, c168, c178]
                        exact rx_iret S P hQ hr hlk dX3_acquire_194 hRw (hfl.trans (by rw [hE] <;> rfl)) (by rw [hE] <;> rfl) (by rw [hE] <;> rfl)
                  · have _h := True.intro
                    refine lv_iload_n hx hb dX3_acquire_126 rfl (lv_at hl 3 rfl) ?_
                    refine lv_iconst (v := 1) hx hb dX3_acquire_127 (by decide) ?_
                    refine lv_icmp_ne (tgt := 161) (x := mm) (y := 1) hx hb dX3_acquire_128 (by decide) (fun c128 => ?_) (fun c128 => ?_)
                    · have _h := True.intro
                      refine lv_aload_n hx hb dX3_acquire_161 rfl (lv_at hl 0 rfl) ?_
                      refine lv_iload_n hx hb dX3_acquire_162 rfl (lv_at hl 1 rfl) ?_
                      refine lv_iload_n hx hb dX3_acquire_163 rfl (lv_at hl 2 rfl) ?_
                      refine lv_iload_n hx hb dX3_acquire_164 rfl (lv_at hl 3 rfl) ?_
                      refine rx_c (nL' := 6) (rest := []) [.int (nI t), .int (nI s), .int mm] S P hRw hfl (rm_mustQueue ((s_ordered st t s).2) 0 t s mm (by omega) (by omega) hok1.wf) q1016 q1018 qs24 q1019 q38 ⟨by decide +kernel, by decide +kernel, (by decide +kernel : (parseMethodDescriptor yX3_mustQueue.desc).map (fun d => d.parameters.length) = some 3)⟩ dX3_acquire_165 hl.1 (Nat.le_of_ble_eq_true rfl) ⟨Nat.le_of_ble_eq_true rfl, Nat.le_of_ble_eq_true rfl⟩ ⟨Nat.le_refl _, Nat.le_refl _⟩ (fun H locs x P hRw hfl => ?_)
                      refine W.eq (g2 := F0 m 168 ls [.int (bI (s_mustQueue ((s_ordered st t s).2) t s mm))]) rfl ?_
                      refine lv_if_ne (tgt := 195) (x := bI (s_mustQueue ((s_ordered st t s).2) t s mm)) hx hb dX3_acquire_168 (by decide) (fun c168 => ?_) (fun c168 => ?_)
                      · rw [bI_eq0, Bool.not_eq_false] at c168
                        refine lv_dload hx hb dX3_acquire_195 (lv_at hl 4 rfl) ?_
                        refine lv_dconst0 hx hb dX3_acquire_197 ?_
                        refine lv_dcmp hx hb dX3_acquire_198 ?_
                        refine lv_if_ne (tgt := 209) (x := Op.cmpValue (FP.dcmp lim FP.dconst0) .l) hx hb dX3_acquire_199 (by decide) (fun c199 => ?_) (fun c199 => ?_)
                        · simp only [cv_l_eq0, Decidable.not_not] at c199
                          refine lv_aload_n hx hb dX3_acquire_209 rfl (lv_at hl 0 rfl) ?_
                          refine rx_ref 6 S P (by decide) q891 dX3_acquire_210 ?_
                          refine lv_iload_n hx hb dX3_acquire_213 rfl (lv_at hl 1 rfl) ?_
                          refine lv_iload_n hx hb dX3_acquire_214 rfl (lv_at hl 3 rfl) ?_
                          refine rx_iast (v := mm) 6 t S P rfl rfl (by show _ < _; simp only [rN]; omega) dX3_acquire_215 (fun H locs P => ?_)
                          refine lv_aload_n hx hb dX3_acquire_216 rfl (lv_at hl 0 rfl) ?_
                          refine rx_ref 7 S P (by decide) q892 dX3_acquire_217 ?_
                          refine lv_iload_n hx hb dX3_acquire_220 rfl (lv_at hl 1 rfl) ?_
                          refine lv_dload hx hb dX3_acquire_221 (lv_at hl 4 rfl) ?_
                          refine lv_dconst0 hx hb dX3_acquire_223 ?_
                          refine lv_dcmp hx hb dX3_acquire_224 ?_
                          refine lw_if_le (tgt := 238) (x := Op.cmpValue (FP.dcmp lim FP.dconst0) .l) hx hb dX3_acquire_225 (by decide) (fun c225 => ?_) (fun c225 => ?_)
                          · simp only [cv_l_gt0, Decidable.not_not] at c225
                            refine lv_ldc2d (v := 13830554455654793216) hx hb S.2.2.2.1 (S.2.2.2.2 _ q995) dX3_acquire_238 ?_
                            refine rx_dast (v := 13830554455654793216) 7 t S P rfl (by show _ < _; simp only [rN]; omega) dX3_acquire_241 (fun H locs P => ?_)
                            refine lv_aload_n hx hb dX3_acquire_242 rfl (lv_at hl 0 rfl) ?_
                            refine rx_ref 9 S P (by decide) q894 dX3_acquire_243 ?_
                            refine lv_iload_n hx hb dX3_acquire_246 rfl (lv_at hl 1 rfl) ?_
                            refine lv_iconst (v := 0) hx hb dX3_acquire_247 (by decide) ?_
                            refine rx_iast (v := 0) 9 t S P rfl rfl (by show _ < _; simp only [rN]; omega) dX3_acquire_248 (fun H locs P => ?_)
                            refine lv_aload_n hx hb dX3_acquire_249 rfl (lv_at hl 0 rfl) ?_
                            refine lv_iload_n hx hb dX3_acquire_250 rfl (lv_at hl 1 rfl) ?_
                            refine lv_iload_n hx hb dX3_acquire_251 rfl (lv_at hl 2 rfl) ?_
                            refine rx_c (nL' := 3) (rest := []) [.int (nI t), .int (nI s)] S P hRw hfl (rm_enter (sI (sD (sI ((s_ordered st t s).2) 6 t mm) 7 t 13830554455654793216) 9 t 0) 0 t s (by omega) (by omega) hroom hok1.wf) q1028 q1030 qs27 q1031 q38 ⟨by decide +kernel, by decide +kernel, (by decide +kernel : (parseMethodDescriptor yX3_enter.desc).map (fun d => d.parameters.length) = some 2)⟩ dX3_acquire_252 hl.1 (Nat.le_of_ble_eq_true rfl) ⟨Nat.le_of_ble_eq_true rfl, Nat.le_of_ble_eq_true rfl⟩ ⟨Nat.le_refl _, Nat.le_refl _⟩ (fun H locs x P hRw hfl => ?_)
                            refine W.eq (g2 := F0 m 255 ls []) rfl ?_
                            refine lv_aload_n hx hb dX3_acquire_255 rfl (lv_at hl 0 rfl) ?_
                            refine lv_iload_n hx hb dX3_acquire_256 rfl (lv_at hl 1 rfl) ?_
                            refine lv_iconst (v := 0) hx hb dX3_acquire_257 (by decide) ?_
                            refine rx_c (nL' := 3) (rest := []) [.int (nI t), .int 0] S P hRw hfl (rm_settle (s_enter (sI (sD (sI ((s_ordered st t s).2) 6 t mm) 7 t 13830554455654793216) 9 t 0) t s) 0 0 t (by omega)) q1000 q1002 qs20 q1003 q38 ⟨by decide +kernel, by decide +kernel, (by decide +kernel : (parseMethodDescriptor yX3_settle.desc).map (fun d => d.parameters.length) = some 2)⟩ dX3_acquire_258 hl.1 (Nat.le_of_ble_eq_true rfl) ⟨Nat.le_of_ble_eq_true rfl, Nat.le_of_ble_eq_true rfl⟩ ⟨Nat.le_refl _, Nat.le_refl _⟩ (fun H locs x P hRw hfl => ?_)
                            refine W.eq (g2 := F0 m 261 ls [.int 0]) rfl ?_
                            have hE : s_acquire st (nI t) (nI s) mm lim = (0, 0, sI (s_enter (sI (sD (sI ((s_ordered st t s).2) 6 t mm) 7 t 13830554455654793216) 9 t 0) t s) 4 t 0) := by
                              simp [isOut02, isOut12, s_acquire, s_acq, s_wait, s_end, hit, his, hin, c8, c18, c27, c56, c69, c84, c107, c123, c128, c168, c199, c225]
                            exact rx_iret S P hQ hr hlk dX3_acquire_261 hRw (hfl.trans (by rw [hE] <;> rfl)) (by rw [hE] <;> rfl) (by rw [hE] <;> rfl)
                          · simp only [cv_l_gt0, Decidable.not_not] at c225
                            refine lv_aload_n hx hb dX3_acquire_228 rfl (lv_at hl 0 rfl) ?_
                            refine rx_getD 11 S P rfl q896 dX3_acquire_229 ?_
                            refine lv_dload hx hb dX3_acquire_232 (lv_at hl 4 rfl) ?_
                            refine lv_dadd hx hb dX3_acquire_234 ((fb_time hok1.db.1 (fb_lim hin)).2) ?_
                            refine lv_goto (tgt := 241) hx hb dX3_acquire_235 (by decide) ?_
                            refine rx_dast (v := FP.dadd ((s_ordered st t s).2.2.1 11 0) lim) 7 t S P rfl (by show _ < _; simp only [rN]; omega) dX3_acquire_241 (fun H locs P => ?_)
                            refine lv_aload_n hx hb dX3_acquire_242 rfl (lv_at hl 0 rfl) ?_
                            refine rx_ref 9 S P (by decide) q894 dX3_acquire_243 ?_
                            refine lv_iload_n hx hb dX3_acquire_246 rfl (lv_at hl 1 rfl) ?_
                            refine lv_iconst (v := 0) hx hb dX3_acquire_247 (by decide) ?_
                            refine rx_iast (v := 0) 9 t S P rfl rfl (by show _ < _; simp only [rN]; omega) dX3_acquire_248 (fun H locs P => ?_)
                            refine lv_aload_n hx hb dX3_acquire_249 rfl (lv_at hl 0 rfl) ?_
                            refine lv_iload_n hx hb dX3_acquire_250 rfl (lv_at hl 1 rfl) ?_
                            refine lv_iload_n hx hb dX3_acquire_251 rfl (lv_at hl 2 rfl) ?_
                            refine rx_c (nL' := 3) (rest := []) [.int (nI t), .int (nI s)] S P hRw hfl (rm_enter (sI (sD (sI ((s_ordered st t s).2) 6 t mm) 7 t (FP.dadd ((s_ordered st t s).2.2.1 11 0) lim)) 9 t 0) 0 t s (by omega) (by omega) hroom hok1.wf) q1028 q1030 qs27 q1031 q38 ⟨by decide +kernel, by decide +kernel, (by decide +kernel : (parseMethodDescriptor yX3_enter.desc).map (fun d => d.parameters.length) = some 2)⟩ dX3_acquire_252 hl.1 (Nat.le_of_ble_eq_true rfl) ⟨Nat.le_of_ble_eq_true rfl, Nat.le_of_ble_eq_true rfl⟩ ⟨Nat.le_refl _, Nat.le_refl _⟩ (fun H locs x P hRw hfl => ?_)
                            refine W.eq (g2 := F0 m 255 ls []) rfl ?_
                            refine lv_aload_n hx hb dX3_acquire_255 rfl (lv_at hl 0 rfl) ?_
                            refine lv_iload_n hx hb dX3_acquire_256 rfl (lv_at hl 1 rfl) ?_
                            refine lv_iconst (v := 0) hx hb dX3_acquire_257 (by decide) ?_
                            refine rx_c (nL' := 3) (rest := []) [.int (nI t), .int 0] S P hRw hfl (rm_settle (s_enter (sI (sD (sI ((s_ordered st t s).2) 6 t mm) 7 t (FP.dadd ((s_ordered st t s).2.2.1 11 0) lim)) 9 t 0) t s) 0 0 t (by omega)) q1000 q1002 qs20 q1003 q38 ⟨by decide +kernel, by decide +kernel, (by decide +kernel : (parseMethodDescriptor yX3_settle.desc).map (fun d => d.parameters.length) = some 2)⟩ dX3_acquire_258 hl.1 (Nat.le_of_ble_eq_true rfl) ⟨Nat.le_of_ble_eq_true rfl, Nat.le_of_ble_eq_true rfl⟩ ⟨Nat.le_refl _, Nat.le_refl _⟩ (fun H locs x P hRw hfl => ?_)
                            refine W.eq (g2 := F0 m 261 ls [.int 0]) rfl ?_
                            have hE : s_acquire st (nI t) (nI s) mm lim = (0, 0, sI (s_enter (sI (sD (sI ((s_ordered st t s).2) 6 t mm) 7 t (FP.dadd ((s_ordered st t s).2.2.1 11 0) lim)) 9 t 0) t s) 4 t 0) := by
                              simp [isOut02, isOut12, s_acquire, s_acq, s_wait, s_end, hit, his, hin, c8, c18, c27, c56, c69, c84, c107, c123, c128, c168, c199, c225]
                            exact rx_iret S P hQ hr hlk dX3_acquire_261 hRw (hfl.trans (by rw [hE] <;> rfl)) (by rw [hE] <;> rfl) (by rw [hE] <;> rfl)
                        · simp only [cv_l_eq0, Decidable.not_not] at c199
                          refine lv_aload_n hx hb dX3_acquire_202 rfl (lv_at hl 0 rfl) ?_
                          refine lv_iload_n hx hb dX3_acquire_203 rfl (lv_at hl 1 rfl) ?_
                          refine lv_iconst (v := 2) hx hb dX3_acquire_204 (by decide) ?_
                          refine rx_c (nL' := 3) (rest := []) [.int (nI t), .int 2] S P hRw hfl (rm_settle ((s_ordered st t s).2) 0 2 t (by omega)) q1000 q1002 qs20 q1003 q38 ⟨by decide +kernel, by decide +kernel, (by decide +kernel : (parseMethodDescriptor yX3_settle.desc).map (fun d => d.parameters.length) = some 2)⟩ dX3_acquire_205 hl.1 (Nat.le_of_ble_eq_true rfl) ⟨Nat.le_of_ble_eq_true rfl, Nat.le_of_ble_eq_true rfl⟩ ⟨Nat.le_refl _, Nat.le_refl _⟩ (fun H locs x P hRw hfl => ?_)
                          refine W.eq (g2 := F0 m 208 ls [.int 2]) rfl ?_
                          have hE : s_acquire st (nI t) (nI s) mm lim = (0, 2, sI ((s_ordered st t s).2) 4 t 2) := by
                            simp [isOut02, isOut12, s_acquire, s_acq, hit, his, hin, c8, c18, c27, c56, c69, c84, c107, c123, c128, c168, c199]
                          exact rx_iret S P hQ hr hlk dX3_acquire_208 hRw (hfl.trans (by rw [hE] <;> rfl)) (by rw [hE] <;> rfl) (by rw [hE] <;> rfl)
                      · rw [bI_eq0] at c168
                        refine lv_aload_n hx hb dX3_acquire_171 rfl (lv_at hl 0 rfl) ?_
                        refine lv_iload_n hx hb dX3_acquire_172 rfl (lv_at hl 1 rfl) ?_
                        refine lv_iload_n hx hb dX3_acquire_173 rfl (lv_at hl 2 rfl) ?_
                        refine lv_iload_n hx hb dX3_acquire_174 rfl (lv_at hl 3 rfl) ?_
                        refine rx_c (nL' := 6) (rest := []) [.int (nI t), .int (nI s), .int mm] S P hRw hfl (rm_canTake ((s_ordered st t s).2) 0 t s mm (by omega) (by omega)) q1020 q1022 qs25 q1023 q38 ⟨by decide +kernel, by decide +kernel, (by decide +kernel : (parseMethodDescriptor yX3_canTake.desc).map (fun d => d.parameters.length) = some 3)⟩ dX3_acquire_175 hl.1 (Nat.le_of_ble_eq_true rfl) ⟨Nat.le_of_ble_eq_true rfl, Nat.le_of_ble_eq_true rfl⟩ ⟨Nat.le_refl _, Nat.le_refl _⟩ (fun H locs x P hRw hfl => ?_)
                        refine W.eq (g2 := F0 m 178 ls [.int (bI (s_canTake ((s_ordered st t s).2) t s mm))]) rfl ?_
                        refine lv_if_eq (tgt := 195) (x := bI (s_canTake ((s_ordered st t s).2) t s mm)) hx hb dX3_acquire_178 (by decide) (fun c178 => ?_) (fun c178 => ?_)
                        · rw [bI_eq0] at c178
                          refine lv_dload hx hb dX3_acquire_195 (lv_at hl 4 rfl) ?_
                          refine lv_dconst0 hx hb dX3_acquire_197 ?_
                          refine lv_dcmp hx hb dX3_acquire_198 ?_
                          refine lv_if_ne (tgt := 209) (x := Op.cmpValue (FP.dcmp lim FP.dconst0) .l) hx hb dX3_acquire_199 (by decide) (fun c199 => ?_) (fun c199 => ?_)
                          · simp only [cv_l_eq0, Decidable.not_not] at c199
                            refine lv_aload_n hx hb dX3_acquire_209 rfl (lv_at hl 0 rfl) ?_
                            refine rx_ref 6 S P (by decide) q891 dX3_acquire_210 ?_
                            refine lv_iload_n hx hb dX3_acquire_213 rfl (lv_at hl 1 rfl) ?_
                            refine lv_iload_n hx hb dX3_acquire_214 rfl (lv_at hl 3 rfl) ?_
                            refine rx_iast (v := mm) 6 t S P rfl rfl (by show _ < _; simp only [rN]; omega) dX3_acquire_215 (fun H locs P => ?_)
                            refine lv_aload_n hx hb dX3_acquire_216 rfl (lv_at hl 0 rfl) ?_
                            refine rx_ref 7 S P (by decide) q892 dX3_acquire_217 ?_
                            refine lv_iload_n hx hb dX3_acquire_220 rfl (lv_at hl 1 rfl) ?_
                            refine lv_dload hx hb dX3_acquire_221 (lv_at hl 4 rfl) ?_
                            refine lv_dconst0 hx hb dX3_acquire_223 ?_
                            refine lv_dcmp hx hb dX3_acquire_224 ?_
                            refine lw_if_le (tgt := 238) (x := Op.cmpValue (FP.dcmp lim FP.dconst0) .l) hx hb dX3_acquire_225 (by decide) (fun c225 => ?_) (fun c225 => ?_)
                            · simp only [cv_l_gt0, Decidable.not_not] at c225
                              refine lv_ldc2d (v := 13830554455654793216) hx hb S.2.2.2.1 (S.2.2.2.2 _ q995) dX3_acquire_238 ?_
                              refine rx_dast (v := 13830554455654793216) 7 t S P rfl (by show _ < _; simp only [rN]; omega) dX3_acquire_241 (fun H locs P => ?_)
                              refine lv_aload_n hx hb dX3_acquire_242 rfl (lv_at hl 0 rfl) ?_
                              refine rx_ref 9 S P (by decide) q894 dX3_acquire_243 ?_
                              refine lv_iload_n hx hb dX3_acquire_246 rfl (lv_at hl 1 rfl) ?_
                              refine lv_iconst (v := 0) hx hb dX3_acquire_247 (by decide) ?_
                              refine rx_iast (v := 0) 9 t S P rfl rfl (by show _ < _; simp only [rN]; omega) dX3_acquire_248 (fun H locs P => ?_)
                              refine lv_aload_n hx hb dX3_acquire_249 rfl (lv_at hl 0 rfl) ?_
                              refine lv_iload_n hx hb dX3_acquire_250 rfl (lv_at hl 1 rfl) ?_
                              refine lv_iload_n hx hb dX3_acquire_251 rfl (lv_at hl 2 rfl) ?_
                              refine rx_c (nL' := 3) (rest := []) [.int (nI t), .int (nI s)] S P hRw hfl (rm_enter (sI (sD (sI ((s_ordered st t s).2) 6 t mm) 7 t 13830554455654793216) 9 t 0) 0 t s (by omega) (by omega) hroom hok1.wf) q1028 q1030 qs27 q1031 q38 ⟨by decide +kernel, by decide +kernel, (by decide +kernel : (parseMethodDescriptor yX3_enter.desc).map (fun d => d.parameters.length) = some 2)⟩ dX3_acquire_252 hl.1 (Nat.le_of_ble_eq_true rfl) ⟨Nat.le_of_ble_eq_true rfl, Nat.le_of_ble_eq_true rfl⟩ ⟨Nat.le_refl _, Nat.le_refl _⟩ (fun H locs x P hRw hfl => ?_)
                              refine W.eq (g2 := F0 m 255 ls []) rfl ?_
                              refine lv_aload_n hx hb dX3_acquire_255 rfl (lv_at hl 0 rfl) ?_
                              refine lv_iload_n hx hb dX3_acquire_256 rfl (lv_at hl 1 rfl) ?_
                              refine lv_iconst (v := 0) hx hb dX3_acquire_257 (by decide) ?_
                              refine rx_c (nL' := 3) (rest := []) [.int (nI t), .int 0] S P hRw hfl (rm_settle (s_enter (sI (sD (sI ((s_ordered st t s).2) 6 t mm) 7 t 13830554455654793216) 9 t 0) t s) 0 0 t (by omega)) q1000 q1002 qs20 q1003 q38 ⟨by decide +kernel, by decide +kernel, (by decide +kernel : (parseMethodDescriptor yX3_settle.desc).map (fun d => d.parameters.length) = some 2)⟩ dX3_acquire_258 hl.1 (Nat.le_of_ble_eq_true rfl) ⟨Nat.le_of_ble_eq_true rfl, Nat.le_of_ble_eq_true rfl⟩ ⟨Nat.le_refl _, Nat.le_refl _⟩ (fun H locs x P hRw hfl => ?_)
                              refine W.eq (g2 := F0 m 261 ls [.int 0]) rfl ?_
                              have hE : s_acquire st (nI t) (nI s) mm lim = (0, 0, sI (s_enter (sI (sD (sI ((s_ordered st t s).2) 6 t mm) 7 t 13830554455654793216) 9 t 0) t s) 4 t 0) := by
                                simp [isOut02, isOut12, s_acquire, s_acq, s_wait, s_end, hit, his, hin, c8, c18, c27, c56, c69, c84, c107, c123, c128, c168, c178, c199, c225]
                              exact rx_iret S P hQ hr hlk dX3_acquire_261 hRw (hfl.trans (by rw [hE] <;> rfl)) (by rw [hE] <;> rfl) (by rw [hE] <;> rfl)
                            · simp only [cv_l_gt0, Decidable.not_not] at c225
                              refine lv_aload_n hx hb dX3_acquire_228 rfl (lv_at hl 0 rfl) ?_
                              refine rx_getD 11 S P rfl q896 dX3_acquire_229 ?_
                              refine lv_dload hx hb dX3_acquire_232 (lv_at hl 4 rfl) ?_
                              refine lv_dadd hx hb dX3_acquire_234 ((fb_time hok1.db.1 (fb_lim hin)).2) ?_
                              refine lv_goto (tgt := 241) hx hb dX3_acquire_235 (by decide) ?_
                              refine rx_dast (v := FP.dadd ((s_ordered st t s).2.2.1 11 0) lim) 7 t S P rfl (by show _ < _; simp only [rN]; omega) dX3_acquire_241 (fun H locs P => ?_)
                              refine lv_aload_n hx hb dX3_acquire_242 rfl (lv_at hl 0 rfl) ?_
                              refine rx_ref 9 S P (by decide) q894 dX3_acquire_243 ?_
                              refine lv_iload_n hx hb dX3_acquire_246 rfl (lv_at hl 1 rfl) ?_
                              refine lv_iconst (v := 0) hx hb dX3_acquire_247 (by decide) ?_
                              refine rx_iast (v := 0) 9 t S P rfl rfl (by show _ < _; simp only [rN]; omega) dX3_acquire_248 (fun H locs P => ?_)
                              refine lv_aload_n hx hb dX3_acquire_249 rfl (lv_at hl 0 rfl) ?_
                              refine lv_iload_n hx hb dX3_acquire_250 rfl (lv_at hl 1 rfl) ?_
                              refine lv_iload_n hx hb dX3_acquire_251 rfl (lv_at hl 2 rfl) ?_
                              refine rx_c (nL' := 3) (rest := []) [.int (nI t), .int (nI s)] S P hRw hfl (rm_enter (sI (sD (sI ((s_ordered st t s).2) 6 t mm) 7 t (FP.dadd ((s_ordered st t s).2.2.1 11 0) lim)) 9 t 0) 0 t s (by omega) (by omega) hroom hok1.wf) q1028 q1030 qs27 q1031 q38 ⟨by decide +kernel, by decide +kernel, (by decide +kernel : (parseMethodDescriptor yX3_enter.desc).map (fun d => d.parameters.length) = some 2)⟩ dX3_acquire_252 hl.1 (Nat.le_of_ble_eq_true rfl) ⟨Nat.le_of_ble_eq_true rfl, Nat.le_of_ble_eq_true rfl⟩ ⟨Nat.le_refl _, Nat.le_refl _⟩ (fun H locs x P hRw hfl => ?_)
                              refine W.eq (g2 := F0 m 255 ls []) rfl ?_
                              refine lv_aload_n hx hb dX3_acquire_255 rfl (lv_at hl 0 rfl) ?_
                              refine lv_iload_n hx hb dX3_acquire_256 rfl (lv_at hl 1 rfl) ?_
                              refine lv_iconst (v := 0) hx hb dX3_acquire_257 (by decide) ?_
                              refine rx_c (nL' := 3) (rest := []) [.int (nI t), .int 0] S P hRw hfl (rm_settle (s_enter (sI (sD (sI ((s_ordered st t s).2) 6 t mm) 7 t (FP.dadd ((s_ordered st t s).2.2.1 11 0) lim)) 9 t 0) t s) 0 0 t (by omega)) q1000 q1002 qs20 q1003 q38 ⟨by decide +kernel, by decide +kernel, (by decide +kernel : (parseMethodDescriptor yX3_settle.desc).map (fun d => d.parameters.length) = some 2)⟩ dX3_acquire_258 hl.1 (Nat.le_of_ble_eq_true rfl) ⟨Nat.le_of_ble_eq_true rfl, Nat.le_of_ble_eq_true rfl⟩ ⟨Nat.le_refl _, Nat.le_refl _⟩ (fun H locs x P hRw hfl => ?_)
                              refine W.eq (g2 := F0 m 261 ls [.int 0]) rfl ?_
                              have hE : s_acquire st (nI t) (nI s) mm lim = (0, 0, sI (s_enter (sI (sD (sI ((s_ordered st t s).2) 6 t mm) 7 t (FP.dadd ((s_ordered st t s).2.2.1 11 0) lim)) 9 t 0) t s) 4 t 0) := by
                                simp [isOut02, isOut12, s_acquire, s_acq, s_wait, s_end, hit, his, hin, c8, c18, c27, c56, c69, c84, c107, c123, c128, c168, c178, c199, c225]
                              exact rx_iret S P hQ hr hlk dX3_acquire_261 hRw (hfl.trans (by rw [hE] <;> rfl)) (by rw [hE] <;> rfl) (by rw [hE] <;> rfl)
                          · simp only [cv_l_eq0, Decidable.not_not] at c199
                            refine lv_aload_n hx hb dX3_acquire_202 rfl (lv_at hl 0 rfl) ?_
                            refine lv_iload_n hx hb dX3_acquire_203 rfl (lv_at hl 1 rfl) ?_
                            refine lv_iconst (v := 2) hx hb dX3_acquire_204 (by decide) ?_
                            refine rx_c (nL' := 3) (rest := []) [.int (nI t), .int 2] S P hRw hfl (rm_settle ((s_ordered st t s).2) 0 2 t (by omega)) q1000 q1002 qs20 q1003 q38 ⟨by decide +kernel, by decide +kernel, (by decide +kernel : (parseMethodDescriptor yX3_settle.desc).map (fun d => d.parameters.length) = some 2)⟩ dX3_acquire_205 hl.1 (Nat.le_of_ble_eq_true rfl) ⟨Nat.le_of_ble_eq_true rfl, Nat.le_of_ble_eq_true rfl⟩ ⟨Nat.le_refl _, Nat.le_refl _⟩ (fun H locs x P hRw hfl => ?_)
                            refine W.eq (g2 := F0 m 208 ls [.int 2]) rfl ?_
                            have hE : s_acquire st (nI t) (nI s) mm lim = (0, 2, sI ((s_ordered st t s).2) 4 t 2) := by
                              simp [isOut02, isOut12, s_acquire, s_acq, hit, his, hin, c8, c18, c27, c56, c69, c84, c107, c123, c128, c168, c178, c199]
                            exact rx_iret S P hQ hr hlk dX3_acquire_208 hRw (hfl.trans (by rw [hE] <;> rfl)) (by rw [hE] <;> rfl) (by rw [hE] <;> rfl)
                        · rw [bI_eq0, Bool.not_eq_false] at c178
                          refine lv_aload_n hx hb dX3_acquire_181 rfl (lv_at hl 0 rfl) ?_
                          refine lv_iload_n hx hb dX3_acquire_182 rfl (lv_at hl 1 rfl) ?_
                          refine lv_iload_n hx hb dX3_acquire_183 rfl (lv_at hl 2 rfl) ?_
                          refine lv_iload_n hx hb dX3_acquire_184 rfl (lv_at hl 3 rfl) ?_
                          refine rx_c (nL' := 5) (rest := []) [.int (nI t), .int (nI s), .int mm] S P hRw hfl (rm_take ((s_ordered st t s).2) 0 t s mm (by omega) (by omega)) q1024 q1026 qs26 q1027 q38 ⟨by decide +kernel, by decide +kernel, (by decide +kernel : (parseMethodDescriptor yX3_take.desc).map (fun d => d.parameters.length) = some 3)⟩ dX3_acquire_185 hl.1 (Nat.le_of_ble_eq_true rfl) ⟨Nat.le_of_ble_eq_true rfl, Nat.le_of_ble_eq_true rfl⟩ ⟨Nat.le_refl _, Nat.le_refl _⟩ (fun H locs x P hRw hfl => ?_)
                          refine W.eq (g2 := F0 m 188 ls []) rfl ?_
                          refine lv_aload_n hx hb dX3_acquire_188 rfl (lv_at hl 0 rfl) ?_
                          refine lv_iload_n hx hb dX3_acquire_189 rfl (lv_at hl 1 rfl) ?_
                          refine lv_iconst (v := 1) hx hb dX3_acquire_190 (by decide) ?_
                          refine rx_c (nL' := 3) (rest := []) [.int (nI t), .int 1] S P hRw hfl (rm_settle (s_take ((s_ordered st t s).2) t s mm) 0 1 t (by omega)) q1000 q1002 qs20 q1003 q38 ⟨by decide +kernel, by decide +kernel, (by decide +kernel : (parseMethodDescriptor yX3_settle.desc).map (fun d => d.parameters.length) = some 2)⟩ dX3_acquire_191 hl.1 (Nat.le_of_ble_eq_true rfl) ⟨Nat.le_of_ble_eq_true rfl, Nat.le_of_ble_eq_true rfl⟩ ⟨Nat.le_refl _, Nat.le_refl _⟩ (fun H locs x P hRw hfl => ?_)
                          refine W.eq (g2 := F0 m 194 ls [.int 1]) rfl ?_
                          have hE : s_acquire st (nI t) (nI s) mm lim = (0, 1, sI (s_take ((s_ordered st t s).2) t s mm) 4 t 1) := by
                            simp [isOut02, isOut12, s_acquire, s_acq, hit, his, hin, c8, c18, c27, c56, c69, c84, c107, c123, c128, c168, c178]
                          exact rx_iret S P hQ hr hlk dX3_acquire_194 hRw (hfl.trans (by rw [hE] <;> rfl)) (by rw [hE] <;> rfl) (by rw [hE] <;> rfl)
                    · have _h := True.intro
                      refine lv_aload_n hx hb dX3_acquire_131 rfl (lv_at hl 0 rfl) ?_
                      refine rx_ref 17 S P (by decide) q902 dX3_acquire_132 ?_
                      refine lv_bipush (v := 6) hx hb dX3_acquire_135 (by decide) ?_
                      refine lv_iload_n hx hb dX3_acquire_137 rfl (lv_at hl 2 rfl) ?_
                      refine ni_imul (a := 6) (b := s) hx hb dX3_acquire_138 ?_
                      refine lv_iload_n hx hb dX3_acquire_139 rfl (lv_at hl 1 rfl) ?_
                      refine ni_iadd (a := 6 * s) (b := t) hx hb dX3_acquire_140 ?_
                      refine rx_iald 17 ((6 * s) + t) S P rfl rfl (by show _ < _; simp only [rN]; omega) dX3_acquire_141 ?_
                      refine lw_if_le (tgt := 161) (x := (s_ordered st t s).2.1 17 ((6 * s) + t)) hx hb dX3_acquire_142 (by decide) (fun c142 => ?_) (fun c142 => ?_)
                      · have _h := True.intro
                        refine lv_aload_n hx hb dX3_acquire_161 rfl (lv_at hl 0 rfl) ?_
                        refine lv_iload_n hx hb dX3_acquire_162 rfl (lv_at hl 1 rfl) ?_
                        refine lv_iload_n hx hb dX3_acquire_163 rfl (lv_at hl 2 rfl) ?_
                        refine lv_iload_n hx hb dX3_acquire_164 rfl (lv_at hl 3 rfl) ?_
                        refine rx_c (nL' := 6) (rest := []) [.int (nI t), .int (nI s), .int mm] S P hRw hfl (rm_mustQueue ((s_ordered st t s).2) 0 t s mm (by omega) (by omega) hok1.wf) q1016 q1018 qs24 q1019 q38 ⟨by decide +kernel, by decide +kernel, (by decide +kernel : (parseMethodDescriptor yX3_mustQueue.desc).map (fun d => d.parameters.length) = some 3)⟩ dX3_acquire_165 hl.1 (Nat.le_of_ble_eq_true rfl) ⟨Nat.le_of_ble_eq_true rfl, Nat.le_of_ble_eq_true rfl⟩ ⟨Nat.le_refl _, Nat.le_refl _⟩ (fun H locs x P hRw hfl => ?_)
                        refine W.eq (g2 := F0 m 168 ls [.int (bI (s_mustQueue ((s_ordered st t s).2) t s mm))]) rfl ?_
                        refine lv_if_ne (tgt := 195) (x := bI (s_mustQueue ((s_ordered st t s).2) t s mm)) hx hb dX3_acquire_168 (by decide) (fun c168 => ?_) (fun c168 => ?_)
                        · rw [bI_eq0, Bool.not_eq_false] at c168
                          refine lv_dload hx hb dX3_acquire_195 (lv_at hl 4 rfl) ?_
                          refine lv_dconst0 hx hb dX3_acquire_197 ?_
                          refine lv_dcmp hx hb dX3_acquire_198 ?_
                          refine lv_if_ne (tgt := 209) (x := Op.cmpValue (FP.dcmp lim FP.dconst0) .l) hx hb dX3_acquire_199 (by decide) (fun c199 => ?_) (fun c199 => ?_)
                          · simp only [cv_l_eq0, Decidable.not_not] at c199
                            refine lv_aload_n hx hb dX3_acquire_209 rfl (lv_at hl 0 rfl) ?_
                            refine rx_ref 6 S P (by decide) q891 dX3_acquire_210 ?_
                            refine lv_iload_n hx hb dX3_acquire_213 rfl (lv_at hl 1 rfl) ?_
                            refine lv_iload_n hx hb dX3_acquire_214 rfl (lv_at hl 3 rfl) ?_
                            refine rx_iast (v := mm) 6 t S P rfl rfl (by show _ < _; simp only [rN]; omega) dX3_acquire_215 (fun H locs P => ?_)
                            refine lv_aload_n hx hb dX3_acquire_216 rfl (lv_at hl 0 rfl) ?_
                            refine rx_ref 7 S P (by decide) q892 dX3_acquire_217 ?_
                            refine lv_iload_n hx hb dX3_acquire_220 rfl (lv_at hl 1 rfl) ?_
                            refine lv_dload hx hb dX3_acquire_221 (lv_at hl 4 rfl) ?_
                            refine lv_dconst0 hx hb dX3_acquire_223 ?_
                            refine lv_dcmp hx hb dX3_acquire_224 ?_
                            refine lw_if_le (tgt := 238) (x := Op.cmpValue (FP.dcmp lim FP.dconst0) .l) hx hb dX3_acquire_225 (by decide) (fun c225 => ?_) (fun c225 => ?_)
                            · simp only [cv_l_gt0, Decidable.not_not] at c225
                              refine lv_ldc2d (v := 13830554455654793216) hx hb S.2.2.2.1 (S.2.2.2.2 _ q995) dX3_acquire_238 ?_
                              refine rx_dast (v := 13830554455654793216) 7 t S P rfl (by show _ < _; simp only [rN]; omega) dX3_acquire_241 (fun H locs P => ?_)
                              refine lv_aload_n hx hb dX3_acquire_242 rfl (lv_at hl 0 rfl) ?_
                              refine rx_ref 9 S P (by decide) q894 dX3_acquire_243 ?_
                              refine lv_iload_n hx hb dX3_acquire_246 rfl (lv_at hl 1 rfl) ?_
                              refine lv_iconst (v := 0) hx hb dX3_acquire_247 (by decide) ?_
                              refine rx_iast (v := 0) 9 t S P rfl rfl (by show _ < _; simp only [rN]; omega) dX3_acquire_248 (fun H locs P => ?_)
                              refine lv_aload_n hx hb dX3_acquire_249 rfl (lv_at hl 0 rfl) ?_
                              refine lv_iload_n hx hb dX3_acquire_250 rfl (lv_at hl 1 rfl) ?_
                              refine lv_iload_n hx hb dX3_acquire_251 rfl (lv_at hl 2 rfl) ?_
                              refine rx_c (nL' := 3) (rest := []) [.int (nI t), .int (nI s)] S P hRw hfl (rm_enter (sI (sD (sI ((s_ordered st t s).2) 6 t mm) 7 t 13830554455654793216) 9 t 0) 0 t s (by omega) (by omega) hroom hok1.wf) q1028 q1030 qs27 q1031 q38 ⟨by decide +kernel, by decide +kernel, (by decide +kernel : (parseMethodDescriptor yX3_enter.desc).map (fun d => d.parameters.length) = some 2)⟩ dX3_acquire_252 hl.1 (Nat.le_of_ble_eq_true rfl) ⟨Nat.le_of_ble_eq_true rfl, Nat.le_of_ble_eq_true rfl⟩ ⟨Nat.le_refl _, Nat.le_refl _⟩ (fun H locs x P hRw hfl => ?_)
                              refine W.eq (g2 := F0 m 255 ls []) rfl ?_
                              refine lv_aload_n hx hb dX3_acquire_255 rfl (lv_at hl 0 rfl) ?_
                              refine lv_iload_n hx hb dX3_acquire_256 rfl (lv_at hl 1 rfl) ?_
                              refine lv_iconst (v := 0) hx hb dX3_acquire_257 (by decide) ?_
                              refine rx_c (nL' := 3) (rest := []) [.int (nI t), .int 0] S P hRw hfl (rm_settle (s_enter (sI (sD (sI ((s_ordered st t s).2) 6 t mm) 7 t 13830554455654793216) 9 t 0) t s) 0 0 t (by omega)) q1000 q1002 qs20 q1003 q38 ⟨by decide +kernel, by decide +kernel, (by decide +kernel : (parseMethodDescriptor yX3_settle.desc).map (fun d => d.parameters.length) = some 2)⟩ dX3_acquire_258 hl.1 (Nat.le_of_ble_eq_true rfl) ⟨Nat.le_of_ble_eq_true rfl, Nat.le_of_ble_eq_true rfl⟩ ⟨Nat.le_refl _, Nat.le_refl _⟩ (fun H locs x P hRw hfl => ?_)
                              refine W.eq (g2 := F0 m 261 ls [.int 0]) rfl ?_
                              have hE : s_acquire st (nI t) (nI s) mm lim = (0, 0, sI (s_enter (sI (sD (sI ((s_ordered st t s).2) 6 t mm) 7 t 13830554455654793216) 9 t 0) t s) 4 t 0) := by
                                simp [isOut02, isOut12, s_acquire, s_acq, s_wait, s_end, hit, his, hin, c8, c18, c27, c56, c69, c84, c107, c123, eq_true c128, c142, c168, c199, c225]
                              exact rx_iret S P hQ hr hlk dX3_acquire_261 hRw (hfl.trans (by rw [hE] <;> rfl)) (by rw [hE] <;> rfl) (by rw [hE] <;> rfl)
                            · simp only [cv_l_gt0, Decidable.not_not] at c225
                              refine lv_aload_n hx hb dX3_acquire_228 rfl (lv_at hl 0 rfl) ?_
                              refine rx_getD 11 S P rfl q896 dX3_acquire_229 ?_
                              refine lv_dload hx hb dX3_acquire_232 (lv_at hl 4 rfl) ?_
                              refine lv_dadd hx hb dX3_acquire_234 ((fb_time hok1.db.1 (fb_lim hin)).2) ?_
                              refine lv_goto (tgt := 241) hx hb dX3_acquire_235 (by decide) ?_
                              refine rx_dast (v := FP.dadd ((s_ordered st t s).2.2.1 11 0) lim) 7 t S P rfl (by show _ < _; simp only [rN]; omega) dX3_acquire_241 (fun H locs P => ?_)
                              refine lv_aload_n hx hb dX3_acquire_242 rfl (lv_at hl 0 rfl) ?_
                              refine rx_ref 9 S P (by decide) q894 dX3_acquire_243 ?_
                              refine lv_iload_n hx hb dX3_acquire_246 rfl (lv_at hl 1 rfl) ?_
                              refine lv_iconst (v := 0) hx hb dX3_acquire_247 (by decide) ?_
                              refine rx_iast (v := 0) 9 t S P rfl rfl (by show _ < _; simp only [rN]; omega) dX3_acquire_248 (fun H locs P => ?_)
                              refine lv_aload_n hx hb dX3_acquire_249 rfl (lv_at hl 0 rfl) ?_
                              refine lv_iload_n hx hb dX3_acquire_250 rfl (lv_at hl 1 rfl) ?_
                              refine lv_iload_n hx hb dX3_acquire_251 rfl (lv_at hl 2 rfl) ?_
                              refine rx_c (nL' := 3) (rest := []) [.int (nI t), .int (nI s)] S P hRw hfl (rm_enter (sI (sD (sI ((s_ordered st t s).2) 6 t mm) 7 t (FP.dadd ((s_ordered st t s).2.2.1 11 0) lim)) 9 t 0) 0 t s (by omega) (by omega) hroom hok1.wf) q1028 q1030 qs27 q1031 q38 ⟨by decide +kernel, by decide +kernel, (by decide +kernel : (parseMethodDescriptor yX3_enter.desc).map (fun d => d.parameters.length) = some 2)⟩ dX3_acquire_252 hl.1 (Nat.le_of_ble_eq_true rfl) ⟨Nat.le_of_ble_eq_true rfl, Nat.le_of_ble_eq_true rfl⟩ ⟨Nat.le_refl _, Nat.le_refl _⟩ (fun H locs x P hRw hfl => ?_)
                              refine W.eq (g2 := F0 m 255 ls []) rfl ?_
                              refine lv_aload_n hx hb dX3_acquire_255 rfl (lv_at hl 0 rfl) ?_
                              refine lv_iload_n hx hb dX3_acquire_256 rfl (lv_at hl 1 rfl) ?_
                              refine lv_iconst (v := 0) hx hb dX3_acquire_257 (by decide) ?_
                              refine rx_c (nL' := 3) (rest := []) [.int (nI t), .int 0] S P hRw hfl (rm_settle (s_enter (sI (sD (sI ((s_ordered st t s).2) 6 t mm) 7 t (FP.dadd ((s_ordered st t s).2.2.1 11 0) lim)) 9 t 0) t s) 0 0 t (by omega)) q1000 q1002 qs20 q1003 q38 ⟨by decide +kernel, by decide +kernel, (by decide +kernel : (parseMethodDescriptor yX3_settle.desc).map (fun d => d.parameters.length) = some 2)⟩ dX3_acquire_258 hl.1 (Nat.le_of_ble_eq_true rfl) ⟨Nat.le_of_ble_eq_true rfl, Nat.le_of_ble_eq_true rfl⟩ ⟨Nat.le_refl _, Nat.le_refl _⟩ (fun H locs x P hRw hfl => ?_)
                              refine W.eq (g2 := F0 m 261 ls [.int 0]) rfl ?_
                              have hE : s_acquire st (nI t) (nI s) mm lim = (0, 0, sI (s_enter (sI (sD (sI ((s_ordered st t s).2) 6 t mm) 7 t (FP.dadd ((s_ordered st t s).2.2.1 11 0) lim)) 9 t 0) t s) 4 t 0) := by
                                simp [isOut02, isOut12, s_acquire, s_acq, s_wait, s_end, hit, his, hin, c8, c18, c27, c56, c69, c84, c107, c123, eq_true c128, c142, c168, c199, c225]
                              exact rx_iret S P hQ hr hlk dX3_acquire_261 hRw (hfl.trans (by rw [hE] <;> rfl)) (by rw [hE] <;> rfl) (by rw [hE] <;> rfl)
                          · simp only [cv_l_eq0, Decidable.not_not] at c199
                            refine lv_aload_n hx hb dX3_acquire_202 rfl (lv_at hl 0 rfl) ?_
                            refine lv_iload_n hx hb dX3_acquire_203 rfl (lv_at hl 1 rfl) ?_
                            refine lv_iconst (v := 2) hx hb dX3_acquire_204 (by decide) ?_
                            refine rx_c (nL' := 3) (rest := []) [.int (nI t), .int 2] S P hRw hfl (rm_settle ((s_ordered st t s).2) 0 2 t (by omega)) q1000 q1002 qs20 q1003 q38 ⟨by decide +kernel, by decide +kernel, (by decide +kernel : (parseMethodDescriptor yX3_settle.desc).map (fun d => d.parameters.length) = some 2)⟩ dX3_acquire_205 hl.1 (Nat.le_of_ble_eq_true rfl) ⟨Nat.le_of_ble_eq_true rfl, Nat.le_of_ble_eq_true rfl⟩ ⟨Nat.le_refl _, Nat.le_refl _⟩ (fun H locs x P hRw hfl => ?_)
                            refine W.eq (g2 := F0 m 208 ls [.int 2]) rfl ?_
                            have hE : s_acquire st (nI t) (nI s) mm lim = (0, 2, sI ((s_ordered st t s).2) 4 t 2) := by
                              simp [isOut02, isOut12, s_acquire, s_acq, hit, his, hin, c8, c18, c27, c56, c69, c84, c107, c123, eq_true c128, c142, c168, c199]
                            exact rx_iret S P hQ hr hlk dX3_acquire_208 hRw (hfl.trans (by rw [hE] <;> rfl)) (by rw [hE] <;> rfl) (by rw [hE] <;> rfl)
                        · rw [bI_eq0] at c168
                          refine lv_aload_n hx hb dX3_acquire_171 rfl (lv_at hl 0 rfl) ?_
                          refine lv_iload_n hx hb dX3_acquire_172 rfl (lv_at hl 1 rfl) ?_
                          refine lv_iload_n hx hb dX3_acquire_173 rfl (lv_at hl 2 rfl) ?_
                          refine lv_iload_n hx hb dX3_acquire_174 rfl (lv_at hl 3 rfl) ?_
                          refine rx_c (nL' := 6) (rest := []) [.int (nI t), .int (nI s), .int mm] S P hRw hfl (rm_canTake ((s_ordered st t s).2) 0 t s mm (by omega) (by omega)) q1020 q1022 qs25 q1023 q38 ⟨by decide +kernel, by decide +kernel, (by decide +kernel : (parseMethodDescriptor yX3_canTake.desc).map (fun d => d.parameters.length) = some 3)⟩ dX3_acquire_175 hl.1 (Nat.le_of_ble_eq_true rfl) ⟨Nat.le_of_ble_eq_true rfl, Nat.le_of_ble_eq_true rfl⟩ ⟨Nat.le_refl _, Nat.le_refl _⟩ (fun H locs x P hRw hfl => ?_)
                          refine W.eq (g2 := F0 m 178 ls [.int (bI (s_canTake ((s_ordered st t s).2) t s mm))]) rfl ?_
                          refine lv_if_eq (tgt := 195) (x := bI (s_canTake ((s_ordered st t s).2) t s mm)) hx hb dX3_acquire_178 (by decide) (fun c178 => ?_) (fun c178 => ?_)
                          · rw [bI_eq0] at c178
                            refine lv_dload hx hb dX3_acquire_195 (lv_at hl 4 rfl) ?_
                            refine lv_dconst0 hx hb dX3_acquire_197 ?_
                            refine lv_dcmp hx hb dX3_acquire_198 ?_
                            refine lv_if_ne (tgt := 209) (x := Op.cmpValue (FP.dcmp lim FP.dconst0) .l) hx hb dX3_acquire_199 (by decide) (fun c199 => ?_) (fun c199 => ?_)
                            · simp only [cv_l_eq0, Decidable.not_not] at c199
                              refine lv_aload_n hx hb dX3_acquire_209 rfl (lv_at hl 0 rfl) ?_
                              refine rx_ref 6 S P (by decide) q891 dX3_acquire_210 ?_
                              refine lv_iload_n hx hb dX3_acquire_213 rfl (lv_at hl 1 rfl) ?_
                              refine lv_iload_n hx hb dX3_acquire_214 rfl (lv_at hl 3 rfl) ?_
                              refine rx_iast (v := mm) 6 t S P rfl rfl (by show _ < _; simp only [rN]; omega) dX3_acquire_215 (fun H locs P => ?_)
                              refine lv_aload_n hx hb dX3_acquire_216 rfl (lv_at hl 0 rfl) ?_
                              refine rx_ref 7 S P (by decide) q892 dX3_acquire_217 ?_
                              refine lv_iload_n hx hb dX3_acquire_220 rfl (lv_at hl 1 rfl) ?_
                              refine lv_dload hx hb dX3_acquire_221 (lv_at hl 4 rfl) ?_
                              refine lv_dconst0 hx hb dX3_acquire_223 ?_
                              refine lv_dcmp hx hb dX3_acquire_224 ?_
                              refine lw_if_le (tgt := 238) (x := Op.cmpValue (FP.dcmp lim FP.dconst0) .l) hx hb dX3_acquire_225 (by decide) (fun c225 => ?_) (fun c225 => ?_)
                              · simp only [cv_l_gt0, Decidable.not_not] at c225
                                refine lv_ldc2d (v := 13830554455654793216) hx hb S.2.2.2.1 (S.2.2.2.2 _ q995) dX3_acquire_238 ?_
                                refine rx_dast (v := 13830554455654793216) 7 t S P rfl (by show _ < _; simp only [rN]; omega) dX3_acquire_241 (fun H locs P => ?_)
                                refine lv_aload_n hx hb dX3_acquire_242 rfl (lv_at hl 0 rfl) ?_
                                refine rx_ref 9 S P (by decide) q894 dX3_acquire_243 ?_
                                refine lv_iload_n hx hb dX3_acquire_246 rfl (lv_at hl 1 rfl) ?_
                                refine lv_iconst (v := 0) hx hb dX3_acquire_247 (by decide) ?_
                                refine rx_iast (v := 0) 9 t S P rfl rfl (by show _ < _; simp only [rN]; omega) dX3_acquire_248 (fun H locs P => ?_)
                                refine lv_aload_n hx hb dX3_acquire_249 rfl (lv_at hl 0 rfl) ?_
                                refine lv_iload_n hx hb dX3_acquire_250 rfl (lv_at hl 1 rfl) ?_
                                refine lv_iload_n hx hb dX3_acquire_251 rfl (lv_at hl 2 rfl) ?_
                                refine rx_c (nL' := 3) (rest := []) [.int (nI t), .int (nI s)] S P hRw hfl (rm_enter (sI (sD (sI ((s_ordered st t s).2) 6 t mm) 7 t 13830554455654793216) 9 t 0) 0 t s (by omega) (by omega) hroom hok1.wf) q1028 q1030 qs27 q1031 q38 ⟨by decide +kernel, by decide +kernel, (by decide +kernel : (parseMethodDescriptor yX3_enter.desc).map (fun d => d.parameters.length) = some 2)⟩ dX3_acquire_252 hl.1 (Nat.le_of_ble_eq_true rfl) ⟨Nat.le_of_ble_eq_true rfl, Nat.le_of_ble_eq_true rfl⟩ ⟨Nat.le_refl _, Nat.le_refl _⟩ (fun H locs x P hRw hfl => ?_)
                                refine W.eq (g2 := F0 m 255 ls []) rfl ?_
                                refine lv_aload_n hx hb dX3_acquire_255 rfl (lv_at hl 0 rfl) ?_
                                refine lv_iload_n hx hb dX3_acquire_256 rfl (lv_at hl 1 rfl) ?_
                                refine lv_iconst (v := 0) hx hb dX3_acquire_257 (by decide) ?_
                                refine rx_c (nL' := 3) (rest := []) [.int (nI t), .int 0] S P hRw hfl (rm_settle (s_enter (sI (sD (sI ((s_ordered st t s).2) 6 t mm) 7 t 13830554455654793216) 9 t 0) t s) 0 0 t (by omega)) q1000 q1002 qs20 q1003 q38 ⟨by decide +kernel, by decide +kernel, (by decide +kernel : (parseMethodDescriptor yX3_settle.desc).map (fun d => d.parameters.length) = some 2)⟩ dX3_acquire_258 hl.1 (Nat.le_of_ble_eq_true rfl) ⟨Nat.le_of_ble_eq_true rfl, Nat.le_of_ble_eq_true rfl⟩ ⟨Nat.le_refl _, Nat.le_refl _⟩ (fun H locs x P hRw hfl => ?_)
                                refine W.eq (g2 := F0 m 261 ls [.int 0]) rfl ?_
                                have hE : s_acquire st (nI t) (nI s) mm lim = (0, 0, sI (s_enter (sI (sD (sI ((s_ordered st t s).2) 6 t mm) 7 t 13830554455654793216) 9 t 0) t s) 4 t 0) := by
                                  simp [isOut02, isOut12, s_acquire, s_acq, s_wait, s_end, hit, his, hin, c8, c18, c27, c56, c69, c84, c107, c123, eq_true c128, c142, c168, c178, c199, c225]
                                exact rx_iret S P hQ hr hlk dX3_acquire_261 hRw (hfl.trans (by rw [hE] <;> rfl)) (by rw [hE] <;> rfl) (by rw [hE] <;> rfl)
                              · simp only [cv_l_gt0, Decidable.not_not] at c225
                                refine lv_aload_n hx hb dX3_acquire_228 rfl (lv_at hl 0 rfl) ?_
                                refine rx_getD 11 S P rfl q896 dX3_acquire_229 ?_
                                refine lv_dload hx hb dX3_acquire_232 (lv_at hl 4 rfl) ?_
                                refine lv_dadd hx hb dX3_acquire_234 ((fb_time hok1.db.1 (fb_lim hin)).2) ?_
                                refine lv_goto (tgt := 241) hx hb dX3_acquire_235 (by decide) ?_
                                refine rx_dast (v := FP.dadd ((s_ordered st t s).2.2.1 11 0) lim) 7 t S P rfl (by show _ < _; simp only [rN]; omega) dX3_acquire_241 (fun H locs P => ?_)
                                refine lv_aload_n hx hb dX3_acquire_242 rfl (lv_at hl 0 rfl) ?_
                                refine rx_ref 9 S P (by decide) q894 dX3_acquire_243 ?_
                                refine lv_iload_n hx hb dX3_acquire_246 rfl (lv_at hl 1 rfl) ?_
                                refine lv_iconst (v := 0) hx hb dX3_acquire_247 (by decide) ?_
                                refine rx_iast (v := 0) 9 t S P rfl rfl (by show _ < _; simp only [rN]; omega) dX3_acquire_248 (fun H locs P => ?_)
                                refine lv_aload_n hx hb dX3_acquire_249 rfl (lv_at hl 0 rfl) ?_
                                refine lv_iload_n hx hb dX3_acquire_250 rfl (lv_at hl 1 rfl) ?_
                                refine lv_iload_n hx hb dX3_acquire_251 rfl (lv_at hl 2 rfl) ?_
                                refine rx_c (nL' := 3) (rest := []) [.int (nI t), .int (nI s)] S P hRw hfl (rm_enter (sI (sD (sI ((s_ordered st t s).2) 6 t mm) 7 t (FP.dadd ((s_ordered st t s).2.2.1 11 0) lim)) 9 t 0) 0 t s (by omega) (by omega) hroom hok1.wf) q1028 q1030 qs27 q1031 q38 ⟨by decide +kernel, by decide +kernel, (by decide +kernel : (parseMethodDescriptor yX3_enter.desc).map (fun d => d.parameters.length) = some 2)⟩ dX3_acquire_252 hl.1 (Nat.le_of_ble_eq_true rfl) ⟨Nat.le_of_ble_eq_true rfl, Nat.le_of_ble_eq_true rfl⟩ ⟨Nat.le_refl _, Nat.le_refl _⟩ (fun H locs x P hRw hfl => ?_)
                                refine W.eq (g2 := F0 m 255 ls []) rfl ?_
                                refine lv_aload_n hx hb dX3_acquire_255 rfl (lv_at hl 0 rfl) ?_
                                refine lv_iload_n hx hb dX3_acquire_256 rfl (lv_at hl 1 rfl) ?_
                                refine lv_iconst (v := 0) hx hb dX3_acquire_257 (by decide) ?_
                                refine rx_c (nL' := 3) (rest := []) [.int (nI t), .int 0] S P hRw hfl (rm_settle (s_enter (sI (sD (sI ((s_ordered st t s).2) 6 t mm) 7 t (FP.dadd ((s_ordered st t s).2.2.1 11 0) lim)) 9 t 0) t s) 0 0 t (by omega)) q1000 q1002 qs20 q1003 q38 ⟨by decide +kernel, by decide +kernel, (by decide +kernel : (parseMethodDescriptor yX3_settle.desc).map (fun d => d.parameters.length) = some 2)⟩ dX3_acquire_258 hl.1 (Nat.le_of_ble_eq_true rfl) ⟨Nat.le_of_ble_eq_true rfl, Nat.le_of_ble_eq_true rfl⟩ ⟨Nat.le_refl _, Nat.le_refl _⟩ (fun H locs x P hRw hfl => ?_)
                                refine W.eq (g2 := F0 m 261 ls [.int 0]) rfl ?_
                                have hE : s_acquire st (nI t) (nI s) mm lim = (0, 0, sI (s_enter (sI (sD (sI ((s_ordered st t s).2) 6 t mm) 7 t (FP.dadd ((s_ordered st t s).2.2.1 11 0) lim)) 9 t 0) t s) 4 t 0) := by
                                  simp [isOut02, isOut12, s_acquire, s_acq, s_wait, s_end, hit, his, hin, c8, c18, c27, c56, c69, c84, c107, c123, eq_true c128, c142, c168, c178, c199, c225]
                                exact rx_iret S P hQ hr hlk dX3_acquire_261 hRw (hfl.trans (by rw [hE] <;> rfl)) (by rw [hE] <;> rfl) (by rw [hE] <;> rfl)
                            · simp only [cv_l_eq0, Decidable.not_not] at c199
                              refine lv_aload_n hx hb dX3_acquire_202 rfl (lv_at hl 0 rfl) ?_
                              refine lv_iload_n hx hb dX3_acquire_203 rfl (lv_at hl 1 rfl) ?_
                              refine lv_iconst (v := 2) hx hb dX3_acquire_204 (by decide) ?_
                              refine rx_c (nL' := 3) (rest := []) [.int (nI t), .int 2] S P hRw hfl (rm_settle ((s_ordered st t s).2) 0 2 t (by omega)) q1000 q1002 qs20 q1003 q38 ⟨by decide +kernel, by decide +kernel, (by decide +kernel : (parseMethodDescriptor yX3_settle.desc).map (fun d => d.parameters.length) = some 2)⟩ dX3_acquire_205 hl.1 (Nat.le_of_ble_eq_true rfl) ⟨Nat.le_of_ble_eq_true rfl, Nat.le_of_ble_eq_true rfl⟩ ⟨Nat.le_refl _, Nat.le_refl _⟩ (fun H locs x P hRw hfl => ?_)
                              refine W.eq (g2 := F0 m 208 ls [.int 2]) rfl ?_
                              have hE : s_acquire st (nI t) (nI s) mm lim = (0, 2, sI ((s_ordered st t s).2) 4 t 2) := by
                                simp [isOut02, isOut12, s_acquire, s_acq, hit, his, hin, c8, c18, c27, c56, c69, c84, c107, c123, eq_true c128, c142, c168, c178, c199]
                              exact rx_iret S P hQ hr hlk dX3_acquire_208 hRw (hfl.trans (by rw [hE] <;> rfl)) (by rw [hE] <;> rfl) (by rw [hE] <;> rfl)
                          · rw [bI_eq0, Bool.not_eq_false] at c178
                            refine lv_aload_n hx hb dX3_acquire_181 rfl (lv_at hl 0 rfl) ?_
                            refine lv_iload_n hx hb dX3_acquire_182 rfl (lv_at hl 1 rfl) ?_
                            refine lv_iload_n hx hb dX3_acquire_183 rfl (lv_at hl 2 rfl) ?_
                            refine lv_iload_n hx hb dX3_acquire_184 rfl (lv_at hl 3 rfl) ?_
                            refine rx_c (nL' := 5) (rest := []) [.int (nI t), .int (nI s), .int mm] S P hRw hfl (rm_take ((s_ordered st t s).2) 0 t s mm (by omega) (by omega)) q1024 q1026 qs26 q1027 q38 ⟨by decide +kernel, by decide +kernel, (by decide +kernel : (parseMethodDescriptor yX3_take.desc).map (fun d => d.parameters.length) = some 3)⟩ dX3_acquire_185 hl.1 (Nat.le_of_ble_eq_true rfl) ⟨Nat.le_of_ble_eq_true rfl, Nat.le_of_ble_eq_true rfl⟩ ⟨Nat.le_refl _, Nat.le_refl _⟩ (fun H locs x P hRw hfl => ?_)
                            refine W.eq (g2 := F0 m 188 ls []) rfl ?_
                            refine lv_aload_n hx hb dX3_acquire_188 rfl (lv_at hl 0 rfl) ?_
                            refine lv_iload_n hx hb dX3_acquire_189 rfl (lv_at hl 1 rfl) ?_
                            refine lv_iconst (v := 1) hx hb dX3_acquire_190 (by decide) ?_
                            refine rx_c (nL' := 3) (rest := []) [.int (nI t), .int 1] S P hRw hfl (rm_settle (s_take ((s_ordered st t s).2) t s mm) 0 1 t (by omega)) q1000 q1002 qs20 q1003 q38 ⟨by decide +kernel, by decide +kernel, (by decide +kernel : (parseMethodDescriptor yX3_settle.desc).map (fun d => d.parameters.length) = some 2)⟩ dX3_acquire_191 hl.1 (Nat.le_of_ble_eq_true rfl) ⟨Nat.le_of_ble_eq_true rfl, Nat.le_of_ble_eq_true rfl⟩ ⟨Nat.le_refl _, Nat.le_refl _⟩ (fun H locs x P hRw hfl => ?_)
                            refine W.eq (g2 := F0 m 194 ls [.int 1]) rfl ?_
                            have hE : s_acquire st (nI t) (nI s) mm lim = (0, 1, sI (s_take ((s_ordered st t s).2) t s mm) 4 t 1) := by
                              simp [isOut02, isOut12, s_acquire, s_acq, hit, his, hin, c8, c18, c27, c56, c69, c84, c107, c123, eq_true c128, c142, c168, c178]
                            exact rx_iret S P hQ hr hlk dX3_acquire_194 hRw (hfl.trans (by rw [hE] <;> rfl)) (by rw [hE] <;> rfl) (by rw [hE] <;> rfl)
                      · have _h := True.intro
                        refine lv_aload_n hx hb dX3_acquire_145 rfl (lv_at hl 0 rfl) ?_
                        refine rx_ref 13 S P (by decide) q898 dX3_acquire_146 ?_
                        refine lv_iload_n hx hb dX3_acquire_149 rfl (lv_at hl 2 rfl) ?_
                        refine rx_iald 13 s S P rfl rfl (by show _ < _; simp only [rN]; omega) dX3_acquire_150 ?_
                        refine lv_iload_n hx hb dX3_acquire_151 rfl (lv_at hl 1 rfl) ?_
                        refine lv_icmp_eq (tgt := 161) (x := (s_ordered st t s).2.1 13 s) (y := nI t) hx hb dX3_acquire_152 (by decide) (fun c152 => ?_) (fun c152 => ?_)
                        · have _h := True.intro
                          refine lv_aload_n hx hb dX3_acquire_161 rfl (lv_at hl 0 rfl) ?_
                          refine lv_iload_n hx hb dX3_acquire_162 rfl (lv_at hl 1 rfl) ?_
                          refine lv_iload_n hx hb dX3_acquire_163 rfl (lv_at hl 2 rfl) ?_
                          refine lv_iload_n hx hb dX3_acquire_164 rfl (lv_at hl 3 rfl) ?_
                          refine rx_c (nL' := 6) (rest := []) [.int (nI t), .int (nI s), .int mm] S P hRw hfl (rm_mustQueue ((s_ordered st t s).2) 0 t s mm (by omega) (by omega) hok1.wf) q1016 q1018 qs24 q1019 q38 ⟨by decide +kernel, by decide +kernel, (by decide +kernel : (parseMethodDescriptor yX3_mustQueue.desc).map (fun d => d.parameters.length) = some 3)⟩ dX3_acquire_165 hl.1 (Nat.le_of_ble_eq_true rfl) ⟨Nat.le_of_ble_eq_true rfl, Nat.le_of_ble_eq_true rfl⟩ ⟨Nat.le_refl _, Nat.le_refl _⟩ (fun H locs x P hRw hfl => ?_)
                          refine W.eq (g2 := F0 m 168 ls [.int (bI (s_mustQueue ((s_ordered st t s).2) t s mm))]) rfl ?_
                          refine lv_if_ne (tgt := 195) (x := bI (s_mustQueue ((s_ordered st t s).2) t s mm)) hx hb dX3_acquire_168 (by decide) (fun c168 => ?_) (fun c168 => ?_)
                          · rw [bI_eq0, Bool.not_eq_false] at c168
                            refine lv_dload hx hb dX3_acquire_195 (lv_at hl 4 rfl) ?_
                            refine lv_dconst0 hx hb dX3_acquire_197 ?_
                            refine lv_dcmp hx hb dX3_acquire_198 ?_
                            refine lv_if_ne (tgt := 209) (x := Op.cmpValue (FP.dcmp lim FP.dconst0) .l) hx hb dX3_acquire_199 (by decide) (fun c199 => ?_) (fun c199 => ?_)
                            · simp only [cv_l_eq0, Decidable.not_not] at c199
                              refine lv_aload_n hx hb dX3_acquire_209 rfl (lv_at hl 0 rfl) ?_
                              refine rx_ref 6 S P (by decide) q891 dX3_acquire_210 ?_
                              refine lv_iload_n hx hb dX3_acquire_213 rfl (lv_at hl 1 rfl) ?_
                              refine lv_iload_n hx hb dX3_acquire_214 rfl (lv_at hl 3 rfl) ?_
                              refine rx_iast (v := mm) 6 t S P rfl rfl (by show _ < _; simp only [rN]; omega) dX3_acquire_215 (fun H locs P => ?_)
                              refine lv_aload_n hx hb dX3_acquire_216 rfl (lv_at hl 0 rfl) ?_
                              refine rx_ref 7 S P (by decide) q892 dX3_acquire_217 ?_
                              refine lv_iload_n hx hb dX3_acquire_220 rfl (lv_at hl 1 rfl) ?_
                              refine lv_dload hx hb dX3_acquire_221 (lv_at hl 4 rfl) ?_
                              refine lv_dconst0 hx hb dX3_acquire_223 ?_
                              refine lv_dcmp hx hb dX3_acquire_224 ?_
                              refine lw_if_le (tgt := 238) (x := Op.cmpValue (FP.dcmp lim FP.dconst0) .l) hx hb dX3_acquire_225 (by decide) (fun c225 => ?_) (fun c225 => ?_)
                              · simp only [cv_l_gt0, Decidable.not_not] at c225
                                refine lv_ldc2d (v := 13830554455654793216) hx hb S.2.2.2.1 (S.2.2.2.2 _ q995) dX3_acquire_238 ?_
                                refine rx_dast (v := 13830554455654793216) 7 t S P rfl (by show _ < _; simp only [rN]; omega) dX3_acquire_241 (fun H locs P => ?_)
                                refine lv_aload_n hx hb dX3_acquire_242 rfl (lv_at hl 0 rfl) ?_
                                refine rx_ref 9 S P (by decide) q894 dX3_acquire_243 ?_
                                refine lv_iload_n hx hb dX3_acquire_246 rfl (lv_at hl 1 rfl) ?_
                                refine lv_iconst (v := 0) hx hb dX3_acquire_247 (by decide) ?_
                                refine rx_iast (v := 0) 9 t S P rfl rfl (by show _ < _; simp only [rN]; omega) dX3_acquire_248 (fun H locs P => ?_)
                                refine lv_aload_n hx hb dX3_acquire_249 rfl (lv_at hl 0 rfl) ?_
                                refine lv_iload_n hx hb dX3_acquire_250 rfl (lv_at hl 1 rfl) ?_
                                refine lv_iload_n hx hb dX3_acquire_251 rfl (lv_at hl 2 rfl) ?_
                                refine rx_c (nL' := 3) (rest := []) [.int (nI t), .int (nI s)] S P hRw hfl (rm_enter (sI (sD (sI ((s_ordered st t s).2) 6 t mm) 7 t 13830554455654793216) 9 t 0) 0 t s (by omega) (by omega) hroom hok1.wf) q1028 q1030 qs27 q1031 q38 ⟨by decide +kernel, by decide +kernel, (by decide +kernel : (parseMethodDescriptor yX3_enter.desc).map (fun d => d.parameters.length) = some 2)⟩ dX3_acquire_252 hl.1 (Nat.le_of_ble_eq_true rfl) ⟨Nat.le_of_ble_eq_true rfl, Nat.le_of_ble_eq_true rfl⟩ ⟨Nat.le_refl _, Nat.le_refl _⟩ (fun H locs x P hRw hfl => ?_)
                                refine W.eq (g2 := F0 m 255 ls []) rfl ?_
                                refine lv_aload_n hx hb dX3_acquire_255 rfl (lv_at hl 0 rfl) ?_
                                refine lv_iload_n hx hb dX3_acquire_256 rfl (lv_at hl 1 rfl) ?_
                                refine lv_iconst (v := 0) hx hb dX3_acquire_257 (by decide) ?_
                                refine rx_c (nL' := 3) (rest := []) [.int (nI t), .int 0] S P hRw hfl (rm_settle (s_enter (sI (sD (sI ((s_ordered st t s).2) 6 t mm) 7 t 13830554455654793216) 9 t 0) t s) 0 0 t (by omega)) q1000 q1002 qs20 q1003 q38 ⟨by decide +kernel, by decide +kernel, (by decide +kernel : (parseMethodDescriptor yX3_settle.desc).map (fun d => d.parameters.length) = some 2)⟩ dX3_acquire_258 hl.1 (Nat.le_of_ble_eq_true rfl) ⟨Nat.le_of_ble_eq_true rfl, Nat.le_of_ble_eq_true rfl⟩ ⟨Nat.le_refl _, Nat.le_refl _⟩ (fun H locs x P hRw hfl => ?_)
                                refine W.eq (g2 := F0 m 261 ls [.int 0]) rfl ?_
                                have hE : s_acquire st (nI t) (nI s) mm lim = (0, 0, sI (s_enter (sI (sD (sI ((s_ordered st t s).2) 6 t mm) 7 t 13830554455654793216) 9 t 0) t s) 4 t 0) := by
                                  simp [isOut02, isOut12, s_acquire, s_acq, s_wait, s_end, hit, his, hin, c8, c18, c27, c56, c69, c84, c107, c123, eq_true c128, c142, c152, c168, c199, c225]
                                exact rx_iret S P hQ hr hlk dX3_acquire_261 hRw (hfl.trans (by rw [hE] <;> rfl)) (by rw [hE] <;> rfl) (by rw [hE] <;> rfl)
                              · simp only [cv_l_gt0, Decidable.not_not] at c225
                                refine lv_aload_n hx hb dX3_acquire_228 rfl (lv_at hl 0 rfl) ?_
                                refine rx_getD 11 S P rfl q896 dX3_acquire_229 ?_
                                refine lv_dload hx hb dX3_acquire_232 (lv_at hl 4 rfl) ?_
                                refine lv_dadd hx hb dX3_acquire_234 ((fb_time hok1.db.1 (fb_lim hin)).2) ?_
                                refine lv_goto (tgt := 241) hx hb dX3_acquire_235 (by decide) ?_
                                refine rx_dast (v := FP.dadd ((s_ordered st t s).2.2.1 11 0) lim) 7 t S P rfl (by show _ < _; simp only [rN]; omega) dX3_acquire_241 (fun H locs P => ?_)
                                refine lv_aload_n hx hb dX3_acquire_242 rfl (lv_at hl 0 rfl) ?_
                                refine rx_ref 9 S P (by decide) q894 dX3_acquire_243 ?_
                                refine lv_iload_n hx hb dX3_acquire_246 rfl (lv_at hl 1 rfl) ?_
                                refine lv_iconst (v := 0) hx hb dX3_acquire_247 (by decide) ?_
                                refine rx_iast (v := 0) 9 t S P rfl rfl (by show _ < _; simp only [rN]; omega) dX3_acquire_248 (fun H locs P => ?_)
                                refine lv_aload_n hx hb dX3_acquire_249 rfl (lv_at hl 0 rfl) ?_
                                refine lv_iload_n hx hb dX3_acquire_250 rfl (lv_at hl 1 rfl) ?_
                                refine lv_iload_n hx hb dX3_acquire_251 rfl (lv_at hl 2 rfl) ?_
                                refine rx_c (nL' := 3) (rest := []) [.int (nI t), .int (nI s)] S P hRw hfl (rm_enter (sI (sD (sI ((s_ordered st t s).2) 6 t mm) 7 t (FP.dadd ((s_ordered st t s).2.2.1 11 0) lim)) 9 t 0) 0 t s (by omega) (by omega) hroom hok1.wf) q1028 q1030 qs27 q1031 q38 ⟨by decide +kernel, by decide +kernel, (by decide +kernel : (parseMethodDescriptor yX3_enter.desc).map (fun d => d.parameters.length) = some 2)⟩ dX3_acquire_252 hl.1 (Nat.le_of_ble_eq_true rfl) ⟨Nat.le_of_ble_eq_true rfl, Nat.le_of_ble_eq_true rfl⟩ ⟨Nat.le_refl _, Nat.le_refl _⟩ (fun H locs x P hRw hfl => ?_)
                                refine W.eq (g2 := F0 m 255 ls []) rfl ?_
                                refine lv_aload_n hx hb dX3_acquire_255 rfl (lv_at hl 0 rfl) ?_
                                refine lv_iload_n hx hb dX3_acquire_256 rfl (lv_at hl 1 rfl) ?_
                                refine lv_iconst (v := 0) hx hb dX3_acquire_257 (by decide) ?_
                                refine rx_c (nL' := 3) (rest := []) [.int (nI t), .int 0] S P hRw hfl (rm_settle (s_enter (sI (sD (sI ((s_ordered st t s).2) 6 t mm) 7 t (FP.dadd ((s_ordered st t s).2.2.1 11 0) lim)) 9 t 0) t s) 0 0 t (by omega)) q1000 q1002 qs20 q1003 q38 ⟨by decide +kernel, by decide +kernel, (by decide +kernel : (parseMethodDescriptor yX3_settle.desc).map (fun d => d.parameters.length) = some 2)⟩ dX3_acquire_258 hl.1 (Nat.le_of_ble_eq_true rfl) ⟨Nat.le_of_ble_eq_true rfl, Nat.le_of_ble_eq_true rfl⟩ ⟨Nat.le_refl _, Nat.le_refl _⟩ (fun H locs x P hRw hfl => ?_)
                                refine W.eq (g2 := F0 m 261 ls [.int 0]) rfl ?_
                                have hE : s_acquire st (nI t) (nI s) mm lim = (0, 0, sI (s_enter (sI (sD (sI ((s_ordered st t s).2) 6 t mm) 7 t (FP.dadd ((s_ordered st t s).2.2.1 11 0) lim)) 9 t 0) t s) 4 t 0) := by
                                  simp [isOut02, isOut12, s_acquire, s_acq, s_wait, s_end, hit, his, hin, c8, c18, c27, c56, c69, c84, c107, c123, eq_true c128, c142, c152, c168, c199, c225]
                                exact rx_iret S P hQ hr hlk dX3_acquire_261 hRw (hfl.trans (by rw [hE] <;> rfl)) (by rw [hE] <;> rfl) (by rw [hE] <;> rfl)
                            · simp only [cv_l_eq0, Decidable.not_not] at c199
                              refine lv_aload_n hx hb dX3_acquire_202 rfl (lv_at hl 0 rfl) ?_
                              refine lv_iload_n hx hb dX3_acquire_203 rfl (lv_at hl 1 rfl) ?_
                              refine lv_iconst (v := 2) hx hb dX3_acquire_204 (by decide) ?_
                              refine rx_c (nL' := 3) (rest := []) [.int (nI t), .int 2] S P hRw hfl (rm_settle ((s_ordered st t s).2) 0 2 t (by omega)) q1000 q1002 qs20 q1003 q38 ⟨by decide +kernel, by decide +kernel, (by decide +kernel : (parseMethodDescriptor yX3_settle.desc).map (fun d => d.parameters.length) = some 2)⟩ dX3_acquire_205 hl.1 (Nat.le_of_ble_eq_true rfl) ⟨Nat.le_of_ble_eq_true rfl, Nat.le_of_ble_eq_true rfl⟩ ⟨Nat.le_refl _, Nat.le_refl _⟩ (fun H locs x P hRw hfl => ?_)
                              refine W.eq (g2 := F0 m 208 ls [.int 2]) rfl ?_
                              have hE : s_acquire st (nI t) (nI s) mm lim = (0, 2, sI ((s_ordered st t s).2) 4 t 2) := by
                                simp [isOut02, isOut12, s_acquire, s_acq, hit, his, hin, c8, c18, c27, c56, c69, c84, c107, c123, eq_true c128, c142, c152, c168, c199]
                              exact rx_iret S P hQ hr hlk dX3_acquire_208 hRw (hfl.trans (by rw [hE] <;> rfl)) (by rw [hE] <;> rfl) (by rw [hE] <;> rfl)
                          · rw [bI_eq0] at c168
                            refine lv_aload_n hx hb dX3_acquire_171 rfl (lv_at hl 0 rfl) ?_
                            refine lv_iload_n hx hb dX3_acquire_172 rfl (lv_at hl 1 rfl) ?_
                            refine lv_iload_n hx hb dX3_acquire_173 rfl (lv_at hl 2 rfl) ?_
                            refine lv_iload_n hx hb dX3_acquire_174 rfl (lv_at hl 3 rfl) ?_
                            refine rx_c (nL' := 6) (rest := []) [.int (nI t), .int (nI s), .int mm] S P hRw hfl (rm_canTake ((s_ordered st t s).2) 0 t s mm (by omega) (by omega)) q1020 q1022 qs25 q1023 q38 ⟨by decide +kernel, by decide +kernel, (by decide +kernel : (parseMethodDescriptor yX3_canTake.desc).map (fun d => d.parameters.length) = some 3)⟩ dX3_acquire_175 hl.1 (Nat.le_of_ble_eq_true rfl) ⟨Nat.le_of_ble_eq_true rfl, Nat.le_of_ble_eq_true rfl⟩ ⟨Nat.le_refl _, Nat.le_refl _⟩ (fun H locs x P hRw hfl => ?_)
                            refine W.eq (g2 := F0 m 178 ls [.int (bI (s_canTake ((s_ordered st t s).2) t s mm))]) rfl ?_
                            refine lv_if_eq (tgt := 195) (x := bI (s_canTake ((s_ordered st t s).2) t s mm)) hx hb dX3_acquire_178 (by decide) (fun c178 => ?_) (fun c178 => ?_)
                            · rw [bI_eq0] at c178
                              refine lv_dload hx hb dX3_acquire_195 (lv_at hl 4 rfl) ?_
                              refine lv_dconst0 hx hb dX3_acquire_197 ?_
                              refine lv_dcmp hx hb dX3_acquire_198 ?_
                              refine lv_if_ne (tgt := 209) (x := Op.cmpValue (FP.dcmp lim FP.dconst0) .l) hx hb dX3_acquire_199 (by decide) (fun c199 => ?_) (fun c199 => ?_)
                              · simp only [cv_l_eq0, Decidable.not_not] at c199
                                refine lv_aload_n hx hb dX3_acquire_209 rfl (lv_at hl 0 rfl) ?_
                                refine rx_ref 6 S P (by decide) q891 dX3_acquire_210 ?_
                                refine lv_iload_n hx hb dX3_acquire_213 rfl (lv_at hl 1 rfl) ?_
                                refine lv_iload_n hx hb dX3_acquire_214 rfl (lv_at hl 3 rfl) ?_
                                refine rx_iast (v := mm) 6 t S P rfl rfl (by show _ < _; simp only [rN]; omega) dX3_acquire_215 (fun H locs P => ?_)
                                refine lv_aload_n hx hb dX3_acquire_216 rfl (lv_at hl 0 rfl) ?_
                                refine rx_ref 7 S P (by decide) q892 dX3_acquire_217 ?_
                                refine lv_iload_n hx hb dX3_acquire_220 rfl (lv_at hl 1 rfl) ?_
                                refine lv_dload hx hb dX3_acquire_221 (lv_at hl 4 rfl) ?_
                                refine lv_dconst0 hx hb dX3_acquire_223 ?_
                                refine lv_dcmp hx hb dX3_acquire_224 ?_
                                refine lw_if_le (tgt := 238) (x := Op.cmpValue (FP.dcmp lim FP.dconst0) .l) hx hb dX3_acquire_225 (by decide) (fun c225 => ?_) (fun c225 => ?_)
                                · simp only [cv_l_gt0, Decidable.not_not] at c225
                                  refine lv_ldc2d (v := 13830554455654793216) hx hb S.2.2.2.1 (S.2.2.2.2 _ q995) dX3_acquire_238 ?_
                                  refine rx_dast (v := 13830554455654793216) 7 t S P rfl (by show _ < _; simp only [rN]; omega) dX3_acquire_241 (fun H locs P => ?_)
                                  refine lv_aload_n hx hb dX3_acquire_242 rfl (lv_at hl 0 rfl) ?_
                                  refine rx_ref 9 S P (by decide) q894 dX3_acquire_243 ?_
                                  refine lv_iload_n hx hb dX3_acquire_246 rfl (lv_at hl 1 rfl) ?_
                                  refine lv_iconst (v := 0) hx hb dX3_acquire_247 (by decide) ?_
                                  refine rx_iast (v := 0) 9 t S P rfl rfl (by show _ < _; simp only [rN]; omega) dX3_acquire_248 (fun H locs P => ?_)
                                  refine lv_aload_n hx hb dX3_acquire_249 rfl (lv_at hl 0 rfl) ?_
                                  refine lv_iload_n hx hb dX3_acquire_250 rfl (lv_at hl 1 rfl) ?_
                                  refine lv_iload_n hx hb dX3_acquire_251 rfl (lv_at hl 2 rfl) ?_
                                  refine rx_c (nL' := 3) (rest := []) [.int (nI t), .int (nI s)] S P hRw hfl (rm_enter (sI (sD (sI ((s_ordered st t s).2) 6 t mm) 7 t 13830554455654793216) 9 t 0) 0 t s (by omega) (by omega) hroom hok1.wf) q1028 q1030 qs27 q1031 q38 ⟨by decide +kernel, by decide +kernel, (by decide +kernel : (parseMethodDescriptor yX3_enter.desc).map (fun d => d.parameters.length) = some 2)⟩ dX3_acquire_252 hl.1 (Nat.le_of_ble_eq_true rfl) ⟨Nat.le_of_ble_eq_true rfl, Nat.le_of_ble_eq_true rfl⟩ ⟨Nat.le_refl _, Nat.le_refl _⟩ (fun H locs x P hRw hfl => ?_)
                                  refine W.eq (g2 := F0 m 255 ls []) rfl ?_
                                  refine lv_aload_n hx hb dX3_acquire_255 rfl (lv_at hl 0 rfl) ?_
                                  refine lv_iload_n hx hb dX3_acquire_256 rfl (lv_at hl 1 rfl) ?_
                                  refine lv_iconst (v := 0) hx hb dX3_acquire_257 (by decide) ?_
                                  refine rx_c (nL' := 3) (rest := []) [.int (nI t), .int 0] S P hRw hfl (rm_settle (s_enter (sI (sD (sI ((s_ordered st t s).2) 6 t mm) 7 t 13830554455654793216) 9 t 0) t s) 0 0 t (by omega)) q1000 q1002 qs20 q1003 q38 ⟨by decide +kernel, by decide +kernel, (by decide +kernel : (parseMethodDescriptor yX3_settle.desc).map (fun d => d.parameters.length) = some 2)⟩ dX3_acquire_258 hl.1 (Nat.le_of_ble_eq_true rfl) ⟨Nat.le_of_ble_eq_true rfl, Nat.le_of_ble_eq_true rfl⟩ ⟨Nat.le_refl _, Nat.le_refl _⟩ (fun H locs x P hRw hfl => ?_)
                                  refine W.eq (g2 := F0 m 261 ls [.int 0]) rfl ?_
                                  have hE : s_acquire st (nI t) (nI s) mm lim = (0, 0, sI (s_enter (sI (sD (sI ((s_ordered st t s).2) 6 t mm) 7 t 13830554455654793216) 9 t 0) t s) 4 t 0) := by
                                    simp [isOut02, isOut12, s_acquire, s_acq, s_wait, s_end, hit, his, hin, c8, c18, c27, c56, c69, c84, c107, c123, eq_true c128, c142, c152, c168, c178, c199, c225]
                                  exact rx_iret S P hQ hr hlk dX3_acquire_261 hRw (hfl.trans (by rw [hE] <;> rfl)) (by rw [hE] <;> rfl) (by rw [hE] <;> rfl)
                                · simp only [cv_l_gt0, Decidable.not_not] at c225
                                  refine lv_aload_n hx hb dX3_acquire_228 rfl (lv_at hl 0 rfl) ?_
                                  refine rx_getD 11 S P rfl q896 dX3_acquire_229 ?_
                                  refine lv_dload hx hb dX3_acquire_232 (lv_at hl 4 rfl) ?_
                                  refine lv_dadd hx hb dX3_acquire_234 ((fb_time hok1.db.1 (fb_lim hin)).2) ?_
                                  refine lv_goto (tgt := 241) hx hb dX3_acquire_235 (by decide) ?_
                                  refine rx_dast (v := FP.dadd ((s_ordered st t s).2.2.1 11 0) lim) 7 t S P rfl (by show _ < _; simp only [rN]; omega) dX3_acquire_241 (fun H locs P => ?_)
                                  refine lv_aload_n hx hb dX3_acquire_242 rfl (lv_at hl 0 rfl) ?_
                                  refine rx_ref 9 S P (by decide) q894 dX3_acquire_243 ?_
                                  refine lv_iload_n hx hb dX3_acquire_246 rfl (lv_at hl 1 rfl) ?_
                                  refine lv_iconst (v := 0) hx hb dX3_acquire_247 (by decide) ?_
                                  refine rx_iast (v := 0) 9 t S P rfl rfl (by show _ < _; simp only [rN]; omega) dX3_acquire_248 (fun H locs P => ?_)
                                  refine lv_aload_n hx hb dX3_acquire_249 rfl (lv_at hl 0 rfl) ?_
                                  refine lv_iload_n hx hb dX3_acquire_250 rfl (lv_at hl 1 rfl) ?_
                                  refine lv_iload_n hx hb dX3_acquire_251 rfl (lv_at hl 2 rfl) ?_
                                  refine rx_c (nL' := 3) (rest := []) [.int (nI t), .int (nI s)] S P hRw hfl (rm_enter (sI (sD (sI ((s_ordered st t s).2) 6 t mm) 7 t (FP.dadd ((s_ordered st t s).2.2.1 11 0) lim)) 9 t 0) 0 t s (by omega) (by omega) hroom hok1.wf) q1028 q1030 qs27 q1031 q38 ⟨by decide +kernel, by decide +kernel, (by decide +kernel : (parseMethodDescriptor yX3_enter.desc).map (fun d => d.parameters.length) = some 2)⟩ dX3_acquire_252 hl.1 (Nat.le_of_ble_eq_true rfl) ⟨Nat.le_of_ble_eq_true rfl, Nat.le_of_ble_eq_true rfl⟩ ⟨Nat.le_refl _, Nat.le_refl _⟩ (fun H locs x P hRw hfl => ?_)
                                  refine W.eq (g2 := F0 m 255 ls []) rfl ?_
                                  refine lv_aload_n hx hb dX3_acquire_255 rfl (lv_at hl 0 rfl) ?_
                                  refine lv_iload_n hx hb dX3_acquire_256 rfl (lv_at hl 1 rfl) ?_
                                  refine lv_iconst (v := 0) hx hb dX3_acquire_257 (by decide) ?_
                                  refine rx_c (nL' := 3) (rest := []) [.int (nI t), .int 0] S P hRw hfl (rm_settle (s_enter (sI (sD (sI ((s_ordered st t s).2) 6 t mm) 7 t (FP.dadd ((s_ordered st t s).2.2.1 11 0) lim)) 9 t 0) t s) 0 0 t (by omega)) q1000 q1002 qs20 q1003 q38 ⟨by decide +kernel, by decide +kernel, (by decide +kernel : (parseMethodDescriptor yX3_settle.desc).map (fun d => d.parameters.length) = some 2)⟩ dX3_acquire_258 hl.1 (Nat.le_of_ble_eq_true rfl) ⟨Nat.le_of_ble_eq_true rfl, Nat.le_of_ble_eq_true rfl⟩ ⟨Nat.le_refl _, Nat.le_refl _⟩ (fun H locs x P hRw hfl => ?_)
                                  refine W.eq (g2 := F0 m 261 ls [.int 0]) rfl ?_
                                  have hE : s_acquire st (nI t) (nI s) mm lim = (0, 0, sI (s_enter (sI (sD (sI ((s_ordered st t s).2) 6 t mm) 7 t (FP.dadd ((s_ordered st t s).2.2.1 11 0) lim)) 9 t 0) t s) 4 t 0) := by
                                    simp [isOut02, isOut12, s_acquire, s_acq, s_wait, s_end, hit, his, hin, c8, c18, c27, c56, c69, c84, c107, c123, eq_true c128, c142, c152, c168, c178, c199, c225]
                                  exact rx_iret S P hQ hr hlk dX3_acquire_261 hRw (hfl.trans (by rw [hE] <;> rfl)) (by rw [hE] <;> rfl) (by rw [hE] <;> rfl)
                              · simp only [cv_l_eq0, Decidable.not_not] at c199
                                refine lv_aload_n hx hb dX3_acquire_202 rfl (lv_at hl 0 rfl) ?_
                                refine lv_iload_n hx hb dX3_acquire_203 rfl (lv_at hl 1 rfl) ?_
                                refine lv_iconst (v := 2) hx hb dX3_acquire_204 (by decide) ?_
                                refine rx_c (nL' := 3) (rest := []) [.int (nI t), .int 2] S P hRw hfl (rm_settle ((s_ordered st t s).2) 0 2 t (by omega)) q1000 q1002 qs20 q1003 q38 ⟨by decide +kernel, by decide +kernel, (by decide +kernel : (parseMethodDescriptor yX3_settle.desc).map (fun d => d.parameters.length) = some 2)⟩ dX3_acquire_205 hl.1 (Nat.le_of_ble_eq_true rfl) ⟨Nat.le_of_ble_eq_true rfl, Nat.le_of_ble_eq_true rfl⟩ ⟨Nat.le_refl _, Nat.le_refl _⟩ (fun H locs x P hRw hfl => ?_)
                                refine W.eq (g2 := F0 m 208 ls [.int 2]) rfl ?_
                                have hE : s_acquire st (nI t) (nI s) mm lim = (0, 2, sI ((s_ordered st t s).2) 4 t 2) := by
                                  simp [isOut02, isOut12, s_acquire, s_acq, hit, his, hin, c8, c18, c27, c56, c69, c84, c107, c123, eq_true c128, c142, c152, c168, c178, c199]
                                exact rx_iret S P hQ hr hlk dX3_acquire_208 hRw (hfl.trans (by rw [hE] <;> rfl)) (by rw [hE] <;> rfl) (by rw [hE] <;> rfl)
                            · rw [bI_eq0, Bool.not_eq_false] at c178
                              refine lv_aload_n hx hb dX3_acquire_181 rfl (lv_at hl 0 rfl) ?_
                              refine lv_iload_n hx hb dX3_acquire_182 rfl (lv_at hl 1 rfl) ?_
                              refine lv_iload_n hx hb dX3_acquire_183 rfl (lv_at hl 2 rfl) ?_
                              refine lv_iload_n hx hb dX3_acquire_184 rfl (lv_at hl 3 rfl) ?_
                              refine rx_c (nL' := 5) (rest := []) [.int (nI t), .int (nI s), .int mm] S P hRw hfl (rm_take ((s_ordered st t s).2) 0 t s mm (by omega) (by omega)) q1024 q1026 qs26 q1027 q38 ⟨by decide +kernel, by decide +kernel, (by decide +kernel : (parseMethodDescriptor yX3_take.desc).map (fun d => d.parameters.length) = some 3)⟩ dX3_acquire_185 hl.1 (Nat.le_of_ble_eq_true rfl) ⟨Nat.le_of_ble_eq_true rfl, Nat.le_of_ble_eq_true rfl⟩ ⟨Nat.le_refl _, Nat.le_refl _⟩ (fun H locs x P hRw hfl => ?_)
                              refine W.eq (g2 := F0 m 188 ls []) rfl ?_
                              refine lv_aload_n hx hb dX3_acquire_188 rfl (lv_at hl 0 rfl) ?_
                              refine lv_iload_n hx hb dX3_acquire_189 rfl (lv_at hl 1 rfl) ?_
                              refine lv_iconst (v := 1) hx hb dX3_acquire_190 (by decide) ?_
                              refine rx_c (nL' := 3) (rest := []) [.int (nI t), .int 1] S P hRw hfl (rm_settle (s_take ((s_ordered st t s).2) t s mm) 0 1 t (by omega)) q1000 q1002 qs20 q1003 q38 ⟨by decide +kernel, by decide +kernel, (by decide +kernel : (parseMethodDescriptor yX3_settle.desc).map (fun d => d.parameters.length) = some 2)⟩ dX3_acquire_191 hl.1 (Nat.le_of_ble_eq_true rfl) ⟨Nat.le_of_ble_eq_true rfl, Nat.le_of_ble_eq_true rfl⟩ ⟨Nat.le_refl _, Nat.le_refl _⟩ (fun H locs x P hRw hfl => ?_)
                              refine W.eq (g2 := F0 m 194 ls [.int 1]) rfl ?_
                              have hE : s_acquire st (nI t) (nI s) mm lim = (0, 1, sI (s_take ((s_ordered st t s).2) t s mm) 4 t 1) := by
                                simp [isOut02, isOut12, s_acquire, s_acq, hit, his, hin, c8, c18, c27, c56, c69, c84, c107, c123, eq_true c128, c142, c152, c168, c178]
                              exact rx_iret S P hQ hr hlk dX3_acquire_194 hRw (hfl.trans (by rw [hE] <;> rfl)) (by rw [hE] <;> rfl) (by rw [hE] <;> rfl)
                        · have _h := True.intro
                          refine lv_aload_n hx hb dX3_acquire_155 rfl (lv_at hl 0 rfl) ?_
                          refine lv_iconst (v := 4) hx hb dX3_acquire_156 (by decide) ?_
                          refine rx_c (nL' := 2) (rest := []) [.int 4] S P hRw hfl (rm_fail ((s_ordered st t s).2) 0 4) q977 q979 qs17 q980 q38 ⟨by decide +kernel, by decide +kernel, (by decide +kernel : (parseMethodDescriptor yX3_fail.desc).map (fun d => d.parameters.length) = some 1)⟩ dX3_acquire_157 hl.1 (Nat.le_of_ble_eq_true rfl) ⟨Nat.le_of_ble_eq_true rfl, Nat.le_of_ble_eq_true rfl⟩ ⟨Nat.le_refl _, Nat.le_refl _⟩ (fun H locs x P hRw hfl => ?_)
                          refine W.eq (g2 := F0 m 160 ls [.int 0]) rfl ?_
                          have hE : s_acquire st (nI t) (nI s) mm lim = (4, 0, (s_ordered st t s).2) := by
                            simp [isOut02, isOut12, s_acquire, s_acq, hit, his, hin, c8, c18, c27, c56, c69, c84, c107, c123, eq_true c128, c142, c152]
                          exact rx_iret S P hQ hr hlk dX3_acquire_160 hRw (hfl.trans (by rw [hE] <;> rfl)) (by rw [hE] <;> rfl) (by rw [hE] <;> rfl)
                · rw [bI_eq0] at c107
                  refine lv_aload_n hx hb dX3_acquire_110 rfl (lv_at hl 0 rfl) ?_
                  refine lv_iconst (v := 4) hx hb dX3_acquire_111 (by decide) ?_
                  refine rx_c (nL' := 2) (rest := []) [.int 4] S P hRw hfl (rm_fail ((s_ordered st t s).2) 0 4) q977 q979 qs17 q980 q38 ⟨by decide +kernel, by decide +kernel, (by decide +kernel : (parseMethodDescriptor yX3_fail.desc).map (fun d => d.parameters.length) = some 1)⟩ dX3_acquire_112 hl.1 (Nat.le_of_ble_eq_true rfl) ⟨Nat.le_of_ble_eq_true rfl, Nat.le_of_ble_eq_true rfl⟩ ⟨Nat.le_refl _, Nat.le_refl _⟩ (fun H locs x P hRw hfl => ?_)
                  refine W.eq (g2 := F0 m 115 ls [.int 0]) rfl ?_
                  have hE : s_acquire st (nI t) (nI s) mm lim = (4, 0, (s_ordered st t s).2) := by
                    simp [isOut02, isOut12, s_acquire, s_acq, hit, his, hin, c8, c18, c27, c56, c69, c84, c107]
                  exact rx_iret S P hQ hr hlk dX3_acquire_115 hRw (hfl.trans (by rw [hE] <;> rfl)) (by rw [hE] <;> rfl) (by rw [hE] <;> rfl)
              · have _h := True.intro
                refine lv_aload_n hx hb dX3_acquire_87 rfl (lv_at hl 0 rfl) ?_
                refine rx_ref 2 S P (by decide) q887 dX3_acquire_88 ?_
                refine lv_iload_n hx hb dX3_acquire_91 rfl (lv_at hl 1 rfl) ?_
                refine lv_iconst (v := 0) hx hb dX3_acquire_92 (by decide) ?_
                refine rx_zast (v := 0) 2 t S P rfl rfl (by show _ < _; simp only [rN]; omega) (by decide) dX3_acquire_93 (fun H locs P => ?_)
                refine lv_aload_n hx hb dX3_acquire_94 rfl (lv_at hl 0 rfl) ?_
                refine lv_iload_n hx hb dX3_acquire_95 rfl (lv_at hl 1 rfl) ?_
                refine lv_iconst (v := 3) hx hb dX3_acquire_96 (by decide) ?_
                refine rx_c (nL' := 3) (rest := []) [.int (nI t), .int 3] S P hRw hfl (rm_settle (sI st 2 t 0) 0 3 t (by omega)) q1000 q1002 qs20 q1003 q38 ⟨by decide +kernel, by decide +kernel, (by decide +kernel : (parseMethodDescriptor yX3_settle.desc).map (fun d => d.parameters.length) = some 2)⟩ dX3_acquire_97 hl.1 (Nat.le_of_ble_eq_true rfl) ⟨Nat.le_of_ble_eq_true rfl, Nat.le_of_ble_eq_true rfl⟩ ⟨Nat.le_refl _, Nat.le_refl _⟩ (fun H locs x P hRw hfl => ?_)
                refine W.eq (g2 := F0 m 100 ls [.int 3]) rfl ?_
                have hE : s_acquire st (nI t) (nI s) mm lim = (0, 3, sI (sI st 2 t 0) 4 t 3) := by
                  simp [isOut02, isOut12, s_acquire, s_acq, hit, his, hin, c8, c18, c27, c56, c69, c84]
                exact rx_iret S P hQ hr hlk dX3_acquire_100 hRw (hfl.trans (by rw [hE] <;> rfl)) (by rw [hE] <;> rfl) (by rw [hE] <;> rfl)
            · have _h := True.intro
              refine lv_aload_n hx hb dX3_acquire_72 rfl (lv_at hl 0 rfl) ?_
              refine lv_iconst (v := 4) hx hb dX3_acquire_73 (by decide) ?_
              refine rx_c (nL' := 2) (rest := []) [.int 4] S P hRw hfl (rm_fail st 0 4) q977 q979 qs17 q980 q38 ⟨by decide +kernel, by decide +kernel, (by decide +kernel : (parseMethodDescriptor yX3_fail.desc).map (fun d => d.parameters.length) = some 1)⟩ dX3_acquire_74 hl.1 (Nat.le_of_ble_eq_true rfl) ⟨Nat.le_of_ble_eq_true rfl, Nat.le_of_ble_eq_true rfl⟩ ⟨Nat.le_refl _, Nat.le_refl _⟩ (fun H locs x P hRw hfl => ?_)
              refine W.eq (g2 := F0 m 77 ls [.int 0]) rfl ?_
              have hE : s_acquire st (nI t) (nI s) mm lim = (4, 0, st) := by
                simp [isOut02, isOut12, s_acquire, s_acq, hit, his, hin, c8, c18, c27, c56, c69]
              exact rx_iret S P hQ hr hlk dX3_acquire_77 hRw (hfl.trans (by rw [hE] <;> rfl)) (by rw [hE] <;> rfl) (by rw [hE] <;> rfl)
          · rw [s_check_pos] at c56
            refine lv_iconst (v := 0) hx hb dX3_acquire_59 (by decide) ?_
            have hE : s_acquire st (nI t) (nI s) mm lim = (s_check st t s, 0, st) := by
              simp [isOut02, isOut12, s_acquire, s_acq, hit, his, hin, c8, c18, c27, c56]
            exact rx_iret S P hQ hr hlk dX3_acquire_60 hRw (hfl.trans (by rw [hE] <;> rfl)) (by rw [hE] <;> rfl) (by rw [hE] <;> rfl)
        · rw [bI_eq0, Bool.not_eq_false] at c36
          have hin : inR cM1 cK lim = false := by simpa using c36
          refine lv_iconst (v := 1) hx hb dX3_acquire_39 (by decide) ?_
          refine lv_goto (tgt := 49) hx hb dX3_acquire_40 (by decide) ?_
          refine rx_putF (v := 1) 0 S P rfl rfl rfl rfl q885 dX3_acquire_49 (fun H locs P => ?_)
          obtain ⟨x, P, hRw, hfl⟩ := rw_fl (v := 1) P hRw
          refine lv_aload_n hx hb dX3_acquire_52 rfl (lv_at hl 0 rfl) ?_
          refine rx_getF 0 S P rfl rfl q885 dX3_acquire_53 ?_
          rw [hfl]
          refine ni_if_le (tgt := 61) (a := 1) hx hb (by omega) dX3_acquire_56 (by decide) (fun c56 => ?_) (fun c56 => ?_)
          · exact absurd c56 (by decide)
          · have _h := True.intro
            refine lv_iconst (v := 0) hx hb dX3_acquire_59 (by decide) ?_
            have hE : s_acquire st (nI t) (nI s) mm lim = (1, 0, st) := by
              simp [isOut02, isOut12, s_acquire, s_acq, hit, his, hin, c8, c18, c27]
            exact rx_iret S P hQ hr hlk dX3_acquire_60 hRw (hfl.trans (by rw [hE] <;> rfl)) (by rw [hE] <;> rfl) (by rw [hE] <;> rfl)

set_option maxHeartbeats 4000000 in
set_option maxRecDepth 100000 in
theorem rm_await {l : Launch} {D : va_G} {cs : Nat → ClassId} {r : Nat} {ad : Nat → Nat} {L : List Nat} (n : Nat) (st : St) (fl : Int32) (hok : Ok n st) (v sv : Int32) (lim : UInt64) : RM l D cs yX3_await cX3_await 6 (some .int) (rmL 4 0 0) r ad L [.ref r, .int v, .int sv, .double lim] st fl (some (.int (s_await st v sv lim).2.1)) ((s_await st v sv lim).2.2) ((s_await st v sv lim).1) := by
  refine rm_of rfl (Nat.le_of_ble_eq_true rfl) ?_
  intro f0 x sz p e u m below meth c S P hRw hfl hr hlk ls hl Q hQ
  have hl : lv_has ls 6 [(0, .ref r), (1, .int v), (2, .int sv), (3, .double lim)] := hl
  have hx := S.1
  have hb := S.2.1
  generalize u.heap = H at P ⊢
  generalize ([] : List Loc) = locs at P ⊢
  refine lv_aload_n hx hb dX3_await_0 rfl (lv_at hl 0 rfl) ?_
  refine lv_aload_n hx hb dX3_await_1 rfl (lv_at hl 0 rfl) ?_
  refine lv_iload_n hx hb dX3_await_2 rfl (lv_at hl 1 rfl) ?_
  refine lv_bipush (v := 6) hx hb dX3_await_3 (by decide) ?_
  refine rx_c (nL' := 3) (rest := [.ref r]) [.int v, .int 6] S P hRw hfl (rm_out st fl v 6) q973 q975 qs16 q976 q38 ⟨by decide +kernel, by decide +kernel, (by decide +kernel : (parseMethodDescriptor yX3_out.desc).map (fun d => d.parameters.length) = some 2)⟩ dX3_await_5 hl.1 (Nat.le_of_ble_eq_true rfl) ⟨Nat.le_of_ble_eq_true rfl, Nat.le_of_ble_eq_true rfl⟩ ⟨Nat.le_refl _, Nat.le_refl _⟩ (fun H locs x P hRw hfl => ?_)
  refine W.eq (g2 := F0 m 8 ls [.int (bI (isOut v 6)), .ref r]) rfl ?_
  refine lv_if_ne (tgt := 29) (x := bI (isOut v 6)) hx hb dX3_await_8 (by decide) (fun c8 => ?_) (fun c8 => ?_)
  · rw [bI_eq0, Bool.not_eq_false] at c8
    refine lv_iconst (v := 1) hx hb dX3_await_29 (by decide) ?_
    refine lv_goto (tgt := 39) hx hb dX3_await_30 (by decide) ?_
    refine rx_putF (v := 1) 0 S P rfl rfl rfl rfl q885 dX3_await_39 (fun H locs P => ?_)
    obtain ⟨x, P, hRw, hfl⟩ := rw_fl (v := 1) P hRw
    refine lv_aload_n hx hb dX3_await_42 rfl (lv_at hl 0 rfl) ?_
    refine rx_getF 0 S P rfl rfl q885 dX3_await_43 ?_
    rw [hfl]
    refine ni_if_le (tgt := 51) (a := 1) hx hb (by omega) dX3_await_46 (by decide) (fun c46 => ?_) (fun c46 => ?_)
    · exact absurd c46 (by decide)
    · have _h := True.intro
      refine lv_iconst (v := 0) hx hb dX3_await_49 (by decide) ?_
      have hE : s_await st v sv lim = (1, 0, st) := by
        simp [s_await, s_aw, c8]
      exact rx_iret S P hQ hr hlk dX3_await_50 hRw (hfl.trans (by rw [hE] <;> rfl)) (by rw [hE] <;> rfl) (by rw [hE] <;> rfl)
  · rw [bI_eq0] at c8
    obtain ⟨t, ht, rfl⟩ := isOut_f (N := 6) rfl (by decide) c8
    have hit := iN_nI (N := 6) ht (by decide)
    refine lv_aload_n hx hb dX3_await_11 rfl (lv_at hl 0 rfl) ?_
    refine lv_iload_n hx hb dX3_await_12 rfl (lv_at hl 2 rfl) ?_
    refine lv_bipush (v := 8) hx hb dX3_await_13 (by decide) ?_
    refine rx_c (nL' := 3) (rest := [.ref r]) [.int sv, .int 8] S P hRw hfl (rm_out st fl sv 8) q973 q975 qs16 q976 q38 ⟨by decide +kernel, by decide +kernel, (by decide +kernel : (parseMethodDescriptor yX3_out.desc).map (fun d => d.parameters.length) = some 2)⟩ dX3_await_15 hl.1 (Nat.le_of_ble_eq_true rfl) ⟨Nat.le_of_ble_eq_true rfl, Nat.le_of_ble_eq_true rfl⟩ ⟨Nat.le_refl _, Nat.le_refl _⟩ (fun H locs x P hRw hfl => ?_)
    refine W.eq (g2 := F0 m 18 ls [.int (bI (isOut sv 8)), .ref r]) rfl ?_
    refine lv_if_ne (tgt := 29) (x := bI (isOut sv 8)) hx hb dX3_await_18 (by decide) (fun c18 => ?_) (fun c18 => ?_)
    · rw [bI_eq0, Bool.not_eq_false] at c18
      refine lv_iconst (v := 1) hx hb dX3_await_29 (by decide) ?_
      refine lv_goto (tgt := 39) hx hb dX3_await_30 (by decide) ?_
      refine rx_putF (v := 1) 0 S P rfl rfl rfl rfl q885 dX3_await_39 (fun H locs P => ?_)
      obtain ⟨x, P, hRw, hfl⟩ := rw_fl (v := 1) P hRw
      refine lv_aload_n hx hb dX3_await_42 rfl (lv_at hl 0 rfl) ?_
      refine rx_getF 0 S P rfl rfl q885 dX3_await_43 ?_
      rw [hfl]
      refine ni_if_le (tgt := 51) (a := 1) hx hb (by omega) dX3_await_46 (by decide) (fun c46 => ?_) (fun c46 => ?_)
      · exact absurd c46 (by decide)
      · have _h := True.intro
        refine lv_iconst (v := 0) hx hb dX3_await_49 (by decide) ?_
        have hE : s_await st (nI t) sv lim = (1, 0, st) := by
          simp [s_await, s_aw, hit, c8, c18]
        exact rx_iret S P hQ hr hlk dX3_await_50 hRw (hfl.trans (by rw [hE] <;> rfl)) (by rw [hE] <;> rfl) (by rw [hE] <;> rfl)
    · rw [bI_eq0] at c18
      obtain ⟨s, hs, rfl⟩ := isOut_f (N := 8) rfl (by decide) c18
      have his := iN_nI (N := 8) hs (by decide)
      refine lv_aload_n hx hb dX3_await_21 rfl (lv_at hl 0 rfl) ?_
      refine lv_dload_n hx hb dX3_await_22 rfl (lv_at hl 3 rfl) ?_
      refine rx_c (nL' := 3) (rest := [.ref r]) [.double lim] S P hRw hfl (rm_badLimit st fl lim) q991 q993 qs18 q994 q38 ⟨by decide +kernel, by decide +kernel, (by decide +kernel : (parseMethodDescriptor yX3_badLimit.desc).map (fun d => d.parameters.length) = some 1)⟩ dX3_await_23 hl.1 (Nat.le_of_ble_eq_true rfl) ⟨Nat.le_of_ble_eq_true rfl, Nat.le_of_ble_eq_true rfl⟩ ⟨Nat.le_refl _, Nat.le_refl _⟩ (fun H locs x P hRw hfl => ?_)
      refine W.eq (g2 := F0 m 26 ls [.int (bI (!inR cM1 cK lim)), .ref r]) rfl ?_
      refine lv_if_eq (tgt := 33) (x := bI (!inR cM1 cK lim)) hx hb dX3_await_26 (by decide) (fun c26 => ?_) (fun c26 => ?_)
      · rw [bI_eq0] at c26
        have hin : inR cM1 cK lim = true := by simpa using c26
        refine lv_aload_n hx hb dX3_await_33 rfl (lv_at hl 0 rfl) ?_
        refine lv_iload_n hx hb dX3_await_34 rfl (lv_at hl 1 rfl) ?_
        refine lv_iload_n hx hb dX3_await_35 rfl (lv_at hl 2 rfl) ?_
        refine rx_c (nL' := 4) (rest := [.ref r]) [.int (nI t), .int (nI s)] S P hRw hfl (rm_checkCondition st fl t s (by omega) (by omega) (hok.lkc hs)) q1056 q1058 qs32 q1059 q38 ⟨by decide +kernel, by decide +kernel, (by decide +kernel : (parseMethodDescriptor yX3_checkCondition.desc).map (fun d => d.parameters.length) = some 2)⟩ dX3_await_36 hl.1 (Nat.le_of_ble_eq_true rfl) ⟨Nat.le_of_ble_eq_true rfl, Nat.le_of_ble_eq_true rfl⟩ ⟨Nat.le_refl _, Nat.le_refl _⟩ (fun H locs x P hRw hfl => ?_)
        refine W.eq (g2 := F0 m 39 ls [.int (s_checkC st t s), .ref r]) rfl ?_
        refine rx_putF (v := s_checkC st t s) 0 S P rfl rfl rfl rfl q885 dX3_await_39 (fun H locs P => ?_)
        obtain ⟨x, P, hRw, hfl⟩ := rw_fl (v := s_checkC st t s) P hRw
        refine lv_aload_n hx hb dX3_await_42 rfl (lv_at hl 0 rfl) ?_
        refine rx_getF 0 S P rfl rfl q885 dX3_await_43 ?_
        rw [hfl]
        refine lw_if_le (tgt := 51) (x := s_checkC st t s) hx hb dX3_await_46 (by decide) (fun c46 => ?_) (fun c46 => ?_)
        · have _h := True.intro
          rw [s_checkC_pos, Decidable.not_not] at c46
          rw [c46] at hfl
          obtain ⟨hk0, hb0, hk6, ho0⟩ := s_checkC_0 c46
          obtain ⟨hlk1, hl8⟩ := hok.lkc hs hk6
          have hokm : Ok (n + 1) st := hok.mono (by omega)
          refine lv_aload_n hx hb dX3_await_51 rfl (lv_at hl 0 rfl) ?_
          refine rx_ref 2 S P (by decide) q887 dX3_await_52 ?_
          refine lv_iload_n hx hb dX3_await_55 rfl (lv_at hl 1 rfl) ?_
          refine rx_zald 2 t S P rfl rfl (by show _ < _; simp only [rN]; omega) dX3_await_56 ?_
          refine lv_if_eq (tgt := 74) (x := st.1 2 t) hx hb dX3_await_57 (by decide) (fun c57 => ?_) (fun c57 => ?_)
          · have _h := True.intro
            refine lv_aload_n hx hb dX3_await_74 rfl (lv_at hl 0 rfl) ?_
            refine rx_ref 16 S P (by decide) q901 dX3_await_75 ?_
            refine lv_iload_n hx hb dX3_await_78 rfl (lv_at hl 2 rfl) ?_
            refine rx_iald 16 s S P rfl rfl (by show _ < _; simp only [rN]; omega) dX3_await_79 ?_
            refine lw_eqi (y := nI (s_lk st s)) (hlk1) ?_
            refine lv_istore (lv' := [(5, .int (nI (s_lk st s))), (0, .ref r), (1, .int (nI t)), (2, .int (nI s)), (3, .double lim)]) hx hb dX3_await_80 hl (by decide) rfl (fun ls hl => ?_)
            refine lv_aload_n hx hb dX3_await_82 rfl (lv_at hl 1 rfl) ?_
            refine rx_ref 9 S P (by decide) q894 dX3_await_83 ?_
            refine lv_iload_n hx hb dX3_await_86 rfl (lv_at hl 2 rfl) ?_
            refine lv_aload_n hx hb dX3_await_87 rfl (lv_at hl 1 rfl) ?_
            refine rx_ref 14 S P (by decide) q899 dX3_await_88 ?_
            refine lv_iload hx hb dX3_await_91 (lv_at hl 0 rfl) ?_
            refine rx_iald 14 (s_lk st s) S P rfl rfl (by show _ < _; simp only [rN]; omega) dX3_await_93 ?_
            refine rx_iast (v := st.1 14 (s_lk st s)) 9 t S P rfl rfl (by show _ < _; simp only [rN]; omega) dX3_await_94 (fun H locs P => ?_)
            refine lv_aload_n hx hb dX3_await_95 rfl (lv_at hl 1 rfl) ?_
            refine rx_ref 13 S P (by decide) q898 dX3_await_96 ?_
            refine lv_iload hx hb dX3_await_99 (lv_at hl 0 rfl) ?_
            refine lv_iconst (v := (-1)) hx hb dX3_await_101 (by decide) ?_
            refine rx_iast (v := (-1)) 13 (s_lk st s) S P rfl rfl (by show _ < _; simp only [rN]; omega) dX3_await_102 (fun H locs P => ?_)
            refine lv_aload_n hx hb dX3_await_103 rfl (lv_at hl 1 rfl) ?_
            refine rx_ref 14 S P (by decide) q899 dX3_await_104 ?_
            refine lv_iload hx hb dX3_await_107 (lv_at hl 0 rfl) ?_
            refine lv_iconst (v := 0) hx hb dX3_await_109 (by decide) ?_
            refine rx_iast (v := 0) 14 (s_lk st s) S P rfl rfl (by show _ < _; simp only [rN]; omega) dX3_await_110 (fun H locs P => ?_)
            refine lv_aload_n hx hb dX3_await_111 rfl (lv_at hl 1 rfl) ?_
            refine rx_ref 4 S P (by decide) q889 dX3_await_112 ?_
            refine lv_iload_n hx hb dX3_await_115 rfl (lv_at hl 2 rfl) ?_
            refine lv_iconst (v := 0) hx hb dX3_await_116 (by decide) ?_
            refine rx_iast (v := 0) 4 t S P rfl rfl (by show _ < _; simp only [rN]; omega) dX3_await_117 (fun H locs P => ?_)
            refine lv_dload_n hx hb dX3_await_118 rfl (lv_at hl 4 rfl) ?_
            refine lv_dconst0 hx hb dX3_await_119 ?_
            refine lv_dcmp hx hb dX3_await_120 ?_
            refine lv_if_ne (tgt := 134) (x := Op.cmpValue (FP.dcmp lim FP.dconst0) .l) hx hb dX3_await_121 (by decide) (fun c121 => ?_) (fun c121 => ?_)
            · simp only [cv_l_eq0, Decidable.not_not] at c121
              refine lv_aload_n hx hb dX3_await_134 rfl (lv_at hl 1 rfl) ?_
              refine rx_ref 7 S P (by decide) q892 dX3_await_135 ?_
              refine lv_iload_n hx hb dX3_await_138 rfl (lv_at hl 2 rfl) ?_
              refine lv_dload_n hx hb dX3_await_139 rfl (lv_at hl 4 rfl) ?_
              refine lv_dconst0 hx hb dX3_await_140 ?_
              refine lv_dcmp hx hb dX3_await_141 ?_
              refine lw_if_le (tgt := 154) (x := Op.cmpValue (FP.dcmp lim FP.dconst0) .l) hx hb dX3_await_142 (by decide) (fun c142 => ?_) (fun c142 => ?_)
              · simp only [cv_l_gt0, Decidable.not_not] at c142
                refine lv_ldc2d (v := 13830554455654793216) hx hb S.2.2.2.1 (S.2.2.2.2 _ q995) dX3_await_154 ?_
                refine rx_dast (v := 13830554455654793216) 7 t S P rfl (by show _ < _; simp only [rN]; omega) dX3_await_157 (fun H locs P => ?_)
                refine lv_aload_n hx hb dX3_await_158 rfl (lv_at hl 1 rfl) ?_
                refine rx_ref 6 S P (by decide) q891 dX3_await_159 ?_
                refine lv_iload_n hx hb dX3_await_162 rfl (lv_at hl 2 rfl) ?_
                refine lv_iconst (v := 0) hx hb dX3_await_163 (by decide) ?_
                refine rx_iast (v := 0) 6 t S P rfl rfl (by show _ < _; simp only [rN]; omega) dX3_await_164 (fun H locs P => ?_)
                have hroom := hok.room hs ht hb0
                refine lv_aload_n hx hb dX3_await_165 rfl (lv_at hl 1 rfl) ?_
                refine lv_iload_n hx hb dX3_await_166 rfl (lv_at hl 2 rfl) ?_
                refine lv_iload_n hx hb dX3_await_167 rfl (lv_at hl 3 rfl) ?_
                refine rx_c (nL' := 3) (rest := []) [.int (nI t), .int (nI s)] S P hRw hfl (rm_enter (sI (sD (sI (sI (sI (sI st 9 t (st.1 14 (s_lk st s))) 13 (s_lk st s) (-1)) 14 (s_lk st s) 0) 4 t 0) 7 t 13830554455654793216) 6 t 0) 0 t s (by omega) (by omega) hroom hok.wf) q1028 q1030 qs27 q1031 q38 ⟨by decide +kernel, by decide +kernel, (by decide +kernel : (parseMethodDescriptor yX3_enter.desc).map (fun d => d.parameters.length) = some 2)⟩ dX3_await_168 hl.1 (Nat.le_of_ble_eq_true rfl) ⟨Nat.le_of_ble_eq_true rfl, Nat.le_of_ble_eq_true rfl⟩ ⟨Nat.le_refl _, Nat.le_refl _⟩ (fun H locs x P hRw hfl => ?_)
                refine W.eq (g2 := F0 m 171 ls []) rfl ?_
                have hoke := hokm.awe (v := s_end st lim) hs ht hb0 hk6 ho0 (hok.rd ht hb0)
                rw [show s_end st lim = 13830554455654793216 by simp [s_end, c142]] at hoke
                refine lv_aload_n hx hb dX3_await_171 rfl (lv_at hl 1 rfl) ?_
                refine lv_iload hx hb dX3_await_172 (lv_at hl 0 rfl) ?_
                refine rx_c (nL' := 3) (rest := []) [.int (nI (s_lk st s))] S P hRw hfl (rm_serve (s_enter (sI (sD (sI (sI (sI (sI st 9 t (st.1 14 (s_lk st s))) 13 (s_lk st s) (-1)) 14 (s_lk st s) 0) 4 t 0) 7 t 13830554455654793216) 6 t 0) t s) 0 (s_lk st s) (by omega) hoke.wf hoke.db) q1036 q1038 qs28 q1039 q38 ⟨by decide +kernel, by decide +kernel, (by decide +kernel : (parseMethodDescriptor yX3_serve.desc).map (fun d => d.parameters.length) = some 1)⟩ dX3_await_174 hl.1 (Nat.le_of_ble_eq_true rfl) ⟨Nat.le_of_ble_eq_true rfl, Nat.le_of_ble_eq_true rfl⟩ ⟨Nat.le_refl _, Nat.le_refl _⟩ (fun H locs x P hRw hfl => ?_)
                refine W.eq (g2 := F0 m 177 ls []) rfl ?_
                refine lv_aload_n hx hb dX3_await_177 rfl (lv_at hl 1 rfl) ?_
                refine rx_ref 4 S P (by decide) q889 dX3_await_178 ?_
                refine lv_iload_n hx hb dX3_await_181 rfl (lv_at hl 2 rfl) ?_
                refine rx_iald 4 t S P rfl rfl (by show _ < _; simp only [rN]; omega) dX3_await_182 ?_
                have hE : s_await st (nI t) (nI s) lim = (0, (s_serve (s_enter (sI (sD (sI (sI (sI (sI st 9 t (st.1 14 (s_lk st s))) 13 (s_lk st s) (-1)) 14 (s_lk st s) 0) 4 t 0) 7 t 13830554455654793216) 6 t 0) t s) (s_lk st s)).1 4 t, s_serve (s_enter (sI (sD (sI (sI (sI (sI st 9 t (st.1 14 (s_lk st s))) 13 (s_lk st s) (-1)) 14 (s_lk st s) 0) 4 t 0) 7 t 13830554455654793216) 6 t 0) t s) (s_lk st s)) := by
                  have e1 : s_aw1 st t s lim = s_serve (s_enter (sI (sD (s_aw0 st t s) 7 t (13830554455654793216)) 6 t 0) t s) (s_lk st s) := by unfold s_aw1; rw [if_neg c121, show s_end st lim = 13830554455654793216 by simp [s_end, c142]]
                  simp [s_await, s_aw, hit, his, hin, c8, c18, c46, c57]
                  rw [e1]
                  exact ⟨rfl, rfl⟩
                exact rx_iret S P hQ hr hlk dX3_await_183 hRw (hfl.trans (by rw [hE] <;> rfl)) (by rw [hE] <;> rfl) (by rw [hE] <;> rfl)
              · simp only [cv_l_gt0, Decidable.not_not] at c142
                refine lv_aload_n hx hb dX3_await_145 rfl (lv_at hl 1 rfl) ?_
                refine rx_getD 11 S P rfl q896 dX3_await_146 ?_
                refine lv_dload_n hx hb dX3_await_149 rfl (lv_at hl 4 rfl) ?_
                refine lv_dadd hx hb dX3_await_150 ((fb_time hok.db.1 (fb_lim hin)).2) ?_
                refine lv_goto (tgt := 157) hx hb dX3_await_151 (by decide) ?_
                refine rx_dast (v := FP.dadd (st.2.1 11 0) lim) 7 t S P rfl (by show _ < _; simp only [rN]; omega) dX3_await_157 (fun H locs P => ?_)
                refine lv_aload_n hx hb dX3_await_158 rfl (lv_at hl 1 rfl) ?_
                refine rx_ref 6 S P (by decide) q891 dX3_await_159 ?_
                refine lv_iload_n hx hb dX3_await_162 rfl (lv_at hl 2 rfl) ?_
                refine lv_iconst (v := 0) hx hb dX3_await_163 (by decide) ?_
                refine rx_iast (v := 0) 6 t S P rfl rfl (by show _ < _; simp only [rN]; omega) dX3_await_164 (fun H locs P => ?_)
                have hroom := hok.room hs ht hb0
                refine lv_aload_n hx hb dX3_await_165 rfl (lv_at hl 1 rfl) ?_
                refine lv_iload_n hx hb dX3_await_166 rfl (lv_at hl 2 rfl) ?_
                refine lv_iload_n hx hb dX3_await_167 rfl (lv_at hl 3 rfl) ?_
                refine rx_c (nL' := 3) (rest := []) [.int (nI t), .int (nI s)] S P hRw hfl (rm_enter (sI (sD (sI (sI (sI (sI st 9 t (st.1 14 (s_lk st s))) 13 (s_lk st s) (-1)) 14 (s_lk st s) 0) 4 t 0) 7 t (FP.dadd (st.2.1 11 0) lim)) 6 t 0) 0 t s (by omega) (by omega) hroom hok.wf) q1028 q1030 qs27 q1031 q38 ⟨by decide +kernel, by decide +kernel, (by decide +kernel : (parseMethodDescriptor yX3_enter.desc).map (fun d => d.parameters.length) = some 2)⟩ dX3_await_168 hl.1 (Nat.le_of_ble_eq_true rfl) ⟨Nat.le_of_ble_eq_true rfl, Nat.le_of_ble_eq_true rfl⟩ ⟨Nat.le_refl _, Nat.le_refl _⟩ (fun H locs x P hRw hfl => ?_)
                refine W.eq (g2 := F0 m 171 ls []) rfl ?_
                have hoke := hokm.awe (v := s_end st lim) hs ht hb0 hk6 ho0 (hok.rd ht hb0)
                rw [show s_end st lim = FP.dadd (st.2.1 11 0) lim by simp [s_end, c142]] at hoke
                refine lv_aload_n hx hb dX3_await_171 rfl (lv_at hl 1 rfl) ?_
                refine lv_iload hx hb dX3_await_172 (lv_at hl 0 rfl) ?_
                refine rx_c (nL' := 3) (rest := []) [.int (nI (s_lk st s))] S P hRw hfl (rm_serve (s_enter (sI (sD (sI (sI (sI (sI st 9 t (st.1 14 (s_lk st s))) 13 (s_lk st s) (-1)) 14 (s_lk st s) 0) 4 t 0) 7 t (FP.dadd (st.2.1 11 0) lim)) 6 t 0) t s) 0 (s_lk st s) (by omega) hoke.wf hoke.db) q1036 q1038 qs28 q1039 q38 ⟨by decide +kernel, by decide +kernel, (by decide +kernel : (parseMethodDescriptor yX3_serve.desc).map (fun d => d.parameters.length) = some 1)⟩ dX3_await_174 hl.1 (Nat.le_of_ble_eq_true rfl) ⟨Nat.le_of_ble_eq_true rfl, Nat.le_of_ble_eq_true rfl⟩ ⟨Nat.le_refl _, Nat.le_refl _⟩ (fun H locs x P hRw hfl => ?_)
                refine W.eq (g2 := F0 m 177 ls []) rfl ?_
                refine lv_aload_n hx hb dX3_await_177 rfl (lv_at hl 1 rfl) ?_
                refine rx_ref 4 S P (by decide) q889 dX3_await_178 ?_
                refine lv_iload_n hx hb dX3_await_181 rfl (lv_at hl 2 rfl) ?_
                refine rx_iald 4 t S P rfl rfl (by show _ < _; simp only [rN]; omega) dX3_await_182 ?_
                have hE : s_await st (nI t) (nI s) lim = (0, (s_serve (s_enter (sI (sD (sI (sI (sI (sI st 9 t (st.1 14 (s_lk st s))) 13 (s_lk st s) (-1)) 14 (s_lk st s) 0) 4 t 0) 7 t (FP.dadd (st.2.1 11 0) lim)) 6 t 0) t s) (s_lk st s)).1 4 t, s_serve (s_enter (sI (sD (sI (sI (sI (sI st 9 t (st.1 14 (s_lk st s))) 13 (s_lk st s) (-1)) 14 (s_lk st s) 0) 4 t 0) 7 t (FP.dadd (st.2.1 11 0) lim)) 6 t 0) t s) (s_lk st s)) := by
                  have e1 : s_aw1 st t s lim = s_serve (s_enter (sI (sD (s_aw0 st t s) 7 t (FP.dadd (st.2.1 11 0) lim)) 6 t 0) t s) (s_lk st s) := by unfold s_aw1; rw [if_neg c121, show s_end st lim = FP.dadd (st.2.1 11 0) lim by simp [s_end, c142]]
                  simp [s_await, s_aw, hit, his, hin, c8, c18, c46, c57]
                  rw [e1]
                  exact ⟨rfl, rfl⟩
                exact rx_iret S P hQ hr hlk dX3_await_183 hRw (hfl.trans (by rw [hE] <;> rfl)) (by rw [hE] <;> rfl) (by rw [hE] <;> rfl)
            · simp only [cv_l_eq0, Decidable.not_not] at c121
              have hq0 := aw_q0 (why := 2) hokm hs ht hb0
              have hoka := hokm.aw0 (t := t) hs hk6 hb0
              refine lv_aload_n hx hb dX3_await_124 rfl (lv_at hl 1 rfl) ?_
              refine lv_iload_n hx hb dX3_await_125 rfl (lv_at hl 2 rfl) ?_
              refine lv_iload_n hx hb dX3_await_126 rfl (lv_at hl 3 rfl) ?_
              refine lv_iconst (v := 2) hx hb dX3_await_127 (by decide) ?_
              refine rx_c (nL' := 4) (rest := []) [.int (nI t), .int (nI s), .int 2] S P hRw hfl (rm_queue (sI (sI (sI (sI st 9 t (st.1 14 (s_lk st s))) 13 (s_lk st s) (-1)) 14 (s_lk st s) 0) 4 t 0) 0 t s 2 ht hs hoka.wf hoka.db (fun z => absurd z (hok.un5 ht hb0 hs)) hlk1 hl8 (by rw [show s_queue0 (sI (sI (sI (sI st 9 t (st.1 14 (s_lk st s))) 13 (s_lk st s) (-1)) 14 (s_lk st s) 0) 4 t 0) t s 2 = s_aw0 st t s from hq0]; exact hoka.room hl8 ht hb0) (by rw [show s_queue0 (sI (sI (sI (sI st 9 t (st.1 14 (s_lk st s))) 13 (s_lk st s) (-1)) 14 (s_lk st s) 0) 4 t 0) t s 2 = s_aw0 st t s from hq0]; exact hoka.wf) (by rw [show s_queue0 (sI (sI (sI (sI st 9 t (st.1 14 (s_lk st s))) 13 (s_lk st s) (-1)) 14 (s_lk st s) 0) 4 t 0) t s 2 = s_aw0 st t s from hq0]; exact hoka.db)) q1060 q1062 qs33 q1063 q38 ⟨by decide +kernel, by decide +kernel, (by decide +kernel : (parseMethodDescriptor yX3_queue.desc).map (fun d => d.parameters.length) = some 3)⟩ dX3_await_128 hl.1 (Nat.le_of_ble_eq_true rfl) ⟨Nat.le_of_ble_eq_true rfl, Nat.le_of_ble_eq_true rfl⟩ ⟨Nat.le_refl _, Nat.le_refl _⟩ (fun H locs x P hRw hfl => ?_)
              refine W.eq (g2 := F0 m 131 ls []) rfl ?_
              refine lv_goto (tgt := 177) hx hb dX3_await_131 (by decide) ?_
              refine lv_aload_n hx hb dX3_await_177 rfl (lv_at hl 1 rfl) ?_
              refine rx_ref 4 S P (by decide) q889 dX3_await_178 ?_
              refine lv_iload_n hx hb dX3_await_181 rfl (lv_at hl 2 rfl) ?_
              refine rx_iald 4 t S P rfl rfl (by show _ < _; simp only [rN]; omega) dX3_await_182 ?_
              have hE : s_await st (nI t) (nI s) lim = (0, (s_queue (sI (sI (sI (sI st 9 t (st.1 14 (s_lk st s))) 13 (s_lk st s) (-1)) 14 (s_lk st s) 0) 4 t 0) t s 2).1 4 t, s_queue (sI (sI (sI (sI st 9 t (st.1 14 (s_lk st s))) 13 (s_lk st s) (-1)) 14 (s_lk st s) 0) 4 t 0) t s 2) := by
                have e1 : s_aw1 st t s lim = s_queue (s_aw0 st t s) t s 2 := by unfold s_aw1; rw [if_pos c121]
                simp [s_await, s_aw, hit, his, hin, c8, c18, c46, c57]
                rw [e1]
                exact ⟨rfl, rfl⟩
              exact rx_iret S P hQ hr hlk dX3_await_183 hRw (hfl.trans (by rw [hE] <;> rfl)) (by rw [hE] <;> rfl) (by rw [hE] <;> rfl)
          · have _h := True.intro
            refine lv_aload_n hx hb dX3_await_60 rfl (lv_at hl 0 rfl) ?_
            refine rx_ref 2 S P (by decide) q887 dX3_await_61 ?_
            refine lv_iload_n hx hb dX3_await_64 rfl (lv_at hl 1 rfl) ?_
            refine lv_iconst (v := 0) hx hb dX3_await_65 (by decide) ?_
            refine rx_zast (v := 0) 2 t S P rfl rfl (by show _ < _; simp only [rN]; omega) (by decide) dX3_await_66 (fun H locs P => ?_)
            refine lv_aload_n hx hb dX3_await_67 rfl (lv_at hl 0 rfl) ?_
            refine lv_iload_n hx hb dX3_await_68 rfl (lv_at hl 1 rfl) ?_
            refine lv_iconst (v := 3) hx hb dX3_await_69 (by decide) ?_
            refine rx_c (nL' := 3) (rest := []) [.int (nI t), .int 3] S P hRw hfl (rm_settle (sI st 2 t 0) 0 3 t (by omega)) q1000 q1002 qs20 q1003 q38 ⟨by decide +kernel, by decide +kernel, (by decide +kernel : (parseMethodDescriptor yX3_settle.desc).map (fun d => d.parameters.length) = some 2)⟩ dX3_await_70 hl.1 (Nat.le_of_ble_eq_true rfl) ⟨Nat.le_of_ble_eq_true rfl, Nat.le_of_ble_eq_true rfl⟩ ⟨Nat.le_refl _, Nat.le_refl _⟩ (fun H locs x P hRw hfl => ?_)
            refine W.eq (g2 := F0 m 73 ls [.int 3]) rfl ?_
            have hE : s_await st (nI t) (nI s) lim = (0, 3, sI (sI st 2 t 0) 4 t 3) := by
              simp [s_await, s_aw, hit, his, hin, c8, c18, c46, c57]
            exact rx_iret S P hQ hr hlk dX3_await_73 hRw (hfl.trans (by rw [hE] <;> rfl)) (by rw [hE] <;> rfl) (by rw [hE] <;> rfl)
        · rw [s_checkC_pos] at c46
          refine lv_iconst (v := 0) hx hb dX3_await_49 (by decide) ?_
          have hE : s_await st (nI t) (nI s) lim = (s_checkC st t s, 0, st) := by
            simp [s_await, s_aw, hit, his, hin, c8, c18, c46]
          exact rx_iret S P hQ hr hlk dX3_await_50 hRw (hfl.trans (by rw [hE] <;> rfl)) (by rw [hE] <;> rfl) (by rw [hE] <;> rfl)
      · rw [bI_eq0, Bool.not_eq_false] at c26
        have hin : inR cM1 cK lim = false := by simpa using c26
        refine lv_iconst (v := 1) hx hb dX3_await_29 (by decide) ?_
        refine lv_goto (tgt := 39) hx hb dX3_await_30 (by decide) ?_
        refine rx_putF (v := 1) 0 S P rfl rfl rfl rfl q885 dX3_await_39 (fun H locs P => ?_)
        obtain ⟨x, P, hRw, hfl⟩ := rw_fl (v := 1) P hRw
        refine lv_aload_n hx hb dX3_await_42 rfl (lv_at hl 0 rfl) ?_
        refine rx_getF 0 S P rfl rfl q885 dX3_await_43 ?_
        rw [hfl]
        refine ni_if_le (tgt := 51) (a := 1) hx hb (by omega) dX3_await_46 (by decide) (fun c46 => ?_) (fun c46 => ?_)
        · exact absurd c46 (by decide)
        · have _h := True.intro
          refine lv_iconst (v := 0) hx hb dX3_await_49 (by decide) ?_
          have hE : s_await st (nI t) (nI s) lim = (1, 0, st) := by
            simp [s_await, s_aw, hit, his, hin, c8, c18]
          exact rx_iret S P hQ hr hlk dX3_await_50 hRw (hfl.trans (by rw [hE] <;> rfl)) (by rw [hE] <;> rfl) (by rw [hE] <;> rfl)
