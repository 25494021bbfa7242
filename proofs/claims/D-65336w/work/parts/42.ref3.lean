/-! the reference's methods, by gen_ref3.py -/
set_option maxHeartbeats 4000000 in
set_option maxRecDepth 100000 in
theorem rm_serve {l : Launch} {D : va_G} {cs : Nat → ClassId} {r : Nat} {ad : Nat → Nat} {L : List Nat} (st : St) (fl : Int32) (s : Nat) (hs : s < 8) (hwf : RWf st) (hdb : DBd st) : RM l D cs yX3_serve cX3_serve 3 none (rmL 2 0 0) r ad L [.ref r, .int (nI s)] st fl none (s_serve st s) fl := by
  refine rm_of rfl (Nat.le_of_ble_eq_true rfl) ?_
  intro f0 x sz p e u m below meth c S P hRw hfl hr hlk ls hl Q hQ
  have hl : lv_has ls 3 [(0, .ref r), (1, .int (nI s))] := hl
  have hx := S.1
  have hb := S.2.1
  generalize u.heap = H at P ⊢
  generalize ([] : List Loc) = locs at P ⊢
  have loop0 : ∀ (d : Nat) (st1 : St) (x : Nat → Nat → Int32), (st1.2.2 s).length < d → (RWf st1) → (DBd st1) → (s_serve st s = s_serveN (st1.2.2 s).length st1 s) → ∀ (H : Heap) (locs : List Loc), RX D cs (pA L sz) u r ad L f0 st1 x H locs → Rows st1 x → x 0 0 = fl → ∀ (ls : Array Slot), lv_has ls 3 [(0, .ref r), (1, .int (nI s))] → W p l e (rmL 2 0 0) u m ([.ref r, .int (nI s)] : List Value).toArray below meth c H locs 0 0 Q (F0 m 0 ls []) := by
    intro d0
    induction d0 with
    | zero => intro st1 x hd; exact absurd hd (by omega)
    | succ d0 ih0 =>
      intro st1 x hd0 hwf hdb hinv H locs P hRw hfl ls hl
      refine lv_aload_n hx hb dX3_serve_0 rfl (lv_at hl 0 rfl) ?_
      refine rx_ref 12 S P (by decide) q897 dX3_serve_1 ?_
      refine lv_iload_n hx hb dX3_serve_4 rfl (lv_at hl 1 rfl) ?_
      refine rx_iald 12 s S P rfl rfl (by show _ < _; simp only [rN]; omega) dX3_serve_5 ?_
      refine lv_bipush (v := 6) hx hb dX3_serve_6 (by decide) ?_
      refine lv_icmp_eq (tgt := 139) (x := st1.1 12 s) (y := 6) hx hb dX3_serve_8 (by decide) (fun c8 => ?_) (fun c8 => ?_)
      · have _h := True.intro
        exact rx_vret S P hQ hr hlk dX3_serve_139 hRw hfl (by rw [hinv, s_serveN_no (by simp [s_goes, c8])])
      · have _h := True.intro
        refine lv_aload_n hx hb dX3_serve_11 rfl (lv_at hl 0 rfl) ?_
        refine rx_ref 19 S P (by decide) q904 dX3_serve_12 ?_
        refine lv_iload_n hx hb dX3_serve_15 rfl (lv_at hl 1 rfl) ?_
        refine rx_ialdG 19 s S P rfl rfl (by show _ < _; simp only [rN]; omega) dX3_serve_16 ?_
        have hlen := (hwf s hs).1
        rw [(hRw s hs).1]
        refine ni_if_le (tgt := 139) (a := (st1.2.2 s).length) hx hb (by omega) dX3_serve_17 (by decide) (fun c17 => ?_) (fun c17 => ?_)
        · have _h := True.intro
          exact rx_vret S P hQ hr hlk dX3_serve_139 hRw hfl (by rw [hinv, s_serveN_no (by simp [s_goes, ls_ie0 c17])])
        · have _h := True.intro
          refine lv_aload_n hx hb dX3_serve_20 rfl (lv_at hl 0 rfl) ?_
          refine lv_iload_n hx hb dX3_serve_21 rfl (lv_at hl 1 rfl) ?_
          refine rx_c (nL' := 5) (rest := []) [.int (nI s)] S P hRw hfl (rm_next st1 fl s (by omega) c17 hwf) q1040 q1042 qs29 q1043 q38 ⟨by decide +kernel, by decide +kernel, (by decide +kernel : (parseMethodDescriptor yX3_next.desc).map (fun d => d.parameters.length) = some 1)⟩ dX3_serve_22 hl.1 (Nat.le_of_ble_eq_true rfl) ⟨Nat.le_of_ble_eq_true rfl, Nat.le_of_ble_eq_true rfl⟩ ⟨Nat.le_refl _, Nat.le_refl _⟩ (fun H locs x P hRw hfl => ?_)
          refine W.eq (g2 := F0 m 25 ls [.int (nI (s_next st1 s))]) rfl ?_
          have hmem := s_next_mem (st := st1) (s := s) c17
          have hn6 := (hwf s hs).2 _ hmem
          refine lv_istore_n (lv' := [(2, .int (nI (s_next st1 s))), (0, .ref r), (1, .int (nI s))]) hx hb dX3_serve_25 rfl hl (by decide) rfl (fun ls hl => ?_)
          refine lv_aload_n hx hb dX3_serve_26 rfl (lv_at hl 1 rfl) ?_
          refine lv_iload_n hx hb dX3_serve_27 rfl (lv_at hl 0 rfl) ?_
          refine lv_iload_n hx hb dX3_serve_28 rfl (lv_at hl 2 rfl) ?_
          refine lv_aload_n hx hb dX3_serve_29 rfl (lv_at hl 1 rfl) ?_
          refine rx_ref 6 S P (by decide) q891 dX3_serve_30 ?_
          refine lv_iload_n hx hb dX3_serve_33 rfl (lv_at hl 0 rfl) ?_
          refine rx_iald 6 (s_next st1 s) S P rfl rfl (by show _ < _; simp only [rN]; omega) dX3_serve_34 ?_
          refine rx_c (nL' := 6) (rest := []) [.int (nI (s_next st1 s)), .int (nI s), .int (st1.1 6 (s_next st1 s))] S P hRw hfl (rm_canTake st1 fl (s_next st1 s) s (st1.1 6 (s_next st1 s)) (by omega) (by omega)) q1020 q1022 qs25 q1023 q38 ⟨by decide +kernel, by decide +kernel, (by decide +kernel : (parseMethodDescriptor yX3_canTake.desc).map (fun d => d.parameters.length) = some 3)⟩ dX3_serve_35 hl.1 (Nat.le_of_ble_eq_true rfl) ⟨Nat.le_of_ble_eq_true rfl, Nat.le_of_ble_eq_true rfl⟩ ⟨Nat.le_refl _, Nat.le_refl _⟩ (fun H locs x P hRw hfl => ?_)
          refine W.eq (g2 := F0 m 38 ls [.int (bI (s_canTake st1 (s_next st1 s) s (st1.1 6 (s_next st1 s))))]) rfl ?_
          refine lv_if_ne (tgt := 42) (x := bI (s_canTake st1 (s_next st1 s) s (st1.1 6 (s_next st1 s)))) hx hb dX3_serve_38 (by decide) (fun c38 => ?_) (fun c38 => ?_)
          · rw [bI_eq0, Bool.not_eq_false] at c38
            have hgo := s_goes_t c8 c17 c38
            refine lv_aload_n hx hb dX3_serve_42 rfl (lv_at hl 1 rfl) ?_
            refine lv_iload_n hx hb dX3_serve_43 rfl (lv_at hl 0 rfl) ?_
            refine lv_iload_n hx hb dX3_serve_44 rfl (lv_at hl 2 rfl) ?_
            refine rx_c (nL' := 5) (rest := []) [.int (nI (s_next st1 s)), .int (nI s)] S P hRw hfl (rm_remove st1 fl (s_next st1 s) s (by omega) (by omega) hmem hwf) q1044 q1046 qs30 q1047 q38 ⟨by decide +kernel, by decide +kernel, (by decide +kernel : (parseMethodDescriptor yX3_remove.desc).map (fun d => d.parameters.length) = some 2)⟩ dX3_serve_45 hl.1 (Nat.le_of_ble_eq_true rfl) ⟨Nat.le_of_ble_eq_true rfl, Nat.le_of_ble_eq_true rfl⟩ ⟨Nat.le_refl _, Nat.le_refl _⟩ (fun H locs x P hRw hfl => ?_)
            refine W.eq (g2 := F0 m 48 ls []) rfl ?_
            refine lv_aload_n hx hb dX3_serve_48 rfl (lv_at hl 1 rfl) ?_
            refine lv_iload_n hx hb dX3_serve_49 rfl (lv_at hl 0 rfl) ?_
            refine lv_iload_n hx hb dX3_serve_50 rfl (lv_at hl 2 rfl) ?_
            refine rx_c (nL' := 3) (rest := []) [.int (nI (s_next st1 s)), .int (nI s)] S P hRw hfl (rm_addWaited (s_remove st1 (s_next st1 s) s) fl (s_next st1 s) s (by omega) (by omega) hdb) q1048 q1050 qs31 q1051 q38 ⟨by decide +kernel, by decide +kernel, (by decide +kernel : (parseMethodDescriptor yX3_addWaited.desc).map (fun d => d.parameters.length) = some 2)⟩ dX3_serve_51 hl.1 (Nat.le_of_ble_eq_true rfl) ⟨Nat.le_of_ble_eq_true rfl, Nat.le_of_ble_eq_true rfl⟩ ⟨Nat.le_refl _, Nat.le_refl _⟩ (fun H locs x P hRw hfl => ?_)
            refine W.eq (g2 := F0 m 54 ls []) rfl ?_
            refine lv_aload_n hx hb dX3_serve_54 rfl (lv_at hl 1 rfl) ?_
            refine rx_ref 1 S P (by decide) q886 dX3_serve_55 ?_
            refine lv_iload_n hx hb dX3_serve_58 rfl (lv_at hl 0 rfl) ?_
            refine lv_iconst (v := 0) hx hb dX3_serve_59 (by decide) ?_
            refine rx_zast (v := 0) 1 (s_next st1 s) S P rfl rfl (by show _ < _; simp only [rN]; omega) (by decide) dX3_serve_60 (fun H locs P => ?_)
            refine lv_aload_n hx hb dX3_serve_61 rfl (lv_at hl 1 rfl) ?_
            refine rx_ref 4 S P (by decide) q889 dX3_serve_62 ?_
            refine lv_iload_n hx hb dX3_serve_65 rfl (lv_at hl 0 rfl) ?_
            refine lv_aload_n hx hb dX3_serve_66 rfl (lv_at hl 1 rfl) ?_
            refine rx_ref 9 S P (by decide) q894 dX3_serve_67 ?_
            refine lv_iload_n hx hb dX3_serve_70 rfl (lv_at hl 0 rfl) ?_
            refine rx_iald 9 (s_next st1 s) S P rfl rfl (by show _ < _; simp only [rN]; omega) dX3_serve_71 ?_
            refine lw_if_le (tgt := 84) (x := st1.1 9 (s_next st1 s)) hx hb dX3_serve_72 (by decide) (fun c72 => ?_) (fun c72 => ?_)
            · have _h := True.intro
              refine lv_iconst (v := 1) hx hb dX3_serve_84 (by decide) ?_
              refine rx_iast (v := 1) 4 (s_next st1 s) S P rfl rfl (by show _ < _; simp only [rN]; omega) dX3_serve_85 (fun H locs P => ?_)
              refine lv_aload_n hx hb dX3_serve_86 rfl (lv_at hl 1 rfl) ?_
              refine rx_ref 9 S P (by decide) q894 dX3_serve_87 ?_
              refine lv_iload_n hx hb dX3_serve_90 rfl (lv_at hl 0 rfl) ?_
              refine rx_iald 9 (s_next st1 s) S P rfl rfl (by show _ < _; simp only [rN]; omega) dX3_serve_91 ?_
              refine lw_if_le (tgt := 124) (x := st1.1 9 (s_next st1 s)) hx hb dX3_serve_92 (by decide) (fun c92 => ?_) (fun c92 => ?_)
              · have _h := True.intro
                refine lv_aload_n hx hb dX3_serve_124 rfl (lv_at hl 1 rfl) ?_
                refine lv_iload_n hx hb dX3_serve_125 rfl (lv_at hl 0 rfl) ?_
                refine lv_iload_n hx hb dX3_serve_126 rfl (lv_at hl 2 rfl) ?_
                refine lv_aload_n hx hb dX3_serve_127 rfl (lv_at hl 1 rfl) ?_
                refine rx_ref 6 S P (by decide) q891 dX3_serve_128 ?_
                refine lv_iload_n hx hb dX3_serve_131 rfl (lv_at hl 0 rfl) ?_
                refine rx_iald 6 (s_next st1 s) S P rfl rfl (by show _ < _; simp only [rN]; omega) dX3_serve_132 ?_
                refine rx_c (nL' := 5) (rest := []) [.int (nI (s_next st1 s)), .int (nI s), .int (st1.1 6 (s_next st1 s))] S P hRw hfl (rm_take (sI (sI (s_addW (s_remove st1 (s_next st1 s) s) (s_next st1 s) s) 1 (s_next st1 s) 0) 4 (s_next st1 s) 1) fl (s_next st1 s) s (st1.1 6 (s_next st1 s)) (by omega) (by omega)) q1024 q1026 qs26 q1027 q38 ⟨by decide +kernel, by decide +kernel, (by decide +kernel : (parseMethodDescriptor yX3_take.desc).map (fun d => d.parameters.length) = some 3)⟩ dX3_serve_133 hl.1 (Nat.le_of_ble_eq_true rfl) ⟨Nat.le_of_ble_eq_true rfl, Nat.le_of_ble_eq_true rfl⟩ ⟨Nat.le_refl _, Nat.le_refl _⟩ (fun H locs x P hRw hfl => ?_)
                refine W.eq (g2 := F0 m 136 ls []) rfl ?_
                have hser : s_take (sI (sI (s_addW (s_remove st1 (s_next st1 s) s) (s_next st1 s) s) 1 (s_next st1 s) 0) 4 (s_next st1 s) 1) (s_next st1 s) s (st1.1 6 (s_next st1 s)) = s_serve1 st1 (s_next st1 s) s := by unfold s_serve1; rw [if_neg c92]
                have hlen2 := s_serve1_len hmem
                have P : RX D cs (pA L sz) u r ad L f0 (s_serve1 st1 (s_next st1 s) s) x H locs := by rw [← hser]; exact P
                have hRw : Rows (s_serve1 st1 (s_next st1 s) s) x := by rw [← hser]; exact hRw
                refine lv_goto (tgt := 0) hx hb dX3_serve_136 (by decide) ?_
                exact ih0 (s_serve1 st1 (s_next st1 s) s) _ (by omega) (hwf.serve1 _ _) (hdb.serve1 hn6 hs) (by rw [hinv, s_serveN_go hgo hmem]) _ _ P hRw hfl ls (lv_sub hl [1, 2] rfl)
              · exact absurd c92 c72
            · have _h := True.intro
              refine lv_aload_n hx hb dX3_serve_75 rfl (lv_at hl 1 rfl) ?_
              refine rx_ref 10 S P (by decide) q895 dX3_serve_76 ?_
              refine lv_iload_n hx hb dX3_serve_79 rfl (lv_at hl 0 rfl) ?_
              refine rx_iald 10 (s_next st1 s) S P rfl rfl (by show _ < _; simp only [rN]; omega) dX3_serve_80 ?_
              refine lv_goto (tgt := 85) hx hb dX3_serve_81 (by decide) ?_
              refine rx_iast (v := st1.1 10 (s_next st1 s)) 4 (s_next st1 s) S P rfl rfl (by show _ < _; simp only [rN]; omega) dX3_serve_85 (fun H locs P => ?_)
              refine lv_aload_n hx hb dX3_serve_86 rfl (lv_at hl 1 rfl) ?_
              refine rx_ref 9 S P (by decide) q894 dX3_serve_87 ?_
              refine lv_iload_n hx hb dX3_serve_90 rfl (lv_at hl 0 rfl) ?_
              refine rx_iald 9 (s_next st1 s) S P rfl rfl (by show _ < _; simp only [rN]; omega) dX3_serve_91 ?_
              refine lw_if_le (tgt := 124) (x := st1.1 9 (s_next st1 s)) hx hb dX3_serve_92 (by decide) (fun c92 => ?_) (fun c92 => ?_)
              · exact absurd c72 c92
              · have _h := True.intro
                refine lv_aload_n hx hb dX3_serve_95 rfl (lv_at hl 1 rfl) ?_
                refine rx_ref 13 S P (by decide) q898 dX3_serve_96 ?_
                refine lv_iload_n hx hb dX3_serve_99 rfl (lv_at hl 2 rfl) ?_
                refine lv_iload_n hx hb dX3_serve_100 rfl (lv_at hl 0 rfl) ?_
                refine rx_iast (v := nI (s_next st1 s)) 13 s S P rfl rfl (by show _ < _; simp only [rN]; omega) dX3_serve_101 (fun H locs P => ?_)
                refine lv_aload_n hx hb dX3_serve_102 rfl (lv_at hl 1 rfl) ?_
                refine rx_ref 14 S P (by decide) q899 dX3_serve_103 ?_
                refine lv_iload_n hx hb dX3_serve_106 rfl (lv_at hl 2 rfl) ?_
                refine lv_aload_n hx hb dX3_serve_107 rfl (lv_at hl 1 rfl) ?_
                refine rx_ref 9 S P (by decide) q894 dX3_serve_108 ?_
                refine lv_iload_n hx hb dX3_serve_111 rfl (lv_at hl 0 rfl) ?_
                refine rx_iald 9 (s_next st1 s) S P rfl rfl (by show _ < _; simp only [rN]; omega) dX3_serve_112 ?_
                refine rx_iast (v := st1.1 9 (s_next st1 s)) 14 s S P rfl rfl (by show _ < _; simp only [rN]; omega) dX3_serve_113 (fun H locs P => ?_)
                refine lv_aload_n hx hb dX3_serve_114 rfl (lv_at hl 1 rfl) ?_
                refine rx_ref 9 S P (by decide) q894 dX3_serve_115 ?_
                refine lv_iload_n hx hb dX3_serve_118 rfl (lv_at hl 0 rfl) ?_
                refine lv_iconst (v := 0) hx hb dX3_serve_119 (by decide) ?_
                refine rx_iast (v := 0) 9 (s_next st1 s) S P rfl rfl (by show _ < _; simp only [rN]; omega) dX3_serve_120 (fun H locs P => ?_)
                refine lv_goto (tgt := 136) hx hb dX3_serve_121 (by decide) ?_
                have hser : sI (sI (sI (sI (sI (s_addW (s_remove st1 (s_next st1 s) s) (s_next st1 s) s) 1 (s_next st1 s) 0) 4 (s_next st1 s) (st1.1 10 (s_next st1 s))) 13 s (nI (s_next st1 s))) 14 s (st1.1 9 (s_next st1 s))) 9 (s_next st1 s) 0 = s_serve1 st1 (s_next st1 s) s := by unfold s_serve1; rw [if_pos c92]
                have hlen2 := s_serve1_len hmem
                have P : RX D cs (pA L sz) u r ad L f0 (s_serve1 st1 (s_next st1 s) s) x H locs := by rw [← hser]; exact P
                have hRw : Rows (s_serve1 st1 (s_next st1 s) s) x := by rw [← hser]; exact hRw
                refine lv_goto (tgt := 0) hx hb dX3_serve_136 (by decide) ?_
                exact ih0 (s_serve1 st1 (s_next st1 s) s) _ (by omega) (hwf.serve1 _ _) (hdb.serve1 hn6 hs) (by rw [hinv, s_serveN_go hgo hmem]) _ _ P hRw hfl ls (lv_sub hl [1, 2] rfl)
          · rw [bI_eq0] at c38
            exact rx_vret S P hQ hr hlk dX3_serve_41 hRw hfl (by rw [hinv, s_serveN_no (by simp [s_goes, c38])])
  exact loop0 _ st _ (Nat.lt_succ_self _) hwf hdb rfl _ _ P hRw hfl ls (lv_sub hl [0, 1] (rfl))

set_option maxHeartbeats 4000000 in
set_option maxRecDepth 100000 in
theorem rm_queue {l : Launch} {D : va_G} {cs : Nat → ClassId} {r : Nat} {ad : Nat → Nat} {L : List Nat} (st : St) (fl : Int32) (t g : Nat) (why : Int32) (ht : t < 6) (hg : g < 8) (hwf : RWf st) (hdb : DBd st) (hw : st.1 5 t = nI g → t ∈ st.2.2 g) (hlk0 : st.1 16 g = nI (s_lk st g)) (hl8 : s_lk st g < 8) (hl6 : ((s_queue0 st t g why).2.2 (s_lk st g)).length < 6) (hwf0 : RWf (s_queue0 st t g why)) (hdb0 : DBd (s_queue0 st t g why)) : RM l D cs yX3_queue cX3_queue 4 none (rmL 3 0 0) r ad L [.ref r, .int (nI t), .int (nI g), .int why] st fl none (s_queue st t g why) fl := by
  refine rm_of rfl (Nat.le_of_ble_eq_true rfl) ?_
  intro f0 x sz p e u m below meth c S P hRw hfl hr hlk ls hl Q hQ
  have hl : lv_has ls 4 [(0, .ref r), (1, .int (nI t)), (2, .int (nI g)), (3, .int why)] := hl
  have hx := S.1
  have hb := S.2.1
  generalize u.heap = H at P ⊢
  generalize ([] : List Loc) = locs at P ⊢
  have hlk2 : (s_queue0 st t g why).1 16 g = nI (s_lk st g) := by rw [s_q0_I (by decide) (by decide)]; exact hlk0
  have hwf1 : RWf (s_enter (sI (sD (sI (s_queue0 st t g why) 10 t why) 7 t cM1) 6 t 0) t (s_lk st g)) := s_enter_wf (st := sI (sD (sI (s_queue0 st t g why) 10 t why) 7 t cM1) 6 t 0) hwf0 ht hl6
  have hdb1 : DBd (s_enter (sI (sD (sI (s_queue0 st t g why) 10 t why) 7 t cM1) 6 t 0) t (s_lk st g)) := s_enter_db (st := sI (sD (sI (s_queue0 st t g why) 10 t why) 7 t cM1) 6 t 0) hdb0 ht
  refine lv_aload_n hx hb dX3_queue_0 rfl (lv_at hl 0 rfl) ?_
  refine rx_ref 5 S P (by decide) q890 dX3_queue_1 ?_
  refine lv_iload_n hx hb dX3_queue_4 rfl (lv_at hl 1 rfl) ?_
  refine rx_iald 5 t S P rfl rfl (by show _ < _; simp only [rN]; omega) dX3_queue_5 ?_
  refine lv_iload_n hx hb dX3_queue_6 rfl (lv_at hl 2 rfl) ?_
  refine lv_icmp_ne (tgt := 27) (x := st.1 5 t) (y := nI g) hx hb dX3_queue_7 (by decide) (fun c7 => ?_) (fun c7 => ?_)
  · have _h := True.intro
    have hq0 : s_queue0 st t g why = st := by unfold s_queue0; rw [if_neg c7]
    have hRw : Rows (s_queue0 st t g why) x := by rw [hq0]; exact hRw
    have P : RX D cs (pA L sz) u r ad L f0 (s_queue0 st t g why) x H locs := by rw [hq0]; exact P
    clear hq0
    refine lv_aload_n hx hb dX3_queue_27 rfl (lv_at hl 0 rfl) ?_
    refine rx_ref 10 S P (by decide) q895 dX3_queue_28 ?_
    refine lv_iload_n hx hb dX3_queue_31 rfl (lv_at hl 1 rfl) ?_
    refine lv_iload_n hx hb dX3_queue_32 rfl (lv_at hl 3 rfl) ?_
    refine rx_iast (v := why) 10 t S P rfl rfl (by show _ < _; simp only [rN]; omega) dX3_queue_33 (fun H locs P => ?_)
    refine lv_aload_n hx hb dX3_queue_34 rfl (lv_at hl 0 rfl) ?_
    refine rx_ref 7 S P (by decide) q892 dX3_queue_35 ?_
    refine lv_iload_n hx hb dX3_queue_38 rfl (lv_at hl 1 rfl) ?_
    refine lv_ldc2d (v := 13830554455654793216) hx hb S.2.2.2.1 (S.2.2.2.2 _ q995) dX3_queue_39 ?_
    refine rx_dast (v := 13830554455654793216) 7 t S P rfl (by show _ < _; simp only [rN]; omega) dX3_queue_42 (fun H locs P => ?_)
    refine lv_aload_n hx hb dX3_queue_43 rfl (lv_at hl 0 rfl) ?_
    refine rx_ref 6 S P (by decide) q891 dX3_queue_44 ?_
    refine lv_iload_n hx hb dX3_queue_47 rfl (lv_at hl 1 rfl) ?_
    refine lv_iconst (v := 0) hx hb dX3_queue_48 (by decide) ?_
    refine rx_iast (v := 0) 6 t S P rfl rfl (by show _ < _; simp only [rN]; omega) dX3_queue_49 (fun H locs P => ?_)
    refine lv_aload_n hx hb dX3_queue_50 rfl (lv_at hl 0 rfl) ?_
    refine lv_iload_n hx hb dX3_queue_51 rfl (lv_at hl 1 rfl) ?_
    refine lv_aload_n hx hb dX3_queue_52 rfl (lv_at hl 0 rfl) ?_
    refine rx_ref 16 S P (by decide) q901 dX3_queue_53 ?_
    refine lv_iload_n hx hb dX3_queue_56 rfl (lv_at hl 2 rfl) ?_
    refine rx_iald 16 g S P rfl rfl (by show _ < _; simp only [rN]; omega) dX3_queue_57 ?_
    refine lw_eqi (y := nI (s_lk st g)) (hlk2) ?_
    refine rx_c (nL' := 3) (rest := []) [.int (nI t), .int (nI (s_lk st g))] S P hRw hfl (rm_enter (sI (sD (sI (s_queue0 st t g why) 10 t why) 7 t 13830554455654793216) 6 t 0) fl t (s_lk st g) (by omega) (by omega) hl6 hwf0) q1028 q1030 qs27 q1031 q38 ⟨by decide +kernel, by decide +kernel, (by decide +kernel : (parseMethodDescriptor yX3_enter.desc).map (fun d => d.parameters.length) = some 2)⟩ dX3_queue_58 hl.1 (Nat.le_of_ble_eq_true rfl) ⟨Nat.le_of_ble_eq_true rfl, Nat.le_of_ble_eq_true rfl⟩ ⟨Nat.le_refl _, Nat.le_refl _⟩ (fun H locs x P hRw hfl => ?_)
    refine W.eq (g2 := F0 m 61 ls []) rfl ?_
    refine lv_aload_n hx hb dX3_queue_61 rfl (lv_at hl 0 rfl) ?_
    refine lv_aload_n hx hb dX3_queue_62 rfl (lv_at hl 0 rfl) ?_
    refine rx_ref 16 S P (by decide) q901 dX3_queue_63 ?_
    refine lv_iload_n hx hb dX3_queue_66 rfl (lv_at hl 2 rfl) ?_
    refine rx_iald 16 g S P rfl rfl (by show _ < _; simp only [rN]; omega) dX3_queue_67 ?_
    refine lw_eqi (y := nI (s_lk st g)) (hlk2) ?_
    refine rx_c (nL' := 3) (rest := []) [.int (nI (s_lk st g))] S P hRw hfl (rm_serve (s_enter (sI (sD (sI (s_queue0 st t g why) 10 t why) 7 t 13830554455654793216) 6 t 0) t (s_lk st g)) fl (s_lk st g) (by omega) hwf1 hdb1) q1036 q1038 qs28 q1039 q38 ⟨by decide +kernel, by decide +kernel, (by decide +kernel : (parseMethodDescriptor yX3_serve.desc).map (fun d => d.parameters.length) = some 1)⟩ dX3_queue_68 hl.1 (Nat.le_of_ble_eq_true rfl) ⟨Nat.le_of_ble_eq_true rfl, Nat.le_of_ble_eq_true rfl⟩ ⟨Nat.le_refl _, Nat.le_refl _⟩ (fun H locs x P hRw hfl => ?_)
    refine W.eq (g2 := F0 m 71 ls []) rfl ?_
    exact rx_vret S P hQ hr hlk dX3_queue_71 hRw hfl (rfl)
  · have _h := True.intro
    have hmem := hw c7
    refine lv_iload_n hx hb dX3_queue_10 rfl (lv_at hl 3 rfl) ?_
    refine lv_iconst (v := 1) hx hb dX3_queue_11 (by decide) ?_
    refine lv_icmp_ne (tgt := 21) (x := why) (y := 1) hx hb dX3_queue_12 (by decide) (fun c12 => ?_) (fun c12 => ?_)
    · have _h := True.intro
      refine lv_aload_n hx hb dX3_queue_21 rfl (lv_at hl 0 rfl) ?_
      refine lv_iload_n hx hb dX3_queue_22 rfl (lv_at hl 1 rfl) ?_
      refine lv_iload_n hx hb dX3_queue_23 rfl (lv_at hl 2 rfl) ?_
      refine rx_c (nL' := 5) (rest := []) [.int (nI t), .int (nI g)] S P hRw hfl (rm_remove st fl t g (by omega) (by omega) hmem hwf) q1044 q1046 qs30 q1047 q38 ⟨by decide +kernel, by decide +kernel, (by decide +kernel : (parseMethodDescriptor yX3_remove.desc).map (fun d => d.parameters.length) = some 2)⟩ dX3_queue_24 hl.1 (Nat.le_of_ble_eq_true rfl) ⟨Nat.le_of_ble_eq_true rfl, Nat.le_of_ble_eq_true rfl⟩ ⟨Nat.le_refl _, Nat.le_refl _⟩ (fun H locs x P hRw hfl => ?_)
      refine W.eq (g2 := F0 m 27 ls []) rfl ?_
      have hq0 : s_queue0 st t g why = s_remove st t g := by unfold s_queue0; rw [if_pos c7]; rw [if_neg c12]
      have hRw : Rows (s_queue0 st t g why) x := by rw [hq0]; exact hRw
      have P : RX D cs (pA L sz) u r ad L f0 (s_queue0 st t g why) x H locs := by rw [hq0]; exact P
      clear hq0
      refine lv_aload_n hx hb dX3_queue_27 rfl (lv_at hl 0 rfl) ?_
      refine rx_ref 10 S P (by decide) q895 dX3_queue_28 ?_
      refine lv_iload_n hx hb dX3_queue_31 rfl (lv_at hl 1 rfl) ?_
      refine lv_iload_n hx hb dX3_queue_32 rfl (lv_at hl 3 rfl) ?_
      refine rx_iast (v := why) 10 t S P rfl rfl (by show _ < _; simp only [rN]; omega) dX3_queue_33 (fun H locs P => ?_)
      refine lv_aload_n hx hb dX3_queue_34 rfl (lv_at hl 0 rfl) ?_
      refine rx_ref 7 S P (by decide) q892 dX3_queue_35 ?_
      refine lv_iload_n hx hb dX3_queue_38 rfl (lv_at hl 1 rfl) ?_
      refine lv_ldc2d (v := 13830554455654793216) hx hb S.2.2.2.1 (S.2.2.2.2 _ q995) dX3_queue_39 ?_
      refine rx_dast (v := 13830554455654793216) 7 t S P rfl (by show _ < _; simp only [rN]; omega) dX3_queue_42 (fun H locs P => ?_)
      refine lv_aload_n hx hb dX3_queue_43 rfl (lv_at hl 0 rfl) ?_
      refine rx_ref 6 S P (by decide) q891 dX3_queue_44 ?_
      refine lv_iload_n hx hb dX3_queue_47 rfl (lv_at hl 1 rfl) ?_
      refine lv_iconst (v := 0) hx hb dX3_queue_48 (by decide) ?_
      refine rx_iast (v := 0) 6 t S P rfl rfl (by show _ < _; simp only [rN]; omega) dX3_queue_49 (fun H locs P => ?_)
      refine lv_aload_n hx hb dX3_queue_50 rfl (lv_at hl 0 rfl) ?_
      refine lv_iload_n hx hb dX3_queue_51 rfl (lv_at hl 1 rfl) ?_
      refine lv_aload_n hx hb dX3_queue_52 rfl (lv_at hl 0 rfl) ?_
      refine rx_ref 16 S P (by decide) q901 dX3_queue_53 ?_
      refine lv_iload_n hx hb dX3_queue_56 rfl (lv_at hl 2 rfl) ?_
      refine rx_iald 16 g S P rfl rfl (by show _ < _; simp only [rN]; omega) dX3_queue_57 ?_
      refine lw_eqi (y := nI (s_lk st g)) (hlk2) ?_
      refine rx_c (nL' := 3) (rest := []) [.int (nI t), .int (nI (s_lk st g))] S P hRw hfl (rm_enter (sI (sD (sI (s_queue0 st t g why) 10 t why) 7 t 13830554455654793216) 6 t 0) fl t (s_lk st g) (by omega) (by omega) hl6 hwf0) q1028 q1030 qs27 q1031 q38 ⟨by decide +kernel, by decide +kernel, (by decide +kernel : (parseMethodDescriptor yX3_enter.desc).map (fun d => d.parameters.length) = some 2)⟩ dX3_queue_58 hl.1 (Nat.le_of_ble_eq_true rfl) ⟨Nat.le_of_ble_eq_true rfl, Nat.le_of_ble_eq_true rfl⟩ ⟨Nat.le_refl _, Nat.le_refl _⟩ (fun H locs x P hRw hfl => ?_)
      refine W.eq (g2 := F0 m 61 ls []) rfl ?_
      refine lv_aload_n hx hb dX3_queue_61 rfl (lv_at hl 0 rfl) ?_
      refine lv_aload_n hx hb dX3_queue_62 rfl (lv_at hl 0 rfl) ?_
      refine rx_ref 16 S P (by decide) q901 dX3_queue_63 ?_
      refine lv_iload_n hx hb dX3_queue_66 rfl (lv_at hl 2 rfl) ?_
      refine rx_iald 16 g S P rfl rfl (by show _ < _; simp only [rN]; omega) dX3_queue_67 ?_
      refine lw_eqi (y := nI (s_lk st g)) (hlk2) ?_
      refine rx_c (nL' := 3) (rest := []) [.int (nI (s_lk st g))] S P hRw hfl (rm_serve (s_enter (sI (sD (sI (s_queue0 st t g why) 10 t why) 7 t 13830554455654793216) 6 t 0) t (s_lk st g)) fl (s_lk st g) (by omega) hwf1 hdb1) q1036 q1038 qs28 q1039 q38 ⟨by decide +kernel, by decide +kernel, (by decide +kernel : (parseMethodDescriptor yX3_serve.desc).map (fun d => d.parameters.length) = some 1)⟩ dX3_queue_68 hl.1 (Nat.le_of_ble_eq_true rfl) ⟨Nat.le_of_ble_eq_true rfl, Nat.le_of_ble_eq_true rfl⟩ ⟨Nat.le_refl _, Nat.le_refl _⟩ (fun H locs x P hRw hfl => ?_)
      refine W.eq (g2 := F0 m 71 ls []) rfl ?_
      exact rx_vret S P hQ hr hlk dX3_queue_71 hRw hfl (rfl)
    · have _h := True.intro
      refine lv_aload_n hx hb dX3_queue_15 rfl (lv_at hl 0 rfl) ?_
      refine lv_iload_n hx hb dX3_queue_16 rfl (lv_at hl 1 rfl) ?_
      refine lv_iload_n hx hb dX3_queue_17 rfl (lv_at hl 2 rfl) ?_
      refine rx_c (nL' := 3) (rest := []) [.int (nI t), .int (nI g)] S P hRw hfl (rm_addWaited st fl t g (by omega) (by omega) hdb) q1048 q1050 qs31 q1051 q38 ⟨by decide +kernel, by decide +kernel, (by decide +kernel : (parseMethodDescriptor yX3_addWaited.desc).map (fun d => d.parameters.length) = some 2)⟩ dX3_queue_18 hl.1 (Nat.le_of_ble_eq_true rfl) ⟨Nat.le_of_ble_eq_true rfl, Nat.le_of_ble_eq_true rfl⟩ ⟨Nat.le_refl _, Nat.le_refl _⟩ (fun H locs x P hRw hfl => ?_)
      refine W.eq (g2 := F0 m 21 ls []) rfl ?_
      refine lv_aload_n hx hb dX3_queue_21 rfl (lv_at hl 0 rfl) ?_
      refine lv_iload_n hx hb dX3_queue_22 rfl (lv_at hl 1 rfl) ?_
      refine lv_iload_n hx hb dX3_queue_23 rfl (lv_at hl 2 rfl) ?_
      refine rx_c (nL' := 5) (rest := []) [.int (nI t), .int (nI g)] S P hRw hfl (rm_remove (s_addW st t g) fl t g (by omega) (by omega) hmem hwf) q1044 q1046 qs30 q1047 q38 ⟨by decide +kernel, by decide +kernel, (by decide +kernel : (parseMethodDescriptor yX3_remove.desc).map (fun d => d.parameters.length) = some 2)⟩ dX3_queue_24 hl.1 (Nat.le_of_ble_eq_true rfl) ⟨Nat.le_of_ble_eq_true rfl, Nat.le_of_ble_eq_true rfl⟩ ⟨Nat.le_refl _, Nat.le_refl _⟩ (fun H locs x P hRw hfl => ?_)
      refine W.eq (g2 := F0 m 27 ls []) rfl ?_
      have hq0 : s_queue0 st t g why = s_remove (s_addW st t g) t g := by unfold s_queue0; rw [if_pos c7]; rw [if_pos c12]
      have hRw : Rows (s_queue0 st t g why) x := by rw [hq0]; exact hRw
      have P : RX D cs (pA L sz) u r ad L f0 (s_queue0 st t g why) x H locs := by rw [hq0]; exact P
      clear hq0
      refine lv_aload_n hx hb dX3_queue_27 rfl (lv_at hl 0 rfl) ?_
      refine rx_ref 10 S P (by decide) q895 dX3_queue_28 ?_
      refine lv_iload_n hx hb dX3_queue_31 rfl (lv_at hl 1 rfl) ?_
      refine lv_iload_n hx hb dX3_queue_32 rfl (lv_at hl 3 rfl) ?_
      refine rx_iast (v := why) 10 t S P rfl rfl (by show _ < _; simp only [rN]; omega) dX3_queue_33 (fun H locs P => ?_)
      refine lv_aload_n hx hb dX3_queue_34 rfl (lv_at hl 0 rfl) ?_
      refine rx_ref 7 S P (by decide) q892 dX3_queue_35 ?_
      refine lv_iload_n hx hb dX3_queue_38 rfl (lv_at hl 1 rfl) ?_
      refine lv_ldc2d (v := 13830554455654793216) hx hb S.2.2.2.1 (S.2.2.2.2 _ q995) dX3_queue_39 ?_
      refine rx_dast (v := 13830554455654793216) 7 t S P rfl (by show _ < _; simp only [rN]; omega) dX3_queue_42 (fun H locs P => ?_)
      refine lv_aload_n hx hb dX3_queue_43 rfl (lv_at hl 0 rfl) ?_
      refine rx_ref 6 S P (by decide) q891 dX3_queue_44 ?_
      refine lv_iload_n hx hb dX3_queue_47 rfl (lv_at hl 1 rfl) ?_
      refine lv_iconst (v := 0) hx hb dX3_queue_48 (by decide) ?_
      refine rx_iast (v := 0) 6 t S P rfl rfl (by show _ < _; simp only [rN]; omega) dX3_queue_49 (fun H locs P => ?_)
      refine lv_aload_n hx hb dX3_queue_50 rfl (lv_at hl 0 rfl) ?_
      refine lv_iload_n hx hb dX3_queue_51 rfl (lv_at hl 1 rfl) ?_
      refine lv_aload_n hx hb dX3_queue_52 rfl (lv_at hl 0 rfl) ?_
      refine rx_ref 16 S P (by decide) q901 dX3_queue_53 ?_
      refine lv_iload_n hx hb dX3_queue_56 rfl (lv_at hl 2 rfl) ?_
      refine rx_iald 16 g S P rfl rfl (by show _ < _; simp only [rN]; omega) dX3_queue_57 ?_
      refine lw_eqi (y := nI (s_lk st g)) (hlk2) ?_
      refine rx_c (nL' := 3) (rest := []) [.int (nI t), .int (nI (s_lk st g))] S P hRw hfl (rm_enter (sI (sD (sI (s_queue0 st t g why) 10 t why) 7 t 13830554455654793216) 6 t 0) fl t (s_lk st g) (by omega) (by omega) hl6 hwf0) q1028 q1030 qs27 q1031 q38 ⟨by decide +kernel, by decide +kernel, (by decide +kernel : (parseMethodDescriptor yX3_enter.desc).map (fun d => d.parameters.length) = some 2)⟩ dX3_queue_58 hl.1 (Nat.le_of_ble_eq_true rfl) ⟨Nat.le_of_ble_eq_true rfl, Nat.le_of_ble_eq_true rfl⟩ ⟨Nat.le_refl _, Nat.le_refl _⟩ (fun H locs x P hRw hfl => ?_)
      refine W.eq (g2 := F0 m 61 ls []) rfl ?_
      refine lv_aload_n hx hb dX3_queue_61 rfl (lv_at hl 0 rfl) ?_
      refine lv_aload_n hx hb dX3_queue_62 rfl (lv_at hl 0 rfl) ?_
      refine rx_ref 16 S P (by decide) q901 dX3_queue_63 ?_
      refine lv_iload_n hx hb dX3_queue_66 rfl (lv_at hl 2 rfl) ?_
      refine rx_iald 16 g S P rfl rfl (by show _ < _; simp only [rN]; omega) dX3_queue_67 ?_
      refine lw_eqi (y := nI (s_lk st g)) (hlk2) ?_
      refine rx_c (nL' := 3) (rest := []) [.int (nI (s_lk st g))] S P hRw hfl (rm_serve (s_enter (sI (sD (sI (s_queue0 st t g why) 10 t why) 7 t 13830554455654793216) 6 t 0) t (s_lk st g)) fl (s_lk st g) (by omega) hwf1 hdb1) q1036 q1038 qs28 q1039 q38 ⟨by decide +kernel, by decide +kernel, (by decide +kernel : (parseMethodDescriptor yX3_serve.desc).map (fun d => d.parameters.length) = some 1)⟩ dX3_queue_68 hl.1 (Nat.le_of_ble_eq_true rfl) ⟨Nat.le_of_ble_eq_true rfl, Nat.le_of_ble_eq_true rfl⟩ ⟨Nat.le_refl _, Nat.le_refl _⟩ (fun H locs x P hRw hfl => ?_)
      refine W.eq (g2 := F0 m 71 ls []) rfl ?_
      exact rx_vret S P hQ hr hlk dX3_queue_71 hRw hfl (rfl)

set_option maxHeartbeats 4000000 in
set_option maxRecDepth 100000 in
theorem rm_leads {l : Launch} {D : va_G} {cs : Nat → ClassId} {r : Nat} {ad : Nat → Nat} {L : List Nat} (st : St) (fl : Int32) (a b : Nat) (ha : a < 8) (hb8 : b < 8) (hbf : ∀ j, j < 64 → st.1 22 j = 0 ∨ st.1 22 j = 1) : RM l D cs yX3_leads cX3_leads 6 (some .boolean) (rmL 1 0 0) r ad L [.ref r, .int (nI a), .int (nI b)] st fl (some (.int (bI (s_leads st a b)))) st fl := by
  refine rm_of rfl (Nat.le_of_ble_eq_true rfl) ?_
  intro f0 x sz p e u m below meth c S P hRw hfl hr hlk ls hl Q hQ
  have hl : lv_has ls 6 [(0, .ref r), (1, .int (nI a)), (2, .int (nI b))] := hl
  have hx := S.1
  have hb := S.2.1
  generalize u.heap = H at P ⊢
  generalize ([] : List Loc) = locs at P ⊢
  refine lv_iconst (v := 0) hx hb dX3_leads_0 (by decide) ?_
  refine lv_istore_n (lv' := [(3, .int 0), (0, .ref r), (1, .int (nI a)), (2, .int (nI b))]) hx hb dX3_leads_1 rfl hl (by decide) rfl (fun ls hl => ?_)
  have loop2 : ∀ (d : Nat) (i : Nat) (y : Nat → Nat → Int32), 8 - i < d → (i ≤ 8) → (y 0 = x 0 ∧ y 18 = x 18 ∧ y 19 = x 19) → (∀ j, j < i → y 23 j = st.1 22 (8 * a + j)) → ∀ (H : Heap) (locs : List Loc), RX D cs (pA L sz) u r ad L f0 st y H locs → ∀ (ls : Array Slot), lv_has ls 6 [(3, .int (nI i)), (0, .ref r), (1, .int (nI a)), (2, .int (nI b))] → W p l e (rmL 1 0 0) u m ([.ref r, .int (nI a), .int (nI b)] : List Value).toArray below meth c H locs 0 0 Q (F0 m 2 ls []) := by
    intro d2
    induction d2 with
    | zero => intro i y hd; exact absurd hd (by omega)
    | succ d2 ih2 =>
      intro i y hd2 hi hxy hinv H locs P ls hl
      refine lv_iload_n hx hb dX3_leads_2 rfl (lv_at hl 0 rfl) ?_
      refine lv_bipush (v := 8) hx hb dX3_leads_3 (by decide) ?_
      refine ni_icmp_ge (tgt := 31) (a := i) (b := 8) hx hb (by omega) (by omega) dX3_leads_5 (by decide) (fun c5 => ?_) (fun c5 => ?_)
      · have _h := True.intro
        refine lv_iconst (v := 0) hx hb dX3_leads_31 (by decide) ?_
        refine lv_istore_n (lv' := [(3, .int 0), (0, .ref r), (1, .int (nI a)), (2, .int (nI b))]) hx hb dX3_leads_32 rfl hl (by decide) rfl (fun ls hl => ?_)
        have loop33 : ∀ (d : Nat) (n : Nat) (y : Nat → Nat → Int32), 8 - n < d → (n ≤ 8) → (y 0 = x 0 ∧ y 18 = x 18 ∧ y 19 = x 19) → (ldI st a (y 23)) → (ldC st (y 23) ∨ n ≤ ldN (y 23) 8) → ∀ (H : Heap) (locs : List Loc), RX D cs (pA L sz) u r ad L f0 st y H locs → ∀ (ls : Array Slot), lv_has ls 6 [(3, .int (nI n)), (0, .ref r), (1, .int (nI a)), (2, .int (nI b))] → W p l e (rmL 1 0 0) u m ([.ref r, .int (nI a), .int (nI b)] : List Value).toArray below meth c H locs 0 0 Q (F0 m 33 ls []) := by
          intro d33
          induction d33 with
          | zero => intro n y hd; exact absurd hd (by omega)
          | succ d33 ih33 =>
            intro n y hd33 hn8 hxy hI hcl H locs P ls hl
            refine lv_iload_n hx hb dX3_leads_33 rfl (lv_at hl 0 rfl) ?_
            refine lv_bipush (v := 8) hx hb dX3_leads_34 (by decide) ?_
            refine ni_icmp_ge (tgt := 111) (a := n) (b := 8) hx hb (by omega) (by omega) dX3_leads_36 (by decide) (fun c36 => ?_) (fun c36 => ?_)
            · have _h := True.intro
              refine lv_aload_n hx hb dX3_leads_111 rfl (lv_at hl 1 rfl) ?_
              refine rx_ref 23 S P (by decide) q908 dX3_leads_112 ?_
              refine lv_iload_n hx hb dX3_leads_115 rfl (lv_at hl 3 rfl) ?_
              refine rx_zaldG 23 b S P rfl rfl (by show _ < _; simp only [rN]; omega) dX3_leads_116 ?_
              have hfl : y 0 0 = fl := by rw [hxy.1]; exact hfl
              have hRw : Rows st y := fun s hs => by rw [hxy.2.1, hxy.2.2]; exact hRw s hs
              exact rx_zret S P hQ hr hlk dX3_leads_117 hRw hfl (bI_or _) (ld_end hI hb8 (hcl.imp_right (fun h => by omega))) (rfl)
            · have _h := True.intro
              refine lv_iconst (v := 0) hx hb dX3_leads_39 (by decide) ?_
              refine lv_istore (lv' := [(4, .int 0), (3, .int (nI n)), (0, .ref r), (1, .int (nI a)), (2, .int (nI b))]) hx hb dX3_leads_40 hl (by decide) rfl (fun ls hl => ?_)
              have loop42 : ∀ (d : Nat) (k : Nat) (y1 : Nat → Nat → Int32), 8 - k < d → (k ≤ 8) → (y1 0 = x 0 ∧ y1 18 = x 18 ∧ y1 19 = x 19) → (ldI st a (y1 23)) → (ldR st (y 23) (y1 23) k) → ∀ (H : Heap) (locs : List Loc), RX D cs (pA L sz) u r ad L f0 st y1 H locs → ∀ (ls : Array Slot), lv_has ls 6 [(4, .int (nI k)), (3, .int (nI n)), (0, .ref r), (1, .int (nI a)), (2, .int (nI b))] → W p l e (rmL 1 0 0) u m ([.ref r, .int (nI a), .int (nI b)] : List Value).toArray below meth c H locs 0 0 Q (F0 m 42 ls []) := by
                intro d42
                induction d42 with
                | zero => intro k y1 hd; exact absurd hd (by omega)
                | succ d42 ih42 =>
                  intro k y1 hd42 hk8 hxy1 hI1 hR H locs P ls hl
                  refine lv_iload hx hb dX3_leads_42 (lv_at hl 0 rfl) ?_
                  refine lv_bipush (v := 8) hx hb dX3_leads_44 (by decide) ?_
                  refine ni_icmp_ge (tgt := 105) (a := k) (b := 8) hx hb (by omega) (by omega) dX3_leads_46 (by decide) (fun c46 => ?_) (fun c46 => ?_)
                  · have _h := True.intro
                    refine lv_iinc (v := nI (n + 1)) (lv' := [(3, .int (nI (n + 1))), (4, .int (nI k)), (0, .ref r), (1, .int (nI a)), (2, .int (nI b))]) hx hb dX3_leads_105 hl (k := 1) rfl (nI_1 _) (by decide) rfl (fun ls hl => ?_)
                    refine lv_goto (tgt := 33) hx hb dX3_leads_108 (by decide) ?_
                    exact ih33 (n + 1) _ (by omega) (by omega) hxy1 hI1 (ld_round ((show k = 8 by omega) ▸ hR) hcl) _ _ P ls (lv_sub hl [0, 2, 3, 4] rfl)
                  · have _h := True.intro
                    refine lv_iconst (v := 0) hx hb dX3_leads_49 (by decide) ?_
                    refine lv_istore (lv' := [(5, .int 0), (4, .int (nI k)), (3, .int (nI n)), (0, .ref r), (1, .int (nI a)), (2, .int (nI b))]) hx hb dX3_leads_50 hl (by decide) rfl (fun ls hl => ?_)
                    have loop52 : ∀ (d : Nat) (q : Nat) (y2 : Nat → Nat → Int32), 8 - q < d → (q ≤ 8) → (y2 0 = x 0 ∧ y2 18 = x 18 ∧ y2 19 = x 19) → (ldI st a (y2 23)) → (ldM (y 23) (y2 23)) → (ldC st (y 23) → ldM (y2 23) (y 23)) → (∀ s', s' < k → ∀ r, r < 8 → ¬ y 23 s' = 0 → s_edge st s' r → ¬ y2 23 r = 0) → (¬ y2 23 k = 0 → ∀ r, r < q → s_edge st k r → ¬ y2 23 r = 0) → ∀ (H : Heap) (locs : List Loc), RX D cs (pA L sz) u r ad L f0 st y2 H locs → ∀ (ls : Array Slot), lv_has ls 6 [(5, .int (nI q)), (4, .int (nI k)), (3, .int (nI n)), (0, .ref r), (1, .int (nI a)), (2, .int (nI b))] → W p l e (rmL 1 0 0) u m ([.ref r, .int (nI a), .int (nI b)] : List Value).toArray below meth c H locs 0 0 Q (F0 m 52 ls []) := by
                      intro d52
                      induction d52 with
                      | zero => intro q y2 hd; exact absurd hd (by omega)
                      | succ d52 ih52 =>
                        intro q y2 hd52 hq8 hxy2 hI2 hM2 hC2 hD2 hin H locs P ls hl
                        refine lv_iload hx hb dX3_leads_52 (lv_at hl 0 rfl) ?_
                        refine lv_bipush (v := 8) hx hb dX3_leads_54 (by decide) ?_
                        refine ni_icmp_ge (tgt := 99) (a := q) (b := 8) hx hb (by omega) (by omega) dX3_leads_56 (by decide) (fun c56 => ?_) (fun c56 => ?_)
                        · have _h := True.intro
                          refine lv_iinc (v := nI (k + 1)) (lv' := [(4, .int (nI (k + 1))), (5, .int (nI q)), (3, .int (nI n)), (0, .ref r), (1, .int (nI a)), (2, .int (nI b))]) hx hb dX3_leads_99 hl (k := 1) rfl (nI_1 _) (by decide) rfl (fun ls hl => ?_)
                          refine lv_goto (tgt := 42) hx hb dX3_leads_102 (by decide) ?_
                          exact ih42 (k + 1) _ (by omega) (by omega) hxy2 hI2 ⟨hM2, hC2, fun s' hs' r hr h0 he => by
                            rcases Nat.lt_or_ge s' k with q2 | q2
                            · exact hD2 s' q2 r hr h0 he
                            · have q3 : s' = k := by omega
                              subst q3
                              exact hin (hM2 _ (by omega) h0) r (by omega) he⟩ _ _ P ls (lv_sub hl [0, 2, 3, 4, 5] rfl)
                        · have _h := True.intro
                          refine lv_aload_n hx hb dX3_leads_59 rfl (lv_at hl 3 rfl) ?_
                          refine rx_ref 23 S P (by decide) q908 dX3_leads_60 ?_
                          refine lv_iload hx hb dX3_leads_63 (lv_at hl 1 rfl) ?_
                          refine rx_zaldG 23 k S P rfl rfl (by show _ < _; simp only [rN]; omega) dX3_leads_65 ?_
                          refine lv_if_eq (tgt := 99) (x := y2 23 k) hx hb dX3_leads_66 (by decide) (fun c66 => ?_) (fun c66 => ?_)
                          · have _h := True.intro
                            refine lv_iinc (v := nI (k + 1)) (lv' := [(4, .int (nI (k + 1))), (5, .int (nI q)), (3, .int (nI n)), (0, .ref r), (1, .int (nI a)), (2, .int (nI b))]) hx hb dX3_leads_99 hl (k := 1) rfl (nI_1 _) (by decide) rfl (fun ls hl => ?_)
                            refine lv_goto (tgt := 42) hx hb dX3_leads_102 (by decide) ?_
                            exact ih42 (k + 1) _ (by omega) (by omega) hxy2 hI2 ⟨hM2, hC2, fun s' hs' r hr h0 he => by
                              rcases Nat.lt_or_ge s' k with q2 | q2
                              · exact hD2 s' q2 r hr h0 he
                              · have q3 : s' = k := by omega
                                subst q3
                                exact absurd c66 (hM2 _ (by omega) h0)⟩ _ _ P ls (lv_sub hl [0, 2, 3, 4, 5] rfl)
                          · have _h := True.intro
                            refine lv_aload_n hx hb dX3_leads_69 rfl (lv_at hl 3 rfl) ?_
                            refine rx_ref 22 S P (by decide) q907 dX3_leads_70 ?_
                            refine lv_bipush (v := 8) hx hb dX3_leads_73 (by decide) ?_
                            refine lv_iload hx hb dX3_leads_75 (lv_at hl 1 rfl) ?_
                            refine ni_imul (a := 8) (b := k) hx hb dX3_leads_77 ?_
                            refine lv_iload hx hb dX3_leads_78 (lv_at hl 0 rfl) ?_
                            refine ni_iadd (a := 8 * k) (b := q) hx hb dX3_leads_80 ?_
                            refine rx_zald 22 ((8 * k) + q) S P rfl rfl (by show _ < _; simp only [rN]; omega) dX3_leads_81 ?_
                            refine lv_if_eq (tgt := 93) (x := st.1 22 ((8 * k) + q)) hx hb dX3_leads_82 (by decide) (fun c82 => ?_) (fun c82 => ?_)
                            · have _h := True.intro
                              refine lv_iinc (v := nI (q + 1)) (lv' := [(5, .int (nI (q + 1))), (4, .int (nI k)), (3, .int (nI n)), (0, .ref r), (1, .int (nI a)), (2, .int (nI b))]) hx hb dX3_leads_93 hl (k := 0) rfl (nI_1 _) (by decide) rfl (fun ls hl => ?_)
                              refine lv_goto (tgt := 52) hx hb dX3_leads_96 (by decide) ?_
                              exact ih52 (q + 1) _ (by omega) (by omega) hxy2 hI2 hM2 hC2 hD2 (fun hk r hr he => by
                                by_cases z : r = q
                                · subst z; exact absurd c82 he.2.2
                                · exact hin hk r (by omega) he) _ _ P ls (lv_sub hl [0, 1, 2, 3, 4, 5] rfl)
                            · have _h := True.intro
                              refine lv_aload_n hx hb dX3_leads_85 rfl (lv_at hl 3 rfl) ?_
                              refine rx_ref 23 S P (by decide) q908 dX3_leads_86 ?_
                              refine lv_iload hx hb dX3_leads_89 (lv_at hl 0 rfl) ?_
                              refine lv_iconst (v := 1) hx hb dX3_leads_91 (by decide) ?_
                              refine rx_zastG (v := 1) 23 q S P rfl rfl (by show _ < _; simp only [rN]; omega) (by decide) dX3_leads_92 (fun H locs P => ?_)
                              refine lv_iinc (v := nI (q + 1)) (lv' := [(5, .int (nI (q + 1))), (4, .int (nI k)), (3, .int (nI n)), (0, .ref r), (1, .int (nI a)), (2, .int (nI b))]) hx hb dX3_leads_93 hl (k := 0) rfl (nI_1 _) (by decide) rfl (fun ls hl => ?_)
                              refine lv_goto (tgt := 52) hx hb dX3_leads_96 (by decide) ?_
                              have hset := ld_set hI2 hM2 hC2 (show k < 8 by omega) (show q < 8 by omega) c66 c82
                              exact ih52 (q + 1) (va_up y2 23 (upd (y2 23) q 1)) (by omega) (by omega) hxy2 hset.1 hset.2.1 hset.2.2.1 (fun s' hs' r hr h0 he => hset.2.2.2 r hr (hD2 s' hs' r hr h0 he)) (fun hk r hr he => by
                                show ¬ upd (y2 23) q 1 r = 0
                                by_cases z : r = q
                                · subst z; rw [pk_us]; decide
                                · rw [pk_un z]; exact hin c66 r (by omega) he) _ _ P ls (lv_sub hl [0, 1, 2, 3, 4, 5] rfl)
                    exact loop52 _ 0 y1 (Nat.lt_succ_self _) (by omega) hxy1 hI1 hR.1 hR.2.1 hR.2.2 (fun _ r hr => absurd hr (by omega)) _ _ P ls (lv_sub hl [0, 1, 2, 3, 4, 5] (rfl))
              exact loop42 _ 0 y (Nat.lt_succ_self _) (by omega) hxy hI ⟨fun i _ h => h, fun _ i _ h => h, fun s' hs' => absurd hs' (by omega)⟩ _ _ P ls (lv_sub hl [0, 1, 2, 3, 4] (rfl))
        exact loop33 _ 0 y (Nat.lt_succ_self _) (by omega) hxy (ld_0 ha hbf (fun j hj => hinv j (by omega))) (Or.inr (by omega)) _ _ P ls (lv_sub hl [0, 1, 2, 3] (rfl))
      · have _h := True.intro
        refine lv_aload_n hx hb dX3_leads_8 rfl (lv_at hl 1 rfl) ?_
        refine rx_ref 23 S P (by decide) q908 dX3_leads_9 ?_
        refine lv_iload_n hx hb dX3_leads_12 rfl (lv_at hl 0 rfl) ?_
        refine lv_aload_n hx hb dX3_leads_13 rfl (lv_at hl 1 rfl) ?_
        refine rx_ref 22 S P (by decide) q907 dX3_leads_14 ?_
        refine lv_bipush (v := 8) hx hb dX3_leads_17 (by decide) ?_
        refine lv_iload_n hx hb dX3_leads_19 rfl (lv_at hl 2 rfl) ?_
        refine ni_imul (a := 8) (b := a) hx hb dX3_leads_20 ?_
        refine lv_iload_n hx hb dX3_leads_21 rfl (lv_at hl 0 rfl) ?_
        refine ni_iadd (a := 8 * a) (b := i) hx hb dX3_leads_22 ?_
        refine rx_zald 22 ((8 * a) + i) S P rfl rfl (by show _ < _; simp only [rN]; omega) dX3_leads_23 ?_
        refine rx_zastG (v := st.1 22 ((8 * a) + i)) 23 i S P rfl rfl (by show _ < _; simp only [rN]; omega) (nar01 (hbf _ (by omega))) dX3_leads_24 (fun H locs P => ?_)
        refine lv_iinc (v := nI (i + 1)) (lv' := [(3, .int (nI (i + 1))), (0, .ref r), (1, .int (nI a)), (2, .int (nI b))]) hx hb dX3_leads_25 hl (k := 0) rfl (nI_1 _) (by decide) rfl (fun ls hl => ?_)
        refine lv_goto (tgt := 2) hx hb dX3_leads_28 (by decide) ?_
        exact ih2 (i + 1) (va_up y 23 (upd (y 23) i (st.1 22 ((8 * a) + i)))) (by omega) (by omega) hxy (fun j hj => by
          show upd (y 23) i _ j = _
          by_cases q : j = i
          · subst q; rw [pk_us]
          · rw [pk_un q]; exact hinv j (by omega)) _ _ P ls (lv_sub hl [0, 1, 2, 3] rfl)
  exact loop2 _ 0 x (Nat.lt_succ_self _) (by omega) ⟨rfl, rfl, rfl⟩ (fun j hj => absurd hj (by omega)) _ _ P ls (lv_sub hl [0, 1, 2, 3] (rfl))

set_option maxHeartbeats 4000000 in
set_option maxRecDepth 100000 in
theorem rm_ordered {l : Launch} {D : va_G} {cs : Nat → ClassId} {r : Nat} {ad : Nat → Nat} {L : List Nat} (st : St) (fl : Int32) (t s : Nat) (ht : t < 6) (hs : s < 8) (hbf : ∀ j, j < 64 → st.1 22 j = 0 ∨ st.1 22 j = 1) : RM l D cs yX3_ordered cX3_ordered 5 (some .boolean) (rmL 2 0 0) r ad L [.ref r, .int (nI t), .int (nI s)] st fl (some (.int (bI (s_ordered st t s).1))) ((s_ordered st t s).2) fl := by
  refine rm_of rfl (Nat.le_of_ble_eq_true rfl) ?_
  intro f0 x sz p e u m below meth c S P hRw hfl hr hlk ls hl Q hQ
  have hl : lv_has ls 5 [(0, .ref r), (1, .int (nI t)), (2, .int (nI s))] := hl
  have hx := S.1
  have hb := S.2.1
  generalize u.heap = H at P ⊢
  generalize ([] : List Loc) = locs at P ⊢
  refine lv_aload_n hx hb dX3_ordered_0 rfl (lv_at hl 0 rfl) ?_
  refine rx_getI 24 S P rfl rfl q909 dX3_ordered_1 ?_
  refine lv_if_eq (tgt := 25) (x := st.1 24 0) hx hb dX3_ordered_4 (by decide) (fun c4 => ?_) (fun c4 => ?_)
  · have _h := True.intro
    refine lv_iconst (v := 1) hx hb dX3_ordered_25 (by decide) ?_
    exact rx_zret S P hQ hr hlk dX3_ordered_26 hRw hfl (bI_or _) (by simp [s_ordered, s_free, bI, c4]) (by simp [s_ordered, s_free, bI, c4])
  · have _h := True.intro
    refine lv_aload_n hx hb dX3_ordered_7 rfl (lv_at hl 0 rfl) ?_
    refine lv_iload_n hx hb dX3_ordered_8 rfl (lv_at hl 2 rfl) ?_
    refine rx_c (nL' := 2) (rest := []) [.int (nI s)] S P hRw hfl (rm_isLock st fl s (by omega)) q1008 q1010 qs22 q1011 q38 ⟨by decide +kernel, by decide +kernel, (by decide +kernel : (parseMethodDescriptor yX3_isLock.desc).map (fun d => d.parameters.length) = some 1)⟩ dX3_ordered_9 hl.1 (Nat.le_of_ble_eq_true rfl) ⟨Nat.le_of_ble_eq_true rfl, Nat.le_of_ble_eq_true rfl⟩ ⟨Nat.le_refl _, Nat.le_refl _⟩ (fun H locs x P hRw hfl => ?_)
    refine W.eq (g2 := F0 m 12 ls [.int (bI (s_isLock st s))]) rfl ?_
    refine lv_if_eq (tgt := 25) (x := bI (s_isLock st s)) hx hb dX3_ordered_12 (by decide) (fun c12 => ?_) (fun c12 => ?_)
    · rw [bI_eq0] at c12
      refine lv_iconst (v := 1) hx hb dX3_ordered_25 (by decide) ?_
      exact rx_zret S P hQ hr hlk dX3_ordered_26 hRw hfl (bI_or _) (by simp [s_ordered, s_free, bI, c4, c12]) (by simp [s_ordered, s_free, bI, c4, c12])
    · rw [bI_eq0, Bool.not_eq_false] at c12
      refine lv_aload_n hx hb dX3_ordered_15 rfl (lv_at hl 0 rfl) ?_
      refine rx_ref 13 S P (by decide) q898 dX3_ordered_16 ?_
      refine lv_iload_n hx hb dX3_ordered_19 rfl (lv_at hl 2 rfl) ?_
      refine rx_iald 13 s S P rfl rfl (by show _ < _; simp only [rN]; omega) dX3_ordered_20 ?_
      refine lv_iload_n hx hb dX3_ordered_21 rfl (lv_at hl 1 rfl) ?_
      refine lv_icmp_ne (tgt := 27) (x := st.1 13 s) (y := nI t) hx hb dX3_ordered_22 (by decide) (fun c22 => ?_) (fun c22 => ?_)
      · have _h := True.intro
        refine lv_iconst (v := 0) hx hb dX3_ordered_27 (by decide) ?_
        refine lv_istore_n (lv' := [(3, .int 0), (0, .ref r), (1, .int (nI t)), (2, .int (nI s))]) hx hb dX3_ordered_28 rfl hl (by decide) rfl (fun ls hl => ?_)
        refine lv_iconst (v := 0) hx hb dX3_ordered_29 (by decide) ?_
        refine lv_istore (lv' := [(4, .int 0), (3, .int 0), (0, .ref r), (1, .int (nI t)), (2, .int (nI s))]) hx hb dX3_ordered_30 hl (by decide) rfl (fun ls hl => ?_)
        have loop32 : ∀ (d : Nat) (o : Nat) (wv : Int32) (x : Nat → Nat → Int32), 8 - o < d → (o ≤ 8) → (wv = bI (s_warnN st t s o)) → ∀ (H : Heap) (locs : List Loc), RX D cs (pA L sz) u r ad L f0 st x H locs → Rows st x → x 0 0 = fl → ∀ (ls : Array Slot), lv_has ls 5 [(4, .int (nI o)), (3, .int wv), (0, .ref r), (1, .int (nI t)), (2, .int (nI s))] → W p l e (rmL 2 0 0) u m ([.ref r, .int (nI t), .int (nI s)] : List Value).toArray below meth c H locs 0 0 Q (F0 m 32 ls []) := by
          intro d32
          induction d32 with
          | zero => intro o wv x hd; exact absurd hd (by omega)
          | succ d32 ih32 =>
            intro o wv x hd32 ho hw H locs P hRw hfl ls hl
            refine lv_iload hx hb dX3_ordered_32 (lv_at hl 0 rfl) ?_
            refine lv_bipush (v := 8) hx hb dX3_ordered_34 (by decide) ?_
            refine ni_icmp_ge (tgt := 87) (a := o) (b := 8) hx hb (by omega) (by omega) dX3_ordered_36 (by decide) (fun c36 => ?_) (fun c36 => ?_)
            · have _h := True.intro
              have hw8 : wv = bI (s_warn st t s) := by rw [hw, show o = 8 by omega]; rfl
              refine lv_iload_n hx hb dX3_ordered_87 rfl (lv_at hl 1 rfl) ?_
              refine lv_if_eq (tgt := 101) (x := wv) hx hb dX3_ordered_88 (by decide) (fun c88 => ?_) (fun c88 => ?_)
              · have c88w := c88
                rw [hw8, bI_eq0] at c88w
                refine lv_iload_n hx hb dX3_ordered_101 rfl (lv_at hl 1 rfl) ?_
                refine lv_if_eq (tgt := 115) (x := wv) hx hb dX3_ordered_102 (by decide) (fun c102 => ?_) (fun c102 => ?_)
                · have _h := True.intro
                  refine lv_iconst (v := 0) hx hb dX3_ordered_115 (by decide) ?_
                  refine lv_istore (lv' := [(4, .int 0), (3, .int wv), (0, .ref r), (1, .int (nI t)), (2, .int (nI s))]) hx hb dX3_ordered_116 hl (by decide) rfl (fun ls hl => ?_)
                  have P : RX D cs (pA L sz) u r ad L f0 (s_markN st t s 0) x H locs := by rw [s_mark0]; exact P
                  have loop118 : ∀ (d : Nat) (o : Nat) (x : Nat → Nat → Int32), 8 - o < d → (o ≤ 8) → ∀ (H : Heap) (locs : List Loc), RX D cs (pA L sz) u r ad L f0 (s_markN st t s o) x H locs → Rows st x → x 0 0 = fl → ∀ (ls : Array Slot), lv_has ls 5 [(4, .int (nI o)), (0, .ref r), (1, .int (nI t)), (2, .int (nI s))] → W p l e (rmL 2 0 0) u m ([.ref r, .int (nI t), .int (nI s)] : List Value).toArray below meth c H locs 0 0 Q (F0 m 118 ls []) := by
                    intro d118
                    induction d118 with
                    | zero => intro o x hd; exact absurd hd (by omega)
                    | succ d118 ih118 =>
                      intro o x hd118 ho H locs P hRw hfl ls hl
                      refine lv_iload hx hb dX3_ordered_118 (lv_at hl 0 rfl) ?_
                      refine lv_bipush (v := 8) hx hb dX3_ordered_120 (by decide) ?_
                      refine ni_icmp_ge (tgt := 174) (a := o) (b := 8) hx hb (by omega) (by omega) dX3_ordered_122 (by decide) (fun c122 => ?_) (fun c122 => ?_)
                      · have _h := True.intro
                        refine lv_iconst (v := 1) hx hb dX3_ordered_174 (by decide) ?_
                        exact rx_zret S P hQ hr hlk dX3_ordered_175 hRw hfl (bI_or _) (by simp [s_ordered, s_free, bI, c4, c12, c22, c88w]) (by rw [show o = 8 by omega]; simp [s_ordered, s_free, bI, c4, c12, c22, c88w, s_mark])
                      · have _h := True.intro
                        refine lv_aload_n hx hb dX3_ordered_125 rfl (lv_at hl 1 rfl) ?_
                        refine rx_ref 12 S P (by decide) q897 dX3_ordered_126 ?_
                        refine lv_iload hx hb dX3_ordered_129 (lv_at hl 0 rfl) ?_
                        refine rx_iald 12 o S P rfl rfl (by show _ < _; simp only [rN]; omega) dX3_ordered_131 ?_
                        refine lv_if_lt (tgt := 168) (x := st.1 12 o) hx hb dX3_ordered_132 (by decide) (fun c132 => ?_) (fun c132 => ?_)
                        · have _h := True.intro
                          refine lv_iinc (v := nI (o + 1)) (lv' := [(4, .int (nI (o + 1))), (0, .ref r), (1, .int (nI t)), (2, .int (nI s))]) hx hb dX3_ordered_168 hl (k := 0) rfl (nI_1 _) (by decide) rfl (fun ls hl => ?_)
                          refine lv_goto (tgt := 118) hx hb dX3_ordered_171 (by decide) ?_
                          have P : RX D cs (pA L sz) u r ad L f0 (s_markN st t s (o + 1)) x H locs := by rw [← s_markF (st := st) (s_ownsF1 (s_isLock_neg c132))]; exact P
                          exact ih118 (o + 1) _ (by omega) (by omega) _ _ P hRw hfl ls (lv_sub hl [0, 1, 2, 3] rfl)
                        · have _h := True.intro
                          refine lv_aload_n hx hb dX3_ordered_135 rfl (lv_at hl 1 rfl) ?_
                          refine lv_iload hx hb dX3_ordered_136 (lv_at hl 0 rfl) ?_
                          refine rx_c (nL' := 2) (rest := []) [.int (nI o)] S P hRw hfl (rm_isLock (s_markN st t s o) fl o (by omega)) q1008 q1010 qs22 q1011 q38 ⟨by decide +kernel, by decide +kernel, (by decide +kernel : (parseMethodDescriptor yX3_isLock.desc).map (fun d => d.parameters.length) = some 1)⟩ dX3_ordered_138 hl.1 (Nat.le_of_ble_eq_true rfl) ⟨Nat.le_of_ble_eq_true rfl, Nat.le_of_ble_eq_true rfl⟩ ⟨Nat.le_refl _, Nat.le_refl _⟩ (fun H locs x P hRw hfl => ?_)
                          refine W.eq (g2 := F0 m 141 ls [.int (bI (s_isLock st o))]) rfl ?_
                          refine lv_if_eq (tgt := 168) (x := bI (s_isLock st o)) hx hb dX3_ordered_141 (by decide) (fun c141 => ?_) (fun c141 => ?_)
                          · rw [bI_eq0] at c141
                            refine lv_iinc (v := nI (o + 1)) (lv' := [(4, .int (nI (o + 1))), (0, .ref r), (1, .int (nI t)), (2, .int (nI s))]) hx hb dX3_ordered_168 hl (k := 0) rfl (nI_1 _) (by decide) rfl (fun ls hl => ?_)
                            refine lv_goto (tgt := 118) hx hb dX3_ordered_171 (by decide) ?_
                            have P : RX D cs (pA L sz) u r ad L f0 (s_markN st t s (o + 1)) x H locs := by rw [← s_markF (st := st) (s_ownsF1 c141)]; exact P
                            exact ih118 (o + 1) _ (by omega) (by omega) _ _ P hRw hfl ls (lv_sub hl [0, 1, 2, 3] rfl)
                          · rw [bI_eq0, Bool.not_eq_false] at c141
                            refine lv_aload_n hx hb dX3_ordered_144 rfl (lv_at hl 1 rfl) ?_
                            refine rx_ref 13 S P (by decide) q898 dX3_ordered_145 ?_
                            refine lv_iload hx hb dX3_ordered_148 (lv_at hl 0 rfl) ?_
                            refine rx_iald 13 o S P rfl rfl (by show _ < _; simp only [rN]; omega) dX3_ordered_150 ?_
                            refine lv_iload_n hx hb dX3_ordered_151 rfl (lv_at hl 2 rfl) ?_
                            refine lv_icmp_ne (tgt := 168) (x := st.1 13 o) (y := nI t) hx hb dX3_ordered_152 (by decide) (fun c152 => ?_) (fun c152 => ?_)
                            · have _h := True.intro
                              refine lv_iinc (v := nI (o + 1)) (lv' := [(4, .int (nI (o + 1))), (0, .ref r), (1, .int (nI t)), (2, .int (nI s))]) hx hb dX3_ordered_168 hl (k := 0) rfl (nI_1 _) (by decide) rfl (fun ls hl => ?_)
                              refine lv_goto (tgt := 118) hx hb dX3_ordered_171 (by decide) ?_
                              have P : RX D cs (pA L sz) u r ad L f0 (s_markN st t s (o + 1)) x H locs := by rw [← s_markF (st := st) (s_ownsF2 c152)]; exact P
                              exact ih118 (o + 1) _ (by omega) (by omega) _ _ P hRw hfl ls (lv_sub hl [0, 1, 2, 3] rfl)
                            · have _h := True.intro
                              refine lv_aload_n hx hb dX3_ordered_155 rfl (lv_at hl 1 rfl) ?_
                              refine rx_ref 22 S P (by decide) q907 dX3_ordered_156 ?_
                              refine lv_bipush (v := 8) hx hb dX3_ordered_159 (by decide) ?_
                              refine lv_iload hx hb dX3_ordered_161 (lv_at hl 0 rfl) ?_
                              refine ni_imul (a := 8) (b := o) hx hb dX3_ordered_163 ?_
                              refine lv_iload_n hx hb dX3_ordered_164 rfl (lv_at hl 3 rfl) ?_
                              refine ni_iadd (a := 8 * o) (b := s) hx hb dX3_ordered_165 ?_
                              refine lv_iconst (v := 1) hx hb dX3_ordered_166 (by decide) ?_
                              refine rx_zast (v := 1) 22 ((8 * o) + s) S P rfl rfl (by show _ < _; simp only [rN]; omega) (by decide) dX3_ordered_167 (fun H locs P => ?_)
                              refine lv_iinc (v := nI (o + 1)) (lv' := [(4, .int (nI (o + 1))), (0, .ref r), (1, .int (nI t)), (2, .int (nI s))]) hx hb dX3_ordered_168 hl (k := 0) rfl (nI_1 _) (by decide) rfl (fun ls hl => ?_)
                              refine lv_goto (tgt := 118) hx hb dX3_ordered_171 (by decide) ?_
                              have P : RX D cs (pA L sz) u r ad L f0 (s_markN st t s (o + 1)) x H locs := by rw [← s_markS (st := st) hs (s_ownsT c141 c152)]; exact P
                              exact ih118 (o + 1) _ (by omega) (by omega) _ _ P hRw hfl ls (lv_sub hl [0, 1, 2, 3] rfl)
                  exact loop118 _ 0 _ (Nat.lt_succ_self _) (by omega) _ _ P hRw hfl ls (lv_sub hl [0, 2, 3, 4] (rfl))
                · exact absurd c88 c102
              · have c88w := c88
                rw [hw8, bI_eq0, Bool.not_eq_false] at c88w
                refine lv_aload_n hx hb dX3_ordered_91 rfl (lv_at hl 2 rfl) ?_
                refine lv_dup hx hb dX3_ordered_92 rfl ?_
                refine rx_getI 25 S P rfl rfl q910 dX3_ordered_93 ?_
                refine lv_iconst (v := 1) hx hb dX3_ordered_96 (by decide) ?_
                refine lv_iadd hx hb dX3_ordered_97 ?_
                refine rx_putI (v := (st.1 25 0) + 1) 25 S P rfl rfl rfl rfl q910 dX3_ordered_98 (fun H locs P => ?_)
                refine lv_iload_n hx hb dX3_ordered_101 rfl (lv_at hl 1 rfl) ?_
                refine lv_if_eq (tgt := 115) (x := wv) hx hb dX3_ordered_102 (by decide) (fun c102 => ?_) (fun c102 => ?_)
                · exact absurd c102 c88
                · have _h := True.intro
                  refine lv_aload_n hx hb dX3_ordered_105 rfl (lv_at hl 2 rfl) ?_
                  refine rx_getI 24 S P rfl rfl q909 dX3_ordered_106 ?_
                  refine lv_iconst (v := 2) hx hb dX3_ordered_109 (by decide) ?_
                  refine lv_icmp_ne (tgt := 115) (x := st.1 24 0) (y := 2) hx hb dX3_ordered_110 (by decide) (fun c110 => ?_) (fun c110 => ?_)
                  · have _h := True.intro
                    refine lv_iconst (v := 0) hx hb dX3_ordered_115 (by decide) ?_
                    refine lv_istore (lv' := [(4, .int 0), (3, .int wv), (0, .ref r), (1, .int (nI t)), (2, .int (nI s))]) hx hb dX3_ordered_116 hl (by decide) rfl (fun ls hl => ?_)
                    have P : RX D cs (pA L sz) u r ad L f0 (s_markN (sI st 25 0 ((st.1 25 0) + 1)) t s 0) x H locs := by rw [s_mark0]; exact P
                    have loop118 : ∀ (d : Nat) (o : Nat) (x : Nat → Nat → Int32), 8 - o < d → (o ≤ 8) → ∀ (H : Heap) (locs : List Loc), RX D cs (pA L sz) u r ad L f0 (s_markN (sI st 25 0 ((st.1 25 0) + 1)) t s o) x H locs → Rows (sI st 25 0 ((st.1 25 0) + 1)) x → x 0 0 = fl → ∀ (ls : Array Slot), lv_has ls 5 [(4, .int (nI o)), (0, .ref r), (1, .int (nI t)), (2, .int (nI s))] → W p l e (rmL 2 0 0) u m ([.ref r, .int (nI t), .int (nI s)] : List Value).toArray below meth c H locs 0 0 Q (F0 m 118 ls []) := by
                      intro d118
                      induction d118 with
                      | zero => intro o x hd; exact absurd hd (by omega)
                      | succ d118 ih118 =>
                        intro o x hd118 ho H locs P hRw hfl ls hl
                        refine lv_iload hx hb dX3_ordered_118 (lv_at hl 0 rfl) ?_
                        refine lv_bipush (v := 8) hx hb dX3_ordered_120 (by decide) ?_
                        refine ni_icmp_ge (tgt := 174) (a := o) (b := 8) hx hb (by omega) (by omega) dX3_ordered_122 (by decide) (fun c122 => ?_) (fun c122 => ?_)
                        · have _h := True.intro
                          refine lv_iconst (v := 1) hx hb dX3_ordered_174 (by decide) ?_
                          exact rx_zret S P hQ hr hlk dX3_ordered_175 hRw hfl (bI_or _) (by simp [s_ordered, s_free, bI, c4, c12, c22, c88w, c110]) (by rw [show o = 8 by omega]; simp [s_ordered, s_free, bI, c4, c12, c22, c88w, c110, s_mark])
                        · have _h := True.intro
                          refine lv_aload_n hx hb dX3_ordered_125 rfl (lv_at hl 1 rfl) ?_
                          refine rx_ref 12 S P (by decide) q897 dX3_ordered_126 ?_
                          refine lv_iload hx hb dX3_ordered_129 (lv_at hl 0 rfl) ?_
                          refine rx_iald 12 o S P rfl rfl (by show _ < _; simp only [rN]; omega) dX3_ordered_131 ?_
                          refine lv_if_lt (tgt := 168) (x := st.1 12 o) hx hb dX3_ordered_132 (by decide) (fun c132 => ?_) (fun c132 => ?_)
                          · have _h := True.intro
                            refine lv_iinc (v := nI (o + 1)) (lv' := [(4, .int (nI (o + 1))), (0, .ref r), (1, .int (nI t)), (2, .int (nI s))]) hx hb dX3_ordered_168 hl (k := 0) rfl (nI_1 _) (by decide) rfl (fun ls hl => ?_)
                            refine lv_goto (tgt := 118) hx hb dX3_ordered_171 (by decide) ?_
                            have P : RX D cs (pA L sz) u r ad L f0 (s_markN (sI st 25 0 ((st.1 25 0) + 1)) t s (o + 1)) x H locs := by rw [← s_markF (st := sI st 25 0 ((st.1 25 0) + 1)) (s_ownsF1 (s_isLock_neg c132))]; exact P
                            exact ih118 (o + 1) _ (by omega) (by omega) _ _ P hRw hfl ls (lv_sub hl [0, 1, 2, 3] rfl)
                          · have _h := True.intro
                            refine lv_aload_n hx hb dX3_ordered_135 rfl (lv_at hl 1 rfl) ?_
                            refine lv_iload hx hb dX3_ordered_136 (lv_at hl 0 rfl) ?_
                            refine rx_c (nL' := 2) (rest := []) [.int (nI o)] S P hRw hfl (rm_isLock (s_markN (sI st 25 0 ((st.1 25 0) + 1)) t s o) fl o (by omega)) q1008 q1010 qs22 q1011 q38 ⟨by decide +kernel, by decide +kernel, (by decide +kernel : (parseMethodDescriptor yX3_isLock.desc).map (fun d => d.parameters.length) = some 1)⟩ dX3_ordered_138 hl.1 (Nat.le_of_ble_eq_true rfl) ⟨Nat.le_of_ble_eq_true rfl, Nat.le_of_ble_eq_true rfl⟩ ⟨Nat.le_refl _, Nat.le_refl _⟩ (fun H locs x P hRw hfl => ?_)
                            refine W.eq (g2 := F0 m 141 ls [.int (bI (s_isLock st o))]) rfl ?_
                            refine lv_if_eq (tgt := 168) (x := bI (s_isLock st o)) hx hb dX3_ordered_141 (by decide) (fun c141 => ?_) (fun c141 => ?_)
                            · rw [bI_eq0] at c141
                              refine lv_iinc (v := nI (o + 1)) (lv' := [(4, .int (nI (o + 1))), (0, .ref r), (1, .int (nI t)), (2, .int (nI s))]) hx hb dX3_ordered_168 hl (k := 0) rfl (nI_1 _) (by decide) rfl (fun ls hl => ?_)
                              refine lv_goto (tgt := 118) hx hb dX3_ordered_171 (by decide) ?_
                              have P : RX D cs (pA L sz) u r ad L f0 (s_markN (sI st 25 0 ((st.1 25 0) + 1)) t s (o + 1)) x H locs := by rw [← s_markF (st := sI st 25 0 ((st.1 25 0) + 1)) (s_ownsF1 c141)]; exact P
                              exact ih118 (o + 1) _ (by omega) (by omega) _ _ P hRw hfl ls (lv_sub hl [0, 1, 2, 3] rfl)
                            · rw [bI_eq0, Bool.not_eq_false] at c141
                              refine lv_aload_n hx hb dX3_ordered_144 rfl (lv_at hl 1 rfl) ?_
                              refine rx_ref 13 S P (by decide) q898 dX3_ordered_145 ?_
                              refine lv_iload hx hb dX3_ordered_148 (lv_at hl 0 rfl) ?_
                              refine rx_iald 13 o S P rfl rfl (by show _ < _; simp only [rN]; omega) dX3_ordered_150 ?_
                              refine lv_iload_n hx hb dX3_ordered_151 rfl (lv_at hl 2 rfl) ?_
                              refine lv_icmp_ne (tgt := 168) (x := st.1 13 o) (y := nI t) hx hb dX3_ordered_152 (by decide) (fun c152 => ?_) (fun c152 => ?_)
                              · have _h := True.intro
                                refine lv_iinc (v := nI (o + 1)) (lv' := [(4, .int (nI (o + 1))), (0, .ref r), (1, .int (nI t)), (2, .int (nI s))]) hx hb dX3_ordered_168 hl (k := 0) rfl (nI_1 _) (by decide) rfl (fun ls hl => ?_)
                                refine lv_goto (tgt := 118) hx hb dX3_ordered_171 (by decide) ?_
                                have P : RX D cs (pA L sz) u r ad L f0 (s_markN (sI st 25 0 ((st.1 25 0) + 1)) t s (o + 1)) x H locs := by rw [← s_markF (st := sI st 25 0 ((st.1 25 0) + 1)) (s_ownsF2 c152)]; exact P
                                exact ih118 (o + 1) _ (by omega) (by omega) _ _ P hRw hfl ls (lv_sub hl [0, 1, 2, 3] rfl)
                              · have _h := True.intro
                                refine lv_aload_n hx hb dX3_ordered_155 rfl (lv_at hl 1 rfl) ?_
                                refine rx_ref 22 S P (by decide) q907 dX3_ordered_156 ?_
                                refine lv_bipush (v := 8) hx hb dX3_ordered_159 (by decide) ?_
                                refine lv_iload hx hb dX3_ordered_161 (lv_at hl 0 rfl) ?_
                                refine ni_imul (a := 8) (b := o) hx hb dX3_ordered_163 ?_
                                refine lv_iload_n hx hb dX3_ordered_164 rfl (lv_at hl 3 rfl) ?_
                                refine ni_iadd (a := 8 * o) (b := s) hx hb dX3_ordered_165 ?_
                                refine lv_iconst (v := 1) hx hb dX3_ordered_166 (by decide) ?_
                                refine rx_zast (v := 1) 22 ((8 * o) + s) S P rfl rfl (by show _ < _; simp only [rN]; omega) (by decide) dX3_ordered_167 (fun H locs P => ?_)
                                refine lv_iinc (v := nI (o + 1)) (lv' := [(4, .int (nI (o + 1))), (0, .ref r), (1, .int (nI t)), (2, .int (nI s))]) hx hb dX3_ordered_168 hl (k := 0) rfl (nI_1 _) (by decide) rfl (fun ls hl => ?_)
                                refine lv_goto (tgt := 118) hx hb dX3_ordered_171 (by decide) ?_
                                have P : RX D cs (pA L sz) u r ad L f0 (s_markN (sI st 25 0 ((st.1 25 0) + 1)) t s (o + 1)) x H locs := by rw [← s_markS (st := sI st 25 0 ((st.1 25 0) + 1)) hs (s_ownsT c141 c152)]; exact P
                                exact ih118 (o + 1) _ (by omega) (by omega) _ _ P hRw hfl ls (lv_sub hl [0, 1, 2, 3] rfl)
                    exact loop118 _ 0 _ (Nat.lt_succ_self _) (by omega) _ _ P hRw hfl ls (lv_sub hl [0, 2, 3, 4] (rfl))
                  · have _h := True.intro
                    refine lv_iconst (v := 0) hx hb dX3_ordered_113 (by decide) ?_
                    exact rx_zret S P hQ hr hlk dX3_ordered_114 hRw hfl (bI_or _) (by simp [s_ordered, s_free, bI, c4, c12, c22, c88w, c110]) (by simp [s_ordered, s_free, bI, c4, c12, c22, c88w, c110])
            · have _h := True.intro
              refine lv_aload_n hx hb dX3_ordered_39 rfl (lv_at hl 2 rfl) ?_
              refine rx_ref 12 S P (by decide) q897 dX3_ordered_40 ?_
              refine lv_iload hx hb dX3_ordered_43 (lv_at hl 0 rfl) ?_
              refine rx_iald 12 o S P rfl rfl (by show _ < _; simp only [rN]; omega) dX3_ordered_45 ?_
              refine lv_if_lt (tgt := 81) (x := st.1 12 o) hx hb dX3_ordered_46 (by decide) (fun c46 => ?_) (fun c46 => ?_)
              · have _h := True.intro
                refine lv_iinc (v := nI (o + 1)) (lv' := [(4, .int (nI (o + 1))), (3, .int wv), (0, .ref r), (1, .int (nI t)), (2, .int (nI s))]) hx hb dX3_ordered_81 hl (k := 0) rfl (nI_1 _) (by decide) rfl (fun ls hl => ?_)
                refine lv_goto (tgt := 32) hx hb dX3_ordered_84 (by decide) ?_
                exact ih32 (o + 1) wv _ (by omega) (by omega) (by rw [hw, s_warnF (s_ownsF1 (s_isLock_neg c46))]) _ _ P hRw hfl ls (lv_sub hl [0, 1, 2, 3, 4] rfl)
              · have _h := True.intro
                refine lv_aload_n hx hb dX3_ordered_49 rfl (lv_at hl 2 rfl) ?_
                refine lv_iload hx hb dX3_ordered_50 (lv_at hl 0 rfl) ?_
                refine rx_c (nL' := 2) (rest := []) [.int (nI o)] S P hRw hfl (rm_isLock st fl o (by omega)) q1008 q1010 qs22 q1011 q38 ⟨by decide +kernel, by decide +kernel, (by decide +kernel : (parseMethodDescriptor yX3_isLock.desc).map (fun d => d.parameters.length) = some 1)⟩ dX3_ordered_52 hl.1 (Nat.le_of_ble_eq_true rfl) ⟨Nat.le_of_ble_eq_true rfl, Nat.le_of_ble_eq_true rfl⟩ ⟨Nat.le_refl _, Nat.le_refl _⟩ (fun H locs x P hRw hfl => ?_)
                refine W.eq (g2 := F0 m 55 ls [.int (bI (s_isLock st o))]) rfl ?_
                refine lv_if_eq (tgt := 81) (x := bI (s_isLock st o)) hx hb dX3_ordered_55 (by decide) (fun c55 => ?_) (fun c55 => ?_)
                · rw [bI_eq0] at c55
                  refine lv_iinc (v := nI (o + 1)) (lv' := [(4, .int (nI (o + 1))), (3, .int wv), (0, .ref r), (1, .int (nI t)), (2, .int (nI s))]) hx hb dX3_ordered_81 hl (k := 0) rfl (nI_1 _) (by decide) rfl (fun ls hl => ?_)
                  refine lv_goto (tgt := 32) hx hb dX3_ordered_84 (by decide) ?_
                  exact ih32 (o + 1) wv _ (by omega) (by omega) (by rw [hw, s_warnF (s_ownsF1 c55)]) _ _ P hRw hfl ls (lv_sub hl [0, 1, 2, 3, 4] rfl)
                · rw [bI_eq0, Bool.not_eq_false] at c55
                  refine lv_aload_n hx hb dX3_ordered_58 rfl (lv_at hl 2 rfl) ?_
                  refine rx_ref 13 S P (by decide) q898 dX3_ordered_59 ?_
                  refine lv_iload hx hb dX3_ordered_62 (lv_at hl 0 rfl) ?_
                  refine rx_iald 13 o S P rfl rfl (by show _ < _; simp only [rN]; omega) dX3_ordered_64 ?_
                  refine lv_iload_n hx hb dX3_ordered_65 rfl (lv_at hl 3 rfl) ?_
                  refine lv_icmp_ne (tgt := 81) (x := st.1 13 o) (y := nI t) hx hb dX3_ordered_66 (by decide) (fun c66 => ?_) (fun c66 => ?_)
                  · have _h := True.intro
                    refine lv_iinc (v := nI (o + 1)) (lv' := [(4, .int (nI (o + 1))), (3, .int wv), (0, .ref r), (1, .int (nI t)), (2, .int (nI s))]) hx hb dX3_ordered_81 hl (k := 0) rfl (nI_1 _) (by decide) rfl (fun ls hl => ?_)
                    refine lv_goto (tgt := 32) hx hb dX3_ordered_84 (by decide) ?_
                    exact ih32 (o + 1) wv _ (by omega) (by omega) (by rw [hw, s_warnF (s_ownsF2 c66)]) _ _ P hRw hfl ls (lv_sub hl [0, 1, 2, 3, 4] rfl)
                  · have _h := True.intro
                    refine lv_aload_n hx hb dX3_ordered_69 rfl (lv_at hl 2 rfl) ?_
                    refine lv_iload_n hx hb dX3_ordered_70 rfl (lv_at hl 4 rfl) ?_
                    refine lv_iload hx hb dX3_ordered_71 (lv_at hl 0 rfl) ?_
                    refine rx_c (nL' := 6) (rest := []) [.int (nI s), .int (nI o)] S P hRw hfl (rm_leads st fl s o (by omega) (by omega) hbf) q1012 q1014 qs23 q1015 q38 ⟨by decide +kernel, by decide +kernel, (by decide +kernel : (parseMethodDescriptor yX3_leads.desc).map (fun d => d.parameters.length) = some 2)⟩ dX3_ordered_73 hl.1 (Nat.le_of_ble_eq_true rfl) ⟨Nat.le_of_ble_eq_true rfl, Nat.le_of_ble_eq_true rfl⟩ ⟨Nat.le_refl _, Nat.le_refl _⟩ (fun H locs x P hRw hfl => ?_)
                    refine W.eq (g2 := F0 m 76 ls [.int (bI (s_leads st s o))]) rfl ?_
                    refine lv_if_eq (tgt := 81) (x := bI (s_leads st s o)) hx hb dX3_ordered_76 (by decide) (fun c76 => ?_) (fun c76 => ?_)
                    · rw [bI_eq0] at c76
                      refine lv_iinc (v := nI (o + 1)) (lv' := [(4, .int (nI (o + 1))), (3, .int wv), (0, .ref r), (1, .int (nI t)), (2, .int (nI s))]) hx hb dX3_ordered_81 hl (k := 0) rfl (nI_1 _) (by decide) rfl (fun ls hl => ?_)
                      refine lv_goto (tgt := 32) hx hb dX3_ordered_84 (by decide) ?_
                      exact ih32 (o + 1) wv _ (by omega) (by omega) (by rw [hw, s_warnS (s_ownsT c55 c66), c76, Bool.or_false]) _ _ P hRw hfl ls (lv_sub hl [0, 1, 2, 3, 4] rfl)
                    · rw [bI_eq0, Bool.not_eq_false] at c76
                      refine lv_iconst (v := 1) hx hb dX3_ordered_79 (by decide) ?_
                      refine lv_istore_n (lv' := [(3, .int 1), (4, .int (nI o)), (0, .ref r), (1, .int (nI t)), (2, .int (nI s))]) hx hb dX3_ordered_80 rfl hl (by decide) rfl (fun ls hl => ?_)
                      refine lv_iinc (v := nI (o + 1)) (lv' := [(4, .int (nI (o + 1))), (3, .int 1), (0, .ref r), (1, .int (nI t)), (2, .int (nI s))]) hx hb dX3_ordered_81 hl (k := 1) rfl (nI_1 _) (by decide) rfl (fun ls hl => ?_)
                      refine lv_goto (tgt := 32) hx hb dX3_ordered_84 (by decide) ?_
                      exact ih32 (o + 1) 1 _ (by omega) (by omega) (by rw [s_warnS (s_ownsT c55 c66), c76, Bool.or_true]; rfl) _ _ P hRw hfl ls (lv_sub hl [0, 1, 2, 3, 4] rfl)
        exact loop32 _ 0 0 _ (Nat.lt_succ_self _) (by omega) rfl _ _ P hRw hfl ls (lv_sub hl [0, 1, 2, 3, 4] (rfl))
      · have _h := True.intro
        refine lv_iconst (v := 1) hx hb dX3_ordered_25 (by decide) ?_
        exact rx_zret S P hQ hr hlk dX3_ordered_26 hRw hfl (bI_or _) (by simp [s_ordered, s_free, bI, c4, c12, c22]) (by simp [s_ordered, s_free, bI, c4, c12, c22])

set_option maxHeartbeats 4000000 in
set_option maxRecDepth 100000 in
theorem rm_latest {l : Launch} {D : va_G} {cs : Nat → ClassId} {r : Nat} {ad : Nat → Nat} {L : List Nat} (st : St) (fl : Int32) : RM l D cs yX3_latest cX3_latest 4 (some .int) (rmL 1 0 0) r ad L [.ref r] st fl (some (.int (oI (s_latest st 6)))) st fl := by
  refine rm_of rfl (Nat.le_of_ble_eq_true rfl) ?_
  intro f0 x sz p e u m below meth c S P hRw hfl hr hlk ls hl Q hQ
  have hl : lv_has ls 4 [(0, .ref r)] := hl
  have hx := S.1
  have hb := S.2.1
  generalize u.heap = H at P ⊢
  generalize ([] : List Loc) = locs at P ⊢
  refine lv_iconst (v := (-1)) hx hb dX3_latest_0 (by decide) ?_
  refine lv_istore_n (lv' := [(1, .int (-1)), (0, .ref r)]) hx hb dX3_latest_1 rfl hl (by decide) rfl (fun ls hl => ?_)
  refine lv_iconst (v := 0) hx hb dX3_latest_2 (by decide) ?_
  refine lv_istore_n (lv' := [(2, .int 0), (1, .int (-1)), (0, .ref r)]) hx hb dX3_latest_3 rfl hl (by decide) rfl (fun ls hl => ?_)
  have loop4 : ∀ (d : Nat) (i : Nat) (bv : Option Nat), 6 - i < d → (i ≤ 6) → (s_latest st i = bv) → (∀ b, bv = some b → b < i) → ∀ (H : Heap) (locs : List Loc), RX D cs (pA L sz) u r ad L f0 st x H locs → ∀ (ls : Array Slot), lv_has ls 4 [(2, .int (nI i)), (1, .int (oI bv)), (0, .ref r)] → W p l e (rmL 1 0 0) u m ([.ref r] : List Value).toArray below meth c H locs 0 0 Q (F0 m 4 ls []) := by
    intro d4
    induction d4 with
    | zero => intro i bv hd; exact absurd hd (by omega)
    | succ d4 ih4 =>
      intro i bv hd4 hi hbv hbb H locs P ls hl
      refine lv_iload_n hx hb dX3_latest_4 rfl (lv_at hl 0 rfl) ?_
      refine lv_bipush (v := 6) hx hb dX3_latest_5 (by decide) ?_
      refine ni_icmp_ge (tgt := 82) (a := i) (b := 6) hx hb (by omega) (by omega) dX3_latest_7 (by decide) (fun c7 => ?_) (fun c7 => ?_)
      · have _h := True.intro
        refine lv_iload_n hx hb dX3_latest_82 rfl (lv_at hl 1 rfl) ?_
        exact rx_iret S P hQ hr hlk dX3_latest_83 hRw hfl (by rw [← hbv, show i = 6 by omega]) (rfl)
      · have _h := True.intro
        refine lv_aload_n hx hb dX3_latest_10 rfl (lv_at hl 2 rfl) ?_
        refine rx_ref 1 S P (by decide) q886 dX3_latest_11 ?_
        refine lv_iload_n hx hb dX3_latest_14 rfl (lv_at hl 0 rfl) ?_
        refine rx_zald 1 i S P rfl rfl (by show _ < _; simp only [rN]; omega) dX3_latest_15 ?_
        refine lv_if_eq (tgt := 48) (x := st.1 1 i) hx hb dX3_latest_16 (by decide) (fun c16 => ?_) (fun c16 => ?_)
        · have _h := True.intro
          refine lv_iconst (v := 0) hx hb dX3_latest_48 (by decide) ?_
          refine lv_istore_n (lv' := [(3, .int 0), (2, .int (nI i)), (1, .int (oI bv)), (0, .ref r)]) hx hb dX3_latest_49 rfl hl (by decide) rfl (fun ls hl => ?_)
          refine lv_iload_n hx hb dX3_latest_50 rfl (lv_at hl 0 rfl) ?_
          refine ni_if_eq (tgt := 76) (a := 0) hx hb (by omega) dX3_latest_51 (by decide) (fun c51 => ?_) (fun c51 => ?_)
          · have _h := True.intro
            refine lv_iinc (v := nI (i + 1)) (lv' := [(2, .int (nI (i + 1))), (3, .int 0), (1, .int (oI bv)), (0, .ref r)]) hx hb dX3_latest_76 hl (k := 1) rfl (nI_1 _) (by decide) rfl (fun ls hl => ?_)
            refine lv_goto (tgt := 4) hx hb dX3_latest_79 (by decide) ?_
            exact ih4 (i + 1) bv (by omega) (by omega) (by
              show (if s_over st i = true then _ else _) = _
              rw [if_neg (by simp [s_over, c16])]
              exact hbv) (fun b h => Nat.lt_succ_of_lt (hbb b h)) _ _ P ls (lv_sub hl [0, 2, 3] rfl)
          · exact absurd c51 (by decide)
        · have _h := True.intro
          refine lv_aload_n hx hb dX3_latest_19 rfl (lv_at hl 2 rfl) ?_
          refine rx_ref 7 S P (by decide) q892 dX3_latest_20 ?_
          refine lv_iload_n hx hb dX3_latest_23 rfl (lv_at hl 0 rfl) ?_
          refine rx_dald 7 i S P rfl (by show _ < _; simp only [rN]; omega) dX3_latest_24 ?_
          refine lv_dconst0 hx hb dX3_latest_25 ?_
          refine lv_dcmp hx hb dX3_latest_26 ?_
          refine lv_if_lt (tgt := 48) (x := Op.cmpValue (FP.dcmp (st.2.1 7 i) FP.dconst0) .l) hx hb dX3_latest_27 (by decide) (fun c27 => ?_) (fun c27 => ?_)
          · simp only [cv_l_lt0, Decidable.not_not] at c27
            refine lv_iconst (v := 0) hx hb dX3_latest_48 (by decide) ?_
            refine lv_istore_n (lv' := [(3, .int 0), (2, .int (nI i)), (1, .int (oI bv)), (0, .ref r)]) hx hb dX3_latest_49 rfl hl (by decide) rfl (fun ls hl => ?_)
            refine lv_iload_n hx hb dX3_latest_50 rfl (lv_at hl 0 rfl) ?_
            refine ni_if_eq (tgt := 76) (a := 0) hx hb (by omega) dX3_latest_51 (by decide) (fun c51 => ?_) (fun c51 => ?_)
            · have _h := True.intro
              refine lv_iinc (v := nI (i + 1)) (lv' := [(2, .int (nI (i + 1))), (3, .int 0), (1, .int (oI bv)), (0, .ref r)]) hx hb dX3_latest_76 hl (k := 1) rfl (nI_1 _) (by decide) rfl (fun ls hl => ?_)
              refine lv_goto (tgt := 4) hx hb dX3_latest_79 (by decide) ?_
              exact ih4 (i + 1) bv (by omega) (by omega) (by
                show (if s_over st i = true then _ else _) = _
                rw [if_neg (by simp [s_over, c27])]
                exact hbv) (fun b h => Nat.lt_succ_of_lt (hbb b h)) _ _ P ls (lv_sub hl [0, 2, 3] rfl)
            · exact absurd c51 (by decide)
          · simp only [cv_l_lt0, Decidable.not_not] at c27
            refine lv_aload_n hx hb dX3_latest_30 rfl (lv_at hl 2 rfl) ?_
            refine rx_ref 7 S P (by decide) q892 dX3_latest_31 ?_
            refine lv_iload_n hx hb dX3_latest_34 rfl (lv_at hl 0 rfl) ?_
            refine rx_dald 7 i S P rfl (by show _ < _; simp only [rN]; omega) dX3_latest_35 ?_
            refine lv_aload_n hx hb dX3_latest_36 rfl (lv_at hl 2 rfl) ?_
            refine rx_getD 11 S P rfl q896 dX3_latest_37 ?_
            refine lv_dcmp hx hb dX3_latest_40 ?_
            refine lv_if_gt (tgt := 48) (x := Op.cmpValue (FP.dcmp (st.2.1 7 i) (st.2.1 11 0)) .g) hx hb dX3_latest_41 (by decide) (fun c41 => ?_) (fun c41 => ?_)
            · simp only [cv_g_gt0, Decidable.not_not] at c41
              refine lv_iconst (v := 0) hx hb dX3_latest_48 (by decide) ?_
              refine lv_istore_n (lv' := [(3, .int 0), (2, .int (nI i)), (1, .int (oI bv)), (0, .ref r)]) hx hb dX3_latest_49 rfl hl (by decide) rfl (fun ls hl => ?_)
              refine lv_iload_n hx hb dX3_latest_50 rfl (lv_at hl 0 rfl) ?_
              refine ni_if_eq (tgt := 76) (a := 0) hx hb (by omega) dX3_latest_51 (by decide) (fun c51 => ?_) (fun c51 => ?_)
              · have _h := True.intro
                refine lv_iinc (v := nI (i + 1)) (lv' := [(2, .int (nI (i + 1))), (3, .int 0), (1, .int (oI bv)), (0, .ref r)]) hx hb dX3_latest_76 hl (k := 1) rfl (nI_1 _) (by decide) rfl (fun ls hl => ?_)
                refine lv_goto (tgt := 4) hx hb dX3_latest_79 (by decide) ?_
                exact ih4 (i + 1) bv (by omega) (by omega) (by
                  show (if s_over st i = true then _ else _) = _
                  rw [if_neg (by simp [s_over, c41])]
                  exact hbv) (fun b h => Nat.lt_succ_of_lt (hbb b h)) _ _ P ls (lv_sub hl [0, 2, 3] rfl)
              · exact absurd c51 (by decide)
            · simp only [cv_g_gt0, Decidable.not_not] at c41
              refine lv_iconst (v := 1) hx hb dX3_latest_44 (by decide) ?_
              refine lv_goto (tgt := 49) hx hb dX3_latest_45 (by decide) ?_
              refine lv_istore_n (lv' := [(3, .int 1), (2, .int (nI i)), (1, .int (oI bv)), (0, .ref r)]) hx hb dX3_latest_49 rfl hl (by decide) rfl (fun ls hl => ?_)
              refine lv_iload_n hx hb dX3_latest_50 rfl (lv_at hl 0 rfl) ?_
              refine ni_if_eq (tgt := 76) (a := 1) hx hb (by omega) dX3_latest_51 (by decide) (fun c51 => ?_) (fun c51 => ?_)
              · exact absurd c51 (by decide)
              · have _h := True.intro
                cases bv with
                | none =>
                  refine lv_iload_n hx hb dX3_latest_54 rfl (lv_at hl 2 rfl) ?_
                  refine lv_if_lt (tgt := 74) (x := oI none) hx hb dX3_latest_55 (by decide) (fun c55 => ?_) (fun c55 => ?_)
                  · have _h := True.intro
                    refine lv_iload_n hx hb dX3_latest_74 rfl (lv_at hl 1 rfl) ?_
                    refine lv_istore_n (lv' := [(1, .int (nI i)), (3, .int 1), (2, .int (nI i)), (0, .ref r)]) hx hb dX3_latest_75 rfl hl (by decide) rfl (fun ls hl => ?_)
                    refine lv_iinc (v := nI (i + 1)) (lv' := [(2, .int (nI (i + 1))), (1, .int (nI i)), (3, .int 1), (0, .ref r)]) hx hb dX3_latest_76 hl (k := 2) rfl (nI_1 _) (by decide) rfl (fun ls hl => ?_)
                    refine lv_goto (tgt := 4) hx hb dX3_latest_79 (by decide) ?_
                    exact ih4 (i + 1) (some i) (by omega) (by omega) (by
                      show (if s_over st i = true then _ else _) = _
                      rw [if_pos (show s_over st i = true by simp [s_over, c16, c27, c41]), hbv]) (fun b h => by cases h; omega) _ _ P ls (lv_sub hl [0, 1, 3] rfl)
                  · have _h := True.intro
                    exact absurd (by decide) c55
                | some b =>
                  have hb6 := hbb b rfl
                  refine lv_iload_n hx hb dX3_latest_54 rfl (lv_at hl 2 rfl) ?_
                  refine lv_if_lt (tgt := 74) (x := oI (some b)) hx hb dX3_latest_55 (by decide) (fun c55 => ?_) (fun c55 => ?_)
                  · have _h := True.intro
                    exact absurd c55 (nI_pos (n := b) (by omega))
                  · have _h := True.intro
                    refine lv_aload_n hx hb dX3_latest_58 rfl (lv_at hl 3 rfl) ?_
                    refine rx_ref 7 S P (by decide) q892 dX3_latest_59 ?_
                    refine lv_iload_n hx hb dX3_latest_62 rfl (lv_at hl 1 rfl) ?_
                    refine rx_dald 7 i S P rfl (by show _ < _; simp only [rN]; omega) dX3_latest_63 ?_
                    refine lv_aload_n hx hb dX3_latest_64 rfl (lv_at hl 3 rfl) ?_
                    refine rx_ref 7 S P (by decide) q892 dX3_latest_65 ?_
                    refine lv_iload_n hx hb dX3_latest_68 rfl (lv_at hl 2 rfl) ?_
                    refine rx_dald 7 b S P rfl (by show _ < _; simp only [rN]; omega) dX3_latest_69 ?_
                    refine lv_dcmp hx hb dX3_latest_70 ?_
                    refine lw_if_ge (tgt := 76) (x := Op.cmpValue (FP.dcmp (st.2.1 7 i) (st.2.1 7 b)) .g) hx hb dX3_latest_71 (by decide) (fun c71 => ?_) (fun c71 => ?_)
                    · simp only [cv_g_lt0, Decidable.not_not] at c71
                      refine lv_iinc (v := nI (i + 1)) (lv' := [(2, .int (nI (i + 1))), (3, .int 1), (1, .int (oI (some b))), (0, .ref r)]) hx hb dX3_latest_76 hl (k := 1) rfl (nI_1 _) (by decide) rfl (fun ls hl => ?_)
                      refine lv_goto (tgt := 4) hx hb dX3_latest_79 (by decide) ?_
                      exact ih4 (i + 1) (some b) (by omega) (by omega) (by
                        show (if s_over st i = true then _ else _) = _
                        rw [if_pos (show s_over st i = true by simp [s_over, c16, c27, c41]), hbv]
                        show (if _ then _ else _) = _
                        rw [if_neg c71]) (fun b h => by cases h; omega) _ _ P ls (lv_sub hl [0, 2, 3] rfl)
                    · simp only [cv_g_lt0, Decidable.not_not] at c71
                      refine lv_iload_n hx hb dX3_latest_74 rfl (lv_at hl 1 rfl) ?_
                      refine lv_istore_n (lv' := [(1, .int (nI i)), (3, .int 1), (2, .int (nI i)), (0, .ref r)]) hx hb dX3_latest_75 rfl hl (by decide) rfl (fun ls hl => ?_)
                      refine lv_iinc (v := nI (i + 1)) (lv' := [(2, .int (nI (i + 1))), (1, .int (nI i)), (3, .int 1), (0, .ref r)]) hx hb dX3_latest_76 hl (k := 2) rfl (nI_1 _) (by decide) rfl (fun ls hl => ?_)
                      refine lv_goto (tgt := 4) hx hb dX3_latest_79 (by decide) ?_
                      exact ih4 (i + 1) (some i) (by omega) (by omega) (by
                        show (if s_over st i = true then _ else _) = _
                        rw [if_pos (show s_over st i = true by simp [s_over, c16, c27, c41]), hbv]
                        show (if _ then _ else _) = _
                        rw [if_pos c71]) (fun b h => by cases h; omega) _ _ P ls (lv_sub hl [0, 1, 3] rfl)
  exact loop4 _ 0 none (Nat.lt_succ_self _) (by omega) rfl (fun b h => by cases h) _ _ P ls (lv_sub hl [0, 1, 2] (rfl))

set_option maxHeartbeats 4000000 in
set_option maxRecDepth 100000 in
theorem rm_checkCondition {l : Launch} {D : va_G} {cs : Nat → ClassId} {r : Nat} {ad : Nat → Nat} {L : List Nat} (st : St) (fl : Int32) (t s : Nat) (ht : t < 6) (hs : s < 8) (hlk0 : st.1 12 s = 6 → st.1 16 s = nI (s_lk st s) ∧ s_lk st s < 8) : RM l D cs yX3_checkCondition cX3_checkCondition 4 (some .int) (rmL 2 0 0) r ad L [.ref r, .int (nI t), .int (nI s)] st fl (some (.int (s_checkC st t s))) st fl := by
  refine rm_of rfl (Nat.le_of_ble_eq_true rfl) ?_
  intro f0 x sz p e u m below meth c S P hRw hfl hr hlk ls hl Q hQ
  have hl : lv_has ls 4 [(0, .ref r), (1, .int (nI t)), (2, .int (nI s))] := hl
  have hx := S.1
  have hb := S.2.1
  generalize u.heap = H at P ⊢
  generalize ([] : List Loc) = locs at P ⊢
  refine lv_aload_n hx hb dX3_checkCondition_0 rfl (lv_at hl 0 rfl) ?_
  refine lv_iload_n hx hb dX3_checkCondition_1 rfl (lv_at hl 1 rfl) ?_
  refine lv_iload_n hx hb dX3_checkCondition_2 rfl (lv_at hl 2 rfl) ?_
  refine rx_c (nL' := 3) (rest := []) [.int (nI t), .int (nI s)] S P hRw hfl (rm_check st fl t s (by omega) (by omega)) q996 q998 qs19 q999 q38 ⟨by decide +kernel, by decide +kernel, (by decide +kernel : (parseMethodDescriptor yX3_check.desc).map (fun d => d.parameters.length) = some 2)⟩ dX3_checkCondition_3 hl.1 (Nat.le_of_ble_eq_true rfl) ⟨Nat.le_of_ble_eq_true rfl, Nat.le_of_ble_eq_true rfl⟩ ⟨Nat.le_refl _, Nat.le_refl _⟩ (fun H locs x P hRw hfl => ?_)
  refine W.eq (g2 := F0 m 6 ls [.int (s_check st t s)]) rfl ?_
  refine lv_istore_n (lv' := [(3, .int (s_check st t s)), (0, .ref r), (1, .int (nI t)), (2, .int (nI s))]) hx hb dX3_checkCondition_6 rfl hl (by decide) rfl (fun ls hl => ?_)
  refine lv_iload_n hx hb dX3_checkCondition_7 rfl (lv_at hl 0 rfl) ?_
  refine lw_if_le (tgt := 13) (x := s_check st t s) hx hb dX3_checkCondition_8 (by decide) (fun c8 => ?_) (fun c8 => ?_)
  · rw [s_check_pos, Decidable.not_not] at c8
    refine lv_aload_n hx hb dX3_checkCondition_13 rfl (lv_at hl 1 rfl) ?_
    refine rx_ref 12 S P (by decide) q897 dX3_checkCondition_14 ?_
    refine lv_iload_n hx hb dX3_checkCondition_17 rfl (lv_at hl 3 rfl) ?_
    refine rx_iald 12 s S P rfl rfl (by show _ < _; simp only [rN]; omega) dX3_checkCondition_18 ?_
    refine lv_bipush (v := 6) hx hb dX3_checkCondition_19 (by decide) ?_
    refine lv_icmp_eq (tgt := 26) (x := st.1 12 s) (y := 6) hx hb dX3_checkCondition_21 (by decide) (fun c21 => ?_) (fun c21 => ?_)
    · have _h := True.intro
      refine lv_aload_n hx hb dX3_checkCondition_26 rfl (lv_at hl 1 rfl) ?_
      refine rx_ref 13 S P (by decide) q898 dX3_checkCondition_27 ?_
      refine lv_aload_n hx hb dX3_checkCondition_30 rfl (lv_at hl 1 rfl) ?_
      refine rx_ref 16 S P (by decide) q901 dX3_checkCondition_31 ?_
      refine lv_iload_n hx hb dX3_checkCondition_34 rfl (lv_at hl 3 rfl) ?_
      refine rx_iald 16 s S P rfl rfl (by show _ < _; simp only [rN]; omega) dX3_checkCondition_35 ?_
      have hl8 := (hlk0 c21).2
      refine lw_eqi (y := nI (s_lk st s)) ((hlk0 c21).1) ?_
      refine rx_iald 13 (s_lk st s) S P rfl rfl (by show _ < _; simp only [rN]; omega) dX3_checkCondition_36 ?_
      refine lv_iload_n hx hb dX3_checkCondition_37 rfl (lv_at hl 2 rfl) ?_
      refine lv_icmp_eq (tgt := 45) (x := st.1 13 (s_lk st s)) (y := nI t) hx hb dX3_checkCondition_38 (by decide) (fun c38 => ?_) (fun c38 => ?_)
      · have _h := True.intro
        refine lv_iconst (v := 0) hx hb dX3_checkCondition_45 (by decide) ?_
        exact rx_iret S P hQ hr hlk dX3_checkCondition_46 hRw hfl (by simp [s_checkC, c8, c21, c38]) (rfl)
      · have _h := True.intro
        refine lv_iconst (v := 3) hx hb dX3_checkCondition_41 (by decide) ?_
        refine lv_goto (tgt := 46) hx hb dX3_checkCondition_42 (by decide) ?_
        exact rx_iret S P hQ hr hlk dX3_checkCondition_46 hRw hfl (by simp [s_checkC, c8, c21, c38]) (rfl)
    · have _h := True.intro
      refine lv_iconst (v := 4) hx hb dX3_checkCondition_24 (by decide) ?_
      exact rx_iret S P hQ hr hlk dX3_checkCondition_25 hRw hfl (by simp [s_checkC, c8, c21]) (rfl)
  · rw [s_check_pos] at c8
    refine lv_iload_n hx hb dX3_checkCondition_11 rfl (lv_at hl 0 rfl) ?_
    exact rx_iret S P hQ hr hlk dX3_checkCondition_12 hRw hfl (by simp [s_checkC, c8]) (rfl)
