/-! the reference's methods, by gen_ref2.py -/
set_option maxHeartbeats 4000000 in
set_option maxRecDepth 100000 in
theorem rm_canTake {l : Launch} {D : va_G} {cs : Nat → ClassId} {r : Nat} {ad : Nat → Nat} {L : List Nat} (st : St) (fl : Int32) (t s : Nat) (mm : Int32) (ht : t < 6) (hs : s < 8) : RM l D cs yX3_canTake cX3_canTake 6 (some .boolean) (rmL 1 0 0) r ad L [.ref r, .int (nI t), .int (nI s), .int mm] st fl (some (.int (bI (s_canTake st t s mm)))) st fl := by
  refine rm_of rfl (Nat.le_of_ble_eq_true rfl) ?_
  intro f0 x sz p e u m below meth c S P hRw hfl hr hlk ls hl Q hQ
  have hl : lv_has ls 6 [(0, .ref r), (1, .int (nI t)), (2, .int (nI s)), (3, .int mm)] := hl
  have hx := S.1
  have hb := S.2.1
  generalize u.heap = H at P ⊢
  generalize ([] : List Loc) = locs at P ⊢
  refine lv_aload_n hx hb dX3_canTake_0 rfl (lv_at hl 0 rfl) ?_
  refine rx_ref 12 S P (by decide) q897 dX3_canTake_1 ?_
  refine lv_iload_n hx hb dX3_canTake_4 rfl (lv_at hl 2 rfl) ?_
  refine rx_iald 12 s S P rfl rfl (by show _ < _; simp only [rN]; omega) dX3_canTake_5 ?_
  refine lv_istore (lv' := [(4, .int (st.1 12 s)), (0, .ref r), (1, .int (nI t)), (2, .int (nI s)), (3, .int mm)]) hx hb dX3_canTake_6 hl (by decide) rfl (fun ls hl => ?_)
  refine lv_iload hx hb dX3_canTake_8 (lv_at hl 0 rfl) ?_
  refine lv_if_ne (tgt := 28) (x := st.1 12 s) hx hb dX3_canTake_10 (by decide) (fun c10 => ?_) (fun c10 => ?_)
  · have _h := True.intro
    refine lv_iload hx hb dX3_canTake_28 (lv_at hl 0 rfl) ?_
    refine lv_iconst (v := 1) hx hb dX3_canTake_30 (by decide) ?_
    refine lv_icmp_ne (tgt := 59) (x := st.1 12 s) (y := 1) hx hb dX3_canTake_31 (by decide) (fun c31 => ?_) (fun c31 => ?_)
    · have _h := True.intro
      refine lv_iload hx hb dX3_canTake_59 (lv_at hl 0 rfl) ?_
      refine lv_iconst (v := 2) hx hb dX3_canTake_61 (by decide) ?_
      refine lv_icmp_eq (tgt := 71) (x := st.1 12 s) (y := 2) hx hb dX3_canTake_62 (by decide) (fun c62 => ?_) (fun c62 => ?_)
      · have _h := True.intro
        refine lv_aload_n hx hb dX3_canTake_71 rfl (lv_at hl 1 rfl) ?_
        refine rx_ref 15 S P (by decide) q900 dX3_canTake_72 ?_
        refine lv_iload_n hx hb dX3_canTake_75 rfl (lv_at hl 3 rfl) ?_
        refine rx_iald 15 s S P rfl rfl (by show _ < _; simp only [rN]; omega) dX3_canTake_76 ?_
        refine lw_if_le (tgt := 84) (x := st.1 15 s) hx hb dX3_canTake_77 (by decide) (fun c77 => ?_) (fun c77 => ?_)
        · have _h := True.intro
          refine lv_iconst (v := 0) hx hb dX3_canTake_84 (by decide) ?_
          exact rx_zret S P hQ hr hlk dX3_canTake_85 hRw hfl (bI_or _) (by simp [s_canTake, bI, c10, c31, c62, c77]) (rfl)
        · have _h := True.intro
          refine lv_iconst (v := 1) hx hb dX3_canTake_80 (by decide) ?_
          refine lv_goto (tgt := 85) hx hb dX3_canTake_81 (by decide) ?_
          exact rx_zret S P hQ hr hlk dX3_canTake_85 hRw hfl (bI_or _) (by simp [s_canTake, bI, c10, c31, c62, c77]) (rfl)
      · have _h := True.intro
        refine lv_iload hx hb dX3_canTake_65 (lv_at hl 0 rfl) ?_
        refine lv_iconst (v := 3) hx hb dX3_canTake_67 (by decide) ?_
        refine lv_icmp_ne (tgt := 86) (x := st.1 12 s) (y := 3) hx hb dX3_canTake_68 (by decide) (fun c68 => ?_) (fun c68 => ?_)
        · have _h := True.intro
          refine lv_iload hx hb dX3_canTake_86 (lv_at hl 0 rfl) ?_
          refine lv_iconst (v := 4) hx hb dX3_canTake_88 (by decide) ?_
          refine lv_icmp_ne (tgt := 107) (x := st.1 12 s) (y := 4) hx hb dX3_canTake_89 (by decide) (fun c89 => ?_) (fun c89 => ?_)
          · have _h := True.intro
            refine lv_aload_n hx hb dX3_canTake_107 rfl (lv_at hl 1 rfl) ?_
            refine rx_ref 13 S P (by decide) q898 dX3_canTake_108 ?_
            refine lv_iload_n hx hb dX3_canTake_111 rfl (lv_at hl 3 rfl) ?_
            refine rx_iald 13 s S P rfl rfl (by show _ < _; simp only [rN]; omega) dX3_canTake_112 ?_
            refine lv_if_lt (tgt := 128) (x := st.1 13 s) hx hb dX3_canTake_113 (by decide) (fun c113 => ?_) (fun c113 => ?_)
            · have _h := True.intro
              refine lv_iconst (v := 0) hx hb dX3_canTake_128 (by decide) ?_
              refine lv_istore (lv' := [(5, .int 0), (4, .int (st.1 12 s)), (0, .ref r), (1, .int (nI t)), (2, .int (nI s)), (3, .int mm)]) hx hb dX3_canTake_129 hl (by decide) rfl (fun ls hl => ?_)
              have loop131 : ∀ (d : Nat) (o : Nat), 6 - o < d → (o ≤ 6) → (∀ j, j < o → ¬ (j ≠ t ∧ 0 < st.1 17 (6 * s + j))) → ∀ (H : Heap) (locs : List Loc), RX D cs (pA L sz) u r ad L f0 st x H locs → ∀ (ls : Array Slot), lv_has ls 6 [(5, .int (nI o)), (0, .ref r), (1, .int (nI t)), (2, .int (nI s)), (3, .int mm)] → W p l e (rmL 1 0 0) u m ([.ref r, .int (nI t), .int (nI s), .int mm] : List Value).toArray below meth c H locs 0 0 Q (F0 m 131 ls []) := by
                intro d131
                induction d131 with
                | zero => intro o hd; exact absurd hd (by omega)
                | succ d131 ih131 =>
                  intro o hd131 ho hinv H locs P ls hl
                  refine lv_iload_n hx hb dX3_canTake_131 rfl (lv_at hl 4 rfl) ?_
                  refine lv_iconst (v := 1) hx hb dX3_canTake_132 (by decide) ?_
                  refine lv_icmp_ne (tgt := 172) (x := mm) (y := 1) hx hb dX3_canTake_133 (by decide) (fun c133 => ?_) (fun c133 => ?_)
                  · have _h := True.intro
                    refine lv_iconst (v := 1) hx hb dX3_canTake_172 (by decide) ?_
                    exact rx_zret S P hQ hr hlk dX3_canTake_173 hRw hfl (bI_or _) (by simp [s_canTake, bI, c10, c31, c62, c68, c89, c113, c133]) (rfl)
                  · have _h := True.intro
                    refine lv_iload hx hb dX3_canTake_136 (lv_at hl 0 rfl) ?_
                    refine lv_bipush (v := 6) hx hb dX3_canTake_138 (by decide) ?_
                    refine ni_icmp_ge (tgt := 172) (a := o) (b := 6) hx hb (by omega) (by omega) dX3_canTake_140 (by decide) (fun c140 => ?_) (fun c140 => ?_)
                    · have _h := True.intro
                      refine lv_iconst (v := 1) hx hb dX3_canTake_172 (by decide) ?_
                      exact rx_zret S P hQ hr hlk dX3_canTake_173 hRw hfl (bI_or _) (by simp [s_canTake, bI, s_others_f (fun j hj => hinv j (by omega)), c10, c31, c62, c68, c89, c113, c133, c140]) (rfl)
                    · have _h := True.intro
                      refine lv_iload hx hb dX3_canTake_143 (lv_at hl 0 rfl) ?_
                      refine lv_iload_n hx hb dX3_canTake_145 rfl (lv_at hl 2 rfl) ?_
                      refine ni_icmp_eq (tgt := 166) (a := o) (b := t) hx hb (by omega) (by omega) dX3_canTake_146 (by decide) (fun c146 => ?_) (fun c146 => ?_)
                      · have _h := True.intro
                        refine lv_iinc (v := nI (o + 1)) (lv' := [(5, .int (nI (o + 1))), (0, .ref r), (1, .int (nI t)), (2, .int (nI s)), (3, .int mm)]) hx hb dX3_canTake_166 hl (k := 0) rfl (nI_1 _) (by decide) rfl (fun ls hl => ?_)
                        refine lv_goto (tgt := 131) hx hb dX3_canTake_169 (by decide) ?_
                        exact ih131 (o + 1) (by omega) (by omega) (fun j hj => by
                          rcases Nat.lt_or_ge j o with hj2 | hj2
                          · exact hinv j hj2
                          · have : j = o := by omega
                            subst this
                            intro h; exact h.1 c146) _ _ P ls (lv_sub hl [0, 1, 2, 3, 4] rfl)
                      · have _h := True.intro
                        refine lv_aload_n hx hb dX3_canTake_149 rfl (lv_at hl 1 rfl) ?_
                        refine rx_ref 17 S P (by decide) q902 dX3_canTake_150 ?_
                        refine lv_bipush (v := 6) hx hb dX3_canTake_153 (by decide) ?_
                        refine lv_iload_n hx hb dX3_canTake_155 rfl (lv_at hl 3 rfl) ?_
                        refine ni_imul (a := 6) (b := s) hx hb dX3_canTake_156 ?_
                        refine lv_iload hx hb dX3_canTake_157 (lv_at hl 0 rfl) ?_
                        refine ni_iadd (a := 6 * s) (b := o) hx hb dX3_canTake_159 ?_
                        refine rx_iald 17 ((6 * s) + o) S P rfl rfl (by show _ < _; simp only [rN]; omega) dX3_canTake_160 ?_
                        refine lw_if_le (tgt := 166) (x := st.1 17 ((6 * s) + o)) hx hb dX3_canTake_161 (by decide) (fun c161 => ?_) (fun c161 => ?_)
                        · have _h := True.intro
                          refine lv_iinc (v := nI (o + 1)) (lv' := [(5, .int (nI (o + 1))), (0, .ref r), (1, .int (nI t)), (2, .int (nI s)), (3, .int mm)]) hx hb dX3_canTake_166 hl (k := 0) rfl (nI_1 _) (by decide) rfl (fun ls hl => ?_)
                          refine lv_goto (tgt := 131) hx hb dX3_canTake_169 (by decide) ?_
                          exact ih131 (o + 1) (by omega) (by omega) (fun j hj => by
                            rcases Nat.lt_or_ge j o with hj2 | hj2
                            · exact hinv j hj2
                            · have : j = o := by omega
                              subst this
                              intro h; exact c161 h.2) _ _ P ls (lv_sub hl [0, 1, 2, 3, 4] rfl)
                        · have _h := True.intro
                          refine lv_iconst (v := 0) hx hb dX3_canTake_164 (by decide) ?_
                          exact rx_zret S P hQ hr hlk dX3_canTake_165 hRw hfl (bI_or _) (by simp [s_canTake, bI, s_others_t (by omega) c146 c161, c10, c31, c62, c68, c89, c113, c133, c140, c146, c161]) (rfl)
              exact loop131 _ 0 (Nat.lt_succ_self _) (by omega) (fun j hj => absurd hj (by omega)) _ _ P ls (lv_sub hl [0, 2, 3, 4, 5] (rfl))
            · have _h := True.intro
              refine lv_aload_n hx hb dX3_canTake_116 rfl (lv_at hl 1 rfl) ?_
              refine rx_ref 13 S P (by decide) q898 dX3_canTake_117 ?_
              refine lv_iload_n hx hb dX3_canTake_120 rfl (lv_at hl 3 rfl) ?_
              refine rx_iald 13 s S P rfl rfl (by show _ < _; simp only [rN]; omega) dX3_canTake_121 ?_
              refine lv_iload_n hx hb dX3_canTake_122 rfl (lv_at hl 2 rfl) ?_
              refine lv_icmp_eq (tgt := 128) (x := st.1 13 s) (y := nI t) hx hb dX3_canTake_123 (by decide) (fun c123 => ?_) (fun c123 => ?_)
              · have _h := True.intro
                refine lv_iconst (v := 0) hx hb dX3_canTake_128 (by decide) ?_
                refine lv_istore (lv' := [(5, .int 0), (4, .int (st.1 12 s)), (0, .ref r), (1, .int (nI t)), (2, .int (nI s)), (3, .int mm)]) hx hb dX3_canTake_129 hl (by decide) rfl (fun ls hl => ?_)
                have loop131 : ∀ (d : Nat) (o : Nat), 6 - o < d → (o ≤ 6) → (∀ j, j < o → ¬ (j ≠ t ∧ 0 < st.1 17 (6 * s + j))) → ∀ (H : Heap) (locs : List Loc), RX D cs (pA L sz) u r ad L f0 st x H locs → ∀ (ls : Array Slot), lv_has ls 6 [(5, .int (nI o)), (0, .ref r), (1, .int (nI t)), (2, .int (nI s)), (3, .int mm)] → W p l e (rmL 1 0 0) u m ([.ref r, .int (nI t), .int (nI s), .int mm] : List Value).toArray below meth c H locs 0 0 Q (F0 m 131 ls []) := by
                  intro d131
                  induction d131 with
                  | zero => intro o hd; exact absurd hd (by omega)
                  | succ d131 ih131 =>
                    intro o hd131 ho hinv H locs P ls hl
                    refine lv_iload_n hx hb dX3_canTake_131 rfl (lv_at hl 4 rfl) ?_
                    refine lv_iconst (v := 1) hx hb dX3_canTake_132 (by decide) ?_
                    refine lv_icmp_ne (tgt := 172) (x := mm) (y := 1) hx hb dX3_canTake_133 (by decide) (fun c133 => ?_) (fun c133 => ?_)
                    · have _h := True.intro
                      refine lv_iconst (v := 1) hx hb dX3_canTake_172 (by decide) ?_
                      exact rx_zret S P hQ hr hlk dX3_canTake_173 hRw hfl (bI_or _) (by simp [s_canTake, bI, c10, c31, c62, c68, c89, c113, c123, c133]) (rfl)
                    · have _h := True.intro
                      refine lv_iload hx hb dX3_canTake_136 (lv_at hl 0 rfl) ?_
                      refine lv_bipush (v := 6) hx hb dX3_canTake_138 (by decide) ?_
                      refine ni_icmp_ge (tgt := 172) (a := o) (b := 6) hx hb (by omega) (by omega) dX3_canTake_140 (by decide) (fun c140 => ?_) (fun c140 => ?_)
                      · have _h := True.intro
                        refine lv_iconst (v := 1) hx hb dX3_canTake_172 (by decide) ?_
                        exact rx_zret S P hQ hr hlk dX3_canTake_173 hRw hfl (bI_or _) (by simp [s_canTake, bI, s_others_f (fun j hj => hinv j (by omega)), c10, c31, c62, c68, c89, c113, c123, c133, c140]) (rfl)
                      · have _h := True.intro
                        refine lv_iload hx hb dX3_canTake_143 (lv_at hl 0 rfl) ?_
                        refine lv_iload_n hx hb dX3_canTake_145 rfl (lv_at hl 2 rfl) ?_
                        refine ni_icmp_eq (tgt := 166) (a := o) (b := t) hx hb (by omega) (by omega) dX3_canTake_146 (by decide) (fun c146 => ?_) (fun c146 => ?_)
                        · have _h := True.intro
                          refine lv_iinc (v := nI (o + 1)) (lv' := [(5, .int (nI (o + 1))), (0, .ref r), (1, .int (nI t)), (2, .int (nI s)), (3, .int mm)]) hx hb dX3_canTake_166 hl (k := 0) rfl (nI_1 _) (by decide) rfl (fun ls hl => ?_)
                          refine lv_goto (tgt := 131) hx hb dX3_canTake_169 (by decide) ?_
                          exact ih131 (o + 1) (by omega) (by omega) (fun j hj => by
                            rcases Nat.lt_or_ge j o with hj2 | hj2
                            · exact hinv j hj2
                            · have : j = o := by omega
                              subst this
                              intro h; exact h.1 c146) _ _ P ls (lv_sub hl [0, 1, 2, 3, 4] rfl)
                        · have _h := True.intro
                          refine lv_aload_n hx hb dX3_canTake_149 rfl (lv_at hl 1 rfl) ?_
                          refine rx_ref 17 S P (by decide) q902 dX3_canTake_150 ?_
                          refine lv_bipush (v := 6) hx hb dX3_canTake_153 (by decide) ?_
                          refine lv_iload_n hx hb dX3_canTake_155 rfl (lv_at hl 3 rfl) ?_
                          refine ni_imul (a := 6) (b := s) hx hb dX3_canTake_156 ?_
                          refine lv_iload hx hb dX3_canTake_157 (lv_at hl 0 rfl) ?_
                          refine ni_iadd (a := 6 * s) (b := o) hx hb dX3_canTake_159 ?_
                          refine rx_iald 17 ((6 * s) + o) S P rfl rfl (by show _ < _; simp only [rN]; omega) dX3_canTake_160 ?_
                          refine lw_if_le (tgt := 166) (x := st.1 17 ((6 * s) + o)) hx hb dX3_canTake_161 (by decide) (fun c161 => ?_) (fun c161 => ?_)
                          · have _h := True.intro
                            refine lv_iinc (v := nI (o + 1)) (lv' := [(5, .int (nI (o + 1))), (0, .ref r), (1, .int (nI t)), (2, .int (nI s)), (3, .int mm)]) hx hb dX3_canTake_166 hl (k := 0) rfl (nI_1 _) (by decide) rfl (fun ls hl => ?_)
                            refine lv_goto (tgt := 131) hx hb dX3_canTake_169 (by decide) ?_
                            exact ih131 (o + 1) (by omega) (by omega) (fun j hj => by
                              rcases Nat.lt_or_ge j o with hj2 | hj2
                              · exact hinv j hj2
                              · have : j = o := by omega
                                subst this
                                intro h; exact c161 h.2) _ _ P ls (lv_sub hl [0, 1, 2, 3, 4] rfl)
                          · have _h := True.intro
                            refine lv_iconst (v := 0) hx hb dX3_canTake_164 (by decide) ?_
                            exact rx_zret S P hQ hr hlk dX3_canTake_165 hRw hfl (bI_or _) (by simp [s_canTake, bI, s_others_t (by omega) c146 c161, c10, c31, c62, c68, c89, c113, c123, c133, c140, c146, c161]) (rfl)
                exact loop131 _ 0 (Nat.lt_succ_self _) (by omega) (fun j hj => absurd hj (by omega)) _ _ P ls (lv_sub hl [0, 2, 3, 4, 5] (rfl))
              · have _h := True.intro
                refine lv_iconst (v := 0) hx hb dX3_canTake_126 (by decide) ?_
                exact rx_zret S P hQ hr hlk dX3_canTake_127 hRw hfl (bI_or _) (by simp [s_canTake, bI, c10, c31, c62, c68, c89, c113, c123]) (rfl)
          · have _h := True.intro
            refine lv_aload_n hx hb dX3_canTake_92 rfl (lv_at hl 1 rfl) ?_
            refine rx_ref 15 S P (by decide) q900 dX3_canTake_93 ?_
            refine lv_iload_n hx hb dX3_canTake_96 rfl (lv_at hl 3 rfl) ?_
            refine rx_iald 15 s S P rfl rfl (by show _ < _; simp only [rN]; omega) dX3_canTake_97 ?_
            refine lv_if_ne (tgt := 105) (x := st.1 15 s) hx hb dX3_canTake_98 (by decide) (fun c98 => ?_) (fun c98 => ?_)
            · have _h := True.intro
              refine lv_iconst (v := 0) hx hb dX3_canTake_105 (by decide) ?_
              exact rx_zret S P hQ hr hlk dX3_canTake_106 hRw hfl (bI_or _) (by simp [s_canTake, bI, c10, c31, c62, c68, c89, c98]) (rfl)
            · have _h := True.intro
              refine lv_iconst (v := 1) hx hb dX3_canTake_101 (by decide) ?_
              refine lv_goto (tgt := 106) hx hb dX3_canTake_102 (by decide) ?_
              exact rx_zret S P hQ hr hlk dX3_canTake_106 hRw hfl (bI_or _) (by simp [s_canTake, bI, c10, c31, c62, c68, c89, c98]) (rfl)
        · have _h := True.intro
          refine lv_aload_n hx hb dX3_canTake_71 rfl (lv_at hl 1 rfl) ?_
          refine rx_ref 15 S P (by decide) q900 dX3_canTake_72 ?_
          refine lv_iload_n hx hb dX3_canTake_75 rfl (lv_at hl 3 rfl) ?_
          refine rx_iald 15 s S P rfl rfl (by show _ < _; simp only [rN]; omega) dX3_canTake_76 ?_
          refine lw_if_le (tgt := 84) (x := st.1 15 s) hx hb dX3_canTake_77 (by decide) (fun c77 => ?_) (fun c77 => ?_)
          · have _h := True.intro
            refine lv_iconst (v := 0) hx hb dX3_canTake_84 (by decide) ?_
            exact rx_zret S P hQ hr hlk dX3_canTake_85 hRw hfl (bI_or _) (by simp [s_canTake, bI, c10, c31, c62, c68, c77]) (rfl)
          · have _h := True.intro
            refine lv_iconst (v := 1) hx hb dX3_canTake_80 (by decide) ?_
            refine lv_goto (tgt := 85) hx hb dX3_canTake_81 (by decide) ?_
            exact rx_zret S P hQ hr hlk dX3_canTake_85 hRw hfl (bI_or _) (by simp [s_canTake, bI, c10, c31, c62, c68, c77]) (rfl)
    · have _h := True.intro
      refine lv_aload_n hx hb dX3_canTake_34 rfl (lv_at hl 1 rfl) ?_
      refine rx_ref 13 S P (by decide) q898 dX3_canTake_35 ?_
      refine lv_iload_n hx hb dX3_canTake_38 rfl (lv_at hl 3 rfl) ?_
      refine rx_iald 13 s S P rfl rfl (by show _ < _; simp only [rN]; omega) dX3_canTake_39 ?_
      refine lv_if_lt (tgt := 53) (x := st.1 13 s) hx hb dX3_canTake_40 (by decide) (fun c40 => ?_) (fun c40 => ?_)
      · have _h := True.intro
        refine lv_iconst (v := 1) hx hb dX3_canTake_53 (by decide) ?_
        refine lv_goto (tgt := 58) hx hb dX3_canTake_54 (by decide) ?_
        exact rx_zret S P hQ hr hlk dX3_canTake_58 hRw hfl (bI_or _) (by simp [s_canTake, bI, c10, c31, c40]) (rfl)
      · have _h := True.intro
        refine lv_aload_n hx hb dX3_canTake_43 rfl (lv_at hl 1 rfl) ?_
        refine rx_ref 13 S P (by decide) q898 dX3_canTake_44 ?_
        refine lv_iload_n hx hb dX3_canTake_47 rfl (lv_at hl 3 rfl) ?_
        refine rx_iald 13 s S P rfl rfl (by show _ < _; simp only [rN]; omega) dX3_canTake_48 ?_
        refine lv_iload_n hx hb dX3_canTake_49 rfl (lv_at hl 2 rfl) ?_
        refine lv_icmp_ne (tgt := 57) (x := st.1 13 s) (y := nI t) hx hb dX3_canTake_50 (by decide) (fun c50 => ?_) (fun c50 => ?_)
        · have _h := True.intro
          refine lv_iconst (v := 0) hx hb dX3_canTake_57 (by decide) ?_
          exact rx_zret S P hQ hr hlk dX3_canTake_58 hRw hfl (bI_or _) (by simp [s_canTake, bI, c10, c31, c40, c50]) (rfl)
        · have _h := True.intro
          refine lv_iconst (v := 1) hx hb dX3_canTake_53 (by decide) ?_
          refine lv_goto (tgt := 58) hx hb dX3_canTake_54 (by decide) ?_
          exact rx_zret S P hQ hr hlk dX3_canTake_58 hRw hfl (bI_or _) (by simp [s_canTake, bI, c10, c31, c40, c50]) (rfl)
  · have _h := True.intro
    refine lv_aload_n hx hb dX3_canTake_13 rfl (lv_at hl 1 rfl) ?_
    refine rx_ref 13 S P (by decide) q898 dX3_canTake_14 ?_
    refine lv_iload_n hx hb dX3_canTake_17 rfl (lv_at hl 3 rfl) ?_
    refine rx_iald 13 s S P rfl rfl (by show _ < _; simp only [rN]; omega) dX3_canTake_18 ?_
    refine lw_if_ge (tgt := 26) (x := st.1 13 s) hx hb dX3_canTake_19 (by decide) (fun c19 => ?_) (fun c19 => ?_)
    · have _h := True.intro
      refine lv_iconst (v := 0) hx hb dX3_canTake_26 (by decide) ?_
      exact rx_zret S P hQ hr hlk dX3_canTake_27 hRw hfl (bI_or _) (by simp [s_canTake, bI, c10, c19]) (rfl)
    · have _h := True.intro
      refine lv_iconst (v := 1) hx hb dX3_canTake_22 (by decide) ?_
      refine lv_goto (tgt := 27) hx hb dX3_canTake_23 (by decide) ?_
      exact rx_zret S P hQ hr hlk dX3_canTake_27 hRw hfl (bI_or _) (by simp [s_canTake, bI, c10, c19]) (rfl)

set_option maxHeartbeats 4000000 in
set_option maxRecDepth 100000 in
theorem rm_take {l : Launch} {D : va_G} {cs : Nat → ClassId} {r : Nat} {ad : Nat → Nat} {L : List Nat} (st : St) (fl : Int32) (t s : Nat) (mm : Int32) (ht : t < 6) (hs : s < 8) : RM l D cs yX3_take cX3_take 5 none (rmL 1 0 0) r ad L [.ref r, .int (nI t), .int (nI s), .int mm] st fl none (s_take st t s mm) fl := by
  refine rm_of rfl (Nat.le_of_ble_eq_true rfl) ?_
  intro f0 x sz p e u m below meth c S P hRw hfl hr hlk ls hl Q hQ
  have hl : lv_has ls 5 [(0, .ref r), (1, .int (nI t)), (2, .int (nI s)), (3, .int mm)] := hl
  have hx := S.1
  have hb := S.2.1
  generalize u.heap = H at P ⊢
  generalize ([] : List Loc) = locs at P ⊢
  refine lv_aload_n hx hb dX3_take_0 rfl (lv_at hl 0 rfl) ?_
  refine rx_ref 12 S P (by decide) q897 dX3_take_1 ?_
  refine lv_iload_n hx hb dX3_take_4 rfl (lv_at hl 2 rfl) ?_
  refine rx_iald 12 s S P rfl rfl (by show _ < _; simp only [rN]; omega) dX3_take_5 ?_
  refine lv_istore (lv' := [(4, .int (st.1 12 s)), (0, .ref r), (1, .int (nI t)), (2, .int (nI s)), (3, .int mm)]) hx hb dX3_take_6 hl (by decide) rfl (fun ls hl => ?_)
  refine lv_iload hx hb dX3_take_8 (lv_at hl 0 rfl) ?_
  refine lv_iconst (v := 2) hx hb dX3_take_10 (by decide) ?_
  refine lv_icmp_eq (tgt := 20) (x := st.1 12 s) (y := 2) hx hb dX3_take_11 (by decide) (fun c11 => ?_) (fun c11 => ?_)
  · have _h := True.intro
    refine lv_aload_n hx hb dX3_take_20 rfl (lv_at hl 1 rfl) ?_
    refine rx_ref 15 S P (by decide) q900 dX3_take_21 ?_
    refine lv_iload_n hx hb dX3_take_24 rfl (lv_at hl 3 rfl) ?_
    refine lv_dup2_11 hx hb dX3_take_25 rfl rfl ?_
    refine rx_iald 15 s S P rfl rfl (by show _ < _; simp only [rN]; omega) dX3_take_26 ?_
    refine lv_iconst (v := 1) hx hb dX3_take_27 (by decide) ?_
    refine lv_isub hx hb dX3_take_28 ?_
    refine rx_iast (v := (st.1 15 s) - 1) 15 s S P rfl rfl (by show _ < _; simp only [rN]; omega) dX3_take_29 (fun H locs P => ?_)
    refine lv_goto (tgt := 84) hx hb dX3_take_30 (by decide) ?_
    exact rx_vret S P hQ hr hlk dX3_take_84 hRw hfl (by simp [s_take, c11] <;> rfl)
  · have _h := True.intro
    refine lv_iload hx hb dX3_take_14 (lv_at hl 0 rfl) ?_
    refine lv_iconst (v := 3) hx hb dX3_take_16 (by decide) ?_
    refine lv_icmp_ne (tgt := 33) (x := st.1 12 s) (y := 3) hx hb dX3_take_17 (by decide) (fun c17 => ?_) (fun c17 => ?_)
    · have _h := True.intro
      refine lv_iload hx hb dX3_take_33 (lv_at hl 0 rfl) ?_
      refine lv_iconst (v := 5) hx hb dX3_take_35 (by decide) ?_
      refine lv_icmp_ne (tgt := 61) (x := st.1 12 s) (y := 5) hx hb dX3_take_36 (by decide) (fun c36 => ?_) (fun c36 => ?_)
      · have _h := True.intro
        refine lv_iload hx hb dX3_take_61 (lv_at hl 0 rfl) ?_
        refine lv_iconst (v := 4) hx hb dX3_take_63 (by decide) ?_
        refine lv_icmp_eq (tgt := 84) (x := st.1 12 s) (y := 4) hx hb dX3_take_64 (by decide) (fun c64 => ?_) (fun c64 => ?_)
        · have _h := True.intro
          exact rx_vret S P hQ hr hlk dX3_take_84 hRw hfl (by simp [s_take, c11, c17, c36, c64] <;> rfl)
        · have _h := True.intro
          refine lv_aload_n hx hb dX3_take_67 rfl (lv_at hl 1 rfl) ?_
          refine rx_ref 13 S P (by decide) q898 dX3_take_68 ?_
          refine lv_iload_n hx hb dX3_take_71 rfl (lv_at hl 3 rfl) ?_
          refine lv_iload_n hx hb dX3_take_72 rfl (lv_at hl 2 rfl) ?_
          refine rx_iast (v := nI t) 13 s S P rfl rfl (by show _ < _; simp only [rN]; omega) dX3_take_73 (fun H locs P => ?_)
          refine lv_aload_n hx hb dX3_take_74 rfl (lv_at hl 1 rfl) ?_
          refine rx_ref 14 S P (by decide) q899 dX3_take_75 ?_
          refine lv_iload_n hx hb dX3_take_78 rfl (lv_at hl 3 rfl) ?_
          refine lv_dup2_11 hx hb dX3_take_79 rfl rfl ?_
          refine rx_iald 14 s S P rfl rfl (by show _ < _; simp only [rN]; omega) dX3_take_80 ?_
          refine lv_iconst (v := 1) hx hb dX3_take_81 (by decide) ?_
          refine lv_iadd hx hb dX3_take_82 ?_
          refine rx_iast (v := (st.1 14 s) + 1) 14 s S P rfl rfl (by show _ < _; simp only [rN]; omega) dX3_take_83 (fun H locs P => ?_)
          exact rx_vret S P hQ hr hlk dX3_take_84 hRw hfl (by simp [s_take, c11, c17, c36, c64] <;> rfl)
      · have _h := True.intro
        refine lv_iload_n hx hb dX3_take_39 rfl (lv_at hl 4 rfl) ?_
        refine lv_if_ne (tgt := 61) (x := mm) hx hb dX3_take_40 (by decide) (fun c40 => ?_) (fun c40 => ?_)
        · have _h := True.intro
          refine lv_iload hx hb dX3_take_61 (lv_at hl 0 rfl) ?_
          refine lv_iconst (v := 4) hx hb dX3_take_63 (by decide) ?_
          refine lv_icmp_eq (tgt := 84) (x := st.1 12 s) (y := 4) hx hb dX3_take_64 (by decide) (fun c64 => ?_) (fun c64 => ?_)
          · exact absurd (c36.symm.trans c64) (by decide)
          · have _h := True.intro
            refine lv_aload_n hx hb dX3_take_67 rfl (lv_at hl 1 rfl) ?_
            refine rx_ref 13 S P (by decide) q898 dX3_take_68 ?_
            refine lv_iload_n hx hb dX3_take_71 rfl (lv_at hl 3 rfl) ?_
            refine lv_iload_n hx hb dX3_take_72 rfl (lv_at hl 2 rfl) ?_
            refine rx_iast (v := nI t) 13 s S P rfl rfl (by show _ < _; simp only [rN]; omega) dX3_take_73 (fun H locs P => ?_)
            refine lv_aload_n hx hb dX3_take_74 rfl (lv_at hl 1 rfl) ?_
            refine rx_ref 14 S P (by decide) q899 dX3_take_75 ?_
            refine lv_iload_n hx hb dX3_take_78 rfl (lv_at hl 3 rfl) ?_
            refine lv_dup2_11 hx hb dX3_take_79 rfl rfl ?_
            refine rx_iald 14 s S P rfl rfl (by show _ < _; simp only [rN]; omega) dX3_take_80 ?_
            refine lv_iconst (v := 1) hx hb dX3_take_81 (by decide) ?_
            refine lv_iadd hx hb dX3_take_82 ?_
            refine rx_iast (v := (st.1 14 s) + 1) 14 s S P rfl rfl (by show _ < _; simp only [rN]; omega) dX3_take_83 (fun H locs P => ?_)
            exact rx_vret S P hQ hr hlk dX3_take_84 hRw hfl (by simp [s_take, c11, c17, c36, c40, c64] <;> rfl)
        · have _h := True.intro
          refine lv_aload_n hx hb dX3_take_43 rfl (lv_at hl 1 rfl) ?_
          refine rx_ref 17 S P (by decide) q902 dX3_take_44 ?_
          refine lv_bipush (v := 6) hx hb dX3_take_47 (by decide) ?_
          refine lv_iload_n hx hb dX3_take_49 rfl (lv_at hl 3 rfl) ?_
          refine ni_imul (a := 6) (b := s) hx hb dX3_take_50 ?_
          refine lv_iload_n hx hb dX3_take_51 rfl (lv_at hl 2 rfl) ?_
          refine ni_iadd (a := 6 * s) (b := t) hx hb dX3_take_52 ?_
          refine lv_dup2_11 hx hb dX3_take_53 rfl rfl ?_
          refine rx_iald 17 ((6 * s) + t) S P rfl rfl (by show _ < _; simp only [rN]; omega) dX3_take_54 ?_
          refine lv_iconst (v := 1) hx hb dX3_take_55 (by decide) ?_
          refine lv_iadd hx hb dX3_take_56 ?_
          refine rx_iast (v := (st.1 17 ((6 * s) + t)) + 1) 17 ((6 * s) + t) S P rfl rfl (by show _ < _; simp only [rN]; omega) dX3_take_57 (fun H locs P => ?_)
          refine lv_goto (tgt := 84) hx hb dX3_take_58 (by decide) ?_
          exact rx_vret S P hQ hr hlk dX3_take_84 hRw hfl (by simp [s_take, c11, c17, c36, c40] <;> rfl)
    · have _h := True.intro
      refine lv_aload_n hx hb dX3_take_20 rfl (lv_at hl 1 rfl) ?_
      refine rx_ref 15 S P (by decide) q900 dX3_take_21 ?_
      refine lv_iload_n hx hb dX3_take_24 rfl (lv_at hl 3 rfl) ?_
      refine lv_dup2_11 hx hb dX3_take_25 rfl rfl ?_
      refine rx_iald 15 s S P rfl rfl (by show _ < _; simp only [rN]; omega) dX3_take_26 ?_
      refine lv_iconst (v := 1) hx hb dX3_take_27 (by decide) ?_
      refine lv_isub hx hb dX3_take_28 ?_
      refine rx_iast (v := (st.1 15 s) - 1) 15 s S P rfl rfl (by show _ < _; simp only [rN]; omega) dX3_take_29 (fun H locs P => ?_)
      refine lv_goto (tgt := 84) hx hb dX3_take_30 (by decide) ?_
      exact rx_vret S P hQ hr hlk dX3_take_84 hRw hfl (by simp [s_take, c11, c17] <;> rfl)

set_option maxHeartbeats 4000000 in
set_option maxRecDepth 100000 in
theorem rm_addWaited {l : Launch} {D : va_G} {cs : Nat → ClassId} {r : Nat} {ad : Nat → Nat} {L : List Nat} (st : St) (fl : Int32) (t s : Nat) (ht : t < 6) (hs : s < 8) (hdb : DBd st) : RM l D cs yX3_addWaited cX3_addWaited 3 none (rmL 1 0 0) r ad L [.ref r, .int (nI t), .int (nI s)] st fl none (s_addW st t s) fl := by
  refine rm_of rfl (Nat.le_of_ble_eq_true rfl) ?_
  intro f0 x sz p e u m below meth c S P hRw hfl hr hlk ls hl Q hQ
  have hl : lv_has ls 3 [(0, .ref r), (1, .int (nI t)), (2, .int (nI s))] := hl
  have hx := S.1
  have hb := S.2.1
  generalize u.heap = H at P ⊢
  generalize ([] : List Loc) = locs at P ⊢
  refine lv_aload_n hx hb dX3_addWaited_0 rfl (lv_at hl 0 rfl) ?_
  refine rx_ref 20 S P (by decide) q905 dX3_addWaited_1 ?_
  refine lv_iload_n hx hb dX3_addWaited_4 rfl (lv_at hl 2 rfl) ?_
  refine lv_dup2_11 hx hb dX3_addWaited_5 rfl rfl ?_
  refine rx_dald 20 s S P rfl (by show _ < _; simp only [rN]; omega) dX3_addWaited_6 ?_
  refine lv_aload_n hx hb dX3_addWaited_7 rfl (lv_at hl 0 rfl) ?_
  refine rx_getD 11 S P rfl q896 dX3_addWaited_8 ?_
  refine lv_aload_n hx hb dX3_addWaited_11 rfl (lv_at hl 0 rfl) ?_
  refine rx_ref 8 S P (by decide) q893 dX3_addWaited_12 ?_
  refine lv_iload_n hx hb dX3_addWaited_15 rfl (lv_at hl 1 rfl) ?_
  refine rx_dald 8 t S P rfl (by show _ < _; simp only [rN]; omega) dX3_addWaited_16 ?_
  refine lv_dsub hx hb dX3_addWaited_17 ((fb_wait hdb.1 (hdb.2.1 t ht)).2) ?_
  refine lv_dadd hx hb dX3_addWaited_18 ((fb_sum (hdb.2.2 s hs) (fb_wait hdb.1 (hdb.2.1 t ht)).1).2) ?_
  refine rx_dast (v := FP.dadd (st.2.1 20 s) (FP.dsub (st.2.1 11 0) (st.2.1 8 t))) 20 s S P rfl (by show _ < _; simp only [rN]; omega) dX3_addWaited_19 (fun H locs P => ?_)
  refine lv_aload_n hx hb dX3_addWaited_20 rfl (lv_at hl 0 rfl) ?_
  refine rx_ref 21 S P (by decide) q906 dX3_addWaited_21 ?_
  refine lv_iload_n hx hb dX3_addWaited_24 rfl (lv_at hl 2 rfl) ?_
  refine lv_dup2_11 hx hb dX3_addWaited_25 rfl rfl ?_
  refine rx_iald 21 s S P rfl rfl (by show _ < _; simp only [rN]; omega) dX3_addWaited_26 ?_
  refine lv_iconst (v := 1) hx hb dX3_addWaited_27 (by decide) ?_
  refine lv_iadd hx hb dX3_addWaited_28 ?_
  refine rx_iast (v := (st.1 21 s) + 1) 21 s S P rfl rfl (by show _ < _; simp only [rN]; omega) dX3_addWaited_29 (fun H locs P => ?_)
  exact rx_vret S P hQ hr hlk dX3_addWaited_30 hRw hfl (rfl)

set_option maxHeartbeats 4000000 in
set_option maxRecDepth 100000 in
theorem rm_mustQueue {l : Launch} {D : va_G} {cs : Nat → ClassId} {r : Nat} {ad : Nat → Nat} {L : List Nat} (st : St) (fl : Int32) (t s : Nat) (mm : Int32) (ht : t < 6) (hs : s < 8) (hwf : RWf st) : RM l D cs yX3_mustQueue cX3_mustQueue 6 (some .boolean) (rmL 1 0 0) r ad L [.ref r, .int (nI t), .int (nI s), .int mm] st fl (some (.int (bI (s_mustQueue st t s mm)))) st fl := by
  refine rm_of rfl (Nat.le_of_ble_eq_true rfl) ?_
  intro f0 x sz p e u m below meth c S P hRw hfl hr hlk ls hl Q hQ
  have hl : lv_has ls 6 [(0, .ref r), (1, .int (nI t)), (2, .int (nI s)), (3, .int mm)] := hl
  have hx := S.1
  have hb := S.2.1
  generalize u.heap = H at P ⊢
  generalize ([] : List Loc) = locs at P ⊢
  have hlen := (hwf s hs).1
  refine lv_aload_n hx hb dX3_mustQueue_0 rfl (lv_at hl 0 rfl) ?_
  refine rx_ref 12 S P (by decide) q897 dX3_mustQueue_1 ?_
  refine lv_iload_n hx hb dX3_mustQueue_4 rfl (lv_at hl 2 rfl) ?_
  refine rx_iald 12 s S P rfl rfl (by show _ < _; simp only [rN]; omega) dX3_mustQueue_5 ?_
  refine lv_istore (lv' := [(4, .int (st.1 12 s)), (0, .ref r), (1, .int (nI t)), (2, .int (nI s)), (3, .int mm)]) hx hb dX3_mustQueue_6 hl (by decide) rfl (fun ls hl => ?_)
  refine lv_iload hx hb dX3_mustQueue_8 (lv_at hl 0 rfl) ?_
  refine lv_iconst (v := 4) hx hb dX3_mustQueue_10 (by decide) ?_
  refine lv_icmp_eq (tgt := 30) (x := st.1 12 s) (y := 4) hx hb dX3_mustQueue_11 (by decide) (fun c11 => ?_) (fun c11 => ?_)
  · have _h := True.intro
    refine lv_iconst (v := 0) hx hb dX3_mustQueue_30 (by decide) ?_
    exact rx_zret S P hQ hr hlk dX3_mustQueue_31 hRw hfl (bI_or _) (by simp [s_mustQueue, bI, c11]) (rfl)
  · have _h := True.intro
    refine lv_iload hx hb dX3_mustQueue_14 (lv_at hl 0 rfl) ?_
    refine lv_iconst (v := 1) hx hb dX3_mustQueue_16 (by decide) ?_
    refine lv_icmp_ne (tgt := 32) (x := st.1 12 s) (y := 1) hx hb dX3_mustQueue_17 (by decide) (fun c17 => ?_) (fun c17 => ?_)
    · have _h := True.intro
      refine lv_iload hx hb dX3_mustQueue_32 (lv_at hl 0 rfl) ?_
      refine lv_iconst (v := 5) hx hb dX3_mustQueue_34 (by decide) ?_
      refine lv_icmp_eq (tgt := 53) (x := st.1 12 s) (y := 5) hx hb dX3_mustQueue_35 (by decide) (fun c35 => ?_) (fun c35 => ?_)
      · have _h := True.intro
        refine lv_aload_n hx hb dX3_mustQueue_53 rfl (lv_at hl 1 rfl) ?_
        refine rx_ref 17 S P (by decide) q902 dX3_mustQueue_54 ?_
        refine lv_bipush (v := 6) hx hb dX3_mustQueue_57 (by decide) ?_
        refine lv_iload_n hx hb dX3_mustQueue_59 rfl (lv_at hl 3 rfl) ?_
        refine ni_imul (a := 6) (b := s) hx hb dX3_mustQueue_60 ?_
        refine lv_iload_n hx hb dX3_mustQueue_61 rfl (lv_at hl 2 rfl) ?_
        refine ni_iadd (a := 6 * s) (b := t) hx hb dX3_mustQueue_62 ?_
        refine rx_iald 17 ((6 * s) + t) S P rfl rfl (by show _ < _; simp only [rN]; omega) dX3_mustQueue_63 ?_
        refine lv_if_gt (tgt := 77) (x := st.1 17 ((6 * s) + t)) hx hb dX3_mustQueue_64 (by decide) (fun c64 => ?_) (fun c64 => ?_)
        · have _h := True.intro
          refine lv_iconst (v := 0) hx hb dX3_mustQueue_77 (by decide) ?_
          exact rx_zret S P hQ hr hlk dX3_mustQueue_78 hRw hfl (bI_or _) (by simp [s_mustQueue, bI, c11, c17, c35, c64]) (rfl)
        · have _h := True.intro
          refine lv_aload_n hx hb dX3_mustQueue_67 rfl (lv_at hl 1 rfl) ?_
          refine rx_ref 13 S P (by decide) q898 dX3_mustQueue_68 ?_
          refine lv_iload_n hx hb dX3_mustQueue_71 rfl (lv_at hl 3 rfl) ?_
          refine rx_iald 13 s S P rfl rfl (by show _ < _; simp only [rN]; omega) dX3_mustQueue_72 ?_
          refine lv_iload_n hx hb dX3_mustQueue_73 rfl (lv_at hl 2 rfl) ?_
          refine lv_icmp_ne (tgt := 79) (x := st.1 13 s) (y := nI t) hx hb dX3_mustQueue_74 (by decide) (fun c74 => ?_) (fun c74 => ?_)
          · have _h := True.intro
            refine lv_iconst (v := 0) hx hb dX3_mustQueue_79 (by decide) ?_
            refine lv_istore (lv' := [(5, .int 0), (4, .int (st.1 12 s)), (0, .ref r), (1, .int (nI t)), (2, .int (nI s)), (3, .int mm)]) hx hb dX3_mustQueue_80 hl (by decide) rfl (fun ls hl => ?_)
            have loop82 : ∀ (d : Nat) (i : Nat), 6 - i < d → (i ≤ (st.2.2 s).length) → (∀ j, j < i → ¬ (mm = 1 ∨ st.1 6 ((st.2.2 s).getD j 0) = 1)) → ∀ (H : Heap) (locs : List Loc), RX D cs (pA L sz) u r ad L f0 st x H locs → ∀ (ls : Array Slot), lv_has ls 6 [(5, .int (nI i)), (0, .ref r), (1, .int (nI t)), (2, .int (nI s)), (3, .int mm)] → W p l e (rmL 1 0 0) u m ([.ref r, .int (nI t), .int (nI s), .int mm] : List Value).toArray below meth c H locs 0 0 Q (F0 m 82 ls []) := by
              intro d82
              induction d82 with
              | zero => intro i hd; exact absurd hd (by omega)
              | succ d82 ih82 =>
                intro i hd82 hi hinv H locs P ls hl
                refine lv_iload hx hb dX3_mustQueue_82 (lv_at hl 0 rfl) ?_
                refine lv_aload_n hx hb dX3_mustQueue_84 rfl (lv_at hl 1 rfl) ?_
                refine rx_ref 19 S P (by decide) q904 dX3_mustQueue_85 ?_
                refine lv_iload_n hx hb dX3_mustQueue_88 rfl (lv_at hl 3 rfl) ?_
                refine rx_ialdG 19 s S P rfl rfl (by show _ < _; simp only [rN]; omega) dX3_mustQueue_89 ?_
                rw [(hRw s hs).1]
                refine ni_icmp_ge (tgt := 127) (a := i) (b := (st.2.2 s).length) hx hb (by omega) (by omega) dX3_mustQueue_90 (by decide) (fun c90 => ?_) (fun c90 => ?_)
                · have _h := True.intro
                  refine lv_iconst (v := 0) hx hb dX3_mustQueue_127 (by decide) ?_
                  exact rx_zret S P hQ hr hlk dX3_mustQueue_128 hRw hfl (bI_or _) (by rw [s_mq5 c35 c64 c74, ls_any_f (fun j hj hq => hinv j (by omega) (of_decide_eq_true hq))]; rfl) (rfl)
                · have _h := True.intro
                  refine lv_iload_n hx hb dX3_mustQueue_93 rfl (lv_at hl 4 rfl) ?_
                  refine lv_iconst (v := 1) hx hb dX3_mustQueue_94 (by decide) ?_
                  refine lv_icmp_eq (tgt := 119) (x := mm) (y := 1) hx hb dX3_mustQueue_95 (by decide) (fun c95 => ?_) (fun c95 => ?_)
                  · have _h := True.intro
                    refine lv_iconst (v := 1) hx hb dX3_mustQueue_119 (by decide) ?_
                    exact rx_zret S P hQ hr hlk dX3_mustQueue_120 hRw hfl (bI_or _) (by rw [s_mq5 c35 c64 c74, ls_any_t (i := i) (by omega) (decide_eq_true (Or.inl c95))]; rfl) (rfl)
                  · have _h := True.intro
                    refine lv_aload_n hx hb dX3_mustQueue_98 rfl (lv_at hl 1 rfl) ?_
                    refine rx_ref 6 S P (by decide) q891 dX3_mustQueue_99 ?_
                    refine lv_aload_n hx hb dX3_mustQueue_102 rfl (lv_at hl 1 rfl) ?_
                    refine rx_ref 18 S P (by decide) q903 dX3_mustQueue_103 ?_
                    refine lv_bipush (v := 6) hx hb dX3_mustQueue_106 (by decide) ?_
                    refine lv_iload_n hx hb dX3_mustQueue_108 rfl (lv_at hl 3 rfl) ?_
                    refine ni_imul (a := 6) (b := s) hx hb dX3_mustQueue_109 ?_
                    refine lv_iload hx hb dX3_mustQueue_110 (lv_at hl 0 rfl) ?_
                    refine ni_iadd (a := 6 * s) (b := i) hx hb dX3_mustQueue_112 ?_
                    refine rx_ialdG 18 ((6 * s) + i) S P rfl rfl (by show _ < _; simp only [rN]; omega) dX3_mustQueue_113 ?_
                    rw [(hRw s hs).2 i (by omega)]
                    refine rx_iald 6 ((st.2.2 s).getD i 0) S P rfl rfl (hwf.at hs (by omega)) dX3_mustQueue_114 ?_
                    refine lv_iconst (v := 1) hx hb dX3_mustQueue_115 (by decide) ?_
                    refine lv_icmp_ne (tgt := 121) (x := st.1 6 ((st.2.2 s).getD i 0)) (y := 1) hx hb dX3_mustQueue_116 (by decide) (fun c116 => ?_) (fun c116 => ?_)
                    · have _h := True.intro
                      refine lv_iinc (v := nI (i + 1)) (lv' := [(5, .int (nI (i + 1))), (0, .ref r), (1, .int (nI t)), (2, .int (nI s)), (3, .int mm)]) hx hb dX3_mustQueue_121 hl (k := 0) rfl (nI_1 _) (by decide) rfl (fun ls hl => ?_)
                      refine lv_goto (tgt := 82) hx hb dX3_mustQueue_124 (by decide) ?_
                      exact ih82 (i + 1) (by omega) (by omega) (fun j hj => by
                        rcases Nat.lt_or_ge j i with hj2 | hj2
                        · exact hinv j hj2
                        · have : j = i := by omega
                          subst this
                          intro h
                          rcases h with h | h
                          · exact c95 h
                          · exact c116 h) _ _ P ls (lv_sub hl [0, 1, 2, 3, 4] rfl)
                    · have _h := True.intro
                      refine lv_iconst (v := 1) hx hb dX3_mustQueue_119 (by decide) ?_
                      exact rx_zret S P hQ hr hlk dX3_mustQueue_120 hRw hfl (bI_or _) (by rw [s_mq5 c35 c64 c74, ls_any_t (i := i) (by omega) (decide_eq_true (Or.inr c116))]; rfl) (rfl)
            exact loop82 _ 0 (Nat.lt_succ_self _) (by omega) (fun j hj => absurd hj (by omega)) _ _ P ls (lv_sub hl [0, 2, 3, 4, 5] (rfl))
          · have _h := True.intro
            refine lv_iconst (v := 0) hx hb dX3_mustQueue_77 (by decide) ?_
            exact rx_zret S P hQ hr hlk dX3_mustQueue_78 hRw hfl (bI_or _) (by simp [s_mustQueue, bI, c11, c17, c35, c64, c74]) (rfl)
      · have _h := True.intro
        refine lv_aload_n hx hb dX3_mustQueue_38 rfl (lv_at hl 1 rfl) ?_
        refine rx_ref 19 S P (by decide) q904 dX3_mustQueue_39 ?_
        refine lv_iload_n hx hb dX3_mustQueue_42 rfl (lv_at hl 3 rfl) ?_
        refine rx_ialdG 19 s S P rfl rfl (by show _ < _; simp only [rN]; omega) dX3_mustQueue_43 ?_
        rw [(hRw s hs).1]
        refine ni_if_le (tgt := 51) (a := (st.2.2 s).length) hx hb (by omega) dX3_mustQueue_44 (by decide) (fun c44 => ?_) (fun c44 => ?_)
        · have _h := True.intro
          refine lv_iconst (v := 0) hx hb dX3_mustQueue_51 (by decide) ?_
          exact rx_zret S P hQ hr hlk dX3_mustQueue_52 hRw hfl (bI_or _) (by simp [s_mustQueue, bI, ls_ie0 c44, c11, c17, c35, c44]) (rfl)
        · have _h := True.intro
          refine lv_iconst (v := 1) hx hb dX3_mustQueue_47 (by decide) ?_
          refine lv_goto (tgt := 52) hx hb dX3_mustQueue_48 (by decide) ?_
          exact rx_zret S P hQ hr hlk dX3_mustQueue_52 hRw hfl (bI_or _) (by simp [s_mustQueue, bI, ls_ie1 c44, c11, c17, c35, c44]) (rfl)
    · have _h := True.intro
      refine lv_aload_n hx hb dX3_mustQueue_20 rfl (lv_at hl 1 rfl) ?_
      refine rx_ref 13 S P (by decide) q898 dX3_mustQueue_21 ?_
      refine lv_iload_n hx hb dX3_mustQueue_24 rfl (lv_at hl 3 rfl) ?_
      refine rx_iald 13 s S P rfl rfl (by show _ < _; simp only [rN]; omega) dX3_mustQueue_25 ?_
      refine lv_iload_n hx hb dX3_mustQueue_26 rfl (lv_at hl 2 rfl) ?_
      refine lv_icmp_ne (tgt := 32) (x := st.1 13 s) (y := nI t) hx hb dX3_mustQueue_27 (by decide) (fun c27 => ?_) (fun c27 => ?_)
      · have _h := True.intro
        refine lv_iload hx hb dX3_mustQueue_32 (lv_at hl 0 rfl) ?_
        refine lv_iconst (v := 5) hx hb dX3_mustQueue_34 (by decide) ?_
        refine lv_icmp_eq (tgt := 53) (x := st.1 12 s) (y := 5) hx hb dX3_mustQueue_35 (by decide) (fun c35 => ?_) (fun c35 => ?_)
        · exact absurd (c17.symm.trans c35) (by decide)
        · have _h := True.intro
          refine lv_aload_n hx hb dX3_mustQueue_38 rfl (lv_at hl 1 rfl) ?_
          refine rx_ref 19 S P (by decide) q904 dX3_mustQueue_39 ?_
          refine lv_iload_n hx hb dX3_mustQueue_42 rfl (lv_at hl 3 rfl) ?_
          refine rx_ialdG 19 s S P rfl rfl (by show _ < _; simp only [rN]; omega) dX3_mustQueue_43 ?_
          rw [(hRw s hs).1]
          refine ni_if_le (tgt := 51) (a := (st.2.2 s).length) hx hb (by omega) dX3_mustQueue_44 (by decide) (fun c44 => ?_) (fun c44 => ?_)
          · have _h := True.intro
            refine lv_iconst (v := 0) hx hb dX3_mustQueue_51 (by decide) ?_
            exact rx_zret S P hQ hr hlk dX3_mustQueue_52 hRw hfl (bI_or _) (by simp [s_mustQueue, bI, ls_ie0 c44, c11, c17, c27, c35, c44]) (rfl)
          · have _h := True.intro
            refine lv_iconst (v := 1) hx hb dX3_mustQueue_47 (by decide) ?_
            refine lv_goto (tgt := 52) hx hb dX3_mustQueue_48 (by decide) ?_
            exact rx_zret S P hQ hr hlk dX3_mustQueue_52 hRw hfl (bI_or _) (by simp [s_mustQueue, bI, ls_ie1 c44, c11, c17, c27, c35, c44]) (rfl)
      · have _h := True.intro
        refine lv_iconst (v := 0) hx hb dX3_mustQueue_30 (by decide) ?_
        exact rx_zret S P hQ hr hlk dX3_mustQueue_31 hRw hfl (bI_or _) (by simp [s_mustQueue, bI, c11, c17, c27]) (rfl)

set_option maxHeartbeats 4000000 in
set_option maxRecDepth 100000 in
theorem rm_enter {l : Launch} {D : va_G} {cs : Nat → ClassId} {r : Nat} {ad : Nat → Nat} {L : List Nat} (st : St) (fl : Int32) (t s : Nat) (ht : t < 6) (hs : s < 8) (hlt : (st.2.2 s).length < 6) (hwf : RWf st) : RM l D cs yX3_enter cX3_enter 3 none (rmL 1 0 0) r ad L [.ref r, .int (nI t), .int (nI s)] st fl none (s_enter st t s) fl := by
  refine rm_of rfl (Nat.le_of_ble_eq_true rfl) ?_
  intro f0 x sz p e u m below meth c S P hRw hfl hr hlk ls hl Q hQ
  have hl : lv_has ls 3 [(0, .ref r), (1, .int (nI t)), (2, .int (nI s))] := hl
  have hx := S.1
  have hb := S.2.1
  generalize u.heap = H at P ⊢
  generalize ([] : List Loc) = locs at P ⊢
  refine lv_aload_n hx hb dX3_enter_0 rfl (lv_at hl 0 rfl) ?_
  refine rx_ref 18 S P (by decide) q903 dX3_enter_1 ?_
  refine lv_bipush (v := 6) hx hb dX3_enter_4 (by decide) ?_
  refine lv_iload_n hx hb dX3_enter_6 rfl (lv_at hl 2 rfl) ?_
  refine ni_imul (a := 6) (b := s) hx hb dX3_enter_7 ?_
  refine lv_aload_n hx hb dX3_enter_8 rfl (lv_at hl 0 rfl) ?_
  refine rx_ref 19 S P (by decide) q904 dX3_enter_9 ?_
  refine lv_iload_n hx hb dX3_enter_12 rfl (lv_at hl 2 rfl) ?_
  refine rx_ialdG 19 s S P rfl rfl (by show _ < _; simp only [rN]; omega) dX3_enter_13 ?_
  rw [show x 19 s = nI (st.2.2 s).length from (hRw s hs).1]
  refine ni_iadd (a := 6 * s) (b := (st.2.2 s).length) hx hb dX3_enter_14 ?_
  refine lv_iload_n hx hb dX3_enter_15 rfl (lv_at hl 1 rfl) ?_
  refine rx_iastG (v := nI t) 18 ((6 * s) + ((st.2.2 s).length)) S P rfl rfl (by show _ < _; simp only [rN]; omega) dX3_enter_16 (fun H locs P => ?_)
  refine lv_aload_n hx hb dX3_enter_17 rfl (lv_at hl 0 rfl) ?_
  refine rx_ref 19 S P (by decide) q904 dX3_enter_18 ?_
  refine lv_iload_n hx hb dX3_enter_21 rfl (lv_at hl 2 rfl) ?_
  refine lv_dup2_11 hx hb dX3_enter_22 rfl rfl ?_
  refine rx_ialdG 19 s S P rfl rfl (by show _ < _; simp only [rN]; omega) dX3_enter_23 ?_
  rw [show (va_up x 18 (upd (x 18) ((6 * s) + ((st.2.2 s).length)) (nI t))) 19 s = nI (st.2.2 s).length from (hRw s hs).1]
  refine lv_iconst (v := 1) hx hb dX3_enter_24 (by decide) ?_
  refine ni_iadd (a := (st.2.2 s).length) (b := 1) hx hb dX3_enter_25 ?_
  refine rx_iastG (v := nI (((st.2.2 s).length) + 1)) 19 s S P rfl rfl (by show _ < _; simp only [rN]; omega) dX3_enter_26 (fun H locs P => ?_)
  refine lv_aload_n hx hb dX3_enter_27 rfl (lv_at hl 0 rfl) ?_
  refine rx_ref 5 S P (by decide) q890 dX3_enter_28 ?_
  refine lv_iload_n hx hb dX3_enter_31 rfl (lv_at hl 1 rfl) ?_
  refine lv_iload_n hx hb dX3_enter_32 rfl (lv_at hl 2 rfl) ?_
  refine rx_iast (v := nI s) 5 t S P rfl rfl (by show _ < _; simp only [rN]; omega) dX3_enter_33 (fun H locs P => ?_)
  refine lv_aload_n hx hb dX3_enter_34 rfl (lv_at hl 0 rfl) ?_
  refine rx_ref 8 S P (by decide) q893 dX3_enter_35 ?_
  refine lv_iload_n hx hb dX3_enter_38 rfl (lv_at hl 1 rfl) ?_
  refine lv_aload_n hx hb dX3_enter_39 rfl (lv_at hl 0 rfl) ?_
  refine rx_getD 11 S P rfl q896 dX3_enter_40 ?_
  refine rx_dast (v := st.2.1 11 0) 8 t S P rfl (by show _ < _; simp only [rN]; omega) dX3_enter_43 (fun H locs P => ?_)
  refine lv_aload_n hx hb dX3_enter_44 rfl (lv_at hl 0 rfl) ?_
  refine rx_ref 1 S P (by decide) q886 dX3_enter_45 ?_
  refine lv_iload_n hx hb dX3_enter_48 rfl (lv_at hl 1 rfl) ?_
  refine lv_iconst (v := 1) hx hb dX3_enter_49 (by decide) ?_
  refine rx_zast (v := 1) 1 t S P rfl rfl (by show _ < _; simp only [rN]; omega) (by decide) dX3_enter_50 (fun H locs P => ?_)
  have hRw := rw_enter (t := t) hRw hs hlt (fun s h => (hwf s h).1)
  have P : RX D cs (pA L sz) u r ad L f0 (s_enter st t s) _ H locs := P
  exact rx_vret S P hQ hr hlk dX3_enter_51 hRw hfl (rfl)

set_option maxHeartbeats 4000000 in
set_option maxRecDepth 100000 in
theorem rm_remove {l : Launch} {D : va_G} {cs : Nat → ClassId} {r : Nat} {ad : Nat → Nat} {L : List Nat} (st : St) (fl : Int32) (t s : Nat) (ht : t < 6) (hs : s < 8) (hmem : t ∈ st.2.2 s) (hwf : RWf st) : RM l D cs yX3_remove cX3_remove 5 none (rmL 1 0 0) r ad L [.ref r, .int (nI t), .int (nI s)] st fl none (s_remove st t s) fl := by
  refine rm_of rfl (Nat.le_of_ble_eq_true rfl) ?_
  intro f0 x sz p e u m below meth c S P hRw hfl hr hlk ls hl Q hQ
  have hl : lv_has ls 5 [(0, .ref r), (1, .int (nI t)), (2, .int (nI s))] := hl
  have hx := S.1
  have hb := S.2.1
  generalize u.heap = H at P ⊢
  generalize ([] : List Loc) = locs at P ⊢
  have hlen := (hwf s hs).1
  refine lv_iconst (v := 0) hx hb dX3_remove_0 (by decide) ?_
  refine lv_istore_n (lv' := [(3, .int 0), (0, .ref r), (1, .int (nI t)), (2, .int (nI s))]) hx hb dX3_remove_1 rfl hl (by decide) rfl (fun ls hl => ?_)
  have loop2 : ∀ (d : Nat) (i : Nat), 6 - i < d → (∃ k, i ≤ k ∧ k < (st.2.2 s).length ∧ (st.2.2 s).getD k 0 = t) → (∀ j, j < i → ¬ (st.2.2 s).getD j 0 = t) → ∀ (H : Heap) (locs : List Loc), RX D cs (pA L sz) u r ad L f0 st x H locs → ∀ (ls : Array Slot), lv_has ls 5 [(3, .int (nI i)), (0, .ref r), (1, .int (nI t)), (2, .int (nI s))] → W p l e (rmL 1 0 0) u m ([.ref r, .int (nI t), .int (nI s)] : List Value).toArray below meth c H locs 0 0 Q (F0 m 2 ls []) := by
    intro d2
    induction d2 with
    | zero => intro i hd; exact absurd hd (by omega)
    | succ d2 ih2 =>
      intro i hd2 hlt hn H locs P ls hl
      refine lv_aload_n hx hb dX3_remove_2 rfl (lv_at hl 1 rfl) ?_
      refine rx_ref 18 S P (by decide) q903 dX3_remove_3 ?_
      refine lv_bipush (v := 6) hx hb dX3_remove_6 (by decide) ?_
      refine lv_iload_n hx hb dX3_remove_8 rfl (lv_at hl 3 rfl) ?_
      refine ni_imul (a := 6) (b := s) hx hb dX3_remove_9 ?_
      refine lv_iload_n hx hb dX3_remove_10 rfl (lv_at hl 0 rfl) ?_
      refine ni_iadd (a := 6 * s) (b := i) hx hb dX3_remove_11 ?_
      refine rx_ialdG 18 ((6 * s) + i) S P rfl rfl (by obtain ⟨k, h1, h2, h3⟩ := hlt; show _ < _; simp only [rN]; omega) dX3_remove_12 ?_
      have hi : i < (st.2.2 s).length := by obtain ⟨k, h1, h2, h3⟩ := hlt; omega
      have hgi := hwf.at hs hi
      rw [(hRw s hs).2 i hi]
      refine lv_iload_n hx hb dX3_remove_13 rfl (lv_at hl 2 rfl) ?_
      refine ni_icmp_eq (tgt := 23) (a := (st.2.2 s).getD i 0) (b := t) hx hb (by omega) (by omega) dX3_remove_14 (by decide) (fun c14 => ?_) (fun c14 => ?_)
      · have _h := True.intro
        refine lv_aload_n hx hb dX3_remove_23 rfl (lv_at hl 1 rfl) ?_
        refine rx_ref 19 S P (by decide) q904 dX3_remove_24 ?_
        refine lv_iload_n hx hb dX3_remove_27 rfl (lv_at hl 3 rfl) ?_
        refine lv_dup2_11 hx hb dX3_remove_28 rfl rfl ?_
        refine rx_ialdG 19 s S P rfl rfl (by show _ < _; simp only [rN]; omega) dX3_remove_29 ?_
        rw [(hRw s hs).1]
        refine lv_iconst (v := 1) hx hb dX3_remove_30 (by decide) ?_
        refine ni_isub (a := (st.2.2 s).length) (b := 1) hx hb (by omega) dX3_remove_31 ?_
        refine rx_iastG (v := nI (((st.2.2 s).length) - 1)) 19 s S P rfl rfl (by show _ < _; simp only [rN]; omega) dX3_remove_32 (fun H locs P => ?_)
        refine lv_iload_n hx hb dX3_remove_33 rfl (lv_at hl 0 rfl) ?_
        refine lv_istore (lv' := [(4, .int (nI i)), (3, .int (nI i)), (0, .ref r), (1, .int (nI t)), (2, .int (nI s))]) hx hb dX3_remove_34 hl (by decide) rfl (fun ls hl => ?_)
        have loop36 : ∀ (d : Nat) (j : Nat) (y : Nat → Nat → Int32), 6 - j < d → (i ≤ j) → (j ≤ (st.2.2 s).length - 1) → (rmv st x y t s i j) → ∀ (H : Heap) (locs : List Loc), RX D cs (pA L sz) u r ad L f0 st y H locs → ∀ (ls : Array Slot), lv_has ls 5 [(4, .int (nI j)), (0, .ref r), (1, .int (nI t)), (2, .int (nI s))] → W p l e (rmL 1 0 0) u m ([.ref r, .int (nI t), .int (nI s)] : List Value).toArray below meth c H locs 0 0 Q (F0 m 36 ls []) := by
          intro d36
          induction d36 with
          | zero => intro j y hd; exact absurd hd (by omega)
          | succ d36 ih36 =>
            intro j y hd36 hij hj hrm H locs P ls hl
            refine lv_iload hx hb dX3_remove_36 (lv_at hl 0 rfl) ?_
            refine lv_aload_n hx hb dX3_remove_38 rfl (lv_at hl 1 rfl) ?_
            refine rx_ref 19 S P (by decide) q904 dX3_remove_39 ?_
            refine lv_iload_n hx hb dX3_remove_42 rfl (lv_at hl 3 rfl) ?_
            refine rx_ialdG 19 s S P rfl rfl (by show _ < _; simp only [rN]; omega) dX3_remove_43 ?_
            rw [hrm.2.1 s hs, if_pos rfl]
            refine ni_icmp_ge (tgt := 79) (a := j) (b := (st.2.2 s).length - 1) hx hb (by omega) (by omega) dX3_remove_44 (by decide) (fun c44 => ?_) (fun c44 => ?_)
            · have _h := True.intro
              refine lv_aload_n hx hb dX3_remove_79 rfl (lv_at hl 1 rfl) ?_
              refine rx_ref 5 S P (by decide) q890 dX3_remove_80 ?_
              refine lv_iload_n hx hb dX3_remove_83 rfl (lv_at hl 2 rfl) ?_
              refine lv_iconst (v := (-1)) hx hb dX3_remove_84 (by decide) ?_
              refine rx_iast (v := (-1)) 5 t S P rfl rfl (by show _ < _; simp only [rN]; omega) dX3_remove_85 (fun H locs P => ?_)
              have hfl : y 0 0 = fl := by rw [hrm.1]; exact hfl
              have hRw := rmv_e hrm hRw hs (by omega) (fun s h => (hwf s h).1) (ls_idx hi c14 hn) hi
              have P : RX D cs (pA L sz) u r ad L f0 (s_remove st t s) y H locs := P
              exact rx_vret S P hQ hr hlk dX3_remove_86 hRw hfl (rfl)
            · have _h := True.intro
              refine lv_aload_n hx hb dX3_remove_47 rfl (lv_at hl 1 rfl) ?_
              refine rx_ref 18 S P (by decide) q903 dX3_remove_48 ?_
              refine lv_bipush (v := 6) hx hb dX3_remove_51 (by decide) ?_
              refine lv_iload_n hx hb dX3_remove_53 rfl (lv_at hl 3 rfl) ?_
              refine ni_imul (a := 6) (b := s) hx hb dX3_remove_54 ?_
              refine lv_iload hx hb dX3_remove_55 (lv_at hl 0 rfl) ?_
              refine ni_iadd (a := 6 * s) (b := j) hx hb dX3_remove_57 ?_
              refine lv_aload_n hx hb dX3_remove_58 rfl (lv_at hl 1 rfl) ?_
              refine rx_ref 18 S P (by decide) q903 dX3_remove_59 ?_
              refine lv_bipush (v := 6) hx hb dX3_remove_62 (by decide) ?_
              refine lv_iload_n hx hb dX3_remove_64 rfl (lv_at hl 3 rfl) ?_
              refine ni_imul (a := 6) (b := s) hx hb dX3_remove_65 ?_
              refine lv_iload hx hb dX3_remove_66 (lv_at hl 0 rfl) ?_
              refine ni_iadd (a := 6 * s) (b := j) hx hb dX3_remove_68 ?_
              refine lv_iconst (v := 1) hx hb dX3_remove_69 (by decide) ?_
              refine ni_iadd (a := (6 * s) + j) (b := 1) hx hb dX3_remove_70 ?_
              refine rx_ialdG 18 (((6 * s) + j) + 1) S P rfl rfl (by show _ < _; simp only [rN]; omega) dX3_remove_71 ?_
              refine rx_iastG (v := y 18 (((6 * s) + j) + 1)) 18 ((6 * s) + j) S P rfl rfl (by show _ < _; simp only [rN]; omega) dX3_remove_72 (fun H locs P => ?_)
              refine lv_iinc (v := nI (j + 1)) (lv' := [(4, .int (nI (j + 1))), (0, .ref r), (1, .int (nI t)), (2, .int (nI s))]) hx hb dX3_remove_73 hl (k := 0) rfl (nI_1 _) (by decide) rfl (fun ls hl => ?_)
              refine lv_goto (tgt := 36) hx hb dX3_remove_76 (by decide) ?_
              exact ih36 (j + 1) _ (by omega) (by omega) (by omega) (rmv_s hrm hij hs (by omega) hlen) _ _ P ls (lv_sub hl [0, 1, 2, 3] rfl)
        exact loop36 _ i _ (Nat.lt_succ_self _) (by omega) (by omega) (rmv_0 hRw hs hi) _ _ P ls (lv_sub hl [0, 2, 3, 4] (rfl))
      · have _h := True.intro
        refine lv_iinc (v := nI (i + 1)) (lv' := [(3, .int (nI (i + 1))), (0, .ref r), (1, .int (nI t)), (2, .int (nI s))]) hx hb dX3_remove_17 hl (k := 0) rfl (nI_1 _) (by decide) rfl (fun ls hl => ?_)
        refine lv_goto (tgt := 2) hx hb dX3_remove_20 (by decide) ?_
        exact ih2 (i + 1) (by omega) (by
          obtain ⟨k, h1, h2, h3⟩ := hlt
          refine ⟨k, ?_, h2, h3⟩
          rcases Nat.lt_or_ge i k with h | h
          · exact h
          · have : k = i := by omega
            subst this
            exact absurd h3 c14) (fun j hj => by
          rcases Nat.lt_or_ge j i with hj2 | hj2
          · exact hn j hj2
          · have : j = i := by omega
            subst this
            exact c14) _ _ P ls (lv_sub hl [0, 1, 2, 3] rfl)
  exact loop2 _ 0 (Nat.lt_succ_self _) (by obtain ⟨k, h1, h2⟩ := ls_has hmem; exact ⟨k, by omega, h1, h2⟩) (fun j hj => absurd hj (by omega)) _ _ P ls (lv_sub hl [0, 1, 2, 3] (rfl))

set_option maxHeartbeats 4000000 in
set_option maxRecDepth 100000 in
theorem rm_next {l : Launch} {D : va_G} {cs : Nat → ClassId} {r : Nat} {ad : Nat → Nat} {L : List Nat} (st : St) (fl : Int32) (s : Nat) (hs : s < 8) (hne : 0 < (st.2.2 s).length) (hwf : RWf st) : RM l D cs yX3_next cX3_next 5 (some .int) (rmL 1 0 0) r ad L [.ref r, .int (nI s)] st fl (some (.int (nI (s_next st s)))) st fl := by
  refine rm_of rfl (Nat.le_of_ble_eq_true rfl) ?_
  intro f0 x sz p e u m below meth c S P hRw hfl hr hlk ls hl Q hQ
  have hl : lv_has ls 5 [(0, .ref r), (1, .int (nI s))] := hl
  have hx := S.1
  have hb := S.2.1
  generalize u.heap = H at P ⊢
  generalize ([] : List Loc) = locs at P ⊢
  have hlen := (hwf s hs).1
  have hg0 := hwf.at hs hne
  refine lv_aload_n hx hb dX3_next_0 rfl (lv_at hl 0 rfl) ?_
  refine rx_ref 18 S P (by decide) q903 dX3_next_1 ?_
  refine lv_bipush (v := 6) hx hb dX3_next_4 (by decide) ?_
  refine lv_iload_n hx hb dX3_next_6 rfl (lv_at hl 1 rfl) ?_
  refine ni_imul (a := 6) (b := s) hx hb dX3_next_7 ?_
  refine rx_ialdG 18 (6 * s) S P rfl rfl (by show _ < _; simp only [rN]; omega) dX3_next_8 ?_
  rw [show (6 * s : Nat) = 6 * s + 0 from rfl, (hRw s hs).2 0 hne]
  refine lv_istore_n (lv' := [(2, .int (nI ((st.2.2 s).getD 0 0))), (0, .ref r), (1, .int (nI s))]) hx hb dX3_next_9 rfl hl (by decide) rfl (fun ls hl => ?_)
  refine lv_iconst (v := 1) hx hb dX3_next_10 (by decide) ?_
  refine lv_istore_n (lv' := [(3, .int 1), (2, .int (nI ((st.2.2 s).getD 0 0))), (0, .ref r), (1, .int (nI s))]) hx hb dX3_next_11 rfl hl (by decide) rfl (fun ls hl => ?_)
  have loop12 : ∀ (d : Nat) (i b : Nat), 6 - i < d → (1 ≤ i) → (i ≤ (st.2.2 s).length) → (b < 6) → (s_next st s = s_nextF st s b ((st.2.2 s).drop i)) → ∀ (H : Heap) (locs : List Loc), RX D cs (pA L sz) u r ad L f0 st x H locs → ∀ (ls : Array Slot), lv_has ls 5 [(3, .int (nI i)), (2, .int (nI b)), (0, .ref r), (1, .int (nI s))] → W p l e (rmL 1 0 0) u m ([.ref r, .int (nI s)] : List Value).toArray below meth c H locs 0 0 Q (F0 m 12 ls []) := by
    intro d12
    induction d12 with
    | zero => intro i b hd; exact absurd hd (by omega)
    | succ d12 ih12 =>
      intro i b hd12 h1i hi hb6 hinv H locs P ls hl
      refine lv_iload_n hx hb dX3_next_12 rfl (lv_at hl 0 rfl) ?_
      refine lv_aload_n hx hb dX3_next_13 rfl (lv_at hl 2 rfl) ?_
      refine rx_ref 19 S P (by decide) q904 dX3_next_14 ?_
      refine lv_iload_n hx hb dX3_next_17 rfl (lv_at hl 3 rfl) ?_
      refine rx_ialdG 19 s S P rfl rfl (by show _ < _; simp only [rN]; omega) dX3_next_18 ?_
      rw [(hRw s hs).1]
      refine ni_icmp_ge (tgt := 101) (a := i) (b := (st.2.2 s).length) hx hb (by omega) (by omega) dX3_next_19 (by decide) (fun c19 => ?_) (fun c19 => ?_)
      · have _h := True.intro
        refine lv_iload_n hx hb dX3_next_101 rfl (lv_at hl 1 rfl) ?_
        exact rx_iret S P hQ hr hlk dX3_next_102 hRw hfl (by rw [hinv, List.drop_eq_nil_of_le (by omega)]; rfl) (rfl)
      · have _h := True.intro
        refine lv_aload_n hx hb dX3_next_22 rfl (lv_at hl 2 rfl) ?_
        refine rx_ref 18 S P (by decide) q903 dX3_next_23 ?_
        refine lv_bipush (v := 6) hx hb dX3_next_26 (by decide) ?_
        refine lv_iload_n hx hb dX3_next_28 rfl (lv_at hl 3 rfl) ?_
        refine ni_imul (a := 6) (b := s) hx hb dX3_next_29 ?_
        refine lv_iload_n hx hb dX3_next_30 rfl (lv_at hl 0 rfl) ?_
        refine ni_iadd (a := 6 * s) (b := i) hx hb dX3_next_31 ?_
        refine rx_ialdG 18 ((6 * s) + i) S P rfl rfl (by show _ < _; simp only [rN]; omega) dX3_next_32 ?_
        have hgi := hwf.at hs (show i < (st.2.2 s).length by omega)
        rw [(hRw s hs).2 i (by omega)]
        refine lv_istore (lv' := [(4, .int (nI ((st.2.2 s).getD i 0))), (3, .int (nI i)), (2, .int (nI b)), (0, .ref r), (1, .int (nI s))]) hx hb dX3_next_33 hl (by decide) rfl (fun ls hl => ?_)
        refine lv_aload_n hx hb dX3_next_35 rfl (lv_at hl 3 rfl) ?_
        refine rx_ref 12 S P (by decide) q897 dX3_next_36 ?_
        refine lv_iload_n hx hb dX3_next_39 rfl (lv_at hl 4 rfl) ?_
        refine rx_iald 12 s S P rfl rfl (by show _ < _; simp only [rN]; omega) dX3_next_40 ?_
        refine lv_iconst (v := 3) hx hb dX3_next_41 (by decide) ?_
        refine lv_icmp_ne (tgt := 62) (x := st.1 12 s) (y := 3) hx hb dX3_next_42 (by decide) (fun c42 => ?_) (fun c42 => ?_)
        · have _h := True.intro
          refine lv_aload_n hx hb dX3_next_62 rfl (lv_at hl 3 rfl) ?_
          refine rx_ref 12 S P (by decide) q897 dX3_next_63 ?_
          refine lv_iload_n hx hb dX3_next_66 rfl (lv_at hl 4 rfl) ?_
          refine rx_iald 12 s S P rfl rfl (by show _ < _; simp only [rN]; omega) dX3_next_67 ?_
          refine lv_iconst (v := 5) hx hb dX3_next_68 (by decide) ?_
          refine lv_icmp_ne (tgt := 95) (x := st.1 12 s) (y := 5) hx hb dX3_next_69 (by decide) (fun c69 => ?_) (fun c69 => ?_)
          · have _h := True.intro
            refine lv_iinc (v := nI (i + 1)) (lv' := [(3, .int (nI (i + 1))), (4, .int (nI ((st.2.2 s).getD i 0))), (2, .int (nI b)), (0, .ref r), (1, .int (nI s))]) hx hb dX3_next_95 hl (k := 1) rfl (nI_1 _) (by decide) rfl (fun ls hl => ?_)
            refine lv_goto (tgt := 12) hx hb dX3_next_98 (by decide) ?_
            exact ih12 (i + 1) (b) (by omega) (by omega) (by omega) (by omega) (by
              rw [hinv, ls_drop (show i < (st.2.2 s).length by omega)]
              show s_nextF st s (if s_better st s b ((st.2.2 s).getD i 0) = true then _ else _) _ = _
              rw [if_neg (by simp [-List.getD_eq_getElem?_getD, s_better, c42, c69])]) _ _ P ls (lv_sub hl [0, 2, 3, 4] rfl)
          · have _h := True.intro
            refine lv_aload_n hx hb dX3_next_72 rfl (lv_at hl 3 rfl) ?_
            refine rx_ref 6 S P (by decide) q891 dX3_next_73 ?_
            refine lv_iload_n hx hb dX3_next_76 rfl (lv_at hl 2 rfl) ?_
            refine rx_iald 6 b S P rfl rfl (by show _ < _; simp only [rN]; omega) dX3_next_77 ?_
            refine lv_if_ne (tgt := 95) (x := st.1 6 b) hx hb dX3_next_78 (by decide) (fun c78 => ?_) (fun c78 => ?_)
            · have _h := True.intro
              refine lv_iinc (v := nI (i + 1)) (lv' := [(3, .int (nI (i + 1))), (4, .int (nI ((st.2.2 s).getD i 0))), (2, .int (nI b)), (0, .ref r), (1, .int (nI s))]) hx hb dX3_next_95 hl (k := 1) rfl (nI_1 _) (by decide) rfl (fun ls hl => ?_)
              refine lv_goto (tgt := 12) hx hb dX3_next_98 (by decide) ?_
              exact ih12 (i + 1) (b) (by omega) (by omega) (by omega) (by omega) (by
                rw [hinv, ls_drop (show i < (st.2.2 s).length by omega)]
                show s_nextF st s (if s_better st s b ((st.2.2 s).getD i 0) = true then _ else _) _ = _
                rw [if_neg (by simp [-List.getD_eq_getElem?_getD, s_better, c42, c69, c78])]) _ _ P ls (lv_sub hl [0, 2, 3, 4] rfl)
            · have _h := True.intro
              refine lv_aload_n hx hb dX3_next_81 rfl (lv_at hl 3 rfl) ?_
              refine rx_ref 6 S P (by decide) q891 dX3_next_82 ?_
              refine lv_iload hx hb dX3_next_85 (lv_at hl 0 rfl) ?_
              refine rx_iald 6 ((st.2.2 s).getD i 0) S P rfl rfl (by show _ < _; simp only [rN]; omega) dX3_next_87 ?_
              refine lv_iconst (v := 1) hx hb dX3_next_88 (by decide) ?_
              refine lv_icmp_ne (tgt := 95) (x := st.1 6 ((st.2.2 s).getD i 0)) (y := 1) hx hb dX3_next_89 (by decide) (fun c89 => ?_) (fun c89 => ?_)
              · have _h := True.intro
                refine lv_iinc (v := nI (i + 1)) (lv' := [(3, .int (nI (i + 1))), (4, .int (nI ((st.2.2 s).getD i 0))), (2, .int (nI b)), (0, .ref r), (1, .int (nI s))]) hx hb dX3_next_95 hl (k := 1) rfl (nI_1 _) (by decide) rfl (fun ls hl => ?_)
                refine lv_goto (tgt := 12) hx hb dX3_next_98 (by decide) ?_
                exact ih12 (i + 1) (b) (by omega) (by omega) (by omega) (by omega) (by
                  rw [hinv, ls_drop (show i < (st.2.2 s).length by omega)]
                  show s_nextF st s (if s_better st s b ((st.2.2 s).getD i 0) = true then _ else _) _ = _
                  rw [if_neg (by simp [-List.getD_eq_getElem?_getD, s_better, c42, c69, c78, c89])]) _ _ P ls (lv_sub hl [0, 2, 3, 4] rfl)
              · have _h := True.intro
                refine lv_iload hx hb dX3_next_92 (lv_at hl 0 rfl) ?_
                refine lv_istore_n (lv' := [(2, .int (nI ((st.2.2 s).getD i 0))), (4, .int (nI ((st.2.2 s).getD i 0))), (3, .int (nI i)), (0, .ref r), (1, .int (nI s))]) hx hb dX3_next_94 rfl hl (by decide) rfl (fun ls hl => ?_)
                refine lv_iinc (v := nI (i + 1)) (lv' := [(3, .int (nI (i + 1))), (2, .int (nI ((st.2.2 s).getD i 0))), (4, .int (nI ((st.2.2 s).getD i 0))), (0, .ref r), (1, .int (nI s))]) hx hb dX3_next_95 hl (k := 2) rfl (nI_1 _) (by decide) rfl (fun ls hl => ?_)
                refine lv_goto (tgt := 12) hx hb dX3_next_98 (by decide) ?_
                exact ih12 (i + 1) ((st.2.2 s).getD i 0) (by omega) (by omega) (by omega) (by omega) (by
                  rw [hinv, ls_drop (show i < (st.2.2 s).length by omega)]
                  show s_nextF st s (if s_better st s b ((st.2.2 s).getD i 0) = true then _ else _) _ = _
                  rw [if_pos (by simp [-List.getD_eq_getElem?_getD, s_better, c42, c69, c78, c89])]) _ _ P ls (lv_sub hl [0, 1, 3, 4] rfl)
        · have _h := True.intro
          refine lv_aload_n hx hb dX3_next_45 rfl (lv_at hl 3 rfl) ?_
          refine rx_ref 3 S P (by decide) q888 dX3_next_46 ?_
          refine lv_iload hx hb dX3_next_49 (lv_at hl 0 rfl) ?_
          refine rx_dald 3 ((st.2.2 s).getD i 0) S P rfl (by show _ < _; simp only [rN]; omega) dX3_next_51 ?_
          refine lv_aload_n hx hb dX3_next_52 rfl (lv_at hl 3 rfl) ?_
          refine rx_ref 3 S P (by decide) q888 dX3_next_53 ?_
          refine lv_iload_n hx hb dX3_next_56 rfl (lv_at hl 2 rfl) ?_
          refine rx_dald 3 b S P rfl (by show _ < _; simp only [rN]; omega) dX3_next_57 ?_
          refine lv_dcmp hx hb dX3_next_58 ?_
          refine lv_if_gt (tgt := 92) (x := Op.cmpValue (FP.dcmp (st.2.1 3 ((st.2.2 s).getD i 0)) (st.2.1 3 b)) .l) hx hb dX3_next_59 (by decide) (fun c59 => ?_) (fun c59 => ?_)
          · simp only [cv_l_gt0, Decidable.not_not] at c59
            refine lv_iload hx hb dX3_next_92 (lv_at hl 0 rfl) ?_
            refine lv_istore_n (lv' := [(2, .int (nI ((st.2.2 s).getD i 0))), (4, .int (nI ((st.2.2 s).getD i 0))), (3, .int (nI i)), (0, .ref r), (1, .int (nI s))]) hx hb dX3_next_94 rfl hl (by decide) rfl (fun ls hl => ?_)
            refine lv_iinc (v := nI (i + 1)) (lv' := [(3, .int (nI (i + 1))), (2, .int (nI ((st.2.2 s).getD i 0))), (4, .int (nI ((st.2.2 s).getD i 0))), (0, .ref r), (1, .int (nI s))]) hx hb dX3_next_95 hl (k := 2) rfl (nI_1 _) (by decide) rfl (fun ls hl => ?_)
            refine lv_goto (tgt := 12) hx hb dX3_next_98 (by decide) ?_
            exact ih12 (i + 1) ((st.2.2 s).getD i 0) (by omega) (by omega) (by omega) (by omega) (by
              rw [hinv, ls_drop (show i < (st.2.2 s).length by omega)]
              show s_nextF st s (if s_better st s b ((st.2.2 s).getD i 0) = true then _ else _) _ = _
              rw [if_pos (by simp [-List.getD_eq_getElem?_getD, s_better, c42, c59])]) _ _ P ls (lv_sub hl [0, 1, 3, 4] rfl)
          · simp only [cv_l_gt0, Decidable.not_not] at c59
            refine lv_aload_n hx hb dX3_next_62 rfl (lv_at hl 3 rfl) ?_
            refine rx_ref 12 S P (by decide) q897 dX3_next_63 ?_
            refine lv_iload_n hx hb dX3_next_66 rfl (lv_at hl 4 rfl) ?_
            refine rx_iald 12 s S P rfl rfl (by show _ < _; simp only [rN]; omega) dX3_next_67 ?_
            refine lv_iconst (v := 5) hx hb dX3_next_68 (by decide) ?_
            refine lv_icmp_ne (tgt := 95) (x := st.1 12 s) (y := 5) hx hb dX3_next_69 (by decide) (fun c69 => ?_) (fun c69 => ?_)
            · have _h := True.intro
              refine lv_iinc (v := nI (i + 1)) (lv' := [(3, .int (nI (i + 1))), (4, .int (nI ((st.2.2 s).getD i 0))), (2, .int (nI b)), (0, .ref r), (1, .int (nI s))]) hx hb dX3_next_95 hl (k := 1) rfl (nI_1 _) (by decide) rfl (fun ls hl => ?_)
              refine lv_goto (tgt := 12) hx hb dX3_next_98 (by decide) ?_
              exact ih12 (i + 1) (b) (by omega) (by omega) (by omega) (by omega) (by
                rw [hinv, ls_drop (show i < (st.2.2 s).length by omega)]
                show s_nextF st s (if s_better st s b ((st.2.2 s).getD i 0) = true then _ else _) _ = _
                rw [if_neg (by simp [-List.getD_eq_getElem?_getD, s_better, c42, c59, c69])]) _ _ P ls (lv_sub hl [0, 2, 3, 4] rfl)
            · exact absurd (c42.symm.trans c69) (by decide)
  exact loop12 _ 1 ((st.2.2 s).getD 0 0) (Nat.lt_succ_self _) (by omega) (by omega) (by omega) (s_next_0 hne) _ _ P ls (lv_sub hl [0, 1, 2, 3] (rfl))
