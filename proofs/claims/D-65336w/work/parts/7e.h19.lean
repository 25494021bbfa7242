/-! SyncHall.watch, by gen_h19.py -/
set_option maxHeartbeats 8000000 in
set_option maxRecDepth 100000 in
theorem hw_watch {l : Launch} {D : va_G} {cs : Nat → ClassId} {ad : Nat → Nat} {L : List Nat} {f : Nat → va_E} (hst : l.stackTraces = false) {n : Nat} {st : St} (ho : Ok n st) {t s : Nat} (ht : t < 6) (hs : s < 8)  (hF : HF cs ad st L f) : PM l D cs yX1_watch cX1_watch 5 none (rmL 7 9 70) [.ref (ad 0), .ref (ad (12 + t)), .int (nI s)] L f (hPostL cs ad st L f (hWOut st (s_ordered st t s).1) (s_ordered st t s).2) := by
  refine hm_of "SyncHall" rfl (by decide +kernel) (Nat.le_of_ble_eq_true rfl) ?_
  intro sz p e u m below meth c S P hsz hr hlk hnm htb ls hl Q hQ
  have hl : lv_has ls 5 [(0, .ref (ad 0)), (1, .ref (ad (12 + t))), (2, .int (nI s))] := hl
  have hx := S.1
  have hb := S.2.1
  generalize hH0 : u.heap = H at P ⊢
  generalize ([] : List Loc) = locs at P ⊢
  have hFr : ∀ a, ¬ hOwn st ad a → f a = f a := fun _ _ => rfl
  have hF0 := hF
  obtain ⟨f00, hf00⟩ : ∃ z, z = f := ⟨f, rfl⟩
  refine lv_aload_n hx hb dX1_watch_0 rfl (lv_at hl 0 rfl) ?_
  refine pw_get (q := (RX1, TX1, 6)) (k := 3) S P (hF.m (by decide)) hF.hall rfl (by decide) q99 (Or.inl rfl) rfl dX1_watch_1 ?_
  refine lv_if_eq (tgt := 28) (x := st.1 24 0) hx hb dX1_watch_4 (by decide) (fun c4 => ?_) (fun c4 => ?_)
  · have _h := True.intro
    exact gw_vret S P hQ hr hlk ⟨Nat.le_of_ble_eq_true rfl, Nat.le_of_ble_eq_true rfl⟩ dX1_watch_28 (wEnd (od_free (decide_eq_true (Or.inl c4))) ⟨rfl, hF0, fun _ h => h, fun _ _ _ => rfl⟩)
  · have _h := True.intro
    refine lv_aload_n hx hb dX1_watch_7 rfl (lv_at hl 0 rfl) ?_
    refine pw_get (q := (RX1, TX1, 6)) (k := 1) S P (hF.m (by decide)) hF.hall rfl (by decide) q97 (Or.inl rfl) rfl dX1_watch_8 ?_
    refine lv_iload_n hx hb dX1_watch_11 rfl (lv_at hl 2 rfl) ?_
    refine pw_aald (j := s) 4 S P (hF.m (by decide)) hF.syncs rfl rfl rfl (by omega) (by decide) dX1_watch_12 ?_
    refine lw_eqv (w := va_rf (hSyR st ad s)) (congrArg va_rf (if_pos (by omega))) ?_
    refine hx_isLock (s := s) S P ho hF (by omega) q201 dX1_watch_13 ?_
    refine lv_if_eq (tgt := 28) (x := bI (s_isLock st s)) hx hb dX1_watch_16 (by decide) (fun c16 => ?_) (fun c16 => ?_)
    · rw [bI_eq0] at c16
      exact gw_vret S P hQ hr hlk ⟨Nat.le_of_ble_eq_true rfl, Nat.le_of_ble_eq_true rfl⟩ dX1_watch_28 (wEnd (od_free (decide_eq_true (Or.inr (Or.inl c16)))) ⟨rfl, hF0, fun _ h => h, fun _ _ _ => rfl⟩)
    · rw [bI_eq0, Bool.not_eq_false] at c16
      refine lv_aload_n hx hb dX1_watch_19 rfl (lv_at hl 0 rfl) ?_
      refine lv_aload_n hx hb dX1_watch_20 rfl (lv_at hl 1 rfl) ?_
      refine lv_iload_n hx hb dX1_watch_21 rfl (lv_at hl 2 rfl) ?_
      refine pw_callR (nL' := 3) (rest := []) S P (hr_owns ho ht (by omega) hF) q406 q36 (pw_entV (q := (RX1, TX1, 6)) [.ref (ad (12 + t)), .int (nI s)] S P (hF.m (by decide)) hF.hall rfl q403 q405 qs7 q406 ⟨by decide +kernel, by decide +kernel, (by decide +kernel : (parseMethodDescriptor yX1_owns.desc).map (fun d => d.parameters.length) = some 2)⟩ dX1_watch_22) hl.1 (Nat.le_of_ble_eq_true rfl) ⟨Nat.le_of_ble_eq_true rfl, Nat.le_of_ble_eq_true rfl⟩ ⟨Nat.le_of_ble_eq_true rfl, Nat.le_of_ble_eq_true rfl⟩ (fun H locs P => ?_)
      refine W.eq (g2 := F0 m 25 ls [.int (bI (s_owns st t s))]) rfl ?_
      refine W.widen (k := 0) (n := 0) (Nat.le_of_ble_eq_true rfl) (Nat.le_of_ble_eq_true rfl) ?_
      refine lv_if_eq (tgt := 29) (x := bI (s_owns st t s)) hx hb dX1_watch_25 (by decide) (fun c25 => ?_) (fun c25 => ?_)
      · rw [bI_eq0] at c25
        have hnf : ¬ s_free st t s = true := fun z => by
          rcases of_decide_eq_true z with q | q | q
          · exact c4 q
          · exact absurd (c16.symm.trans q) (by decide)
          · exact absurd (show s_owns st t s = true by unfold s_owns; rw [c16, q]; simp) (bnt c25)
        refine lv_iconst (v := 0) hx hb dX1_watch_29 (by decide) ?_
        refine lv_istore_n (lv' := [(3, .int 0), (0, .ref (ad 0)), (1, .ref (ad (12 + t))), (2, .int (nI s))]) hx hb dX1_watch_30 rfl hl (by decide) rfl (fun ls hl => ?_)
        refine lv_iconst (v := 0) hx hb dX1_watch_31 (by decide) ?_
        refine lv_istore (lv' := [(4, .int 0), (3, .int 0), (0, .ref (ad 0)), (1, .ref (ad (12 + t))), (2, .int (nI s))]) hx hb dX1_watch_32 hl (by decide) rfl (fun ls hl => ?_)
        have loop34 : ∀ (d : Nat) (o : Nat) (L1 : List Nat) (f1 : Nat → va_E), 8 - o < d → (o ≤ 8) → (∀ a, a ∈ L → a ∈ L1) → (∀ a, a ∈ L → f1 a = f a) → ∀ (H : Heap) (locs : List Loc), PW D cs (pA L sz) u L1 f1 H locs → ∀ (ls : Array Slot), lv_has ls 5 [(4, .int (nI o)), (3, .int (bI (s_warnN st t s o))), (0, .ref (ad 0)), (1, .ref (ad (12 + t))), (2, .int (nI s))] → W p l e (rmL 7 9 70) u m ([.ref (ad 0), .ref (ad (12 + t)), .int (nI s)] : List Value).toArray below meth c H locs o (8 * o) Q (F0 m 34 ls []) := by
          intro d34
          induction d34 with
          | zero => intro o L1 f1 hd; exact absurd hd (by omega)
          | succ d34 ih34 =>
            intro o L1 f1 hd34 ho8 hL1 hf1 H locs P ls hl
            have hF := hF0.ext hL1 hf1
            refine lv_iload hx hb dX1_watch_34 (lv_at hl 0 rfl) ?_
            refine lv_bipush (v := 8) hx hb dX1_watch_36 (by decide) ?_
            refine ni_icmp_ge (tgt := 69) (a := o) (b := 8) hx hb (by omega) (by omega) dX1_watch_38 (by decide) (fun c38 => ?_) (fun c38 => ?_)
            · have _h := True.intro
              obtain rfl : o = 8 := by omega
              have hFr : ∀ a, ¬ hOwn st ad a → f1 a = f1 a := fun _ _ => rfl
              refine W.widen (k := 8) (n := 64) (Nat.le_of_ble_eq_true rfl) (Nat.le_of_ble_eq_true rfl) ?_
              refine lv_iload_n hx hb dX1_watch_69 rfl (lv_at hl 1 rfl) ?_
              refine lv_if_eq (tgt := 83) (x := bI (s_warnN st t s 8)) hx hb dX1_watch_70 (by decide) (fun c70 => ?_) (fun c70 => ?_)
              · rw [bI_eq0] at c70
                refine lv_iload_n hx hb dX1_watch_83 rfl (lv_at hl 1 rfl) ?_
                refine lv_if_eq (tgt := 95) (x := bI (s_warnN st t s 8)) hx hb dX1_watch_84 (by decide) (fun c84 => ?_) (fun c84 => ?_)
                · rw [bI_eq0] at c84
                  refine lv_iconst (v := 1) hx hb dX1_watch_95 (by decide) ?_
                  refine lv_goto (tgt := 100) hx hb dX1_watch_96 (by decide) ?_
                  refine pw_callR (nL' := 1) (rest := []) S P (hs_can True.intro) q375 q36 (pw_entS [.int 1] S q373 q374 q36 q375 ⟨by decide +kernel, by decide +kernel, (by decide +kernel : (parseMethodDescriptor yX1_can.desc).map (fun d => d.parameters.length) = some 1)⟩ dX1_watch_100) hl.1 (Nat.le_of_ble_eq_true rfl) ⟨Nat.le_of_ble_eq_true rfl, Nat.le_of_ble_eq_true rfl⟩ ⟨Nat.le_of_ble_eq_true rfl, Nat.le_of_ble_eq_true rfl⟩ (fun H locs P => ?_)
                  refine W.eq (g2 := F0 m 103 ls []) rfl ?_
                  refine W.widen (k := 9) (n := 70) (Nat.le_of_ble_eq_true rfl) (Nat.le_of_ble_eq_true rfl) ?_
                  refine lv_iconst (v := 0) hx hb dX1_watch_103 (by decide) ?_
                  refine lv_istore (lv' := [(4, .int 0), (3, .int (bI (s_warnN st t s 8))), (0, .ref (ad 0)), (1, .ref (ad (12 + t))), (2, .int (nI s))]) hx hb dX1_watch_104 hl (by decide) rfl (fun ls hl => ?_)
                  have hFm : HF cs ad (s_markN st t s 0) L1 f1 := by rw [s_mark0]; exact hF
                  have hfm : ∀ a, a ∈ L → ¬ hOwn st ad a → f1 a = f00 a := fun a h hno => (hFr a hno).trans ((hf1 a h).trans (congrFun hf00 a).symm)
                  have hoS : Ok n st := ho
                  have loop106 : ∀ (d : Nat) (o : Nat) (fm : Nat → va_E), 8 - o < d → (o ≤ 8) → (HF cs ad (s_markN st t s o) L1 fm) → (∀ a, a ∈ L → ¬ hOwn st ad a → fm a = f00 a) → ∀ (H : Heap) (locs : List Loc), PW D cs (pA L sz) u L1 fm H locs → ∀ (ls : Array Slot), lv_has ls 5 [(4, .int (nI o)), (0, .ref (ad 0)), (1, .ref (ad (12 + t))), (2, .int (nI s))] → W p l e (rmL 7 9 70) u m ([.ref (ad 0), .ref (ad (12 + t)), .int (nI s)] : List Value).toArray below meth c H locs 9 70 Q (F0 m 106 ls []) := by
                    intro d106
                    induction d106 with
                    | zero => intro o fm hd; exact absurd hd (by omega)
                    | succ d106 ih106 =>
                      intro o fm hd106 ho8 hF hfm H locs P ls hl
                      have hFr : ∀ a, ¬ hOwn st ad a → fm a = fm a := fun _ _ => rfl
                      refine lv_iload hx hb dX1_watch_106 (lv_at hl 0 rfl) ?_
                      refine lv_bipush (v := 8) hx hb dX1_watch_108 (by decide) ?_
                      refine ni_icmp_ge (tgt := 139) (a := o) (b := 8) hx hb (by omega) (by omega) dX1_watch_110 (by decide) (fun c110 => ?_) (fun c110 => ?_)
                      · have _h := True.intro
                        exact gw_vret S P hQ hr hlk ⟨Nat.le_of_ble_eq_true rfl, Nat.le_of_ble_eq_true rfl⟩ dX1_watch_139 (by rw [show o = 8 by omega] at hF; exact wEnd (od_no hnf c70) ⟨rfl, hF, hL1, fun a h hno => (hfm a h hno).trans (congrFun hf00 a)⟩)
                      · have _h := True.intro
                        refine lv_aload_n hx hb dX1_watch_113 rfl (lv_at hl 1 rfl) ?_
                        refine lv_aload_n hx hb dX1_watch_114 rfl (lv_at hl 2 rfl) ?_
                        refine lv_iload hx hb dX1_watch_115 (lv_at hl 0 rfl) ?_
                        refine pw_callR (nL' := 3) (rest := []) S P (hr_owns (hoS.mkN (t := t) (s := s) (o := o)) ht (by omega) hF) q406 q36 (pw_entV (q := (RX1, TX1, 6)) [.ref (ad (12 + t)), .int (nI o)] S P (hF.m (by decide)) hF.hall rfl q403 q405 qs7 q406 ⟨by decide +kernel, by decide +kernel, (by decide +kernel : (parseMethodDescriptor yX1_owns.desc).map (fun d => d.parameters.length) = some 2)⟩ dX1_watch_117) hl.1 (Nat.le_of_ble_eq_true rfl) ⟨Nat.le_of_ble_eq_true rfl, Nat.le_of_ble_eq_true rfl⟩ ⟨Nat.le_of_ble_eq_true rfl, Nat.le_of_ble_eq_true rfl⟩ (fun H locs P => ?_)
                        refine W.eq (g2 := F0 m 120 ls [.int (bI (s_owns st t o))]) rfl ?_
                        refine W.widen (k := 9) (n := 70) (Nat.le_of_ble_eq_true rfl) (Nat.le_of_ble_eq_true rfl) ?_
                        refine lv_if_eq (tgt := 133) (x := bI (s_owns st t o)) hx hb dX1_watch_120 (by decide) (fun c120 => ?_) (fun c120 => ?_)
                        · rw [bI_eq0] at c120
                          refine lv_iinc (v := nI (o + 1)) (lv' := [(4, .int (nI (o + 1))), (0, .ref (ad 0)), (1, .ref (ad (12 + t))), (2, .int (nI s))]) hx hb dX1_watch_133 hl (k := 0) rfl (nI_1 _) (by decide) rfl (fun ls hl => ?_)
                          refine lv_goto (tgt := 106) hx hb dX1_watch_136 (by decide) ?_
                          rw [s_markF (st := st) c120] at hF
                          exact ih106 (o + 1) fm (by omega) (by omega) hF hfm _ _ P ls (lv_sub hl [0, 1, 2, 3] rfl)
                        · rw [bI_eq0, Bool.not_eq_false] at c120
                          refine lv_aload_n hx hb dX1_watch_123 rfl (lv_at hl 1 rfl) ?_
                          refine pw_get (q := (RX1, TX1, 6)) (k := 2) S P (hF.m (by decide)) hF.hall rfl (by decide) q98 (Or.inl rfl) rfl dX1_watch_124 ?_
                          refine lv_iload hx hb dX1_watch_127 (lv_at hl 0 rfl) ?_
                          refine pw_aald (j := o) 5 S P (hF.m (by decide)) hF.bef rfl rfl rfl (by omega) (by decide) dX1_watch_129 ?_
                          refine lw_eqv (w := .ref (ad (4 + o))) (congrArg va_rf (if_pos (by omega))) ?_
                          refine lv_iload_n hx hb dX1_watch_130 rfl (lv_at hl 3 rfl) ?_
                          refine lv_iconst (v := 1) hx hb dX1_watch_131 (by decide) ?_
                          refine hp_row (v := 1) (i := o) (j := s) S P hF (by omega) (by omega) (by decide) dX1_watch_132 (fun H locs f P hF hfr => ?_)
                          have hFr : ∀ a, ¬ hOwn st ad a → f a = _ := fun a ha => (hfr a ha).trans (hFr a ha)
                          refine lv_iinc (v := nI (o + 1)) (lv' := [(4, .int (nI (o + 1))), (0, .ref (ad 0)), (1, .ref (ad (12 + t))), (2, .int (nI s))]) hx hb dX1_watch_133 hl (k := 0) rfl (nI_1 _) (by decide) rfl (fun ls hl => ?_)
                          refine lv_goto (tgt := 106) hx hb dX1_watch_136 (by decide) ?_
                          rw [s_markS (st := st) hs c120] at hF
                          exact ih106 (o + 1) f (by omega) (by omega) hF (fun a h hno => (hFr a hno).trans (hfm a h hno)) _ _ P ls (lv_sub hl [0, 1, 2, 3] rfl)
                  exact loop106 _ 0 f1 (Nat.lt_succ_self _) (by omega) hFm hfm _ _ P ls (lv_sub hl [0, 2, 3, 4] (rfl))
                · rw [bI_eq0, Bool.not_eq_false] at c84
                  exact absurd (c70.symm.trans c84) (by decide)
              · rw [bI_eq0, Bool.not_eq_false] at c70
                refine lv_aload_n hx hb dX1_watch_73 rfl (lv_at hl 2 rfl) ?_
                refine lv_dup hx hb dX1_watch_74 rfl ?_
                refine pw_get (q := (RX1, TX1, 6)) (k := 4) S P (hF.m (by decide)) hF.hall rfl (by decide) q100 (Or.inl rfl) rfl dX1_watch_75 ?_
                refine lv_iconst (v := 1) hx hb dX1_watch_78 (by decide) ?_
                refine lv_iadd hx hb dX1_watch_79 ?_
                refine hp_hall (st' := sI st 25 0 ((st.1 25 0) + 1)) (k := 4) (v := .int ((st.1 25 0) + 1)) S P hF (by decide) q100 rfl rfl rfl rfl (fun _ hr => hr) (fun r hr => hc_24 (by decide) hr) (by rfl) dX1_watch_80 (fun H locs f P hF hfr => ?_)
                have hFr : ∀ a, ¬ hOwn st ad a → f a = _ := fun a ha => (hfr a ha).trans (hFr a ha)
                refine lv_iload_n hx hb dX1_watch_83 rfl (lv_at hl 1 rfl) ?_
                refine lv_if_eq (tgt := 95) (x := bI (s_warnN st t s 8)) hx hb dX1_watch_84 (by decide) (fun c84 => ?_) (fun c84 => ?_)
                · rw [bI_eq0] at c84
                  exact absurd (c84.symm.trans c70) (by decide)
                · rw [bI_eq0, Bool.not_eq_false] at c84
                  refine lv_aload_n hx hb dX1_watch_87 rfl (lv_at hl 2 rfl) ?_
                  refine pw_get (q := (RX1, TX1, 6)) (k := 3) S P (hF.m (by decide)) hF.hall rfl (by decide) q99 (Or.inl rfl) rfl dX1_watch_88 ?_
                  refine lv_iconst (v := 1) hx hb dX1_watch_91 (by decide) ?_
                  refine lv_icmp_ne (tgt := 99) (x := st.1 24 0) (y := 1) hx hb dX1_watch_92 (by decide) (fun c92 => ?_) (fun c92 => ?_)
                  · have _h := True.intro
                    refine lv_iconst (v := 0) hx hb dX1_watch_99 (by decide) ?_
                    exact pw_callT (nL' := 1) (rest := []) S P hQ (ht_can hst) q375 q36 (pw_entS [.int 0] S q373 q374 q36 q375 ⟨by decide +kernel, by decide +kernel, (by decide +kernel : (parseMethodDescriptor yX1_can.desc).map (fun d => d.parameters.length) = some 1)⟩ dX1_watch_100) htb hlk hl.1 (Nat.le_of_ble_eq_true rfl) ⟨Nat.le_of_ble_eq_true rfl, Nat.le_of_ble_eq_true rfl⟩ ⟨Nat.le_of_ble_eq_true rfl, Nat.le_of_ble_eq_true rfl⟩ ⟨Nat.le_of_ble_eq_true rfl, Nat.le_of_ble_eq_true rfl⟩ (wEnd (od_w2 ho hnf c70 c92 c4) ⟨rfl, hF, hL1, fun a h hno => (hFr a hno).trans (hf1 a h)⟩)
                  · have _h := True.intro
                    refine lv_iconst (v := 1) hx hb dX1_watch_95 (by decide) ?_
                    refine lv_goto (tgt := 100) hx hb dX1_watch_96 (by decide) ?_
                    refine pw_callR (nL' := 1) (rest := []) S P (hs_can True.intro) q375 q36 (pw_entS [.int 1] S q373 q374 q36 q375 ⟨by decide +kernel, by decide +kernel, (by decide +kernel : (parseMethodDescriptor yX1_can.desc).map (fun d => d.parameters.length) = some 1)⟩ dX1_watch_100) hl.1 (Nat.le_of_ble_eq_true rfl) ⟨Nat.le_of_ble_eq_true rfl, Nat.le_of_ble_eq_true rfl⟩ ⟨Nat.le_of_ble_eq_true rfl, Nat.le_of_ble_eq_true rfl⟩ (fun H locs P => ?_)
                    refine W.eq (g2 := F0 m 103 ls []) rfl ?_
                    refine W.widen (k := 9) (n := 70) (Nat.le_of_ble_eq_true rfl) (Nat.le_of_ble_eq_true rfl) ?_
                    refine lv_iconst (v := 0) hx hb dX1_watch_103 (by decide) ?_
                    refine lv_istore (lv' := [(4, .int 0), (3, .int (bI (s_warnN st t s 8))), (0, .ref (ad 0)), (1, .ref (ad (12 + t))), (2, .int (nI s))]) hx hb dX1_watch_104 hl (by decide) rfl (fun ls hl => ?_)
                    have hFm : HF cs ad (s_markN (sI st 25 0 ((st.1 25 0) + 1)) t s 0) L1 f := by rw [s_mark0]; exact hF
                    have hfm : ∀ a, a ∈ L → ¬ hOwn st ad a → f a = f00 a := fun a h hno => (hFr a hno).trans ((hf1 a h).trans (congrFun hf00 a).symm)
                    have hoS : Ok n (sI st 25 0 ((st.1 25 0) + 1)) := ho.I (by decide)
                    have loop106 : ∀ (d : Nat) (o : Nat) (fm : Nat → va_E), 8 - o < d → (o ≤ 8) → (HF cs ad (s_markN (sI st 25 0 ((st.1 25 0) + 1)) t s o) L1 fm) → (∀ a, a ∈ L → ¬ hOwn st ad a → fm a = f00 a) → ∀ (H : Heap) (locs : List Loc), PW D cs (pA L sz) u L1 fm H locs → ∀ (ls : Array Slot), lv_has ls 5 [(4, .int (nI o)), (0, .ref (ad 0)), (1, .ref (ad (12 + t))), (2, .int (nI s))] → W p l e (rmL 7 9 70) u m ([.ref (ad 0), .ref (ad (12 + t)), .int (nI s)] : List Value).toArray below meth c H locs 9 70 Q (F0 m 106 ls []) := by
                      intro d106
                      induction d106 with
                      | zero => intro o fm hd; exact absurd hd (by omega)
                      | succ d106 ih106 =>
                        intro o fm hd106 ho8 hF hfm H locs P ls hl
                        have hFr : ∀ a, ¬ hOwn st ad a → fm a = fm a := fun _ _ => rfl
                        refine lv_iload hx hb dX1_watch_106 (lv_at hl 0 rfl) ?_
                        refine lv_bipush (v := 8) hx hb dX1_watch_108 (by decide) ?_
                        refine ni_icmp_ge (tgt := 139) (a := o) (b := 8) hx hb (by omega) (by omega) dX1_watch_110 (by decide) (fun c110 => ?_) (fun c110 => ?_)
                        · have _h := True.intro
                          exact gw_vret S P hQ hr hlk ⟨Nat.le_of_ble_eq_true rfl, Nat.le_of_ble_eq_true rfl⟩ dX1_watch_139 (by rw [show o = 8 by omega] at hF; exact wEnd (od_w1 hnf c70 c92) ⟨rfl, hF, hL1, fun a h hno => (hfm a h hno).trans (congrFun hf00 a)⟩)
                        · have _h := True.intro
                          refine lv_aload_n hx hb dX1_watch_113 rfl (lv_at hl 1 rfl) ?_
                          refine lv_aload_n hx hb dX1_watch_114 rfl (lv_at hl 2 rfl) ?_
                          refine lv_iload hx hb dX1_watch_115 (lv_at hl 0 rfl) ?_
                          refine pw_callR (nL' := 3) (rest := []) S P (hr_owns (hoS.mkN (t := t) (s := s) (o := o)) ht (by omega) hF) q406 q36 (pw_entV (q := (RX1, TX1, 6)) [.ref (ad (12 + t)), .int (nI o)] S P (hF.m (by decide)) hF.hall rfl q403 q405 qs7 q406 ⟨by decide +kernel, by decide +kernel, (by decide +kernel : (parseMethodDescriptor yX1_owns.desc).map (fun d => d.parameters.length) = some 2)⟩ dX1_watch_117) hl.1 (Nat.le_of_ble_eq_true rfl) ⟨Nat.le_of_ble_eq_true rfl, Nat.le_of_ble_eq_true rfl⟩ ⟨Nat.le_of_ble_eq_true rfl, Nat.le_of_ble_eq_true rfl⟩ (fun H locs P => ?_)
                          refine W.eq (g2 := F0 m 120 ls [.int (bI (s_owns st t o))]) rfl ?_
                          refine W.widen (k := 9) (n := 70) (Nat.le_of_ble_eq_true rfl) (Nat.le_of_ble_eq_true rfl) ?_
                          refine lv_if_eq (tgt := 133) (x := bI (s_owns st t o)) hx hb dX1_watch_120 (by decide) (fun c120 => ?_) (fun c120 => ?_)
                          · rw [bI_eq0] at c120
                            refine lv_iinc (v := nI (o + 1)) (lv' := [(4, .int (nI (o + 1))), (0, .ref (ad 0)), (1, .ref (ad (12 + t))), (2, .int (nI s))]) hx hb dX1_watch_133 hl (k := 0) rfl (nI_1 _) (by decide) rfl (fun ls hl => ?_)
                            refine lv_goto (tgt := 106) hx hb dX1_watch_136 (by decide) ?_
                            rw [s_markF (st := sI st 25 0 ((st.1 25 0) + 1)) c120] at hF
                            exact ih106 (o + 1) fm (by omega) (by omega) hF hfm _ _ P ls (lv_sub hl [0, 1, 2, 3] rfl)
                          · rw [bI_eq0, Bool.not_eq_false] at c120
                            refine lv_aload_n hx hb dX1_watch_123 rfl (lv_at hl 1 rfl) ?_
                            refine pw_get (q := (RX1, TX1, 6)) (k := 2) S P (hF.m (by decide)) hF.hall rfl (by decide) q98 (Or.inl rfl) rfl dX1_watch_124 ?_
                            refine lv_iload hx hb dX1_watch_127 (lv_at hl 0 rfl) ?_
                            refine pw_aald (j := o) 5 S P (hF.m (by decide)) hF.bef rfl rfl rfl (by omega) (by decide) dX1_watch_129 ?_
                            refine lw_eqv (w := .ref (ad (4 + o))) (congrArg va_rf (if_pos (by omega))) ?_
                            refine lv_iload_n hx hb dX1_watch_130 rfl (lv_at hl 3 rfl) ?_
                            refine lv_iconst (v := 1) hx hb dX1_watch_131 (by decide) ?_
                            refine hp_row (v := 1) (i := o) (j := s) S P hF (by omega) (by omega) (by decide) dX1_watch_132 (fun H locs f P hF hfr => ?_)
                            have hFr : ∀ a, ¬ hOwn st ad a → f a = _ := fun a ha => (hfr a ha).trans (hFr a ha)
                            refine lv_iinc (v := nI (o + 1)) (lv' := [(4, .int (nI (o + 1))), (0, .ref (ad 0)), (1, .ref (ad (12 + t))), (2, .int (nI s))]) hx hb dX1_watch_133 hl (k := 0) rfl (nI_1 _) (by decide) rfl (fun ls hl => ?_)
                            refine lv_goto (tgt := 106) hx hb dX1_watch_136 (by decide) ?_
                            rw [s_markS (st := sI st 25 0 ((st.1 25 0) + 1)) hs c120] at hF
                            exact ih106 (o + 1) f (by omega) (by omega) hF (fun a h hno => (hFr a hno).trans (hfm a h hno)) _ _ P ls (lv_sub hl [0, 1, 2, 3] rfl)
                    exact loop106 _ 0 f (Nat.lt_succ_self _) (by omega) hFm hfm _ _ P ls (lv_sub hl [0, 2, 3, 4] (rfl))
            · have _h := True.intro
              refine lv_aload_n hx hb dX1_watch_41 rfl (lv_at hl 2 rfl) ?_
              refine lv_aload_n hx hb dX1_watch_42 rfl (lv_at hl 3 rfl) ?_
              refine lv_iload hx hb dX1_watch_43 (lv_at hl 0 rfl) ?_
              refine pw_callR (nL' := 3) (rest := []) S P (hr_owns ho ht (by omega) hF) q406 q36 (pw_entV (q := (RX1, TX1, 6)) [.ref (ad (12 + t)), .int (nI o)] S P (hF.m (by decide)) hF.hall rfl q403 q405 qs7 q406 ⟨by decide +kernel, by decide +kernel, (by decide +kernel : (parseMethodDescriptor yX1_owns.desc).map (fun d => d.parameters.length) = some 2)⟩ dX1_watch_45) hl.1 (Nat.le_of_ble_eq_true rfl) ⟨Nat.le_of_ble_eq_true rfl, Nat.le_of_ble_eq_true rfl⟩ ⟨by show o + 0 ≤ 9; omega, by show (8 * o) + 0 ≤ 70; omega⟩ (fun H locs P => ?_)
              refine W.eq (g2 := F0 m 48 ls [.int (bI (s_owns st t o))]) rfl ?_
              refine W.widen (k := o) (n := (8 * o)) (by show o + 0 ≤ o; omega) (by show (8 * o) + 0 ≤ (8 * o); omega) ?_
              refine lv_if_eq (tgt := 63) (x := bI (s_owns st t o)) hx hb dX1_watch_48 (by decide) (fun c48 => ?_) (fun c48 => ?_)
              · rw [bI_eq0] at c48
                refine lv_iinc (v := nI (o + 1)) (lv' := [(4, .int (nI (o + 1))), (3, .int (bI (s_warnN st t s o))), (0, .ref (ad 0)), (1, .ref (ad (12 + t))), (2, .int (nI s))]) hx hb dX1_watch_63 hl (k := 0) rfl (nI_1 _) (by decide) rfl (fun ls hl => ?_)
                refine lv_goto (tgt := 34) hx hb dX1_watch_66 (by decide) ?_
                refine W.widen (k := (o + 1)) (n := (8 * (o + 1))) (by omega) (by omega) ?_
                rw [← s_warnF c48] at hl
                exact ih34 (o + 1) L1 f1 (by omega) (by omega) hL1 hf1 _ _ P ls (lv_sub hl [0, 1, 2, 3, 4] rfl)
              · rw [bI_eq0, Bool.not_eq_false] at c48
                refine lv_aload_n hx hb dX1_watch_51 rfl (lv_at hl 2 rfl) ?_
                refine lv_iload_n hx hb dX1_watch_52 rfl (lv_at hl 4 rfl) ?_
                refine lv_iload hx hb dX1_watch_53 (lv_at hl 0 rfl) ?_
                refine pw_callRN (nL' := 7) (rest := []) S P (hr_leads ho hs (by omega) hF) q414 q36 (pw_entV (q := (RX1, TX1, 6)) [.int (nI s), .int (nI o)] S P (hF.m (by decide)) hF.hall rfl q411 q413 qs8 q414 ⟨by decide +kernel, by decide +kernel, (by decide +kernel : (parseMethodDescriptor yX1_leads.desc).map (fun d => d.parameters.length) = some 2)⟩ dX1_watch_55) hl.1 (Nat.le_of_ble_eq_true rfl) ⟨Nat.le_of_ble_eq_true rfl, Nat.le_of_ble_eq_true rfl⟩ ⟨by show o + 1 ≤ 9; omega, by show (8 * o) + 8 ≤ 70; omega⟩ (fun H locs L2 f2 P hL2 hf2 => ?_)
                refine W.eq (g2 := F0 m 58 ls [.int (bI (s_leads st s o))]) rfl ?_
                refine W.widen (k := o + 1) (n := 8 * o + 8) (Nat.le_refl _) (Nat.le_refl _) ?_
                refine lv_if_eq (tgt := 63) (x := bI (s_leads st s o)) hx hb dX1_watch_58 (by decide) (fun c58 => ?_) (fun c58 => ?_)
                · rw [bI_eq0] at c58
                  refine lv_iinc (v := nI (o + 1)) (lv' := [(4, .int (nI (o + 1))), (3, .int (bI (s_warnN st t s o))), (0, .ref (ad 0)), (1, .ref (ad (12 + t))), (2, .int (nI s))]) hx hb dX1_watch_63 hl (k := 0) rfl (nI_1 _) (by decide) rfl (fun ls hl => ?_)
                  refine lv_goto (tgt := 34) hx hb dX1_watch_66 (by decide) ?_
                  refine W.widen (k := (o + 1)) (n := (8 * (o + 1))) (by omega) (by omega) ?_
                  rw [show s_warnN st t s o = s_warnN st t s (o + 1) from by rw [s_warnS c48, c58, Bool.or_false]] at hl
                  exact ih34 (o + 1) L2 f2 (by omega) (by omega) (fun a h => hL2 a (hL1 a h)) (fun a h => (hf2 a (hL1 a h)).trans (hf1 a h)) _ _ P ls (lv_sub hl [0, 1, 2, 3, 4] rfl)
                · rw [bI_eq0, Bool.not_eq_false] at c58
                  refine lv_iconst (v := 1) hx hb dX1_watch_61 (by decide) ?_
                  refine lw_eqi (y := bI (s_warnN st t s (o + 1))) (by rw [s_warnS c48, c58, Bool.or_true]; rfl) ?_
                  refine lv_istore_n (lv' := [(3, .int (bI (s_warnN st t s (o + 1)))), (4, .int (nI o)), (0, .ref (ad 0)), (1, .ref (ad (12 + t))), (2, .int (nI s))]) hx hb dX1_watch_62 rfl hl (by decide) rfl (fun ls hl => ?_)
                  refine lv_iinc (v := nI (o + 1)) (lv' := [(4, .int (nI (o + 1))), (3, .int (bI (s_warnN st t s (o + 1)))), (0, .ref (ad 0)), (1, .ref (ad (12 + t))), (2, .int (nI s))]) hx hb dX1_watch_63 hl (k := 1) rfl (nI_1 _) (by decide) rfl (fun ls hl => ?_)
                  refine lv_goto (tgt := 34) hx hb dX1_watch_66 (by decide) ?_
                  refine W.widen (k := (o + 1)) (n := (8 * (o + 1))) (by omega) (by omega) ?_
                  exact ih34 (o + 1) L2 f2 (by omega) (by omega) (fun a h => hL2 a (hL1 a h)) (fun a h => (hf2 a (hL1 a h)).trans (hf1 a h)) _ _ P ls (lv_sub hl [0, 1, 2, 3, 4] rfl)
        exact loop34 _ 0 L f (Nat.lt_succ_self _) (by omega) (fun _ h => h) (fun _ _ => rfl) _ _ P ls (lv_sub hl [0, 1, 2, 3, 4] (rfl))
      · rw [bI_eq0, Bool.not_eq_false] at c25
        exact gw_vret S P hQ hr hlk ⟨Nat.le_of_ble_eq_true rfl, Nat.le_of_ble_eq_true rfl⟩ dX1_watch_28 (wEnd (od_free (decide_eq_true (Or.inr (Or.inr (of_decide_eq_true (Bool.and_eq_true _ _ ▸ c25 : _ ∧ _).2))))) ⟨rfl, hF0, fun _ h => h, fun _ _ _ => rfl⟩)
