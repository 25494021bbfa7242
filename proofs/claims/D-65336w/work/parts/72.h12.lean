/-! SyncHall.latest, giveUp, owned, policy, rank, time, by gen_h12.py -/
set_option maxHeartbeats 4000000 in
set_option maxRecDepth 100000 in
theorem hr_latest {l : Launch} {D : va_G} {cs : Nat → ClassId} {ad : Nat → Nat} {L : List Nat} {f : Nat → va_E} {n : Nat} {st : St} (ho : Ok n st)  (hF : HF cs ad st L f) : PM l D cs yX1_latest cX1_latest 6 (some (.object "SyncHall$Waiter")) (rmL 3 0 0) [.ref (ad 0)] L f (pRd L f (some (va_rf (hLt st ad 6)))) := by
  refine hm_of "SyncHall" rfl (by decide +kernel) (Nat.le_of_ble_eq_true rfl) ?_
  intro sz p e u m below meth c S P hsz hr hlk hnm htb ls hl Q hQ
  have hl : lv_has ls 6 [(0, .ref (ad 0))] := hl
  have hx := S.1
  have hb := S.2.1
  generalize hH0 : u.heap = H at P ⊢
  generalize ([] : List Loc) = locs at P ⊢
  refine lv_null hx hb dX1_latest_0 ?_
  refine lv_astore_nN (lv' := [(1, .null), (0, .ref (ad 0))]) hx hb dX1_latest_1 rfl hl (by decide) rfl (fun ls hl => ?_)
  refine lv_aload_n hx hb dX1_latest_2 rfl (lv_at hl 1 rfl) ?_
  refine pw_get (q := (RX1, TX1, 6)) (k := 0) S P (hF.m (by decide)) hF.hall rfl (by decide) q96 (Or.inl rfl) rfl dX1_latest_3 ?_
  refine lv_astore_n (lv' := [(2, .ref (ad 1)), (1, .null), (0, .ref (ad 0))]) hx hb dX1_latest_6 rfl hl (by decide) rfl (fun ls hl => ?_)
  refine lv_aload_n hx hb dX1_latest_7 rfl (lv_at hl 0 rfl) ?_
  refine pw_alen 3 S P (hF.m (by decide)) hF.tasks rfl dX1_latest_8 ?_
  refine lv_istore_n (lv' := [(3, .int (nI 6)), (2, .ref (ad 1)), (1, .null), (0, .ref (ad 0))]) hx hb dX1_latest_9 rfl hl (by decide) rfl (fun ls hl => ?_)
  refine lv_iconst (v := 0) hx hb dX1_latest_10 (by decide) ?_
  refine lv_istore (lv' := [(4, .int 0), (3, .int (nI 6)), (2, .ref (ad 1)), (1, .null), (0, .ref (ad 0))]) hx hb dX1_latest_11 hl (by decide) rfl (fun ls hl => ?_)
  have loop13 : ∀ (d : Nat) (i : Nat), 6 - i < d → (i ≤ 6) → ∀ (H : Heap) (locs : List Loc), PW D cs (pA L sz) u L f H locs → ∀ (ls : Array Slot), lv_has ls 6 [(4, .int (nI i)), (3, .int (nI 6)), (2, .ref (ad 1)), (1, va_rf (hLt st ad i)), (0, .ref (ad 0))] → W p l e (rmL 3 0 0) u m ([.ref (ad 0)] : List Value).toArray below meth c H locs 0 0 Q (F0 m 13 ls []) := by
    intro d13
    induction d13 with
    | zero => intro i hd; exact absurd hd (by omega)
    | succ d13 ih13 =>
      intro i hd13 hi H locs P ls hl
      refine lv_iload hx hb dX1_latest_13 (lv_at hl 0 rfl) ?_
      refine lv_iload_n hx hb dX1_latest_15 rfl (lv_at hl 1 rfl) ?_
      refine ni_icmp_ge (tgt := 79) (a := i) (b := 6) hx hb (by omega) (by omega) dX1_latest_16 (by decide) (fun c16 => ?_) (fun c16 => ?_)
      · have _h := True.intro
        refine lw_aload_n hx hb dX1_latest_79 rfl (lv_at hl 3 rfl) ?_
        exact gw_aret S P hQ hr hlk ⟨Nat.le_of_ble_eq_true rfl, Nat.le_of_ble_eq_true rfl⟩ dX1_latest_80 (va_rf_or _) (pRd_a (by rw [show i = 6 by omega]))
      · have _h := True.intro
        refine lv_aload_n hx hb dX1_latest_19 rfl (lv_at hl 2 rfl) ?_
        refine lv_iload hx hb dX1_latest_20 (lv_at hl 0 rfl) ?_
        refine pw_aald (j := i) 3 S P (hF.m (by decide)) hF.tasks rfl rfl rfl (by omega) (by decide) dX1_latest_22 ?_
        refine lw_eqv (w := .ref (ad (12 + i))) (congrArg va_rf (if_pos (by omega))) ?_
        refine lv_astore (lv' := [(5, .ref (ad (12 + i))), (4, .int (nI i)), (3, .int (nI 6)), (2, .ref (ad 1)), (1, va_rf (hLt st ad i)), (0, .ref (ad 0))]) hx hb dX1_latest_23 hl (by decide) rfl (fun ls hl => ?_)
        refine lv_aload hx hb dX1_latest_25 (lv_at hl 0 rfl) ?_
        refine pw_callR (nL' := 1) (rest := []) S P (hg_blocked (hF.m (by omega)) (hF.tk (by omega))) q372 q37 (pw_entV (q := (RX2, TX2, 5)) [] S P (hF.m (by omega)) (hF.tk (by omega)) rfl q369 q370 q371 q372 ⟨by decide +kernel, by decide +kernel, (by decide +kernel : (parseMethodDescriptor yX2_blocked.desc).map (fun d => d.parameters.length) = some 0)⟩ dX1_latest_27) hl.1 (Nat.le_of_ble_eq_true rfl) ⟨Nat.le_of_ble_eq_true rfl, Nat.le_of_ble_eq_true rfl⟩ ⟨Nat.le_of_ble_eq_true rfl, Nat.le_of_ble_eq_true rfl⟩ (fun H locs P => ?_)
        refine W.eq (g2 := F0 m 30 ls [.int (bI (hPl st ad i).isSome)]) rfl ?_
        refine W.widen (k := 0) (n := 0) (Nat.le_of_ble_eq_true rfl) (Nat.le_of_ble_eq_true rfl) ?_
        refine lv_if_eq (tgt := 73) (x := bI (hPl st ad i).isSome) hx hb dX1_latest_30 (by decide) (fun c30 => ?_) (fun c30 => ?_)
        · rw [bI_eq0] at c30
          refine lv_iinc (v := nI (i + 1)) (lv' := [(4, .int (nI (i + 1))), (5, .ref (ad (12 + i))), (3, .int (nI 6)), (2, .ref (ad 1)), (1, va_rf (hLt st ad i)), (0, .ref (ad 0))]) hx hb dX1_latest_73 hl (k := 1) rfl (nI_1 _) (by decide) rfl (fun ls hl => ?_)
          refine lv_goto (tgt := 13) hx hb dX1_latest_76 (by decide) ?_
          have hov : s_over st i = false := decide_eq_false (fun z => z.1 (hPl_none.mp (by cases hq : hPl st ad i with | none => rfl | some x => rw [hq] at c30; cases c30)))
          rw [show hLt st ad i = hLt st ad (i + 1) from by unfold hLt; rw [sl_no hov]] at hl
          exact ih13 (i + 1) (by omega) (by omega) _ _ P ls (lv_sub hl [0, 2, 3, 4, 5] rfl)
        · rw [bI_eq0, Bool.not_eq_false] at c30
          have hb1 : ¬ st.1 1 i = 0 := fun z => by rw [hPl_none.mpr z] at c30; cases c30
          refine lv_aload hx hb dX1_latest_33 (lv_at hl 0 rfl) ?_
          refine pw_get (q := (RX2, TX2, 5)) (k := 4) S P (hF.m (by omega)) (hF.tk (by omega)) rfl (by decide) q83 (Or.inl rfl) rfl dX1_latest_35 ?_
          refine lw_eqv (w := .ref (ad (34 + i))) (congrArg va_rf (hPl_some hb1)) ?_
          refine lv_aload_n hx hb dX1_latest_38 rfl (lv_at hl 5 rfl) ?_
          refine pw_get (q := (RX1, TX1, 6)) (k := 5) S P (hF.m (by decide)) hF.hall rfl (by decide) q101 (Or.inl rfl) rfl dX1_latest_39 ?_
          refine pw_callR (nL' := 3) (rest := []) S P (hg_w_isLate (hF.mem (hl_wt (by omega) hb1)) (st.2.1 11 0) (hF.wt (by omega) hb1)) q749 q52 (pw_entV (q := (RX10, TX10, 8)) [.double (st.2.1 11 0)] S P (hF.mem (hl_wt (by omega) hb1)) (hF.wt (by omega) hb1) rfl q746 q747 q748 q749 ⟨by decide +kernel, by decide +kernel, (by decide +kernel : (parseMethodDescriptor yX10_isLate.desc).map (fun d => d.parameters.length) = some 1)⟩ dX1_latest_42) hl.1 (Nat.le_of_ble_eq_true rfl) ⟨Nat.le_of_ble_eq_true rfl, Nat.le_of_ble_eq_true rfl⟩ ⟨Nat.le_of_ble_eq_true rfl, Nat.le_of_ble_eq_true rfl⟩ (fun H locs P => ?_)
          refine W.eq (g2 := F0 m 45 ls [.int (bI (decide ((FP.dcmp (st.2.1 7 i) FP.dconst0 = some .gt ∨ FP.dcmp (st.2.1 7 i) FP.dconst0 = some .eq) ∧ (FP.dcmp (st.2.1 7 i) (st.2.1 11 0) = some .lt ∨ FP.dcmp (st.2.1 7 i) (st.2.1 11 0) = some .eq))))]) rfl ?_
          refine W.widen (k := 0) (n := 0) (Nat.le_of_ble_eq_true rfl) (Nat.le_of_ble_eq_true rfl) ?_
          refine lv_if_ne (tgt := 51) (x := bI (decide ((FP.dcmp (st.2.1 7 i) FP.dconst0 = some .gt ∨ FP.dcmp (st.2.1 7 i) FP.dconst0 = some .eq) ∧ (FP.dcmp (st.2.1 7 i) (st.2.1 11 0) = some .lt ∨ FP.dcmp (st.2.1 7 i) (st.2.1 11 0) = some .eq)))) hx hb dX1_latest_45 (by decide) (fun c45 => ?_) (fun c45 => ?_)
          · simp only [bI_eq0, Bool.not_eq_false, decide_eq_false_iff_not, decide_eq_true_eq, Classical.not_not] at c45
            have hov : s_over st i = true := decide_eq_true ⟨hb1, c45⟩
            refine lw_aload_n hx hb dX1_latest_51 rfl (lv_at hl 4 rfl) ?_
            refine lw_ifnull (tgt := 67) hx hb dX1_latest_52 (by decide) (fun c52 => ?_) (fun c52 => ?_)
            · have _h := True.intro
              have hn0 : s_latest st i = none := by unfold hLt at c52; cases hq : s_latest st i with | none => rfl | some b => rw [hq] at c52; cases c52
              refine lv_aload hx hb dX1_latest_67 (lv_at hl 0 rfl) ?_
              refine pw_get (q := (RX2, TX2, 5)) (k := 4) S P (hF.m (by omega)) (hF.tk (by omega)) rfl (by decide) q83 (Or.inl rfl) rfl dX1_latest_69 ?_
              refine lw_eqv (w := .ref (ad (34 + i))) (congrArg va_rf (hPl_some hb1)) ?_
              refine lv_astore_n (lv' := [(1, .ref (ad (34 + i))), (5, .ref (ad (12 + i))), (4, .int (nI i)), (3, .int (nI 6)), (2, .ref (ad 1)), (0, .ref (ad 0))]) hx hb dX1_latest_72 rfl hl (by decide) rfl (fun ls hl => ?_)
              refine lv_iinc (v := nI (i + 1)) (lv' := [(4, .int (nI (i + 1))), (1, .ref (ad (34 + i))), (5, .ref (ad (12 + i))), (3, .int (nI 6)), (2, .ref (ad 1)), (0, .ref (ad 0))]) hx hb dX1_latest_73 hl (k := 2) rfl (nI_1 _) (by decide) rfl (fun ls hl => ?_)
              refine lv_goto (tgt := 13) hx hb dX1_latest_76 (by decide) ?_
              have e : hLt st ad (i + 1) = some (ad (34 + i)) := by unfold hLt; rw [sl_none hov hn0]; rfl
              rw [show (Value.ref (ad (34 + i))) = va_rf (hLt st ad (i + 1)) from by rw [e]; rfl] at hl
              exact ih13 (i + 1) (by omega) (by omega) _ _ P ls (lv_sub hl [0, 3, 4, 1, 5] rfl)
            · have _h := True.intro
              obtain ⟨b, hbb⟩ : ∃ b, s_latest st i = some b := by
                cases hq : s_latest st i with
                | none => exact absurd (by unfold hLt; rw [hq]; rfl) c52
                | some b => exact ⟨b, rfl⟩
              have hbi := sl_mem hbb
              have hb2 : ¬ st.1 1 b = 0 := (of_decide_eq_true hbi.2).1
              rw [show va_rf (hLt st ad i) = .ref (ad (34 + b)) from by unfold hLt; rw [hbb]; rfl] at hl
              refine lv_aload hx hb dX1_latest_55 (lv_at hl 0 rfl) ?_
              refine pw_get (q := (RX2, TX2, 5)) (k := 4) S P (hF.m (by omega)) (hF.tk (by omega)) rfl (by decide) q83 (Or.inl rfl) rfl dX1_latest_57 ?_
              refine lw_eqv (w := .ref (ad (34 + i))) (congrArg va_rf (hPl_some hb1)) ?_
              refine lv_aload_n hx hb dX1_latest_60 rfl (lv_at hl 4 rfl) ?_
              refine pw_callR (nL' := 2) (rest := []) S P (hg_w_before (hF.mem (hl_wt (by omega) hb1)) (hF.mem (hl_wt (by omega) hb2)) (hF.m (by omega)) (hF.m (by omega)) (hF.wt (by omega) hb2) (hF.tk (by omega)) (hF.tk (by omega)) (hF.wt (by omega) hb1)) q753 q52 (pw_entV (q := (RX10, TX10, 8)) [.ref (ad (34 + b))] S P (hF.mem (hl_wt (by omega) hb1)) (hF.wt (by omega) hb1) rfl q750 q751 q752 q753 ⟨by decide +kernel, by decide +kernel, (by decide +kernel : (parseMethodDescriptor yX10_before.desc).map (fun d => d.parameters.length) = some 1)⟩ dX1_latest_61) hl.1 (Nat.le_of_ble_eq_true rfl) ⟨Nat.le_of_ble_eq_true rfl, Nat.le_of_ble_eq_true rfl⟩ ⟨Nat.le_of_ble_eq_true rfl, Nat.le_of_ble_eq_true rfl⟩ (fun H locs P => ?_)
              refine W.eq (g2 := F0 m 64 ls [.int (bI (decide (FP.dcmp (st.2.1 7 i) (st.2.1 7 b) = some .lt ∨ (FP.dcmp (st.2.1 7 i) (st.2.1 7 b) = some .eq ∧ nI i < nI b))))]) rfl ?_
              refine W.widen (k := 0) (n := 0) (Nat.le_of_ble_eq_true rfl) (Nat.le_of_ble_eq_true rfl) ?_
              refine lv_if_eq (tgt := 73) (x := bI (decide (FP.dcmp (st.2.1 7 i) (st.2.1 7 b) = some .lt ∨ (FP.dcmp (st.2.1 7 i) (st.2.1 7 b) = some .eq ∧ nI i < nI b)))) hx hb dX1_latest_64 (by decide) (fun c64 => ?_) (fun c64 => ?_)
              · simp only [bI_eq0, decide_eq_false_iff_not, decide_eq_true_eq, Classical.not_not] at c64
                have hnlt : ¬ nI i < nI b := fun z => absurd ((nI_ltI (by omega) (by omega)).mp z) (by omega)
                have c64 := fun z => c64 (Or.inl z)
                refine lv_iinc (v := nI (i + 1)) (lv' := [(4, .int (nI (i + 1))), (5, .ref (ad (12 + i))), (3, .int (nI 6)), (2, .ref (ad 1)), (1, .ref (ad (34 + b))), (0, .ref (ad 0))]) hx hb dX1_latest_73 hl (k := 1) rfl (nI_1 _) (by decide) rfl (fun ls hl => ?_)
                refine lv_goto (tgt := 13) hx hb dX1_latest_76 (by decide) ?_
                have e : hLt st ad (i + 1) = some (ad (34 + b)) := by unfold hLt; rw [sl_ge hov hbb c64]; rfl
                rw [show (Value.ref (ad (34 + b))) = va_rf (hLt st ad (i + 1)) from by rw [e]; rfl] at hl
                exact ih13 (i + 1) (by omega) (by omega) _ _ P ls (lv_sub hl [0, 2, 3, 4, 5] rfl)
              · simp only [bI_eq0, Bool.not_eq_false, decide_eq_false_iff_not, decide_eq_true_eq, Classical.not_not] at c64
                have hnlt : ¬ nI i < nI b := fun z => absurd ((nI_ltI (by omega) (by omega)).mp z) (by omega)
                have c64 := c64.resolve_right (fun z => hnlt z.2)
                refine lv_aload hx hb dX1_latest_67 (lv_at hl 0 rfl) ?_
                refine pw_get (q := (RX2, TX2, 5)) (k := 4) S P (hF.m (by omega)) (hF.tk (by omega)) rfl (by decide) q83 (Or.inl rfl) rfl dX1_latest_69 ?_
                refine lw_eqv (w := .ref (ad (34 + i))) (congrArg va_rf (hPl_some hb1)) ?_
                refine lv_astore_n (lv' := [(1, .ref (ad (34 + i))), (5, .ref (ad (12 + i))), (4, .int (nI i)), (3, .int (nI 6)), (2, .ref (ad 1)), (0, .ref (ad 0))]) hx hb dX1_latest_72 rfl hl (by decide) rfl (fun ls hl => ?_)
                refine lv_iinc (v := nI (i + 1)) (lv' := [(4, .int (nI (i + 1))), (1, .ref (ad (34 + i))), (5, .ref (ad (12 + i))), (3, .int (nI 6)), (2, .ref (ad 1)), (0, .ref (ad 0))]) hx hb dX1_latest_73 hl (k := 2) rfl (nI_1 _) (by decide) rfl (fun ls hl => ?_)
                refine lv_goto (tgt := 13) hx hb dX1_latest_76 (by decide) ?_
                have e : hLt st ad (i + 1) = some (ad (34 + i)) := by unfold hLt; rw [sl_lt hov hbb c64]; rfl
                rw [show (Value.ref (ad (34 + i))) = va_rf (hLt st ad (i + 1)) from by rw [e]; rfl] at hl
                exact ih13 (i + 1) (by omega) (by omega) _ _ P ls (lv_sub hl [0, 3, 4, 1, 5] rfl)
          · simp only [bI_eq0, decide_eq_false_iff_not, decide_eq_true_eq, Classical.not_not] at c45
            refine lv_goto (tgt := 73) hx hb dX1_latest_48 (by decide) ?_
            refine lv_iinc (v := nI (i + 1)) (lv' := [(4, .int (nI (i + 1))), (5, .ref (ad (12 + i))), (3, .int (nI 6)), (2, .ref (ad 1)), (1, va_rf (hLt st ad i)), (0, .ref (ad 0))]) hx hb dX1_latest_73 hl (k := 1) rfl (nI_1 _) (by decide) rfl (fun ls hl => ?_)
            refine lv_goto (tgt := 13) hx hb dX1_latest_76 (by decide) ?_
            have hov : s_over st i = false := decide_eq_false (fun z => c45 z.2)
            rw [show hLt st ad i = hLt st ad (i + 1) from by unfold hLt; rw [sl_no hov]] at hl
            exact ih13 (i + 1) (by omega) (by omega) _ _ P ls (lv_sub hl [0, 2, 3, 4, 5] rfl)
  exact loop13 _ 0 (Nat.lt_succ_self _) (by omega) _ _ P ls (lv_sub hl [0, 1, 2, 3, 4] (rfl))

set_option maxHeartbeats 8000000 in
set_option maxRecDepth 100000 in
theorem hw_giveUp {l : Launch} {D : va_G} {cs : Nat → ClassId} {ad : Nat → Nat} {L : List Nat} {f : Nat → va_E} {n : Nat} {st : St} (ho : Ok n st) {s : Nat} (hs : s < 8) {t : Nat} (hm : t ∈ st.2.2 s) (hn : n ≤ 100) {why : Int32}  (hF : HF cs ad st L f) : PM l D cs yX1_giveUp cX1_giveUp 4 none (rmL 7 1 8) [.ref (ad 0), .ref (ad (34 + t)), .int why] L f (hPost cs ad st L f (.inl none) (s_giveUp st t s why)) := by
  refine hm_of "SyncHall" rfl (by decide +kernel) (Nat.le_of_ble_eq_true rfl) ?_
  intro sz p e u m below meth c S P hsz hr hlk hnm htb ls hl Q hQ
  have hl : lv_has ls 4 [(0, .ref (ad 0)), (1, .ref (ad (34 + t))), (2, .int why)] := hl
  have hx := S.1
  have hb := S.2.1
  generalize hH0 : u.heap = H at P ⊢
  generalize ([] : List Loc) = locs at P ⊢
  have hFr : ∀ a, ¬ hOwn st ad a → f a = f a := fun _ _ => rfl
  have ht := (ho.row hs hm).1
  have hbt : ¬ st.1 1 t = 0 := by rw [(ho.row hs hm).2.2.1]; decide
  have hkd : hKd st s := ho.kd hs (ho.made hs hm)
  have hkne := hkd.ne
  have hwt0 : f (ad (34 + t)) = .inr (2, [.ref (ad (12 + t)), .ref (ad (18 + s_wf st t)), .int (bI (hWb st t)), .double (st.2.1 7 t), .double (st.2.1 8 t), .int (st.1 9 t), .int (hWo st t), va_rf (hNx st ad t)]) := hF.wt ht hbt
  have hwm : ad (34 + t) ∈ L := hF.mem (hl_wt ht hbt)
  have hwo : ¬ hOwn (sI (s_remove st t s) 1 t 0) ad (ad (34 + t)) := rv_own hF ht hbt
  refine lv_aload_n hx hb dX1_giveUp_0 rfl (lv_at hl 1 rfl) ?_
  refine pw_callR (nL' := 1) (rest := []) S P (hg_w_sync (hF.mem (hl_wt ht hbt)) (hF.wt ht hbt)) q728 q52 (pw_entV (q := (RX10, TX10, 8)) [] S P (hF.mem (hl_wt ht hbt)) (hF.wt ht hbt) rfl q725 q726 q727 q728 ⟨by decide +kernel, by decide +kernel, (by decide +kernel : (parseMethodDescriptor yX10_sync.desc).map (fun d => d.parameters.length) = some 0)⟩ dX1_giveUp_1) hl.1 (Nat.le_of_ble_eq_true rfl) ⟨Nat.le_of_ble_eq_true rfl, Nat.le_of_ble_eq_true rfl⟩ ⟨Nat.le_of_ble_eq_true rfl, Nat.le_of_ble_eq_true rfl⟩ (fun H locs P => ?_)
  refine W.eq (g2 := F0 m 4 ls [.ref (ad (18 + (s_wf st t)))]) rfl ?_
  refine W.widen (k := 0) (n := 0) (Nat.le_of_ble_eq_true rfl) (Nat.le_of_ble_eq_true rfl) ?_
  refine lw_eqv (w := .ref (ad (18 + s))) (by rw [wf_of ho hs hm]) ?_
  refine lv_astore_n (lv' := [(3, .ref (ad (18 + s))), (0, .ref (ad 0)), (1, .ref (ad (34 + t))), (2, .int why)]) hx hb dX1_giveUp_4 rfl hl (by decide) rfl (fun ls hl => ?_)
  refine lv_aload_n hx hb dX1_giveUp_5 rfl (lv_at hl 0 rfl) ?_
  refine hs_isCond (s := s) S P hF hs hkd q327 dX1_giveUp_6 ?_
  refine lv_if_eq (tgt := 26) (x := bI (decide (st.1 12 s = 6))) hx hb dX1_giveUp_9 (by decide) (fun c9 => ?_) (fun c9 => ?_)
  · simp only [bI_eq0, decide_eq_false_iff_not, decide_eq_true_eq, Classical.not_not] at c9
    refine lv_aload_n hx hb dX1_giveUp_26 rfl (lv_at hl 0 rfl) ?_
    refine lv_aload_n hx hb dX1_giveUp_27 rfl (lv_at hl 2 rfl) ?_
    refine vc_remove S P ho hF hs hkd hm q733 dX1_giveUp_28 hl.1 (Nat.le_of_ble_eq_true rfl) ⟨Nat.le_of_ble_eq_true rfl, Nat.le_of_ble_eq_true rfl⟩ ⟨Nat.le_of_ble_eq_true rfl, Nat.le_of_ble_eq_true rfl⟩ (fun H locs f1 P hF hwc hfr1 => ?_)
    have hwe := hwc.trans hwt0
    have hFr : ∀ a, ¬ hOwn (sI (s_remove st t s) 1 t 0) ad a → f1 a = f1 a := fun _ _ => rfl
    refine lv_aload_n hx hb dX1_giveUp_31 rfl (lv_at hl 2 rfl) ?_
    refine pw_callR (nL' := 1) (rest := []) S P (hg_w_task hwm hwe) q550 q52 (pw_entV (q := (RX10, TX10, 8)) [] S P hwm hwe rfl q734 q548 q549 q550 ⟨by decide +kernel, by decide +kernel, (by decide +kernel : (parseMethodDescriptor yX10_task.desc).map (fun d => d.parameters.length) = some 0)⟩ dX1_giveUp_32) hl.1 (Nat.le_of_ble_eq_true rfl) ⟨Nat.le_of_ble_eq_true rfl, Nat.le_of_ble_eq_true rfl⟩ ⟨Nat.le_of_ble_eq_true rfl, Nat.le_of_ble_eq_true rfl⟩ (fun H locs P => ?_)
    refine W.eq (g2 := F0 m 35 ls [.ref (ad (12 + t))]) rfl ?_
    refine W.widen (k := 0) (n := 0) (Nat.le_of_ble_eq_true rfl) (Nat.le_of_ble_eq_true rfl) ?_
    refine lv_iload_n hx hb dX1_giveUp_35 rfl (lv_at hl 3 rfl) ?_
    refine hp_task (st' := sI (sI (s_remove st t s) 1 t 0) 4 t why) (t := t) (k := 2) (v := .int why) S P hF (by omega) (by decide) q78 rfl rfl (rfl) (rfl) (tDiff_I (by decide)) (by unfold hTask; rw [show (sI (sI (s_remove st t s) 1 t 0) 4 t why).1 4 t = why from pk_us]; rfl) dX1_giveUp_36 (fun H locs f P hF hfr => ?_)
    have hFr : ∀ a, ¬ hOwn (sI (s_remove st t s) 1 t 0) ad a → f a = _ := fun a ha => (hfr a ha).trans (hFr a ha)
    have hwe := (hfr _ hwo).trans hwe
    refine lv_aload_n hx hb dX1_giveUp_39 rfl (lv_at hl 0 rfl) ?_
    refine lv_aload_n hx hb dX1_giveUp_40 rfl (lv_at hl 1 rfl) ?_
    refine pw_get (q := (RX1, TX1, 6)) (k := 5) S P (hF.m (by decide)) hF.hall rfl (by decide) q101 (Or.inl rfl) rfl dX1_giveUp_41 ?_
    have hk4 : hK4 (sI (sI (s_remove st t s) 1 t 0) 4 t why) s := hkd.k4 c9
    refine vc_serve S P ((ho.rmB hs hm).1.I (by decide)) hF hs hk4 hn rfl ho.db.1 q589 dX1_giveUp_44 hl.1 (Nat.le_of_ble_eq_true rfl) ⟨Nat.le_of_ble_eq_true rfl, Nat.le_of_ble_eq_true rfl⟩ ⟨Nat.le_of_ble_eq_true rfl, Nat.le_of_ble_eq_true rfl⟩ (fun H locs f2 P hF hlv2 hfr2 => ?_)
    exact gw_vret S P hQ hr hlk ⟨Nat.le_of_ble_eq_true rfl, Nat.le_of_ble_eq_true rfl⟩ dX1_giveUp_47 (by unfold s_giveUp; rw [if_neg c9]; exact ⟨rfl, ad, hF, fun _ _ _ => rfl, fun _ h => h, fun a _ ha => ⟨(hfr2 a (hOwn_no (fun r hr => (rv_live (st := st) (t := t) (s := s) hr).1) ha)).trans ((hFr a (hOwn_no (fun r hr => (rv_live (st := st) (t := t) (s := s) hr).1) ha)).trans (hfr1 a ha)), hOwn_no (fun r hr => (rv_live (st := st) (t := t) (s := s) (hlv2 r hr)).1) ha⟩⟩)
  · simp only [bI_eq0, Bool.not_eq_false, decide_eq_false_iff_not, decide_eq_true_eq, Classical.not_not] at c9
    refine lv_aload_n hx hb dX1_giveUp_12 rfl (lv_at hl 0 rfl) ?_
    refine hs_cast_cd (s := s) S P hF hs c9 q327 dX1_giveUp_13 ?_
    refine lv_aload_n hx hb dX1_giveUp_16 rfl (lv_at hl 2 rfl) ?_
    refine lv_iload_n hx hb dX1_giveUp_17 rfl (lv_at hl 3 rfl) ?_
    refine lv_aload_n hx hb dX1_giveUp_18 rfl (lv_at hl 1 rfl) ?_
    refine pw_get (q := (RX1, TX1, 6)) (k := 5) S P (hF.m (by decide)) hF.hall rfl (by decide) q101 (Or.inl rfl) rfl dX1_giveUp_19 ?_
    refine pw_callH (nL' := 5) (rest := []) S P (hw_queue ho hs c9 hm hn rfl ho.db.1 hF) q687 q50 (pw_entV (q := (RX9, TX9, 4)) [.ref (ad (34 + t)), .int why, .double (st.2.1 11 0)] S P (hF.cd (by omega) c9).1 (hF.cd (by omega) c9).2 rfl q684 q685 q686 q687 ⟨by decide +kernel, by decide +kernel, (by decide +kernel : (parseMethodDescriptor yX9_queue.desc).map (fun d => d.parameters.length) = some 3)⟩ dX1_giveUp_22) hl.1 (Nat.le_of_ble_eq_true rfl) ⟨Nat.le_of_ble_eq_true rfl, Nat.le_of_ble_eq_true rfl⟩ ⟨Nat.le_of_ble_eq_true rfl, Nat.le_of_ble_eq_true rfl⟩ (fun H locs L2 f2 ad2 P hF2 had hLs hfr2 => ?_)
    refine W.eq (g2 := F0 m 25 ls []) rfl ?_
    refine W.widen (k := 1) (n := 8) (Nat.le_of_ble_eq_true rfl) (Nat.le_of_ble_eq_true rfl) ?_
    exact gw_vret S P hQ hr hlk ⟨Nat.le_of_ble_eq_true rfl, Nat.le_of_ble_eq_true rfl⟩ dX1_giveUp_25 (⟨rfl, ad2, by unfold s_giveUp; rw [if_pos c9]; exact hF2, had, hLs, by unfold s_giveUp; rw [if_pos c9]; exact hfr2⟩)

set_option maxHeartbeats 4000000 in
set_option maxRecDepth 100000 in
theorem hr_time {l : Launch} {D : va_G} {cs : Nat → ClassId} {ad : Nat → Nat} {L : List Nat} {f : Nat → va_E} {n : Nat} {st : St} (ho : Ok n st)  (hF : HF cs ad st L f) : PM l D cs yX1_time cX1_time 1 (some .double) (rmL 1 0 0) [.ref (ad 0)] L f (pRd L f (some (.double (st.2.1 11 0)))) := by
  refine hm_of "SyncHall" rfl (by decide +kernel) (Nat.le_of_ble_eq_true rfl) ?_
  intro sz p e u m below meth c S P hsz hr hlk hnm htb ls hl Q hQ
  have hl : lv_has ls 1 [(0, .ref (ad 0))] := hl
  have hx := S.1
  have hb := S.2.1
  generalize hH0 : u.heap = H at P ⊢
  generalize ([] : List Loc) = locs at P ⊢
  refine lv_aload_n hx hb dX1_time_0 rfl (lv_at hl 0 rfl) ?_
  refine pw_get (q := (RX1, TX1, 6)) (k := 5) S P (hF.m (by decide)) hF.hall rfl (by decide) q101 (Or.inl rfl) rfl dX1_time_1 ?_
  exact gw_dret S P hQ hr hlk ⟨Nat.le_of_ble_eq_true rfl, Nat.le_of_ble_eq_true rfl⟩ dX1_time_4 (pRd_d (rfl))

set_option maxHeartbeats 8000000 in
set_option maxRecDepth 100000 in
theorem hm_policy {l : Launch} {D : va_G} {cs : Nat → ClassId} {ad : Nat → Nat} {L : List Nat} {f : Nat → va_E} (hst : l.stackTraces = false) {n : Nat} {st : St} (ho : Ok n st) {v : Int32}  (hF : HF cs ad st L f) : PM l D cs yX1_policy cX1_policy 2 (some .int) (rmL 7 1 6) [.ref (ad 0), .int v] L f (hPost cs ad st L f (hOut (s_policy st v)) (s_policy st v).2.2) := by
  refine hm_of "SyncHall" rfl (by decide +kernel) (Nat.le_of_ble_eq_true rfl) ?_
  intro sz p e u m below meth c S P hsz hr hlk hnm htb ls hl Q hQ
  have hl : lv_has ls 2 [(0, .ref (ad 0)), (1, .int v)] := hl
  have hx := S.1
  have hb := S.2.1
  generalize hH0 : u.heap = H at P ⊢
  generalize ([] : List Loc) = locs at P ⊢
  have hFr : ∀ a, ¬ hOwn st ad a → f a = f a := fun _ _ => rfl
  refine lv_iload_n hx hb dX1_policy_0 rfl (lv_at hl 1 rfl) ?_
  refine lv_if_lt (tgt := 13) (x := v) hx hb dX1_policy_1 (by decide) (fun c1 => ?_) (fun c1 => ?_)
  · have _h := True.intro
    refine lv_iconst (v := 0) hx hb dX1_policy_13 (by decide) ?_
    exact pw_callT (nL' := 1) (rest := []) S P hQ (ht_range hst) q134 q36 (pw_entS [.int 0] S q132 q133 q36 q134 ⟨by decide +kernel, by decide +kernel, (by decide +kernel : (parseMethodDescriptor yX1_range.desc).map (fun d => d.parameters.length) = some 1)⟩ dX1_policy_14) htb hlk hl.1 (Nat.le_of_ble_eq_true rfl) ⟨Nat.le_of_ble_eq_true rfl, Nat.le_of_ble_eq_true rfl⟩ ⟨Nat.le_of_ble_eq_true rfl, Nat.le_of_ble_eq_true rfl⟩ ⟨Nat.le_of_ble_eq_true rfl, Nat.le_of_ble_eq_true rfl⟩ (hEnd (r := (1, 0, st)) (if_pos (io_t (a := 2) (by decide) (Or.inl c1))) (hPost_th hF))
  · have _h := True.intro
    refine lv_iload_n hx hb dX1_policy_4 rfl (lv_at hl 1 rfl) ?_
    refine lv_iconst (v := 2) hx hb dX1_policy_5 (by decide) ?_
    refine lv_icmp_gt (tgt := 13) (x := v) (y := 2) hx hb dX1_policy_6 (by decide) (fun c6 => ?_) (fun c6 => ?_)
    · have _h := True.intro
      refine lv_iconst (v := 0) hx hb dX1_policy_13 (by decide) ?_
      exact pw_callT (nL' := 1) (rest := []) S P hQ (ht_range hst) q134 q36 (pw_entS [.int 0] S q132 q133 q36 q134 ⟨by decide +kernel, by decide +kernel, (by decide +kernel : (parseMethodDescriptor yX1_range.desc).map (fun d => d.parameters.length) = some 1)⟩ dX1_policy_14) htb hlk hl.1 (Nat.le_of_ble_eq_true rfl) ⟨Nat.le_of_ble_eq_true rfl, Nat.le_of_ble_eq_true rfl⟩ ⟨Nat.le_of_ble_eq_true rfl, Nat.le_of_ble_eq_true rfl⟩ ⟨Nat.le_of_ble_eq_true rfl, Nat.le_of_ble_eq_true rfl⟩ (hEnd (r := (1, 0, st)) (if_pos (io_t (a := 2) (by decide) (Or.inr c6))) (hPost_th hF))
    · have _h := True.intro
      refine lv_iconst (v := 1) hx hb dX1_policy_9 (by decide) ?_
      refine lv_goto (tgt := 14) hx hb dX1_policy_10 (by decide) ?_
      refine pw_callR (nL' := 1) (rest := []) S P (hs_range True.intro) q134 q36 (pw_entS [.int 1] S q132 q133 q36 q134 ⟨by decide +kernel, by decide +kernel, (by decide +kernel : (parseMethodDescriptor yX1_range.desc).map (fun d => d.parameters.length) = some 1)⟩ dX1_policy_14) hl.1 (Nat.le_of_ble_eq_true rfl) ⟨Nat.le_of_ble_eq_true rfl, Nat.le_of_ble_eq_true rfl⟩ ⟨Nat.le_of_ble_eq_true rfl, Nat.le_of_ble_eq_true rfl⟩ (fun H locs P => ?_)
      refine W.eq (g2 := F0 m 17 ls []) rfl ?_
      refine W.widen (k := 1) (n := 6) (Nat.le_of_ble_eq_true rfl) (Nat.le_of_ble_eq_true rfl) ?_
      refine lv_aload_n hx hb dX1_policy_17 rfl (lv_at hl 0 rfl) ?_
      refine lv_iload_n hx hb dX1_policy_18 rfl (lv_at hl 1 rfl) ?_
      refine hp_hall (st' := sI st 24 0 v) (k := 3) (v := .int v) S P hF (by decide) q99 rfl rfl rfl rfl (fun _ hr => hr) (fun r hr => hc_24 (by decide) hr) (by rfl) dX1_policy_19 (fun H locs f P hF hfr => ?_)
      have hFr : ∀ a, ¬ hOwn st ad a → f a = _ := fun a ha => (hfr a ha).trans (hFr a ha)
      refine lv_aload_n hx hb dX1_policy_22 rfl (lv_at hl 0 rfl) ?_
      refine pw_get (q := (RX1, TX1, 6)) (k := 4) S P (hF.m (by decide)) hF.hall rfl (by decide) q100 (Or.inl rfl) rfl dX1_policy_23 ?_
      exact gw_iret S P hQ hr hlk ⟨Nat.le_of_ble_eq_true rfl, Nat.le_of_ble_eq_true rfl⟩ dX1_policy_26 (hEnd (r := (0, st.1 25 0, sI st 24 0 v)) (if_neg (bnt (io_f (a := 2) (by decide) c1 c6))) (hPost_same (o := .inl (some (.int (st.1 25 0)))) hF (fun _ hr => hr) hFr).to)
