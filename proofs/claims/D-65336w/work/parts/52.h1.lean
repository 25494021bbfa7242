/-! the class's getters, by gen_h1.py -/
set_option maxHeartbeats 4000000 in
set_option maxRecDepth 100000 in
theorem hg_number {l : Launch} {D : va_G} {cs : Nat → ClassId} {L : List Nat} {f : Nat → va_E} {a : Nat} {n o g : Int32} {pr : UInt64} {pl : Option Nat} (ha : a ∈ L) (hf : f a = .inr (1, [.int n, .double pr, .int o, .int g, va_rf pl])) : PM l D cs yX2_number cX2_number 1 (some .int) (rmL 1 0 0) [.ref a] L f (pRd L f (some (.int n))) := by
  refine hm_of "SyncHall$Task" rfl (by decide +kernel) (Nat.le_of_ble_eq_true rfl) ?_
  intro sz p e u m below meth c S P hsz hr hlk hnm htb ls hl Q hQ
  have hl : lv_has ls 1 [(0, .ref a)] := hl
  have hx := S.1
  have hb := S.2.1
  generalize hH0 : u.heap = H at P ⊢
  generalize ([] : List Loc) = locs at P ⊢
  refine lv_aload_n hx hb dX2_number_0 rfl (lv_at hl 0 rfl) ?_
  refine pw_get (q := (RX2, TX2, 5)) (k := 0) S P ha hf rfl (by decide) q74 (Or.inl rfl) rfl dX2_number_1 ?_
  exact gw_iret S P hQ hr hlk ⟨Nat.le_of_ble_eq_true rfl, Nat.le_of_ble_eq_true rfl⟩ dX2_number_4 (pRd_i (rfl))

set_option maxHeartbeats 4000000 in
set_option maxRecDepth 100000 in
theorem hg_blocked {l : Launch} {D : va_G} {cs : Nat → ClassId} {L : List Nat} {f : Nat → va_E} {a : Nat} {n o g : Int32} {pr : UInt64} {pl : Option Nat} (ha : a ∈ L) (hf : f a = .inr (1, [.int n, .double pr, .int o, .int g, va_rf pl])) : PM l D cs yX2_blocked cX2_blocked 1 (some .boolean) (rmL 1 0 0) [.ref a] L f (pRd L f (some (.int (bI pl.isSome)))) := by
  refine hm_of "SyncHall$Task" rfl (by decide +kernel) (Nat.le_of_ble_eq_true rfl) ?_
  intro sz p e u m below meth c S P hsz hr hlk hnm htb ls hl Q hQ
  have hl : lv_has ls 1 [(0, .ref a)] := hl
  have hx := S.1
  have hb := S.2.1
  generalize hH0 : u.heap = H at P ⊢
  generalize ([] : List Loc) = locs at P ⊢
  refine lv_aload_n hx hb dX2_blocked_0 rfl (lv_at hl 0 rfl) ?_
  refine pw_get (q := (RX2, TX2, 5)) (k := 4) S P ha hf rfl (by decide) q81 (Or.inl rfl) rfl dX2_blocked_1 ?_
  refine lw_ifnull (tgt := 11) hx hb dX2_blocked_4 (by decide) (fun c4 => ?_) (fun c4 => ?_)
  · have _h := True.intro
    refine lv_iconst (v := 0) hx hb dX2_blocked_11 (by decide) ?_
    exact gw_zret S P hQ hr hlk ⟨Nat.le_of_ble_eq_true rfl, Nat.le_of_ble_eq_true rfl⟩ dX2_blocked_12 (by first | decide | exact bI_or _) (pRd_i (by cases pl <;> simp_all [bI]))
  · have _h := True.intro
    refine lv_iconst (v := 1) hx hb dX2_blocked_7 (by decide) ?_
    refine lv_goto (tgt := 12) hx hb dX2_blocked_8 (by decide) ?_
    exact gw_zret S P hQ hr hlk ⟨Nat.le_of_ble_eq_true rfl, Nat.le_of_ble_eq_true rfl⟩ dX2_blocked_12 (by first | decide | exact bI_or _) (pRd_i (by cases pl <;> simp_all [bI]))

set_option maxHeartbeats 4000000 in
set_option maxRecDepth 100000 in
theorem hg_w_task {l : Launch} {D : va_G} {cs : Nat → ClassId} {L : List Nat} {f : Nat → va_E} {a tk sy : Nat} {wr dp oc : Int32} {en si : UInt64} {nx : Option Nat} (ha : a ∈ L) (hf : f a = .inr (2, [.ref tk, .ref sy, .int wr, .double en, .double si, .int dp, .int oc, va_rf nx])) : PM l D cs yX10_task cX10_task 1 (some (.object "SyncHall$Task")) (rmL 1 0 0) [.ref a] L f (pRd L f (some (.ref tk))) := by
  refine hm_of "SyncHall$Waiter" rfl (by decide +kernel) (Nat.le_of_ble_eq_true rfl) ?_
  intro sz p e u m below meth c S P hsz hr hlk hnm htb ls hl Q hQ
  have hl : lv_has ls 1 [(0, .ref a)] := hl
  have hx := S.1
  have hb := S.2.1
  generalize hH0 : u.heap = H at P ⊢
  generalize ([] : List Loc) = locs at P ⊢
  refine lv_aload_n hx hb dX10_task_0 rfl (lv_at hl 0 rfl) ?_
  refine pw_get (q := (RX10, TX10, 8)) (k := 0) S P ha hf rfl (by decide) q510 (Or.inl rfl) rfl dX10_task_1 ?_
  exact gw_aret S P hQ hr hlk ⟨Nat.le_of_ble_eq_true rfl, Nat.le_of_ble_eq_true rfl⟩ dX10_task_4 (Or.inr ⟨_, rfl⟩) (pRd_a (rfl))

set_option maxHeartbeats 4000000 in
set_option maxRecDepth 100000 in
theorem hg_w_sync {l : Launch} {D : va_G} {cs : Nat → ClassId} {L : List Nat} {f : Nat → va_E} {a tk sy : Nat} {wr dp oc : Int32} {en si : UInt64} {nx : Option Nat} (ha : a ∈ L) (hf : f a = .inr (2, [.ref tk, .ref sy, .int wr, .double en, .double si, .int dp, .int oc, va_rf nx])) : PM l D cs yX10_sync cX10_sync 1 (some (.object "SyncHall$Sync")) (rmL 1 0 0) [.ref a] L f (pRd L f (some (.ref sy))) := by
  refine hm_of "SyncHall$Waiter" rfl (by decide +kernel) (Nat.le_of_ble_eq_true rfl) ?_
  intro sz p e u m below meth c S P hsz hr hlk hnm htb ls hl Q hQ
  have hl : lv_has ls 1 [(0, .ref a)] := hl
  have hx := S.1
  have hb := S.2.1
  generalize hH0 : u.heap = H at P ⊢
  generalize ([] : List Loc) = locs at P ⊢
  refine lv_aload_n hx hb dX10_sync_0 rfl (lv_at hl 0 rfl) ?_
  refine pw_get (q := (RX10, TX10, 8)) (k := 1) S P ha hf rfl (by decide) q511 (Or.inl rfl) rfl dX10_sync_1 ?_
  exact gw_aret S P hQ hr hlk ⟨Nat.le_of_ble_eq_true rfl, Nat.le_of_ble_eq_true rfl⟩ dX10_sync_4 (Or.inr ⟨_, rfl⟩) (pRd_a (rfl))

set_option maxHeartbeats 4000000 in
set_option maxRecDepth 100000 in
theorem hg_w_depth {l : Launch} {D : va_G} {cs : Nat → ClassId} {L : List Nat} {f : Nat → va_E} {a tk sy : Nat} {wr dp oc : Int32} {en si : UInt64} {nx : Option Nat} (ha : a ∈ L) (hf : f a = .inr (2, [.ref tk, .ref sy, .int wr, .double en, .double si, .int dp, .int oc, va_rf nx])) : PM l D cs yX10_depth cX10_depth 1 (some .int) (rmL 1 0 0) [.ref a] L f (pRd L f (some (.int dp))) := by
  refine hm_of "SyncHall$Waiter" rfl (by decide +kernel) (Nat.le_of_ble_eq_true rfl) ?_
  intro sz p e u m below meth c S P hsz hr hlk hnm htb ls hl Q hQ
  have hl : lv_has ls 1 [(0, .ref a)] := hl
  have hx := S.1
  have hb := S.2.1
  generalize hH0 : u.heap = H at P ⊢
  generalize ([] : List Loc) = locs at P ⊢
  refine lv_aload_n hx hb dX10_depth_0 rfl (lv_at hl 0 rfl) ?_
  refine pw_get (q := (RX10, TX10, 8)) (k := 5) S P ha hf rfl (by decide) q515 (Or.inl rfl) rfl dX10_depth_1 ?_
  exact gw_iret S P hQ hr hlk ⟨Nat.le_of_ble_eq_true rfl, Nat.le_of_ble_eq_true rfl⟩ dX10_depth_4 (pRd_i (rfl))

set_option maxHeartbeats 4000000 in
set_option maxRecDepth 100000 in
theorem hg_w_outcome {l : Launch} {D : va_G} {cs : Nat → ClassId} {L : List Nat} {f : Nat → va_E} {a tk sy : Nat} {wr dp oc : Int32} {en si : UInt64} {nx : Option Nat} (ha : a ∈ L) (hf : f a = .inr (2, [.ref tk, .ref sy, .int wr, .double en, .double si, .int dp, .int oc, va_rf nx])) : PM l D cs yX10_outcome cX10_outcome 1 (some .int) (rmL 1 0 0) [.ref a] L f (pRd L f (some (.int oc))) := by
  refine hm_of "SyncHall$Waiter" rfl (by decide +kernel) (Nat.le_of_ble_eq_true rfl) ?_
  intro sz p e u m below meth c S P hsz hr hlk hnm htb ls hl Q hQ
  have hl : lv_has ls 1 [(0, .ref a)] := hl
  have hx := S.1
  have hb := S.2.1
  generalize hH0 : u.heap = H at P ⊢
  generalize ([] : List Loc) = locs at P ⊢
  refine lv_aload_n hx hb dX10_outcome_0 rfl (lv_at hl 0 rfl) ?_
  refine pw_get (q := (RX10, TX10, 8)) (k := 6) S P ha hf rfl (by decide) q516 (Or.inl rfl) rfl dX10_outcome_1 ?_
  exact gw_iret S P hQ hr hlk ⟨Nat.le_of_ble_eq_true rfl, Nat.le_of_ble_eq_true rfl⟩ dX10_outcome_4 (pRd_i (rfl))

set_option maxHeartbeats 4000000 in
set_option maxRecDepth 100000 in
theorem hg_w_since {l : Launch} {D : va_G} {cs : Nat → ClassId} {L : List Nat} {f : Nat → va_E} {a tk sy : Nat} {wr dp oc : Int32} {en si : UInt64} {nx : Option Nat} (ha : a ∈ L) (hf : f a = .inr (2, [.ref tk, .ref sy, .int wr, .double en, .double si, .int dp, .int oc, va_rf nx])) : PM l D cs yX10_since cX10_since 1 (some .double) (rmL 1 0 0) [.ref a] L f (pRd L f (some (.double si))) := by
  refine hm_of "SyncHall$Waiter" rfl (by decide +kernel) (Nat.le_of_ble_eq_true rfl) ?_
  intro sz p e u m below meth c S P hsz hr hlk hnm htb ls hl Q hQ
  have hl : lv_has ls 1 [(0, .ref a)] := hl
  have hx := S.1
  have hb := S.2.1
  generalize hH0 : u.heap = H at P ⊢
  generalize ([] : List Loc) = locs at P ⊢
  refine lv_aload_n hx hb dX10_since_0 rfl (lv_at hl 0 rfl) ?_
  refine pw_get (q := (RX10, TX10, 8)) (k := 4) S P ha hf rfl (by decide) q514 (Or.inl rfl) rfl dX10_since_1 ?_
  exact gw_dret S P hQ hr hlk ⟨Nat.le_of_ble_eq_true rfl, Nat.le_of_ble_eq_true rfl⟩ dX10_since_4 (pRd_d (rfl))

set_option maxHeartbeats 4000000 in
set_option maxRecDepth 100000 in
theorem hg_w_writes {l : Launch} {D : va_G} {cs : Nat → ClassId} {L : List Nat} {f : Nat → va_E} {a tk sy : Nat} {dp oc : Int32} {en si : UInt64} {nx : Option Nat} {wb : Bool} (ha : a ∈ L) (hf : f a = .inr (2, [.ref tk, .ref sy, .int (bI wb), .double en, .double si, .int dp, .int oc, va_rf nx])) : PM l D cs yX10_writes cX10_writes 1 (some .boolean) (rmL 1 0 0) [.ref a] L f (pRd L f (some (.int (bI wb)))) := by
  refine hm_of "SyncHall$Waiter" rfl (by decide +kernel) (Nat.le_of_ble_eq_true rfl) ?_
  intro sz p e u m below meth c S P hsz hr hlk hnm htb ls hl Q hQ
  have hl : lv_has ls 1 [(0, .ref a)] := hl
  have hx := S.1
  have hb := S.2.1
  generalize hH0 : u.heap = H at P ⊢
  generalize ([] : List Loc) = locs at P ⊢
  refine lv_aload_n hx hb dX10_writes_0 rfl (lv_at hl 0 rfl) ?_
  refine pw_get (q := (RX10, TX10, 8)) (k := 2) S P ha hf rfl (by decide) q512 (Or.inl rfl) rfl dX10_writes_1 ?_
  exact gw_zret S P hQ hr hlk ⟨Nat.le_of_ble_eq_true rfl, Nat.le_of_ble_eq_true rfl⟩ dX10_writes_4 (by first | decide | exact bI_or _) (pRd_i (rfl))

set_option maxHeartbeats 4000000 in
set_option maxRecDepth 100000 in
theorem hg_w_takesBack {l : Launch} {D : va_G} {cs : Nat → ClassId} {L : List Nat} {f : Nat → va_E} {a tk sy : Nat} {wr dp oc : Int32} {en si : UInt64} {nx : Option Nat} (ha : a ∈ L) (hf : f a = .inr (2, [.ref tk, .ref sy, .int wr, .double en, .double si, .int dp, .int oc, va_rf nx])) : PM l D cs yX10_takesBack cX10_takesBack 1 (some .boolean) (rmL 1 0 0) [.ref a] L f (pRd L f (some (.int (bI (decide (0 < dp)))))) := by
  refine hm_of "SyncHall$Waiter" rfl (by decide +kernel) (Nat.le_of_ble_eq_true rfl) ?_
  intro sz p e u m below meth c S P hsz hr hlk hnm htb ls hl Q hQ
  have hl : lv_has ls 1 [(0, .ref a)] := hl
  have hx := S.1
  have hb := S.2.1
  generalize hH0 : u.heap = H at P ⊢
  generalize ([] : List Loc) = locs at P ⊢
  refine lv_aload_n hx hb dX10_takesBack_0 rfl (lv_at hl 0 rfl) ?_
  refine pw_get (q := (RX10, TX10, 8)) (k := 5) S P ha hf rfl (by decide) q515 (Or.inl rfl) rfl dX10_takesBack_1 ?_
  refine lw_if_le (tgt := 11) (x := dp) hx hb dX10_takesBack_4 (by decide) (fun c4 => ?_) (fun c4 => ?_)
  · have _h := True.intro
    refine lv_iconst (v := 0) hx hb dX10_takesBack_11 (by decide) ?_
    exact gw_zret S P hQ hr hlk ⟨Nat.le_of_ble_eq_true rfl, Nat.le_of_ble_eq_true rfl⟩ dX10_takesBack_12 (by first | decide | exact bI_or _) (pRd_i (by simp [bI, c4]))
  · have _h := True.intro
    refine lv_iconst (v := 1) hx hb dX10_takesBack_7 (by decide) ?_
    refine lv_goto (tgt := 12) hx hb dX10_takesBack_8 (by decide) ?_
    exact gw_zret S P hQ hr hlk ⟨Nat.le_of_ble_eq_true rfl, Nat.le_of_ble_eq_true rfl⟩ dX10_takesBack_12 (by first | decide | exact bI_or _) (pRd_i (by simp [bI, c4]))

set_option maxHeartbeats 4000000 in
set_option maxRecDepth 100000 in
theorem hg_w_isLate {l : Launch} {D : va_G} {cs : Nat → ClassId} {L : List Nat} {f : Nat → va_E} {a tk sy : Nat} {wr dp oc : Int32} {en si : UInt64} {nx : Option Nat} (ha : a ∈ L) (now : UInt64) (hf : f a = .inr (2, [.ref tk, .ref sy, .int wr, .double en, .double si, .int dp, .int oc, va_rf nx])) : PM l D cs yX10_isLate cX10_isLate 3 (some .boolean) (rmL 1 0 0) [.ref a, .double now] L f (pRd L f (some (.int (bI (decide ((FP.dcmp en FP.dconst0 = some .gt ∨ FP.dcmp en FP.dconst0 = some .eq) ∧ (FP.dcmp en now = some .lt ∨ FP.dcmp en now = some .eq))))))) := by
  refine hm_of "SyncHall$Waiter" rfl (by decide +kernel) (Nat.le_of_ble_eq_true rfl) ?_
  intro sz p e u m below meth c S P hsz hr hlk hnm htb ls hl Q hQ
  have hl : lv_has ls 3 [(0, .ref a), (1, .double now)] := hl
  have hx := S.1
  have hb := S.2.1
  generalize hH0 : u.heap = H at P ⊢
  generalize ([] : List Loc) = locs at P ⊢
  refine lv_aload_n hx hb dX10_isLate_0 rfl (lv_at hl 0 rfl) ?_
  refine pw_get (q := (RX10, TX10, 8)) (k := 3) S P ha hf rfl (by decide) q513 (Or.inl rfl) rfl dX10_isLate_1 ?_
  refine lv_dconst0 hx hb dX10_isLate_4 ?_
  refine lv_dcmp hx hb dX10_isLate_5 ?_
  refine lv_if_lt (tgt := 22) (x := Op.cmpValue (FP.dcmp en FP.dconst0) .l) hx hb dX10_isLate_6 (by decide) (fun c6 => ?_) (fun c6 => ?_)
  · simp only [cv_l_lt0, Decidable.not_not] at c6
    refine lv_iconst (v := 0) hx hb dX10_isLate_22 (by decide) ?_
    exact gw_zret S P hQ hr hlk ⟨Nat.le_of_ble_eq_true rfl, Nat.le_of_ble_eq_true rfl⟩ dX10_isLate_23 (by first | decide | exact bI_or _) (pRd_i (by simp [bI, c6]))
  · simp only [cv_l_lt0, Decidable.not_not] at c6
    refine lv_aload_n hx hb dX10_isLate_9 rfl (lv_at hl 0 rfl) ?_
    refine pw_get (q := (RX10, TX10, 8)) (k := 3) S P ha hf rfl (by decide) q513 (Or.inl rfl) rfl dX10_isLate_10 ?_
    refine lv_dload_n hx hb dX10_isLate_13 rfl (lv_at hl 1 rfl) ?_
    refine lv_dcmp hx hb dX10_isLate_14 ?_
    refine lv_if_gt (tgt := 22) (x := Op.cmpValue (FP.dcmp en now) .g) hx hb dX10_isLate_15 (by decide) (fun c15 => ?_) (fun c15 => ?_)
    · simp only [cv_g_gt0, Decidable.not_not] at c15
      refine lv_iconst (v := 0) hx hb dX10_isLate_22 (by decide) ?_
      exact gw_zret S P hQ hr hlk ⟨Nat.le_of_ble_eq_true rfl, Nat.le_of_ble_eq_true rfl⟩ dX10_isLate_23 (by first | decide | exact bI_or _) (pRd_i (by simp [bI, c6, c15]))
    · simp only [cv_g_gt0, Decidable.not_not] at c15
      refine lv_iconst (v := 1) hx hb dX10_isLate_18 (by decide) ?_
      refine lv_goto (tgt := 23) hx hb dX10_isLate_19 (by decide) ?_
      exact gw_zret S P hQ hr hlk ⟨Nat.le_of_ble_eq_true rfl, Nat.le_of_ble_eq_true rfl⟩ dX10_isLate_23 (by first | decide | exact bI_or _) (pRd_i (by simp [bI, c6, c15]))
