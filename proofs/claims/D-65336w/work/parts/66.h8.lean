/-! Waiter.<init>, Waiter.before, by gen_h8.py -/
set_option maxHeartbeats 8000000 in
set_option maxRecDepth 100000 in
theorem hi_waiter {l : Launch} {D : va_G} {cs : Nat → ClassId} {L : List Nat} {f : Nat → va_E} {a : Nat} {tk sy : Nat} {wb : Bool} {en si : UInt64} {dp oc : Int32} (ha : a ∈ L) (hfa : f a = .inr (2, [.null, .null, .int 0, .double 0, .double 0, .int 0, .int 0, .null])) : PM l D cs yX10_init cX10_init 10 none (rmL 2 0 0) [.ref a, .ref tk, .ref sy, .int (bI wb), .double en, .double si, .int dp, .int oc] L f (pIn L f a (.inr (2, [.ref tk, .ref sy, .int (bI wb), .double en, .double si, .int dp, .int oc, .null]))) := by
  refine hm_of "SyncHall$Waiter" rfl (by decide +kernel) (Nat.le_of_ble_eq_true rfl) ?_
  intro sz p e u m below meth c S P hsz hr hlk hnm htb ls hl Q hQ
  have hl : lv_has ls 10 [(0, .ref a), (1, .ref tk), (2, .ref sy), (3, .int (bI wb)), (4, .double en), (6, .double si), (8, .int dp), (9, .int oc)] := hl
  have hx := S.1
  have hb := S.2.1
  generalize hH0 : u.heap = H at P ⊢
  generalize ([] : List Loc) = locs at P ⊢
  have hFr : ∀ b, b ≠ a → f b = f b := fun _ _ => rfl
  refine lv_aload_n hx hb dX10_init_0 rfl (lv_at hl 0 rfl) ?_
  refine W.objInit hx hb S.2.2.2.1 (S.2.2.2.2 _ q509) (S.2.2.2.2 _ q61) (S.2.2.2.2 _ q62) rfl (by rw [S.2.2.1]; exact hl.1) rfl dX10_init_1 (Nat.le_of_ble_eq_true rfl) (Nat.le_of_ble_eq_true rfl) ?_
  refine W.eq (g2 := F0 m 4 ls []) rfl ?_
  refine lv_aload_n hx hb dX10_init_4 rfl (lv_at hl 0 rfl) ?_
  refine lv_aload_n hx hb dX10_init_5 rfl (lv_at hl 1 rfl) ?_
  refine hq_putF (q := (RX10, TX10, 8)) (k := 0) (v := .ref tk) S P ha hfa rfl (by decide) q510 rfl rfl (hnm.trans rfl) rfl (rfl) (rfl) (Nat.le_of_ble_eq_true rfl) dX10_init_6 (fun H locs f P hfa hfr => ?_)
  have hFr : ∀ b, b ≠ a → f b = _ := fun b hb => (hfr b hb).trans (hFr b hb)
  refine lv_aload_n hx hb dX10_init_9 rfl (lv_at hl 0 rfl) ?_
  refine lv_aload_n hx hb dX10_init_10 rfl (lv_at hl 2 rfl) ?_
  refine hq_putF (q := (RX10, TX10, 8)) (k := 1) (v := .ref sy) S P ha hfa rfl (by decide) q511 rfl rfl (hnm.trans rfl) rfl (rfl) (rfl) (Nat.le_of_ble_eq_true rfl) dX10_init_11 (fun H locs f P hfa hfr => ?_)
  have hFr : ∀ b, b ≠ a → f b = _ := fun b hb => (hfr b hb).trans (hFr b hb)
  refine lv_aload_n hx hb dX10_init_14 rfl (lv_at hl 0 rfl) ?_
  refine lv_iload_n hx hb dX10_init_15 rfl (lv_at hl 3 rfl) ?_
  refine hq_putF (q := (RX10, TX10, 8)) (k := 2) (v := .int (bI wb)) S P ha hfa rfl (by decide) q512 rfl rfl (hnm.trans rfl) rfl (by cases wb <;> rfl) (by cases wb <;> rfl) (Nat.le_of_ble_eq_true rfl) dX10_init_16 (fun H locs f P hfa hfr => ?_)
  have hFr : ∀ b, b ≠ a → f b = _ := fun b hb => (hfr b hb).trans (hFr b hb)
  refine lv_aload_n hx hb dX10_init_19 rfl (lv_at hl 0 rfl) ?_
  refine lv_dload hx hb dX10_init_20 (lv_at hl 4 rfl) ?_
  refine hq_putF (q := (RX10, TX10, 8)) (k := 3) (v := .double en) S P ha hfa rfl (by decide) q513 rfl rfl (hnm.trans rfl) rfl (rfl) (rfl) (Nat.le_of_ble_eq_true rfl) dX10_init_22 (fun H locs f P hfa hfr => ?_)
  have hFr : ∀ b, b ≠ a → f b = _ := fun b hb => (hfr b hb).trans (hFr b hb)
  refine lv_aload_n hx hb dX10_init_25 rfl (lv_at hl 0 rfl) ?_
  refine lv_dload hx hb dX10_init_26 (lv_at hl 5 rfl) ?_
  refine hq_putF (q := (RX10, TX10, 8)) (k := 4) (v := .double si) S P ha hfa rfl (by decide) q514 rfl rfl (hnm.trans rfl) rfl (rfl) (rfl) (Nat.le_of_ble_eq_true rfl) dX10_init_28 (fun H locs f P hfa hfr => ?_)
  have hFr : ∀ b, b ≠ a → f b = _ := fun b hb => (hfr b hb).trans (hFr b hb)
  refine lv_aload_n hx hb dX10_init_31 rfl (lv_at hl 0 rfl) ?_
  refine lv_iload hx hb dX10_init_32 (lv_at hl 6 rfl) ?_
  refine hq_putF (q := (RX10, TX10, 8)) (k := 5) (v := .int dp) S P ha hfa rfl (by decide) q515 rfl rfl (hnm.trans rfl) rfl (rfl) (rfl) (Nat.le_of_ble_eq_true rfl) dX10_init_34 (fun H locs f P hfa hfr => ?_)
  have hFr : ∀ b, b ≠ a → f b = _ := fun b hb => (hfr b hb).trans (hFr b hb)
  refine lv_aload_n hx hb dX10_init_37 rfl (lv_at hl 0 rfl) ?_
  refine lv_iload hx hb dX10_init_38 (lv_at hl 7 rfl) ?_
  refine hq_putF (q := (RX10, TX10, 8)) (k := 6) (v := .int oc) S P ha hfa rfl (by decide) q516 rfl rfl (hnm.trans rfl) rfl (rfl) (rfl) (Nat.le_of_ble_eq_true rfl) dX10_init_40 (fun H locs f P hfa hfr => ?_)
  have hFr : ∀ b, b ≠ a → f b = _ := fun b hb => (hfr b hb).trans (hFr b hb)
  exact gw_vret S P hQ hr hlk ⟨Nat.le_of_ble_eq_true rfl, Nat.le_of_ble_eq_true rfl⟩ dX10_init_43 (⟨rfl, rfl, hfa, hFr⟩)

set_option maxHeartbeats 4000000 in
set_option maxRecDepth 100000 in
theorem hg_w_before {l : Launch} {D : va_G} {cs : Nat → ClassId} {L : List Nat} {f : Nat → va_E} {a b tk sy tk2 sy2 : Nat} {wr dp oc wr2 dp2 oc2 n1 n2 o1 g1 o2 g2 : Int32} {en si en2 si2 p1 p2 : UInt64} {nx nx2 pl1 pl2 : Option Nat} (ha : a ∈ L) (hb0 : b ∈ L) (htk : tk ∈ L) (htk2 : tk2 ∈ L) (hfb : f b = .inr (2, [.ref tk2, .ref sy2, .int wr2, .double en2, .double si2, .int dp2, .int oc2, va_rf nx2])) (hft : f tk = .inr (1, [.int n1, .double p1, .int o1, .int g1, va_rf pl1])) (hft2 : f tk2 = .inr (1, [.int n2, .double p2, .int o2, .int g2, va_rf pl2])) (hf : f a = .inr (2, [.ref tk, .ref sy, .int wr, .double en, .double si, .int dp, .int oc, va_rf nx])) : PM l D cs yX10_before cX10_before 2 (some .boolean) (rmL 2 0 0) [.ref a, .ref b] L f (pRd L f (some (.int (bI (decide (FP.dcmp en en2 = some .lt ∨ (FP.dcmp en en2 = some .eq ∧ n1 < n2))))))) := by
  refine hm_of "SyncHall$Waiter" rfl (by decide +kernel) (Nat.le_of_ble_eq_true rfl) ?_
  intro sz p e u m below meth c S P hsz hr hlk hnm htb ls hl Q hQ
  have hl : lv_has ls 2 [(0, .ref a), (1, .ref b)] := hl
  have hx := S.1
  have hb := S.2.1
  generalize hH0 : u.heap = H at P ⊢
  generalize ([] : List Loc) = locs at P ⊢
  refine lv_aload_n hx hb dX10_before_0 rfl (lv_at hl 0 rfl) ?_
  refine pw_get (q := (RX10, TX10, 8)) (k := 3) S P ha hf rfl (by decide) q513 (Or.inl rfl) rfl dX10_before_1 ?_
  refine lv_aload_n hx hb dX10_before_4 rfl (lv_at hl 1 rfl) ?_
  refine pw_get (q := (RX10, TX10, 8)) (k := 3) S P hb0 hfb rfl (by decide) q513 (Or.inl rfl) rfl dX10_before_5 ?_
  refine lv_dcmp hx hb dX10_before_8 ?_
  refine lv_if_lt (tgt := 41) (x := Op.cmpValue (FP.dcmp en en2) .g) hx hb dX10_before_9 (by decide) (fun c9 => ?_) (fun c9 => ?_)
  · simp only [cv_g_lt0, Decidable.not_not] at c9
    refine lv_iconst (v := 1) hx hb dX10_before_41 (by decide) ?_
    refine lv_goto (tgt := 46) hx hb dX10_before_42 (by decide) ?_
    exact gw_zret S P hQ hr hlk ⟨Nat.le_of_ble_eq_true rfl, Nat.le_of_ble_eq_true rfl⟩ dX10_before_46 (by first | decide | exact bI_or _) (pRd_i (by simp [bI, c9]))
  · simp only [cv_g_lt0, Decidable.not_not] at c9
    refine lv_aload_n hx hb dX10_before_12 rfl (lv_at hl 0 rfl) ?_
    refine pw_get (q := (RX10, TX10, 8)) (k := 3) S P ha hf rfl (by decide) q513 (Or.inl rfl) rfl dX10_before_13 ?_
    refine lv_aload_n hx hb dX10_before_16 rfl (lv_at hl 1 rfl) ?_
    refine pw_get (q := (RX10, TX10, 8)) (k := 3) S P hb0 hfb rfl (by decide) q513 (Or.inl rfl) rfl dX10_before_17 ?_
    refine lv_dcmp hx hb dX10_before_20 ?_
    refine lv_if_ne (tgt := 45) (x := Op.cmpValue (FP.dcmp en en2) .l) hx hb dX10_before_21 (by decide) (fun c21 => ?_) (fun c21 => ?_)
    · simp only [cv_l_eq0, Decidable.not_not] at c21
      refine lv_iconst (v := 0) hx hb dX10_before_45 (by decide) ?_
      exact gw_zret S P hQ hr hlk ⟨Nat.le_of_ble_eq_true rfl, Nat.le_of_ble_eq_true rfl⟩ dX10_before_46 (by first | decide | exact bI_or _) (pRd_i (by simp [bI, c9, c21]))
    · simp only [cv_l_eq0, Decidable.not_not] at c21
      refine lv_aload_n hx hb dX10_before_24 rfl (lv_at hl 0 rfl) ?_
      refine pw_get (q := (RX10, TX10, 8)) (k := 0) S P ha hf rfl (by decide) q510 (Or.inl rfl) rfl dX10_before_25 ?_
      refine pw_callR (nL' := 1) (rest := []) S P (hg_number htk hft) q428 q37 (pw_entV (q := (RX2, TX2, 5)) [] S P htk hft rfl q754 q426 q427 q428 ⟨by decide +kernel, by decide +kernel, (by decide +kernel : (parseMethodDescriptor yX2_number.desc).map (fun d => d.parameters.length) = some 0)⟩ dX10_before_28) hl.1 (Nat.le_of_ble_eq_true rfl) ⟨Nat.le_of_ble_eq_true rfl, Nat.le_of_ble_eq_true rfl⟩ ⟨Nat.le_of_ble_eq_true rfl, Nat.le_of_ble_eq_true rfl⟩ (fun H locs P => ?_)
      refine W.eq (g2 := F0 m 31 ls [.int n1]) rfl ?_
      refine W.widen (k := 0) (n := 0) (Nat.le_of_ble_eq_true rfl) (Nat.le_of_ble_eq_true rfl) ?_
      refine lv_aload_n hx hb dX10_before_31 rfl (lv_at hl 1 rfl) ?_
      refine pw_get (q := (RX10, TX10, 8)) (k := 0) S P hb0 hfb rfl (by decide) q510 (Or.inl rfl) rfl dX10_before_32 ?_
      refine pw_callR (nL' := 1) (rest := [.int n1]) S P (hg_number htk2 hft2) q428 q37 (pw_entV (q := (RX2, TX2, 5)) [] S P htk2 hft2 rfl q754 q426 q427 q428 ⟨by decide +kernel, by decide +kernel, (by decide +kernel : (parseMethodDescriptor yX2_number.desc).map (fun d => d.parameters.length) = some 0)⟩ dX10_before_35) hl.1 (Nat.le_of_ble_eq_true rfl) ⟨Nat.le_of_ble_eq_true rfl, Nat.le_of_ble_eq_true rfl⟩ ⟨Nat.le_of_ble_eq_true rfl, Nat.le_of_ble_eq_true rfl⟩ (fun H locs P => ?_)
      refine W.eq (g2 := F0 m 38 ls [.int n2, .int n1]) rfl ?_
      refine W.widen (k := 0) (n := 0) (Nat.le_of_ble_eq_true rfl) (Nat.le_of_ble_eq_true rfl) ?_
      refine lw_icmp_ge (tgt := 45) (x := n1) (y := n2) hx hb dX10_before_38 (by decide) (fun c38 => ?_) (fun c38 => ?_)
      · have _h := True.intro
        refine lv_iconst (v := 0) hx hb dX10_before_45 (by decide) ?_
        exact gw_zret S P hQ hr hlk ⟨Nat.le_of_ble_eq_true rfl, Nat.le_of_ble_eq_true rfl⟩ dX10_before_46 (by first | decide | exact bI_or _) (pRd_i (by simp [bI, c9, c21, c38]))
      · have _h := True.intro
        refine lv_iconst (v := 1) hx hb dX10_before_41 (by decide) ?_
        refine lv_goto (tgt := 46) hx hb dX10_before_42 (by decide) ?_
        exact gw_zret S P hQ hr hlk ⟨Nat.le_of_ble_eq_true rfl, Nat.le_of_ble_eq_true rfl⟩ dX10_before_46 (by first | decide | exact bI_or _) (pRd_i (by simp [bI, c9, c21, c38]))
