/-! SyncHall.made -/
set_option maxHeartbeats 400000 in
set_option maxRecDepth 100000 in
theorem hw_made {l : Launch} {D : va_G} {cs : Nat → ClassId} {ad : Nat → Nat} {L : List Nat} {f : Nat → va_E} (hst : l.stackTraces = false) {n : Nat} {st : St} (ho : Ok n st) {k b : Nat} {v : Int32} (hk : k < 7) (hvb : k = 6 → v = nI b) (hlkb : k = 6 → b < 8 ∧ (st.1 12 b = 0 ∨ st.1 12 b = 1))  (hF : HF cs ad st L f) : PM l D cs yX1_made cX1_made 3 (some (.object "SyncHall$Sync")) (rmL 8 3 24) [.ref (ad 0), .int (nI k), .int v] L f (pMade cs L f k v (ad (18 + b))) := by
  refine hm_of "SyncHall" rfl (by decide +kernel) (Nat.le_of_ble_eq_true rfl) ?_
  intro sz p e u m below meth c S P hsz hr hlk hnm htb ls hl Q hQ
  have hl : lv_has ls 3 [(0, .ref (ad 0)), (1, .int (nI k)), (2, .int v)] := hl
  have hx := S.1
  have hb := S.2.1
  generalize hH0 : u.heap = H at P ⊢
  generalize ([] : List Loc) = locs at P ⊢
  have hFr : ∀ a, ¬ hOwn st ad a → f a = f a := fun _ _ => rfl
  refine lv_iload_n hx hb dX1_made_0 rfl (lv_at hl 1 rfl) ?_
  rcases (by omega : k = 0 ∨ k = 1 ∨ k = 2 ∨ k = 3 ∨ k = 4 ∨ k = 5 ∨ k = 6) with rfl | rfl | rfl | rfl | rfl | rfl | rfl
  · refine lv_tableIn (tgt := 40) (off := 39) hx hb dX1_made_1 (by decide) (by decide) (by decide) (by decide) ?_
    refine hq_new (q := (RX5, TX5, 6)) (ci := 3) (fs := [.null, .double 0, .int 0, .int 0, .null, .int 0]) S P rfl q201 q242 q46 (by decide) (Nat.le_of_ble_eq_true rfl) (Nat.le_of_ble_eq_true rfl) dX1_made_40 (fun x H fC hxL hxm hLs hfx hfo P => ?_)
    have hF := hF.ext (f' := fC) hLs (fun a ha => hfo a (fun z => hxL (z ▸ ha)))
    refine lv_dup hx hb dX1_made_43 rfl ?_
    refine lv_iload_n hx hb dX1_made_44 rfl (lv_at hl 1 rfl) ?_
    refine lv_iconst (v := 1) hx hb dX1_made_45 (by decide) ?_
    refine ni_icmp_ne (tgt := 53) (a := 0) (b := 1) hx hb (by omega) (by omega) dX1_made_46 (by decide) (fun c46 => ?_) (fun c46 => ?_)
    · have _h := True.intro
      refine lv_iconst (v := 0) hx hb dX1_made_53 (by decide) ?_
      refine pw_callI (nL' := 2) (a := x) S P (hi_lock (wb := false) hxm hfx) q245 q46 (pw_entI [.int 0] S rfl q243 q244 q245 ⟨by decide +kernel, by decide +kernel, (by decide +kernel : (parseMethodDescriptor yX5_init.desc).map (fun d => d.parameters.length) = some 1)⟩ dX1_made_54) hl.1 (Nat.le_of_ble_eq_true rfl) ⟨Nat.le_of_ble_eq_true rfl, Nat.le_of_ble_eq_true rfl⟩ ⟨Nat.le_of_ble_eq_true rfl, Nat.le_of_ble_eq_true rfl⟩ (fun H locs fI P hfx hfo2 => ?_)
      exact gw_aret S P hQ hr hlk ⟨Nat.le_of_ble_eq_true rfl, Nat.le_of_ble_eq_true rfl⟩ dX1_made_57 (Or.inr ⟨_, rfl⟩) (⟨x, 0, rfl, hxL, hxm, hLs, fun a h => (hfo2 a (fun z => hxL (z ▸ h))).trans (hfo a (fun z => hxL (z ▸ h))), hfx, fun z => absurd z (by decide)⟩)
    · have _h := True.intro
      exact absurd c46 (by decide)
  · refine lv_tableIn (tgt := 40) (off := 39) hx hb dX1_made_1 (by decide) (by decide) (by decide) (by decide) ?_
    refine hq_new (q := (RX5, TX5, 6)) (ci := 3) (fs := [.null, .double 0, .int 0, .int 0, .null, .int 0]) S P rfl q201 q242 q46 (by decide) (Nat.le_of_ble_eq_true rfl) (Nat.le_of_ble_eq_true rfl) dX1_made_40 (fun x H fC hxL hxm hLs hfx hfo P => ?_)
    have hF := hF.ext (f' := fC) hLs (fun a ha => hfo a (fun z => hxL (z ▸ ha)))
    refine lv_dup hx hb dX1_made_43 rfl ?_
    refine lv_iload_n hx hb dX1_made_44 rfl (lv_at hl 1 rfl) ?_
    refine lv_iconst (v := 1) hx hb dX1_made_45 (by decide) ?_
    refine ni_icmp_ne (tgt := 53) (a := 1) (b := 1) hx hb (by omega) (by omega) dX1_made_46 (by decide) (fun c46 => ?_) (fun c46 => ?_)
    · have _h := True.intro
      exact absurd c46 (by decide)
    · have _h := True.intro
      refine lv_iconst (v := 1) hx hb dX1_made_49 (by decide) ?_
      refine lv_goto (tgt := 54) hx hb dX1_made_50 (by decide) ?_
      refine pw_callI (nL' := 2) (a := x) S P (hi_lock (wb := true) hxm hfx) q245 q46 (pw_entI [.int 1] S rfl q243 q244 q245 ⟨by decide +kernel, by decide +kernel, (by decide +kernel : (parseMethodDescriptor yX5_init.desc).map (fun d => d.parameters.length) = some 1)⟩ dX1_made_54) hl.1 (Nat.le_of_ble_eq_true rfl) ⟨Nat.le_of_ble_eq_true rfl, Nat.le_of_ble_eq_true rfl⟩ ⟨Nat.le_of_ble_eq_true rfl, Nat.le_of_ble_eq_true rfl⟩ (fun H locs fI P hfx hfo2 => ?_)
      exact gw_aret S P hQ hr hlk ⟨Nat.le_of_ble_eq_true rfl, Nat.le_of_ble_eq_true rfl⟩ dX1_made_57 (Or.inr ⟨_, rfl⟩) (⟨x, 0, rfl, hxL, hxm, hLs, fun a h => (hfo2 a (fun z => hxL (z ▸ h))).trans (hfo a (fun z => hxL (z ▸ h))), hfx, fun z => absurd z (by decide)⟩)
  · refine lv_tableIn (tgt := 58) (off := 57) hx hb dX1_made_1 (by decide) (by decide) (by decide) (by decide) ?_
    refine hq_new (q := (RX6, TX6, 5)) (ci := 4) (fs := [.null, .double 0, .int 0, .int 0, .int 0]) S P rfl q278 q279 q47 (by decide) (Nat.le_of_ble_eq_true rfl) (Nat.le_of_ble_eq_true rfl) dX1_made_58 (fun x H fC hxL hxm hLs hfx hfo P => ?_)
    have hF := hF.ext (f' := fC) hLs (fun a ha => hfo a (fun z => hxL (z ▸ ha)))
    refine lv_dup hx hb dX1_made_61 rfl ?_
    refine lv_iload_n hx hb dX1_made_62 rfl (lv_at hl 1 rfl) ?_
    refine lv_iconst (v := 3) hx hb dX1_made_63 (by decide) ?_
    refine ni_icmp_ne (tgt := 71) (a := 2) (b := 3) hx hb (by omega) (by omega) dX1_made_64 (by decide) (fun c64 => ?_) (fun c64 => ?_)
    · have _h := True.intro
      refine lv_iconst (v := 0) hx hb dX1_made_71 (by decide) ?_
      refine lv_iload_n hx hb dX1_made_72 rfl (lv_at hl 2 rfl) ?_
      refine pw_callI (nL' := 3) (a := x) S P (hi_sem (wb := false) hxm hfx) q282 q47 (pw_entI [.int 0, .int v] S rfl q280 q281 q282 ⟨by decide +kernel, by decide +kernel, (by decide +kernel : (parseMethodDescriptor yX6_init.desc).map (fun d => d.parameters.length) = some 2)⟩ dX1_made_73) hl.1 (Nat.le_of_ble_eq_true rfl) ⟨Nat.le_of_ble_eq_true rfl, Nat.le_of_ble_eq_true rfl⟩ ⟨Nat.le_of_ble_eq_true rfl, Nat.le_of_ble_eq_true rfl⟩ (fun H locs fI P hfx hfo2 => ?_)
      exact gw_aret S P hQ hr hlk ⟨Nat.le_of_ble_eq_true rfl, Nat.le_of_ble_eq_true rfl⟩ dX1_made_76 (Or.inr ⟨_, rfl⟩) (⟨x, 0, rfl, hxL, hxm, hLs, fun a h => (hfo2 a (fun z => hxL (z ▸ h))).trans (hfo a (fun z => hxL (z ▸ h))), hfx, fun z => absurd z (by decide)⟩)
    · have _h := True.intro
      exact absurd c64 (by decide)
  · refine lv_tableIn (tgt := 58) (off := 57) hx hb dX1_made_1 (by decide) (by decide) (by decide) (by decide) ?_
    refine hq_new (q := (RX6, TX6, 5)) (ci := 4) (fs := [.null, .double 0, .int 0, .int 0, .int 0]) S P rfl q278 q279 q47 (by decide) (Nat.le_of_ble_eq_true rfl) (Nat.le_of_ble_eq_true rfl) dX1_made_58 (fun x H fC hxL hxm hLs hfx hfo P => ?_)
    have hF := hF.ext (f' := fC) hLs (fun a ha => hfo a (fun z => hxL (z ▸ ha)))
    refine lv_dup hx hb dX1_made_61 rfl ?_
    refine lv_iload_n hx hb dX1_made_62 rfl (lv_at hl 1 rfl) ?_
    refine lv_iconst (v := 3) hx hb dX1_made_63 (by decide) ?_
    refine ni_icmp_ne (tgt := 71) (a := 3) (b := 3) hx hb (by omega) (by omega) dX1_made_64 (by decide) (fun c64 => ?_) (fun c64 => ?_)
    · have _h := True.intro
      exact absurd c64 (by decide)
    · have _h := True.intro
      refine lv_iconst (v := 1) hx hb dX1_made_67 (by decide) ?_
      refine lv_goto (tgt := 72) hx hb dX1_made_68 (by decide) ?_
      refine lv_iload_n hx hb dX1_made_72 rfl (lv_at hl 2 rfl) ?_
      refine pw_callI (nL' := 3) (a := x) S P (hi_sem (wb := true) hxm hfx) q282 q47 (pw_entI [.int 1, .int v] S rfl q280 q281 q282 ⟨by decide +kernel, by decide +kernel, (by decide +kernel : (parseMethodDescriptor yX6_init.desc).map (fun d => d.parameters.length) = some 2)⟩ dX1_made_73) hl.1 (Nat.le_of_ble_eq_true rfl) ⟨Nat.le_of_ble_eq_true rfl, Nat.le_of_ble_eq_true rfl⟩ ⟨Nat.le_of_ble_eq_true rfl, Nat.le_of_ble_eq_true rfl⟩ (fun H locs fI P hfx hfo2 => ?_)
      exact gw_aret S P hQ hr hlk ⟨Nat.le_of_ble_eq_true rfl, Nat.le_of_ble_eq_true rfl⟩ dX1_made_76 (Or.inr ⟨_, rfl⟩) (⟨x, 0, rfl, hxL, hxm, hLs, fun a h => (hfo2 a (fun z => hxL (z ▸ h))).trans (hfo a (fun z => hxL (z ▸ h))), hfx, fun z => absurd z (by decide)⟩)
  · refine lv_tableIn (tgt := 77) (off := 76) hx hb dX1_made_1 (by decide) (by decide) (by decide) (by decide) ?_
    refine hq_new (q := (RX7, TX7, 4)) (ci := 5) (fs := [.null, .double 0, .int 0, .int 0]) S P rfl q294 q295 q48 (by decide) (Nat.le_of_ble_eq_true rfl) (Nat.le_of_ble_eq_true rfl) dX1_made_77 (fun x H fC hxL hxm hLs hfx hfo P => ?_)
    have hF := hF.ext (f' := fC) hLs (fun a ha => hfo a (fun z => hxL (z ▸ ha)))
    refine lv_dup hx hb dX1_made_80 rfl ?_
    refine lv_iload_n hx hb dX1_made_81 rfl (lv_at hl 2 rfl) ?_
    refine pw_callI (nL' := 2) (a := x) S P (hi_latch hxm hfx) q298 q48 (pw_entI [.int v] S rfl q296 q297 q298 ⟨by decide +kernel, by decide +kernel, (by decide +kernel : (parseMethodDescriptor yX7_init.desc).map (fun d => d.parameters.length) = some 1)⟩ dX1_made_82) hl.1 (Nat.le_of_ble_eq_true rfl) ⟨Nat.le_of_ble_eq_true rfl, Nat.le_of_ble_eq_true rfl⟩ ⟨Nat.le_of_ble_eq_true rfl, Nat.le_of_ble_eq_true rfl⟩ (fun H locs fI P hfx hfo2 => ?_)
    exact gw_aret S P hQ hr hlk ⟨Nat.le_of_ble_eq_true rfl, Nat.le_of_ble_eq_true rfl⟩ dX1_made_85 (Or.inr ⟨_, rfl⟩) (⟨x, 0, rfl, hxL, hxm, hLs, fun a h => (hfo2 a (fun z => hxL (z ▸ h))).trans (hfo a (fun z => hxL (z ▸ h))), hfx, fun z => absurd z (by decide)⟩)
  · refine lv_tableIn (tgt := 86) (off := 85) hx hb dX1_made_1 (by decide) (by decide) (by decide) (by decide) ?_
    refine hq_new (q := (RX8, TX8, 6)) (ci := 6) (fs := [.null, .double 0, .int 0, .null, .int 0, .null]) S P rfl q307 q308 q49 (by decide) (Nat.le_of_ble_eq_true rfl) (Nat.le_of_ble_eq_true rfl) dX1_made_86 (fun x H fC hxL hxm hLs hfx hfo P => ?_)
    have hF := hF.ext (f' := fC) hLs (fun a ha => hfo a (fun z => hxL (z ▸ ha)))
    refine lv_dup hx hb dX1_made_89 rfl ?_
    refine pw_callIA (nL' := 1) (a := x) S P (hi_shared hxm hfx) q311 q49 (pw_entIN "SyncHall" [] S rfl (P.2.2.2.2.1.use q309 rfl) q310 q311 ⟨by decide +kernel, by decide +kernel, (by decide +kernel : (parseMethodDescriptor yX8_init.desc).map (fun d => d.parameters.length) = some 0)⟩ dX1_made_90) hl.1 (Nat.le_of_ble_eq_true rfl) ⟨Nat.le_of_ble_eq_true rfl, Nat.le_of_ble_eq_true rfl⟩ ⟨Nat.le_of_ble_eq_true rfl, Nat.le_of_ble_eq_true rfl⟩ (fun H locs y fI P hyL hfx hfy hfo2 => ?_)
    exact gw_aret S P hQ hr hlk ⟨Nat.le_of_ble_eq_true rfl, Nat.le_of_ble_eq_true rfl⟩ dX1_made_93 (Or.inr ⟨_, rfl⟩) (⟨x, y, rfl, hxL, List.mem_append_left _ hxm, fun a h => List.mem_append_left _ (hLs a h), fun a h => (hfo2 a (fun z => hxL (z ▸ h)) (fun z => hyL (z ▸ hLs a h))).trans (hfo a (fun z => hxL (z ▸ h))), hfx, fun _ => ⟨fun z => hyL (hLs y z), List.mem_append_right _ List.mem_cons_self, fun z => hyL (z ▸ hxm), hfy⟩⟩)
  · refine lv_tableOut (tgt := 94) hx hb dX1_made_1 (Or.inr (by decide)) (by decide) ?_
    have hb8 := (hlkb rfl).1
    obtain rfl : v = nI b := hvb rfl
    refine lv_aload_n hx hb dX1_made_94 rfl (lv_at hl 0 rfl) ?_
    refine pw_get (q := (RX1, TX1, 6)) (k := 1) S P (hF.m (by decide)) hF.hall rfl (by decide) q97 (Or.inl rfl) rfl dX1_made_95 ?_
    refine lv_iload_n hx hb dX1_made_98 rfl (lv_at hl 2 rfl) ?_
    refine pw_aald (j := b) 4 S P (hF.m (by decide)) hF.syncs rfl rfl rfl (by omega) (by decide) dX1_made_99 ?_
    refine lw_eqv (w := va_rf (hSyR st ad b)) (congrArg va_rf (if_pos (by omega))) ?_
    refine hx_isLock (s := b) S P ho hF (by omega) q201 dX1_made_100 ?_
    have hla := hlkb rfl
    refine lw_eqi (y := 1) (by rcases hla.2 with q | q <;> simp [s_isLock, q, bI]) ?_
    refine pw_callR (nL' := 1) (rest := []) S P (hs_exists True.intro) q204 q36 (pw_entS [.int 1] S q202 q203 q36 q204 ⟨by decide +kernel, by decide +kernel, (by decide +kernel : (parseMethodDescriptor yX1_exists.desc).map (fun d => d.parameters.length) = some 1)⟩ dX1_made_103) hl.1 (Nat.le_of_ble_eq_true rfl) ⟨Nat.le_of_ble_eq_true rfl, Nat.le_of_ble_eq_true rfl⟩ ⟨Nat.le_of_ble_eq_true rfl, Nat.le_of_ble_eq_true rfl⟩ (fun H locs P => ?_)
    refine W.eq (g2 := F0 m 106 ls []) rfl ?_
    refine W.widen (k := 1) (n := 6) (Nat.le_of_ble_eq_true rfl) (Nat.le_of_ble_eq_true rfl) ?_
    refine hq_new (q := (RX9, TX9, 4)) (ci := 7) (fs := [.null, .double 0, .int 0, .null]) S P rfl q327 q328 q50 (by decide) (Nat.le_of_ble_eq_true rfl) (Nat.le_of_ble_eq_true rfl) dX1_made_106 (fun x H fC hxL hxm hLs hfx hfo P => ?_)
    have hF := hF.ext (f' := fC) hLs (fun a ha => hfo a (fun z => hxL (z ▸ ha)))
    refine lv_dup hx hb dX1_made_109 rfl ?_
    refine lv_aload_n hx hb dX1_made_110 rfl (lv_at hl 0 rfl) ?_
    refine pw_get (q := (RX1, TX1, 6)) (k := 1) S P (hF.m (by decide)) hF.hall rfl (by decide) q97 (Or.inl rfl) rfl dX1_made_111 ?_
    refine lv_iload_n hx hb dX1_made_114 rfl (lv_at hl 2 rfl) ?_
    refine pw_aald (j := b) 4 S P (hF.m (by decide)) hF.syncs rfl rfl rfl (by omega) (by decide) dX1_made_115 ?_
    refine lw_eqv (w := va_rf (hSyR st ad b)) (congrArg va_rf (if_pos (by omega))) ?_
    refine lw_eqv (w := .ref (ad (18 + b))) (congrArg va_rf (hSyR_some (by rcases hla.2 with q | q <;> rw [q] <;> decide))) ?_
    refine hs_cast_lk (s := b) S P hF (by omega) hla.2 q201 dX1_made_116 ?_
    refine pw_callI (nL' := 2) (a := x) S P (hi_cond hxm hfx) q331 q50 (pw_entI [.ref (ad (18 + b))] S rfl q329 q330 q331 ⟨by decide +kernel, by decide +kernel, (by decide +kernel : (parseMethodDescriptor yX9_init.desc).map (fun d => d.parameters.length) = some 1)⟩ dX1_made_119) hl.1 (Nat.le_of_ble_eq_true rfl) ⟨Nat.le_of_ble_eq_true rfl, Nat.le_of_ble_eq_true rfl⟩ ⟨Nat.le_of_ble_eq_true rfl, Nat.le_of_ble_eq_true rfl⟩ (fun H locs fI P hfx hfo2 => ?_)
    exact gw_aret S P hQ hr hlk ⟨Nat.le_of_ble_eq_true rfl, Nat.le_of_ble_eq_true rfl⟩ dX1_made_122 (Or.inr ⟨_, rfl⟩) (⟨x, 0, rfl, hxL, hxm, hLs, fun a h => (hfo2 a (fun z => hxL (z ▸ h))).trans (hfo a (fun z => hxL (z ▸ h))), hfx, fun z => absurd z (by decide)⟩)
