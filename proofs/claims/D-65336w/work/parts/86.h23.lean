/-! Shared.<init>, SyncHall.made, by gen_h23.py -/
set_option maxHeartbeats 8000000 in
set_option maxRecDepth 100000 in
theorem hi_shared {l : Launch} {D : va_G} {cs : Nat → ClassId} {L : List Nat} {f : Nat → va_E} {a : Nat} (ha : a ∈ L) (hfa : f a = .inr (6, [.null, .double 0, .int 0, .null, .int 0, .null])) : PM l D cs yX8_init cX8_init 1 none (rmL 2 1 6) [.ref a] L f (pInA cs L f a) := by
  refine hm_of "SyncHall$Shared" rfl (by decide +kernel) (Nat.le_of_ble_eq_true rfl) ?_
  intro sz p e u m below meth c S P hsz hr hlk hnm htb ls hl Q hQ
  have hl : lv_has ls 1 [(0, .ref a)] := hl
  have hx := S.1
  have hb := S.2.1
  generalize hH0 : u.heap = H at P ⊢
  generalize ([] : List Loc) = locs at P ⊢
  have hFr : ∀ b, b ≠ a → f b = f b := fun _ _ => rfl
  refine lv_aload_n hx hb dX8_init_0 rfl (lv_at hl 0 rfl) ?_
  refine pw_callR (nL' := 1) (rest := []) S P (hi_sync (a := a) True.intro) q248 q45 (pw_entIN "SyncHall" [] S rfl (P.2.2.2.2.1.use q312 rfl) q247 q248 ⟨by decide +kernel, by decide +kernel, (by decide +kernel : (parseMethodDescriptor yX4_init.desc).map (fun d => d.parameters.length) = some 0)⟩ dX8_init_1) hl.1 (Nat.le_of_ble_eq_true rfl) ⟨Nat.le_of_ble_eq_true rfl, Nat.le_of_ble_eq_true rfl⟩ ⟨Nat.le_of_ble_eq_true rfl, Nat.le_of_ble_eq_true rfl⟩ (fun H locs P => ?_)
  refine W.eq (g2 := F0 m 4 ls []) rfl ?_
  refine lv_aload_n hx hb dX8_init_4 rfl (lv_at hl 0 rfl) ?_
  refine lv_bipush (v := 6) hx hb dX8_init_5 (by decide) ?_
  refine pw_newa (atype := .int) (ty := .int) (N' := 6) (a0 := (6, .inl (fun _ => 0))) 0 S P q326 rfl rfl (fun a b h1 h2 => ra_i h1 h2) (fun _ => rfl) (by decide) (by decide) (by decide) (Nat.le_of_ble_eq_true rfl) (Nat.le_of_ble_eq_true rfl) dX8_init_7 (fun y H fC hyL hym hLs hfy hfo P => ?_)
  have hay : a ≠ y := fun z => hyL (z ▸ ha)
  have hfa := (hfo a hay).trans hfa
  have ha := hLs a ha
  have hFr : ∀ b, b ≠ a → fC b = fC b := fun _ _ => rfl
  refine hq_putF (q := (RX8, TX8, 6)) (k := 5) (v := .ref y) S P ha hfa rfl (by decide) q315 rfl rfl (hnm.trans rfl) rfl (rfl) (rfl) (Nat.le_of_ble_eq_true rfl) dX8_init_9 (fun H locs f P hfa hfr => ?_)
  have hFr : ∀ b, b ≠ a → f b = _ := fun b hb => (hfr b hb).trans (hFr b hb)
  exact gw_vret S P hQ hr hlk ⟨Nat.le_of_ble_eq_true rfl, Nat.le_of_ble_eq_true rfl⟩ dX8_init_12 (⟨rfl, y, hyL, rfl, hfa, (hFr y (Ne.symm hay)).trans hfy, fun b h1 h2 => (hFr b h1).trans (hfo b h2)⟩)
