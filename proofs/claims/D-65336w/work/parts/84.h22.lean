/-! the small constructors, by gen_h22.py -/
set_option maxHeartbeats 4000000 in
set_option maxRecDepth 100000 in
theorem hi_sync {l : Launch} {D : va_G} {cs : Nat → ClassId} {L : List Nat} {f : Nat → va_E} {a : Nat}  (_h0 : True) : PM l D cs yX4_init cX4_init 1 none (rmL 1 0 0) [.ref a] L f (pRd L f none) := by
  refine hm_of "SyncHall$Sync" rfl (by decide +kernel) (Nat.le_of_ble_eq_true rfl) ?_
  intro sz p e u m below meth c S P hsz hr hlk hnm htb ls hl Q hQ
  have hl : lv_has ls 1 [(0, .ref a)] := hl
  have hx := S.1
  have hb := S.2.1
  generalize hH0 : u.heap = H at P ⊢
  generalize ([] : List Loc) = locs at P ⊢
  refine lv_aload_n hx hb dX4_init_0 rfl (lv_at hl 0 rfl) ?_
  refine W.objInit hx hb S.2.2.2.1 (S.2.2.2.2 _ q249) (S.2.2.2.2 _ q61) (S.2.2.2.2 _ q62) rfl (by rw [S.2.2.1]; exact hl.1) rfl dX4_init_1 (Nat.le_of_ble_eq_true rfl) (Nat.le_of_ble_eq_true rfl) ?_
  refine W.eq (g2 := F0 m 4 ls []) rfl ?_
  exact gw_vret S P hQ hr hlk ⟨Nat.le_of_ble_eq_true rfl, Nat.le_of_ble_eq_true rfl⟩ dX4_init_4 (⟨rfl, rfl, rfl⟩)

set_option maxHeartbeats 8000000 in
set_option maxRecDepth 100000 in
theorem hi_lock {l : Launch} {D : va_G} {cs : Nat → ClassId} {L : List Nat} {f : Nat → va_E} {a : Nat} {wb : Bool} (ha : a ∈ L) (hfa : f a = .inr (3, [.null, .double 0, .int 0, .int 0, .null, .int 0])) : PM l D cs yX5_init cX5_init 2 none (rmL 2 0 0) [.ref a, .int (bI wb)] L f (pIn L f a (.inr (3, [.null, .double 0, .int 0, .int (bI wb), .null, .int 0]))) := by
  refine hm_of "SyncHall$Lock" rfl (by decide +kernel) (Nat.le_of_ble_eq_true rfl) ?_
  intro sz p e u m below meth c S P hsz hr hlk hnm htb ls hl Q hQ
  have hl : lv_has ls 2 [(0, .ref a), (1, .int (bI wb))] := hl
  have hx := S.1
  have hb := S.2.1
  generalize hH0 : u.heap = H at P ⊢
  generalize ([] : List Loc) = locs at P ⊢
  have hFr : ∀ b, b ≠ a → f b = f b := fun _ _ => rfl
  refine lv_aload_n hx hb dX5_init_0 rfl (lv_at hl 0 rfl) ?_
  refine pw_callR (nL' := 1) (rest := []) S P (hi_sync (a := a) True.intro) q248 q45 (pw_entIN "SyncHall" [] S rfl (P.2.2.2.2.1.use q246 rfl) q247 q248 ⟨by decide +kernel, by decide +kernel, (by decide +kernel : (parseMethodDescriptor yX4_init.desc).map (fun d => d.parameters.length) = some 0)⟩ dX5_init_1) hl.1 (Nat.le_of_ble_eq_true rfl) ⟨Nat.le_of_ble_eq_true rfl, Nat.le_of_ble_eq_true rfl⟩ ⟨Nat.le_of_ble_eq_true rfl, Nat.le_of_ble_eq_true rfl⟩ (fun H locs P => ?_)
  refine W.eq (g2 := F0 m 4 ls []) rfl ?_
  refine lv_aload_n hx hb dX5_init_4 rfl (lv_at hl 0 rfl) ?_
  refine lv_iload_n hx hb dX5_init_5 rfl (lv_at hl 1 rfl) ?_
  refine hq_putF (q := (RX5, TX5, 6)) (k := 3) (v := .int (bI wb)) S P ha hfa rfl (by decide) q250 rfl rfl (hnm.trans rfl) rfl (by cases wb <;> rfl) (by cases wb <;> rfl) (Nat.le_of_ble_eq_true rfl) dX5_init_6 (fun H locs f P hfa hfr => ?_)
  have hFr : ∀ b, b ≠ a → f b = _ := fun b hb => (hfr b hb).trans (hFr b hb)
  exact gw_vret S P hQ hr hlk ⟨Nat.le_of_ble_eq_true rfl, Nat.le_of_ble_eq_true rfl⟩ dX5_init_9 (⟨rfl, rfl, hfa, hFr⟩)

set_option maxHeartbeats 8000000 in
set_option maxRecDepth 100000 in
theorem hi_sem {l : Launch} {D : va_G} {cs : Nat → ClassId} {L : List Nat} {f : Nat → va_E} {a : Nat} {wb : Bool} {v : Int32} (ha : a ∈ L) (hfa : f a = .inr (4, [.null, .double 0, .int 0, .int 0, .int 0])) : PM l D cs yX6_init cX6_init 3 none (rmL 2 0 0) [.ref a, .int (bI wb), .int v] L f (pIn L f a (.inr (4, [.null, .double 0, .int 0, .int (bI wb), .int v]))) := by
  refine hm_of "SyncHall$Semaphore" rfl (by decide +kernel) (Nat.le_of_ble_eq_true rfl) ?_
  intro sz p e u m below meth c S P hsz hr hlk hnm htb ls hl Q hQ
  have hl : lv_has ls 3 [(0, .ref a), (1, .int (bI wb)), (2, .int v)] := hl
  have hx := S.1
  have hb := S.2.1
  generalize hH0 : u.heap = H at P ⊢
  generalize ([] : List Loc) = locs at P ⊢
  have hFr : ∀ b, b ≠ a → f b = f b := fun _ _ => rfl
  refine lv_aload_n hx hb dX6_init_0 rfl (lv_at hl 0 rfl) ?_
  refine pw_callR (nL' := 1) (rest := []) S P (hi_sync (a := a) True.intro) q248 q45 (pw_entIN "SyncHall" [] S rfl (P.2.2.2.2.1.use q283 rfl) q247 q248 ⟨by decide +kernel, by decide +kernel, (by decide +kernel : (parseMethodDescriptor yX4_init.desc).map (fun d => d.parameters.length) = some 0)⟩ dX6_init_1) hl.1 (Nat.le_of_ble_eq_true rfl) ⟨Nat.le_of_ble_eq_true rfl, Nat.le_of_ble_eq_true rfl⟩ ⟨Nat.le_of_ble_eq_true rfl, Nat.le_of_ble_eq_true rfl⟩ (fun H locs P => ?_)
  refine W.eq (g2 := F0 m 4 ls []) rfl ?_
  refine lv_aload_n hx hb dX6_init_4 rfl (lv_at hl 0 rfl) ?_
  refine lv_iload_n hx hb dX6_init_5 rfl (lv_at hl 1 rfl) ?_
  refine hq_putF (q := (RX6, TX6, 5)) (k := 3) (v := .int (bI wb)) S P ha hfa rfl (by decide) q284 rfl rfl (hnm.trans rfl) rfl (by cases wb <;> rfl) (by cases wb <;> rfl) (Nat.le_of_ble_eq_true rfl) dX6_init_6 (fun H locs f P hfa hfr => ?_)
  have hFr : ∀ b, b ≠ a → f b = _ := fun b hb => (hfr b hb).trans (hFr b hb)
  refine lv_aload_n hx hb dX6_init_9 rfl (lv_at hl 0 rfl) ?_
  refine lv_iload_n hx hb dX6_init_10 rfl (lv_at hl 2 rfl) ?_
  refine hq_put (q := (RX6, TX6, 5)) (k := 4) (v := .int v) S P ha hfa rfl (by decide) q285 (Or.inl rfl) rfl (rfl) (rfl) (Nat.le_of_ble_eq_true rfl) dX6_init_11 (fun H locs f P hfa hfr => ?_)
  have hFr : ∀ b, b ≠ a → f b = _ := fun b hb => (hfr b hb).trans (hFr b hb)
  exact gw_vret S P hQ hr hlk ⟨Nat.le_of_ble_eq_true rfl, Nat.le_of_ble_eq_true rfl⟩ dX6_init_14 (⟨rfl, rfl, hfa, hFr⟩)

set_option maxHeartbeats 8000000 in
set_option maxRecDepth 100000 in
theorem hi_latch {l : Launch} {D : va_G} {cs : Nat → ClassId} {L : List Nat} {f : Nat → va_E} {a : Nat} {v : Int32} (ha : a ∈ L) (hfa : f a = .inr (5, [.null, .double 0, .int 0, .int 0])) : PM l D cs yX7_init cX7_init 2 none (rmL 2 0 0) [.ref a, .int v] L f (pIn L f a (.inr (5, [.null, .double 0, .int 0, .int v]))) := by
  refine hm_of "SyncHall$Latch" rfl (by decide +kernel) (Nat.le_of_ble_eq_true rfl) ?_
  intro sz p e u m below meth c S P hsz hr hlk hnm htb ls hl Q hQ
  have hl : lv_has ls 2 [(0, .ref a), (1, .int v)] := hl
  have hx := S.1
  have hb := S.2.1
  generalize hH0 : u.heap = H at P ⊢
  generalize ([] : List Loc) = locs at P ⊢
  have hFr : ∀ b, b ≠ a → f b = f b := fun _ _ => rfl
  refine lv_aload_n hx hb dX7_init_0 rfl (lv_at hl 0 rfl) ?_
  refine pw_callR (nL' := 1) (rest := []) S P (hi_sync (a := a) True.intro) q248 q45 (pw_entIN "SyncHall" [] S rfl (P.2.2.2.2.1.use q299 rfl) q247 q248 ⟨by decide +kernel, by decide +kernel, (by decide +kernel : (parseMethodDescriptor yX4_init.desc).map (fun d => d.parameters.length) = some 0)⟩ dX7_init_1) hl.1 (Nat.le_of_ble_eq_true rfl) ⟨Nat.le_of_ble_eq_true rfl, Nat.le_of_ble_eq_true rfl⟩ ⟨Nat.le_of_ble_eq_true rfl, Nat.le_of_ble_eq_true rfl⟩ (fun H locs P => ?_)
  refine W.eq (g2 := F0 m 4 ls []) rfl ?_
  refine lv_aload_n hx hb dX7_init_4 rfl (lv_at hl 0 rfl) ?_
  refine lv_iload_n hx hb dX7_init_5 rfl (lv_at hl 1 rfl) ?_
  refine hq_put (q := (RX7, TX7, 4)) (k := 3) (v := .int v) S P ha hfa rfl (by decide) q300 (Or.inl rfl) rfl (rfl) (rfl) (Nat.le_of_ble_eq_true rfl) dX7_init_6 (fun H locs f P hfa hfr => ?_)
  have hFr : ∀ b, b ≠ a → f b = _ := fun b hb => (hfr b hb).trans (hFr b hb)
  exact gw_vret S P hQ hr hlk ⟨Nat.le_of_ble_eq_true rfl, Nat.le_of_ble_eq_true rfl⟩ dX7_init_9 (⟨rfl, rfl, hfa, hFr⟩)

set_option maxHeartbeats 8000000 in
set_option maxRecDepth 100000 in
theorem hi_cond {l : Launch} {D : va_G} {cs : Nat → ClassId} {L : List Nat} {f : Nat → va_E} {a : Nat} {b : Nat} (ha : a ∈ L) (hfa : f a = .inr (7, [.null, .double 0, .int 0, .null])) : PM l D cs yX9_init cX9_init 2 none (rmL 2 0 0) [.ref a, .ref b] L f (pIn L f a (.inr (7, [.null, .double 0, .int 0, .ref b]))) := by
  refine hm_of "SyncHall$Condition" rfl (by decide +kernel) (Nat.le_of_ble_eq_true rfl) ?_
  intro sz p e u m below meth c S P hsz hr hlk hnm htb ls hl Q hQ
  have hl : lv_has ls 2 [(0, .ref a), (1, .ref b)] := hl
  have hx := S.1
  have hb := S.2.1
  generalize hH0 : u.heap = H at P ⊢
  generalize ([] : List Loc) = locs at P ⊢
  have hFr : ∀ b, b ≠ a → f b = f b := fun _ _ => rfl
  refine lv_aload_n hx hb dX9_init_0 rfl (lv_at hl 0 rfl) ?_
  refine pw_callR (nL' := 1) (rest := []) S P (hi_sync (a := a) True.intro) q248 q45 (pw_entIN "SyncHall" [] S rfl (P.2.2.2.2.1.use q332 rfl) q247 q248 ⟨by decide +kernel, by decide +kernel, (by decide +kernel : (parseMethodDescriptor yX4_init.desc).map (fun d => d.parameters.length) = some 0)⟩ dX9_init_1) hl.1 (Nat.le_of_ble_eq_true rfl) ⟨Nat.le_of_ble_eq_true rfl, Nat.le_of_ble_eq_true rfl⟩ ⟨Nat.le_of_ble_eq_true rfl, Nat.le_of_ble_eq_true rfl⟩ (fun H locs P => ?_)
  refine W.eq (g2 := F0 m 4 ls []) rfl ?_
  refine lv_aload_n hx hb dX9_init_4 rfl (lv_at hl 0 rfl) ?_
  refine lv_aload_n hx hb dX9_init_5 rfl (lv_at hl 1 rfl) ?_
  refine hq_putF (q := (RX9, TX9, 4)) (k := 3) (v := .ref b) S P ha hfa rfl (by decide) q333 rfl rfl (hnm.trans rfl) rfl (rfl) (rfl) (Nat.le_of_ble_eq_true rfl) dX9_init_6 (fun H locs f P hfa hfr => ?_)
  have hFr : ∀ b, b ≠ a → f b = _ := fun b hb => (hfr b hb).trans (hFr b hb)
  exact gw_vret S P hQ hr hlk ⟨Nat.le_of_ble_eq_true rfl, Nat.le_of_ble_eq_true rfl⟩ dX9_init_9 (⟨rfl, rfl, hfa, hFr⟩)

set_option maxHeartbeats 8000000 in
set_option maxRecDepth 100000 in
theorem hi_task {l : Launch} {D : va_G} {cs : Nat → ClassId} {L : List Nat} {f : Nat → va_E} {a : Nat} {v : Int32} (ha : a ∈ L) (hfa : f a = .inr (1, [.int 0, .double 0, .int 0, .int 0, .null])) : PM l D cs yX2_init cX2_init 2 none (rmL 2 0 0) [.ref a, .int v] L f (pIn L f a (.inr (1, [.int v, .double 0, .int (-1), .int 0, .null]))) := by
  refine hm_of "SyncHall$Task" rfl (by decide +kernel) (Nat.le_of_ble_eq_true rfl) ?_
  intro sz p e u m below meth c S P hsz hr hlk hnm htb ls hl Q hQ
  have hl : lv_has ls 2 [(0, .ref a), (1, .int v)] := hl
  have hx := S.1
  have hb := S.2.1
  generalize hH0 : u.heap = H at P ⊢
  generalize ([] : List Loc) = locs at P ⊢
  have hFr : ∀ b, b ≠ a → f b = f b := fun _ _ => rfl
  refine lv_aload_n hx hb dX2_init_0 rfl (lv_at hl 0 rfl) ?_
  refine W.objInit hx hb S.2.2.2.1 (S.2.2.2.2 _ q73) (S.2.2.2.2 _ q61) (S.2.2.2.2 _ q62) rfl (by rw [S.2.2.1]; exact hl.1) rfl dX2_init_1 (Nat.le_of_ble_eq_true rfl) (Nat.le_of_ble_eq_true rfl) ?_
  refine W.eq (g2 := F0 m 4 ls []) rfl ?_
  refine lv_aload_n hx hb dX2_init_4 rfl (lv_at hl 0 rfl) ?_
  refine lv_iconst (v := (-1)) hx hb dX2_init_5 (by decide) ?_
  refine hq_put (q := (RX2, TX2, 5)) (k := 2) (v := .int (-1)) S P ha hfa rfl (by decide) q77 (Or.inl rfl) rfl (rfl) (rfl) (Nat.le_of_ble_eq_true rfl) dX2_init_6 (fun H locs f P hfa hfr => ?_)
  have hFr : ∀ b, b ≠ a → f b = _ := fun b hb => (hfr b hb).trans (hFr b hb)
  refine lv_aload_n hx hb dX2_init_9 rfl (lv_at hl 0 rfl) ?_
  refine lv_iload_n hx hb dX2_init_10 rfl (lv_at hl 1 rfl) ?_
  refine hq_putF (q := (RX2, TX2, 5)) (k := 0) (v := .int v) S P ha hfa rfl (by decide) q74 rfl rfl (hnm.trans rfl) rfl (rfl) (rfl) (Nat.le_of_ble_eq_true rfl) dX2_init_11 (fun H locs f P hfa hfr => ?_)
  have hFr : ∀ b, b ≠ a → f b = _ := fun b hb => (hfr b hb).trans (hFr b hb)
  exact gw_vret S P hQ hr hlk ⟨Nat.le_of_ble_eq_true rfl, Nat.le_of_ble_eq_true rfl⟩ dX2_init_14 (⟨rfl, rfl, hfa, hFr⟩)
