/-! the class's checks, by gen_h3.py -/
set_option maxHeartbeats 4000000 in
set_option maxRecDepth 100000 in
theorem hs_range {l : Launch} {D : va_G} {cs : Nat → ClassId} {L : List Nat} {f : Nat → va_E}  (_hf : True) : PM l D cs yX1_range cX1_range 1 none (rmL 6 1 6) [.int 1] L f (pRd L f none) := by
  refine hm_of "SyncHall" rfl (by decide +kernel) (Nat.le_of_ble_eq_true rfl) ?_
  intro sz p e u m below meth c S P hsz hr hlk hnm htb ls hl Q hQ
  have hl : lv_has ls 1 [(0, .int 1)] := hl
  have hx := S.1
  have hb := S.2.1
  generalize hH0 : u.heap = H at P ⊢
  generalize ([] : List Loc) = locs at P ⊢
  refine lv_iload_n hx hb dX1_range_0 rfl (lv_at hl 0 rfl) ?_
  refine ni_if_ne (tgt := 12) (a := 1) hx hb (by omega) dX1_range_1 (by decide) (fun c1 => ?_) (fun c1 => ?_)
  · have _h := True.intro
    exact gw_vret S P hQ hr hlk ⟨Nat.le_of_ble_eq_true rfl, Nat.le_of_ble_eq_true rfl⟩ dX1_range_12 (⟨rfl, rfl, rfl⟩)
  · exact absurd c1 (by decide)

set_option maxHeartbeats 4000000 in
set_option maxRecDepth 100000 in
theorem ht_range {l : Launch} {D : va_G} {cs : Nat → ClassId} {L : List Nat} {f : Nat → va_E} (hst : l.stackTraces = false) : PM l D cs yX1_range cX1_range 1 none (rmL 6 1 6) [.int 0] L f (pTh L f "java/lang/IllegalArgumentException") := by
  refine hm_of "SyncHall" rfl (by decide +kernel) (Nat.le_of_ble_eq_true rfl) ?_
  intro sz p e u m below meth c S P hsz hr hlk hnm htb ls hl Q hQ
  have hl : lv_has ls 1 [(0, .int 0)] := hl
  have hx := S.1
  have hb := S.2.1
  subst hQ
  refine lv_iload_n hx hb dX1_range_0 rfl (lv_at hl 0 rfl) ?_
  refine ni_if_ne (tgt := 12) (a := 0) hx hb (by omega) dX1_range_1 (by decide) (fun c1 => absurd rfl c1) (fun _ => ?_)
  exact pw_throw (idx := 29) (ic := 31) S P P hst (xa_IAE S.2.2.2.2 P.2.2.2.2.1 P.2.2.2.2.2.1) (by decide +kernel) q135 q42 (fun x hx => by cases hx) htb hlk hl.1 dX1_range_4 dX1_range_7 dX1_range_8 dX1_range_11 (Nat.le_of_ble_eq_true rfl) (Nat.le_of_ble_eq_true rfl) (by decide) (Nat.le_of_ble_eq_true rfl) ⟨rfl, rfl, rfl⟩

set_option maxHeartbeats 4000000 in
set_option maxRecDepth 100000 in
theorem hs_exists {l : Launch} {D : va_G} {cs : Nat → ClassId} {L : List Nat} {f : Nat → va_E}  (_hf : True) : PM l D cs yX1_exists cX1_exists 1 none (rmL 6 1 6) [.int 1] L f (pRd L f none) := by
  refine hm_of "SyncHall" rfl (by decide +kernel) (Nat.le_of_ble_eq_true rfl) ?_
  intro sz p e u m below meth c S P hsz hr hlk hnm htb ls hl Q hQ
  have hl : lv_has ls 1 [(0, .int 1)] := hl
  have hx := S.1
  have hb := S.2.1
  generalize hH0 : u.heap = H at P ⊢
  generalize ([] : List Loc) = locs at P ⊢
  refine lv_iload_n hx hb dX1_exists_0 rfl (lv_at hl 0 rfl) ?_
  refine ni_if_ne (tgt := 12) (a := 1) hx hb (by omega) dX1_exists_1 (by decide) (fun c1 => ?_) (fun c1 => ?_)
  · have _h := True.intro
    exact gw_vret S P hQ hr hlk ⟨Nat.le_of_ble_eq_true rfl, Nat.le_of_ble_eq_true rfl⟩ dX1_exists_12 (⟨rfl, rfl, rfl⟩)
  · exact absurd c1 (by decide)

set_option maxHeartbeats 4000000 in
set_option maxRecDepth 100000 in
theorem ht_exists {l : Launch} {D : va_G} {cs : Nat → ClassId} {L : List Nat} {f : Nat → va_E} (hst : l.stackTraces = false) : PM l D cs yX1_exists cX1_exists 1 none (rmL 6 1 6) [.int 0] L f (pTh L f "java/util/NoSuchElementException") := by
  refine hm_of "SyncHall" rfl (by decide +kernel) (Nat.le_of_ble_eq_true rfl) ?_
  intro sz p e u m below meth c S P hsz hr hlk hnm htb ls hl Q hQ
  have hl : lv_has ls 1 [(0, .int 0)] := hl
  have hx := S.1
  have hb := S.2.1
  subst hQ
  refine lv_iload_n hx hb dX1_exists_0 rfl (lv_at hl 0 rfl) ?_
  refine ni_if_ne (tgt := 12) (a := 0) hx hb (by omega) dX1_exists_1 (by decide) (fun c1 => absurd rfl c1) (fun _ => ?_)
  exact pw_throw (idx := 32) (ic := 34) S P P hst (xa_NSE S.2.2.2.2 P.2.2.2.2.1 P.2.2.2.2.2.1) (by decide +kernel) q205 q43 (fun x hx => by cases hx) htb hlk hl.1 dX1_exists_4 dX1_exists_7 dX1_exists_8 dX1_exists_11 (Nat.le_of_ble_eq_true rfl) (Nat.le_of_ble_eq_true rfl) (by decide) (Nat.le_of_ble_eq_true rfl) ⟨rfl, rfl, rfl⟩

set_option maxHeartbeats 4000000 in
set_option maxRecDepth 100000 in
theorem hs_state {l : Launch} {D : va_G} {cs : Nat → ClassId} {L : List Nat} {f : Nat → va_E}  (_hf : True) : PM l D cs yX1_state cX1_state 1 none (rmL 6 1 6) [.int 1] L f (pRd L f none) := by
  refine hm_of "SyncHall" rfl (by decide +kernel) (Nat.le_of_ble_eq_true rfl) ?_
  intro sz p e u m below meth c S P hsz hr hlk hnm htb ls hl Q hQ
  have hl : lv_has ls 1 [(0, .int 1)] := hl
  have hx := S.1
  have hb := S.2.1
  generalize hH0 : u.heap = H at P ⊢
  generalize ([] : List Loc) = locs at P ⊢
  refine lv_iload_n hx hb dX1_state_0 rfl (lv_at hl 0 rfl) ?_
  refine ni_if_ne (tgt := 12) (a := 1) hx hb (by omega) dX1_state_1 (by decide) (fun c1 => ?_) (fun c1 => ?_)
  · have _h := True.intro
    exact gw_vret S P hQ hr hlk ⟨Nat.le_of_ble_eq_true rfl, Nat.le_of_ble_eq_true rfl⟩ dX1_state_12 (⟨rfl, rfl, rfl⟩)
  · exact absurd c1 (by decide)

set_option maxHeartbeats 4000000 in
set_option maxRecDepth 100000 in
theorem ht_state {l : Launch} {D : va_G} {cs : Nat → ClassId} {L : List Nat} {f : Nat → va_E} (hst : l.stackTraces = false) : PM l D cs yX1_state cX1_state 1 none (rmL 6 1 6) [.int 0] L f (pTh L f "java/lang/IllegalStateException") := by
  refine hm_of "SyncHall" rfl (by decide +kernel) (Nat.le_of_ble_eq_true rfl) ?_
  intro sz p e u m below meth c S P hsz hr hlk hnm htb ls hl Q hQ
  have hl : lv_has ls 1 [(0, .int 0)] := hl
  have hx := S.1
  have hb := S.2.1
  subst hQ
  refine lv_iload_n hx hb dX1_state_0 rfl (lv_at hl 0 rfl) ?_
  refine ni_if_ne (tgt := 12) (a := 0) hx hb (by omega) dX1_state_1 (by decide) (fun c1 => absurd rfl c1) (fun _ => ?_)
  exact pw_throw (idx := 35) (ic := 37) S P P hst (xa_ISE S.2.2.2.2 P.2.2.2.2.1 P.2.2.2.2.2.1) (by decide +kernel) q223 q44 (fun x hx => by cases hx) htb hlk hl.1 dX1_state_4 dX1_state_7 dX1_state_8 dX1_state_11 (Nat.le_of_ble_eq_true rfl) (Nat.le_of_ble_eq_true rfl) (by decide) (Nat.le_of_ble_eq_true rfl) ⟨rfl, rfl, rfl⟩

set_option maxHeartbeats 4000000 in
set_option maxRecDepth 100000 in
theorem hs_can {l : Launch} {D : va_G} {cs : Nat → ClassId} {L : List Nat} {f : Nat → va_E}  (_hf : True) : PM l D cs yX1_can cX1_can 1 none (rmL 6 1 6) [.int 1] L f (pRd L f none) := by
  refine hm_of "SyncHall" rfl (by decide +kernel) (Nat.le_of_ble_eq_true rfl) ?_
  intro sz p e u m below meth c S P hsz hr hlk hnm htb ls hl Q hQ
  have hl : lv_has ls 1 [(0, .int 1)] := hl
  have hx := S.1
  have hb := S.2.1
  generalize hH0 : u.heap = H at P ⊢
  generalize ([] : List Loc) = locs at P ⊢
  refine lv_iload_n hx hb dX1_can_0 rfl (lv_at hl 0 rfl) ?_
  refine ni_if_ne (tgt := 12) (a := 1) hx hb (by omega) dX1_can_1 (by decide) (fun c1 => ?_) (fun c1 => ?_)
  · have _h := True.intro
    exact gw_vret S P hQ hr hlk ⟨Nat.le_of_ble_eq_true rfl, Nat.le_of_ble_eq_true rfl⟩ dX1_can_12 (⟨rfl, rfl, rfl⟩)
  · exact absurd c1 (by decide)

set_option maxHeartbeats 4000000 in
set_option maxRecDepth 100000 in
theorem ht_can {l : Launch} {D : va_G} {cs : Nat → ClassId} {L : List Nat} {f : Nat → va_E} (hst : l.stackTraces = false) : PM l D cs yX1_can cX1_can 1 none (rmL 6 1 6) [.int 0] L f (pTh L f "java/lang/UnsupportedOperationException") := by
  refine hm_of "SyncHall" rfl (by decide +kernel) (Nat.le_of_ble_eq_true rfl) ?_
  intro sz p e u m below meth c S P hsz hr hlk hnm htb ls hl Q hQ
  have hl : lv_has ls 1 [(0, .int 0)] := hl
  have hx := S.1
  have hb := S.2.1
  subst hQ
  refine lv_iload_n hx hb dX1_can_0 rfl (lv_at hl 0 rfl) ?_
  refine ni_if_ne (tgt := 12) (a := 0) hx hb (by omega) dX1_can_1 (by decide) (fun c1 => absurd rfl c1) (fun _ => ?_)
  exact pw_throw (idx := 38) (ic := 40) S P P hst (xa_UOE S.2.2.2.2 P.2.2.2.2.1 P.2.2.2.2.2.1) (by decide +kernel) q376 q51 (fun x hx => by cases hx) htb hlk hl.1 dX1_can_4 dX1_can_7 dX1_can_8 dX1_can_11 (Nat.le_of_ble_eq_true rfl) (Nat.le_of_ble_eq_true rfl) (by decide) (Nat.le_of_ble_eq_true rfl) ⟨rfl, rfl, rfl⟩
