/-! the syncs' methods that only look, by gen_h2.py -/
set_option maxHeartbeats 4000000 in
set_option maxRecDepth 100000 in
theorem hr_X5_isOwner {l : Launch} {D : va_G} {cs : Nat → ClassId} {ad : Nat → Nat} {L : List Nat} {f : Nat → va_E} {n : Nat} {st : St} (ho : Ok n st) {s : Nat} (hs : s < 8) (hk : st.1 12 s = 0 ∨ st.1 12 s = 1) {t : Nat} (ht : t < 6)  (hF : HF cs ad st L f) : PM l D cs yX5_isOwner cX5_isOwner 2 (some .boolean) (rmL 2 0 0) [.ref (ad (18 + s)), .ref (ad (12 + t))] L f (pRd L f (some (.int (bI (decide (st.1 13 s = nI t)))))) := by
  refine hm_of "SyncHall$Lock" rfl (by decide +kernel) (Nat.le_of_ble_eq_true rfl) ?_
  intro sz p e u m below meth c S P hsz hr hlk hnm htb ls hl Q hQ
  have hl : lv_has ls 2 [(0, .ref (ad (18 + s))), (1, .ref (ad (12 + t)))] := hl
  have hx := S.1
  have hb := S.2.1
  generalize hH0 : u.heap = H at P ⊢
  generalize ([] : List Loc) = locs at P ⊢
  refine lv_aload_n hx hb dX5_isOwner_0 rfl (lv_at hl 0 rfl) ?_
  refine pw_get (q := (RX5, TX5, 6)) (k := 4) S P (hF.lk (by omega) hk).1 (hF.lk (by omega) hk).2 rfl (by decide) q251 (Or.inl rfl) rfl dX5_isOwner_1 ?_
  refine lv_aload_n hx hb dX5_isOwner_4 rfl (lv_at hl 1 rfl) ?_
  refine lv_acmp_ne (tgt := 12) (rx := hOw st ad s) (ry := some (ad (12 + t))) hx hb dX5_isOwner_5 (by decide) (fun c5 => ?_) (fun c5 => ?_)
  · rw [hOw_some hF ho (by omega) (by omega)] at c5
    refine lv_iconst (v := 0) hx hb dX5_isOwner_12 (by decide) ?_
    exact gw_zret S P hQ hr hlk ⟨Nat.le_of_ble_eq_true rfl, Nat.le_of_ble_eq_true rfl⟩ dX5_isOwner_13 (by first | decide | exact bI_or _) (pRd_i (by simp_all [bI]))
  · rw [hOw_some hF ho (by omega) (by omega)] at c5
    refine lv_iconst (v := 1) hx hb dX5_isOwner_8 (by decide) ?_
    refine lv_goto (tgt := 13) hx hb dX5_isOwner_9 (by decide) ?_
    exact gw_zret S P hQ hr hlk ⟨Nat.le_of_ble_eq_true rfl, Nat.le_of_ble_eq_true rfl⟩ dX5_isOwner_13 (by first | decide | exact bI_or _) (pRd_i (by simp_all [bI]))

set_option maxHeartbeats 4000000 in
set_option maxRecDepth 100000 in
theorem hr_X5_kind {l : Launch} {D : va_G} {cs : Nat → ClassId} {ad : Nat → Nat} {L : List Nat} {f : Nat → va_E} {n : Nat} {st : St} (ho : Ok n st) {s : Nat} (hs : s < 8) (hk : st.1 12 s = 0 ∨ st.1 12 s = 1)  (hF : HF cs ad st L f) : PM l D cs yX5_kind cX5_kind 1 (some .int) (rmL 2 0 0) [.ref (ad (18 + s))] L f (pRd L f (some (.int (st.1 12 s)))) := by
  refine hm_of "SyncHall$Lock" rfl (by decide +kernel) (Nat.le_of_ble_eq_true rfl) ?_
  intro sz p e u m below meth c S P hsz hr hlk hnm htb ls hl Q hQ
  have hl : lv_has ls 1 [(0, .ref (ad (18 + s)))] := hl
  have hx := S.1
  have hb := S.2.1
  generalize hH0 : u.heap = H at P ⊢
  generalize ([] : List Loc) = locs at P ⊢
  refine lv_aload_n hx hb dX5_kind_0 rfl (lv_at hl 0 rfl) ?_
  refine pw_get (q := (RX5, TX5, 6)) (k := 3) S P (hF.lk (by omega) hk).1 (hF.lk (by omega) hk).2 rfl (by decide) q250 (Or.inl rfl) rfl dX5_kind_1 ?_
  refine lv_if_eq (tgt := 11) (x := bI (decide (st.1 12 s = 1))) hx hb dX5_kind_4 (by decide) (fun c4 => ?_) (fun c4 => ?_)
  · simp only [bI_eq0, decide_eq_false_iff_not, decide_eq_true_eq, Classical.not_not] at c4
    refine lv_iconst (v := 0) hx hb dX5_kind_11 (by decide) ?_
    exact gw_iret S P hQ hr hlk ⟨Nat.le_of_ble_eq_true rfl, Nat.le_of_ble_eq_true rfl⟩ dX5_kind_12 (pRd_i (by rcases hk with hk | hk <;> simp_all [bI]))
  · simp only [bI_eq0, Bool.not_eq_false, decide_eq_false_iff_not, decide_eq_true_eq, Classical.not_not] at c4
    refine lv_iconst (v := 1) hx hb dX5_kind_7 (by decide) ?_
    refine lv_goto (tgt := 12) hx hb dX5_kind_8 (by decide) ?_
    exact gw_iret S P hQ hr hlk ⟨Nat.le_of_ble_eq_true rfl, Nat.le_of_ble_eq_true rfl⟩ dX5_kind_12 (pRd_i (by rcases hk with hk | hk <;> simp_all [bI]))

set_option maxHeartbeats 4000000 in
set_option maxRecDepth 100000 in
theorem hr_X5_canTake {l : Launch} {D : va_G} {cs : Nat → ClassId} {ad : Nat → Nat} {L : List Nat} {f : Nat → va_E} {n : Nat} {st : St} (ho : Ok n st) {s : Nat} (hs : s < 8) (hk : st.1 12 s = 0 ∨ st.1 12 s = 1) {t : Nat} (ht : t < 6) {wb : Bool}  (hF : HF cs ad st L f) : PM l D cs yX5_canTake cX5_canTake 3 (some .boolean) (rmL 2 0 0) [.ref (ad (18 + s)), .ref (ad (12 + t)), .int (bI wb)] L f (pRd L f (some (.int (bI (s_canTake st t s (bI wb)))))) := by
  refine hm_of "SyncHall$Lock" rfl (by decide +kernel) (Nat.le_of_ble_eq_true rfl) ?_
  intro sz p e u m below meth c S P hsz hr hlk hnm htb ls hl Q hQ
  have hl : lv_has ls 3 [(0, .ref (ad (18 + s))), (1, .ref (ad (12 + t))), (2, .int (bI wb))] := hl
  have hx := S.1
  have hb := S.2.1
  generalize hH0 : u.heap = H at P ⊢
  generalize ([] : List Loc) = locs at P ⊢
  refine lv_aload_n hx hb dX5_canTake_0 rfl (lv_at hl 0 rfl) ?_
  refine pw_get (q := (RX5, TX5, 6)) (k := 4) S P (hF.lk (by omega) hk).1 (hF.lk (by omega) hk).2 rfl (by decide) q251 (Or.inl rfl) rfl dX5_canTake_1 ?_
  refine lw_ifnull (tgt := 22) hx hb dX5_canTake_4 (by decide) (fun c4 => ?_) (fun c4 => ?_)
  · rw [hOw_none ho (by omega)] at c4
    refine lv_iconst (v := 1) hx hb dX5_canTake_22 (by decide) ?_
    refine lv_goto (tgt := 27) hx hb dX5_canTake_23 (by decide) ?_
    exact gw_zret S P hQ hr hlk ⟨Nat.le_of_ble_eq_true rfl, Nat.le_of_ble_eq_true rfl⟩ dX5_canTake_27 (by first | decide | exact bI_or _) (pRd_i (by rcases hk with hk | hk <;> simp_all [s_canTake, bI]))
  · rw [hOw_none ho (by omega)] at c4
    refine lv_aload_n hx hb dX5_canTake_7 rfl (lv_at hl 0 rfl) ?_
    refine pw_get (q := (RX5, TX5, 6)) (k := 3) S P (hF.lk (by omega) hk).1 (hF.lk (by omega) hk).2 rfl (by decide) q250 (Or.inl rfl) rfl dX5_canTake_8 ?_
    refine lv_if_eq (tgt := 26) (x := bI (decide (st.1 12 s = 1))) hx hb dX5_canTake_11 (by decide) (fun c11 => ?_) (fun c11 => ?_)
    · simp only [bI_eq0, decide_eq_false_iff_not, decide_eq_true_eq, Classical.not_not] at c11
      refine lv_iconst (v := 0) hx hb dX5_canTake_26 (by decide) ?_
      exact gw_zret S P hQ hr hlk ⟨Nat.le_of_ble_eq_true rfl, Nat.le_of_ble_eq_true rfl⟩ dX5_canTake_27 (by first | decide | exact bI_or _) (pRd_i (by rcases hk with hk | hk <;> simp_all [s_canTake, bI]))
    · simp only [bI_eq0, Bool.not_eq_false, decide_eq_false_iff_not, decide_eq_true_eq, Classical.not_not] at c11
      refine lv_aload_n hx hb dX5_canTake_14 rfl (lv_at hl 0 rfl) ?_
      refine pw_get (q := (RX5, TX5, 6)) (k := 4) S P (hF.lk (by omega) hk).1 (hF.lk (by omega) hk).2 rfl (by decide) q251 (Or.inl rfl) rfl dX5_canTake_15 ?_
      refine lv_aload_n hx hb dX5_canTake_18 rfl (lv_at hl 1 rfl) ?_
      refine lv_acmp_ne (tgt := 26) (rx := hOw st ad s) (ry := some (ad (12 + t))) hx hb dX5_canTake_19 (by decide) (fun c19 => ?_) (fun c19 => ?_)
      · rw [hOw_some hF ho (by omega) (by omega)] at c19
        refine lv_iconst (v := 0) hx hb dX5_canTake_26 (by decide) ?_
        exact gw_zret S P hQ hr hlk ⟨Nat.le_of_ble_eq_true rfl, Nat.le_of_ble_eq_true rfl⟩ dX5_canTake_27 (by first | decide | exact bI_or _) (pRd_i (by rcases hk with hk | hk <;> simp_all [s_canTake, bI]))
      · rw [hOw_some hF ho (by omega) (by omega)] at c19
        refine lv_iconst (v := 1) hx hb dX5_canTake_22 (by decide) ?_
        refine lv_goto (tgt := 27) hx hb dX5_canTake_23 (by decide) ?_
        exact gw_zret S P hQ hr hlk ⟨Nat.le_of_ble_eq_true rfl, Nat.le_of_ble_eq_true rfl⟩ dX5_canTake_27 (by first | decide | exact bI_or _) (pRd_i (by rcases hk with hk | hk <;> simp_all [s_canTake, bI]))

set_option maxHeartbeats 4000000 in
set_option maxRecDepth 100000 in
theorem hr_X5_mustQueue {l : Launch} {D : va_G} {cs : Nat → ClassId} {ad : Nat → Nat} {L : List Nat} {f : Nat → va_E} {n : Nat} {st : St} (ho : Ok n st) {s : Nat} (hs : s < 8) (hk : st.1 12 s = 0 ∨ st.1 12 s = 1) {t : Nat} (ht : t < 6) {wb : Bool}  (hF : HF cs ad st L f) : PM l D cs yX5_mustQueue cX5_mustQueue 3 (some .boolean) (rmL 2 0 0) [.ref (ad (18 + s)), .ref (ad (12 + t)), .int (bI wb)] L f (pRd L f (some (.int (bI (s_mustQueue st t s (bI wb)))))) := by
  refine hm_of "SyncHall$Lock" rfl (by decide +kernel) (Nat.le_of_ble_eq_true rfl) ?_
  intro sz p e u m below meth c S P hsz hr hlk hnm htb ls hl Q hQ
  have hl : lv_has ls 3 [(0, .ref (ad (18 + s))), (1, .ref (ad (12 + t))), (2, .int (bI wb))] := hl
  have hx := S.1
  have hb := S.2.1
  generalize hH0 : u.heap = H at P ⊢
  generalize ([] : List Loc) = locs at P ⊢
  refine lv_aload_n hx hb dX5_mustQueue_0 rfl (lv_at hl 0 rfl) ?_
  refine pw_get (q := (RX5, TX5, 6)) (k := 0) S P (hF.lk (by omega) hk).1 (hF.lk (by omega) hk).2 rfl (by decide) q255 (Or.inr q256) rfl dX5_mustQueue_1 ?_
  refine lw_ifnull (tgt := 26) hx hb dX5_mustQueue_4 (by decide) (fun c4 => ?_) (fun c4 => ?_)
  · rw [hFi_none] at c4
    refine lv_iconst (v := 0) hx hb dX5_mustQueue_26 (by decide) ?_
    exact gw_zret S P hQ hr hlk ⟨Nat.le_of_ble_eq_true rfl, Nat.le_of_ble_eq_true rfl⟩ dX5_mustQueue_27 (by first | decide | exact bI_or _) (pRd_i (by rcases hk with hk | hk <;> simp_all [s_mustQueue, bI]))
  · rw [hFi_none] at c4
    refine lv_aload_n hx hb dX5_mustQueue_7 rfl (lv_at hl 0 rfl) ?_
    refine pw_get (q := (RX5, TX5, 6)) (k := 3) S P (hF.lk (by omega) hk).1 (hF.lk (by omega) hk).2 rfl (by decide) q250 (Or.inl rfl) rfl dX5_mustQueue_8 ?_
    refine lv_if_eq (tgt := 22) (x := bI (decide (st.1 12 s = 1))) hx hb dX5_mustQueue_11 (by decide) (fun c11 => ?_) (fun c11 => ?_)
    · simp only [bI_eq0, decide_eq_false_iff_not, decide_eq_true_eq, Classical.not_not] at c11
      refine lv_iconst (v := 1) hx hb dX5_mustQueue_22 (by decide) ?_
      refine lv_goto (tgt := 27) hx hb dX5_mustQueue_23 (by decide) ?_
      exact gw_zret S P hQ hr hlk ⟨Nat.le_of_ble_eq_true rfl, Nat.le_of_ble_eq_true rfl⟩ dX5_mustQueue_27 (by first | decide | exact bI_or _) (pRd_i (by rcases hk with hk | hk <;> simp_all [s_mustQueue, bI]))
    · simp only [bI_eq0, Bool.not_eq_false, decide_eq_false_iff_not, decide_eq_true_eq, Classical.not_not] at c11
      refine lv_aload_n hx hb dX5_mustQueue_14 rfl (lv_at hl 0 rfl) ?_
      refine pw_get (q := (RX5, TX5, 6)) (k := 4) S P (hF.lk (by omega) hk).1 (hF.lk (by omega) hk).2 rfl (by decide) q251 (Or.inl rfl) rfl dX5_mustQueue_15 ?_
      refine lv_aload_n hx hb dX5_mustQueue_18 rfl (lv_at hl 1 rfl) ?_
      refine lv_acmp_eq (tgt := 26) (rx := hOw st ad s) (ry := some (ad (12 + t))) hx hb dX5_mustQueue_19 (by decide) (fun c19 => ?_) (fun c19 => ?_)
      · rw [hOw_some hF ho (by omega) (by omega)] at c19
        refine lv_iconst (v := 0) hx hb dX5_mustQueue_26 (by decide) ?_
        exact gw_zret S P hQ hr hlk ⟨Nat.le_of_ble_eq_true rfl, Nat.le_of_ble_eq_true rfl⟩ dX5_mustQueue_27 (by first | decide | exact bI_or _) (pRd_i (by rcases hk with hk | hk <;> simp_all [s_mustQueue, bI]))
      · rw [hOw_some hF ho (by omega) (by omega)] at c19
        refine lv_iconst (v := 1) hx hb dX5_mustQueue_22 (by decide) ?_
        refine lv_goto (tgt := 27) hx hb dX5_mustQueue_23 (by decide) ?_
        exact gw_zret S P hQ hr hlk ⟨Nat.le_of_ble_eq_true rfl, Nat.le_of_ble_eq_true rfl⟩ dX5_mustQueue_27 (by first | decide | exact bI_or _) (pRd_i (by rcases hk with hk | hk <;> simp_all [s_mustQueue, bI]))

set_option maxHeartbeats 4000000 in
set_option maxRecDepth 100000 in
theorem hr_X5_held {l : Launch} {D : va_G} {cs : Nat → ClassId} {ad : Nat → Nat} {L : List Nat} {f : Nat → va_E} {n : Nat} {st : St} (ho : Ok n st) {s : Nat} (hs : s < 8) (hk : st.1 12 s = 0 ∨ st.1 12 s = 1) {t : Nat} (ht : t < 6)  (hF : HF cs ad st L f) : PM l D cs yX5_held cX5_held 2 (some .int) (rmL 2 0 0) [.ref (ad (18 + s)), .ref (ad (12 + t))] L f (pRd L f (some (.int (if st.1 13 s = nI t then st.1 14 s else 0)))) := by
  refine hm_of "SyncHall$Lock" rfl (by decide +kernel) (Nat.le_of_ble_eq_true rfl) ?_
  intro sz p e u m below meth c S P hsz hr hlk hnm htb ls hl Q hQ
  have hl : lv_has ls 2 [(0, .ref (ad (18 + s))), (1, .ref (ad (12 + t)))] := hl
  have hx := S.1
  have hb := S.2.1
  generalize hH0 : u.heap = H at P ⊢
  generalize ([] : List Loc) = locs at P ⊢
  refine lv_aload_n hx hb dX5_held_0 rfl (lv_at hl 0 rfl) ?_
  refine pw_get (q := (RX5, TX5, 6)) (k := 4) S P (hF.lk (by omega) hk).1 (hF.lk (by omega) hk).2 rfl (by decide) q251 (Or.inl rfl) rfl dX5_held_1 ?_
  refine lv_aload_n hx hb dX5_held_4 rfl (lv_at hl 1 rfl) ?_
  refine lv_acmp_ne (tgt := 15) (rx := hOw st ad s) (ry := some (ad (12 + t))) hx hb dX5_held_5 (by decide) (fun c5 => ?_) (fun c5 => ?_)
  · rw [hOw_some hF ho (by omega) (by omega)] at c5
    refine lv_iconst (v := 0) hx hb dX5_held_15 (by decide) ?_
    exact gw_iret S P hQ hr hlk ⟨Nat.le_of_ble_eq_true rfl, Nat.le_of_ble_eq_true rfl⟩ dX5_held_16 (pRd_i (by simp_all []))
  · rw [hOw_some hF ho (by omega) (by omega)] at c5
    refine lv_aload_n hx hb dX5_held_8 rfl (lv_at hl 0 rfl) ?_
    refine pw_get (q := (RX5, TX5, 6)) (k := 5) S P (hF.lk (by omega) hk).1 (hF.lk (by omega) hk).2 rfl (by decide) q252 (Or.inl rfl) rfl dX5_held_9 ?_
    refine lv_goto (tgt := 16) hx hb dX5_held_12 (by decide) ?_
    exact gw_iret S P hQ hr hlk ⟨Nat.le_of_ble_eq_true rfl, Nat.le_of_ble_eq_true rfl⟩ dX5_held_16 (pRd_i (by simp_all []))

set_option maxHeartbeats 4000000 in
set_option maxRecDepth 100000 in
theorem hr_X6_kind {l : Launch} {D : va_G} {cs : Nat → ClassId} {ad : Nat → Nat} {L : List Nat} {f : Nat → va_E} {n : Nat} {st : St} (ho : Ok n st) {s : Nat} (hs : s < 8) (hk : st.1 12 s = 2 ∨ st.1 12 s = 3)  (hF : HF cs ad st L f) : PM l D cs yX6_kind cX6_kind 1 (some .int) (rmL 2 0 0) [.ref (ad (18 + s))] L f (pRd L f (some (.int (st.1 12 s)))) := by
  refine hm_of "SyncHall$Semaphore" rfl (by decide +kernel) (Nat.le_of_ble_eq_true rfl) ?_
  intro sz p e u m below meth c S P hsz hr hlk hnm htb ls hl Q hQ
  have hl : lv_has ls 1 [(0, .ref (ad (18 + s)))] := hl
  have hx := S.1
  have hb := S.2.1
  generalize hH0 : u.heap = H at P ⊢
  generalize ([] : List Loc) = locs at P ⊢
  refine lv_aload_n hx hb dX6_kind_0 rfl (lv_at hl 0 rfl) ?_
  refine pw_get (q := (RX6, TX6, 5)) (k := 3) S P (hF.sm (by omega) hk).1 (hF.sm (by omega) hk).2 rfl (by decide) q284 (Or.inl rfl) rfl dX6_kind_1 ?_
  refine lv_if_eq (tgt := 11) (x := bI (decide (st.1 12 s = 3))) hx hb dX6_kind_4 (by decide) (fun c4 => ?_) (fun c4 => ?_)
  · simp only [bI_eq0, decide_eq_false_iff_not, decide_eq_true_eq, Classical.not_not] at c4
    refine lv_iconst (v := 2) hx hb dX6_kind_11 (by decide) ?_
    exact gw_iret S P hQ hr hlk ⟨Nat.le_of_ble_eq_true rfl, Nat.le_of_ble_eq_true rfl⟩ dX6_kind_12 (pRd_i (by rcases hk with hk | hk <;> simp_all [bI]))
  · simp only [bI_eq0, Bool.not_eq_false, decide_eq_false_iff_not, decide_eq_true_eq, Classical.not_not] at c4
    refine lv_iconst (v := 3) hx hb dX6_kind_7 (by decide) ?_
    refine lv_goto (tgt := 12) hx hb dX6_kind_8 (by decide) ?_
    exact gw_iret S P hQ hr hlk ⟨Nat.le_of_ble_eq_true rfl, Nat.le_of_ble_eq_true rfl⟩ dX6_kind_12 (pRd_i (by rcases hk with hk | hk <;> simp_all [bI]))

set_option maxHeartbeats 4000000 in
set_option maxRecDepth 100000 in
theorem hr_X6_canTake {l : Launch} {D : va_G} {cs : Nat → ClassId} {ad : Nat → Nat} {L : List Nat} {f : Nat → va_E} {n : Nat} {st : St} (ho : Ok n st) {s : Nat} (hs : s < 8) (hk : st.1 12 s = 2 ∨ st.1 12 s = 3) {t : Nat} (ht : t < 6) {wb : Bool}  (hF : HF cs ad st L f) : PM l D cs yX6_canTake cX6_canTake 3 (some .boolean) (rmL 2 0 0) [.ref (ad (18 + s)), .ref (ad (12 + t)), .int (bI wb)] L f (pRd L f (some (.int (bI (s_canTake st t s (bI wb)))))) := by
  refine hm_of "SyncHall$Semaphore" rfl (by decide +kernel) (Nat.le_of_ble_eq_true rfl) ?_
  intro sz p e u m below meth c S P hsz hr hlk hnm htb ls hl Q hQ
  have hl : lv_has ls 3 [(0, .ref (ad (18 + s))), (1, .ref (ad (12 + t))), (2, .int (bI wb))] := hl
  have hx := S.1
  have hb := S.2.1
  generalize hH0 : u.heap = H at P ⊢
  generalize ([] : List Loc) = locs at P ⊢
  refine lv_aload_n hx hb dX6_canTake_0 rfl (lv_at hl 0 rfl) ?_
  refine pw_get (q := (RX6, TX6, 5)) (k := 4) S P (hF.sm (by omega) hk).1 (hF.sm (by omega) hk).2 rfl (by decide) q285 (Or.inl rfl) rfl dX6_canTake_1 ?_
  refine lw_if_le (tgt := 11) (x := st.1 15 s) hx hb dX6_canTake_4 (by decide) (fun c4 => ?_) (fun c4 => ?_)
  · have _h := True.intro
    refine lv_iconst (v := 0) hx hb dX6_canTake_11 (by decide) ?_
    exact gw_zret S P hQ hr hlk ⟨Nat.le_of_ble_eq_true rfl, Nat.le_of_ble_eq_true rfl⟩ dX6_canTake_12 (by first | decide | exact bI_or _) (pRd_i (by rcases hk with hk | hk <;> simp_all [s_canTake, bI]))
  · have _h := True.intro
    refine lv_iconst (v := 1) hx hb dX6_canTake_7 (by decide) ?_
    refine lv_goto (tgt := 12) hx hb dX6_canTake_8 (by decide) ?_
    exact gw_zret S P hQ hr hlk ⟨Nat.le_of_ble_eq_true rfl, Nat.le_of_ble_eq_true rfl⟩ dX6_canTake_12 (by first | decide | exact bI_or _) (pRd_i (by rcases hk with hk | hk <;> simp_all [s_canTake, bI]))

set_option maxHeartbeats 4000000 in
set_option maxRecDepth 100000 in
theorem hr_X6_mustQueue {l : Launch} {D : va_G} {cs : Nat → ClassId} {ad : Nat → Nat} {L : List Nat} {f : Nat → va_E} {n : Nat} {st : St} (ho : Ok n st) {s : Nat} (hs : s < 8) (hk : st.1 12 s = 2 ∨ st.1 12 s = 3) {t : Nat} (ht : t < 6) {wb : Bool}  (hF : HF cs ad st L f) : PM l D cs yX6_mustQueue cX6_mustQueue 3 (some .boolean) (rmL 2 0 0) [.ref (ad (18 + s)), .ref (ad (12 + t)), .int (bI wb)] L f (pRd L f (some (.int (bI (s_mustQueue st t s (bI wb)))))) := by
  refine hm_of "SyncHall$Semaphore" rfl (by decide +kernel) (Nat.le_of_ble_eq_true rfl) ?_
  intro sz p e u m below meth c S P hsz hr hlk hnm htb ls hl Q hQ
  have hl : lv_has ls 3 [(0, .ref (ad (18 + s))), (1, .ref (ad (12 + t))), (2, .int (bI wb))] := hl
  have hx := S.1
  have hb := S.2.1
  generalize hH0 : u.heap = H at P ⊢
  generalize ([] : List Loc) = locs at P ⊢
  refine lv_aload_n hx hb dX6_mustQueue_0 rfl (lv_at hl 0 rfl) ?_
  refine pw_get (q := (RX6, TX6, 5)) (k := 0) S P (hF.sm (by omega) hk).1 (hF.sm (by omega) hk).2 rfl (by decide) q253 (Or.inr q254) rfl dX6_mustQueue_1 ?_
  refine lw_ifnull (tgt := 11) hx hb dX6_mustQueue_4 (by decide) (fun c4 => ?_) (fun c4 => ?_)
  · rw [hFi_none] at c4
    refine lv_iconst (v := 0) hx hb dX6_mustQueue_11 (by decide) ?_
    exact gw_zret S P hQ hr hlk ⟨Nat.le_of_ble_eq_true rfl, Nat.le_of_ble_eq_true rfl⟩ dX6_mustQueue_12 (by first | decide | exact bI_or _) (pRd_i (by rcases hk with hk | hk <;> simp_all [s_mustQueue, bI]))
  · rw [hFi_none] at c4
    refine lv_iconst (v := 1) hx hb dX6_mustQueue_7 (by decide) ?_
    refine lv_goto (tgt := 12) hx hb dX6_mustQueue_8 (by decide) ?_
    exact gw_zret S P hQ hr hlk ⟨Nat.le_of_ble_eq_true rfl, Nat.le_of_ble_eq_true rfl⟩ dX6_mustQueue_12 (by first | decide | exact bI_or _) (pRd_i (by rcases hk with hk | hk <;> simp_all [s_mustQueue, bI]))

set_option maxHeartbeats 4000000 in
set_option maxRecDepth 100000 in
theorem hr_X6_amount {l : Launch} {D : va_G} {cs : Nat → ClassId} {ad : Nat → Nat} {L : List Nat} {f : Nat → va_E} {n : Nat} {st : St} (ho : Ok n st) {s : Nat} (hs : s < 8) (hk : st.1 12 s = 2 ∨ st.1 12 s = 3)  (hF : HF cs ad st L f) : PM l D cs yX6_amount cX6_amount 1 (some .int) (rmL 2 0 0) [.ref (ad (18 + s))] L f (pRd L f (some (.int (st.1 15 s)))) := by
  refine hm_of "SyncHall$Semaphore" rfl (by decide +kernel) (Nat.le_of_ble_eq_true rfl) ?_
  intro sz p e u m below meth c S P hsz hr hlk hnm htb ls hl Q hQ
  have hl : lv_has ls 1 [(0, .ref (ad (18 + s)))] := hl
  have hx := S.1
  have hb := S.2.1
  generalize hH0 : u.heap = H at P ⊢
  generalize ([] : List Loc) = locs at P ⊢
  refine lv_aload_n hx hb dX6_amount_0 rfl (lv_at hl 0 rfl) ?_
  refine pw_get (q := (RX6, TX6, 5)) (k := 4) S P (hF.sm (by omega) hk).1 (hF.sm (by omega) hk).2 rfl (by decide) q285 (Or.inl rfl) rfl dX6_amount_1 ?_
  exact gw_iret S P hQ hr hlk ⟨Nat.le_of_ble_eq_true rfl, Nat.le_of_ble_eq_true rfl⟩ dX6_amount_4 (pRd_i (rfl))

set_option maxHeartbeats 4000000 in
set_option maxRecDepth 100000 in
theorem hr_X7_kind {l : Launch} {D : va_G} {cs : Nat → ClassId} {ad : Nat → Nat} {L : List Nat} {f : Nat → va_E} {n : Nat} {st : St} (ho : Ok n st) {s : Nat} (hs : s < 8) (hk : st.1 12 s = 4)  (hF : HF cs ad st L f) : PM l D cs yX7_kind cX7_kind 1 (some .int) (rmL 2 0 0) [.ref (ad (18 + s))] L f (pRd L f (some (.int (st.1 12 s)))) := by
  refine hm_of "SyncHall$Latch" rfl (by decide +kernel) (Nat.le_of_ble_eq_true rfl) ?_
  intro sz p e u m below meth c S P hsz hr hlk hnm htb ls hl Q hQ
  have hl : lv_has ls 1 [(0, .ref (ad (18 + s)))] := hl
  have hx := S.1
  have hb := S.2.1
  generalize hH0 : u.heap = H at P ⊢
  generalize ([] : List Loc) = locs at P ⊢
  refine lv_iconst (v := 4) hx hb dX7_kind_0 (by decide) ?_
  exact gw_iret S P hQ hr hlk ⟨Nat.le_of_ble_eq_true rfl, Nat.le_of_ble_eq_true rfl⟩ dX7_kind_1 (pRd_i (hk.symm))

set_option maxHeartbeats 4000000 in
set_option maxRecDepth 100000 in
theorem hr_X7_canTake {l : Launch} {D : va_G} {cs : Nat → ClassId} {ad : Nat → Nat} {L : List Nat} {f : Nat → va_E} {n : Nat} {st : St} (ho : Ok n st) {s : Nat} (hs : s < 8) (hk : st.1 12 s = 4) {t : Nat} (ht : t < 6) {wb : Bool}  (hF : HF cs ad st L f) : PM l D cs yX7_canTake cX7_canTake 3 (some .boolean) (rmL 2 0 0) [.ref (ad (18 + s)), .ref (ad (12 + t)), .int (bI wb)] L f (pRd L f (some (.int (bI (s_canTake st t s (bI wb)))))) := by
  refine hm_of "SyncHall$Latch" rfl (by decide +kernel) (Nat.le_of_ble_eq_true rfl) ?_
  intro sz p e u m below meth c S P hsz hr hlk hnm htb ls hl Q hQ
  have hl : lv_has ls 3 [(0, .ref (ad (18 + s))), (1, .ref (ad (12 + t))), (2, .int (bI wb))] := hl
  have hx := S.1
  have hb := S.2.1
  generalize hH0 : u.heap = H at P ⊢
  generalize ([] : List Loc) = locs at P ⊢
  refine lv_aload_n hx hb dX7_canTake_0 rfl (lv_at hl 0 rfl) ?_
  refine pw_get (q := (RX7, TX7, 4)) (k := 3) S P (hF.la (by omega) hk).1 (hF.la (by omega) hk).2 rfl (by decide) q300 (Or.inl rfl) rfl dX7_canTake_1 ?_
  refine lv_if_ne (tgt := 11) (x := st.1 15 s) hx hb dX7_canTake_4 (by decide) (fun c4 => ?_) (fun c4 => ?_)
  · have _h := True.intro
    refine lv_iconst (v := 0) hx hb dX7_canTake_11 (by decide) ?_
    exact gw_zret S P hQ hr hlk ⟨Nat.le_of_ble_eq_true rfl, Nat.le_of_ble_eq_true rfl⟩ dX7_canTake_12 (by first | decide | exact bI_or _) (pRd_i (by simp_all [s_canTake, bI]))
  · have _h := True.intro
    refine lv_iconst (v := 1) hx hb dX7_canTake_7 (by decide) ?_
    refine lv_goto (tgt := 12) hx hb dX7_canTake_8 (by decide) ?_
    exact gw_zret S P hQ hr hlk ⟨Nat.le_of_ble_eq_true rfl, Nat.le_of_ble_eq_true rfl⟩ dX7_canTake_12 (by first | decide | exact bI_or _) (pRd_i (by simp_all [s_canTake, bI]))

set_option maxHeartbeats 4000000 in
set_option maxRecDepth 100000 in
theorem hr_X7_mustQueue {l : Launch} {D : va_G} {cs : Nat → ClassId} {ad : Nat → Nat} {L : List Nat} {f : Nat → va_E} {n : Nat} {st : St} (ho : Ok n st) {s : Nat} (hs : s < 8) (hk : st.1 12 s = 4) {t : Nat} (ht : t < 6) {wb : Bool}  (hF : HF cs ad st L f) : PM l D cs yX7_mustQueue cX7_mustQueue 3 (some .boolean) (rmL 2 0 0) [.ref (ad (18 + s)), .ref (ad (12 + t)), .int (bI wb)] L f (pRd L f (some (.int (bI (s_mustQueue st t s (bI wb)))))) := by
  refine hm_of "SyncHall$Latch" rfl (by decide +kernel) (Nat.le_of_ble_eq_true rfl) ?_
  intro sz p e u m below meth c S P hsz hr hlk hnm htb ls hl Q hQ
  have hl : lv_has ls 3 [(0, .ref (ad (18 + s))), (1, .ref (ad (12 + t))), (2, .int (bI wb))] := hl
  have hx := S.1
  have hb := S.2.1
  generalize hH0 : u.heap = H at P ⊢
  generalize ([] : List Loc) = locs at P ⊢
  refine lv_iconst (v := 0) hx hb dX7_mustQueue_0 (by decide) ?_
  exact gw_zret S P hQ hr hlk ⟨Nat.le_of_ble_eq_true rfl, Nat.le_of_ble_eq_true rfl⟩ dX7_mustQueue_1 (by first | decide | exact bI_or _) (pRd_i (by simp_all [s_mustQueue, bI]))

set_option maxHeartbeats 4000000 in
set_option maxRecDepth 100000 in
theorem hr_X7_amount {l : Launch} {D : va_G} {cs : Nat → ClassId} {ad : Nat → Nat} {L : List Nat} {f : Nat → va_E} {n : Nat} {st : St} (ho : Ok n st) {s : Nat} (hs : s < 8) (hk : st.1 12 s = 4)  (hF : HF cs ad st L f) : PM l D cs yX7_amount cX7_amount 1 (some .int) (rmL 2 0 0) [.ref (ad (18 + s))] L f (pRd L f (some (.int (st.1 15 s)))) := by
  refine hm_of "SyncHall$Latch" rfl (by decide +kernel) (Nat.le_of_ble_eq_true rfl) ?_
  intro sz p e u m below meth c S P hsz hr hlk hnm htb ls hl Q hQ
  have hl : lv_has ls 1 [(0, .ref (ad (18 + s)))] := hl
  have hx := S.1
  have hb := S.2.1
  generalize hH0 : u.heap = H at P ⊢
  generalize ([] : List Loc) = locs at P ⊢
  refine lv_aload_n hx hb dX7_amount_0 rfl (lv_at hl 0 rfl) ?_
  refine pw_get (q := (RX7, TX7, 4)) (k := 3) S P (hF.la (by omega) hk).1 (hF.la (by omega) hk).2 rfl (by decide) q300 (Or.inl rfl) rfl dX7_amount_1 ?_
  exact gw_iret S P hQ hr hlk ⟨Nat.le_of_ble_eq_true rfl, Nat.le_of_ble_eq_true rfl⟩ dX7_amount_4 (pRd_i (rfl))

set_option maxHeartbeats 4000000 in
set_option maxRecDepth 100000 in
theorem hr_X9_kind {l : Launch} {D : va_G} {cs : Nat → ClassId} {ad : Nat → Nat} {L : List Nat} {f : Nat → va_E} {n : Nat} {st : St} (ho : Ok n st) {s : Nat} (hs : s < 8) (hk : st.1 12 s = 6)  (hF : HF cs ad st L f) : PM l D cs yX9_kind cX9_kind 1 (some .int) (rmL 2 0 0) [.ref (ad (18 + s))] L f (pRd L f (some (.int (st.1 12 s)))) := by
  refine hm_of "SyncHall$Condition" rfl (by decide +kernel) (Nat.le_of_ble_eq_true rfl) ?_
  intro sz p e u m below meth c S P hsz hr hlk hnm htb ls hl Q hQ
  have hl : lv_has ls 1 [(0, .ref (ad (18 + s)))] := hl
  have hx := S.1
  have hb := S.2.1
  generalize hH0 : u.heap = H at P ⊢
  generalize ([] : List Loc) = locs at P ⊢
  refine lv_bipush (v := 6) hx hb dX9_kind_0 (by decide) ?_
  exact gw_iret S P hQ hr hlk ⟨Nat.le_of_ble_eq_true rfl, Nat.le_of_ble_eq_true rfl⟩ dX9_kind_2 (pRd_i (hk.symm))

set_option maxHeartbeats 4000000 in
set_option maxRecDepth 100000 in
theorem hr_X9_lock {l : Launch} {D : va_G} {cs : Nat → ClassId} {ad : Nat → Nat} {L : List Nat} {f : Nat → va_E} {n : Nat} {st : St} (ho : Ok n st) {s : Nat} (hs : s < 8) (hk : st.1 12 s = 6)  (hF : HF cs ad st L f) : PM l D cs yX9_lock cX9_lock 1 (some (.object "SyncHall$Lock")) (rmL 2 0 0) [.ref (ad (18 + s))] L f (pRd L f (some (.ref (ad (18 + s_lk st s))))) := by
  refine hm_of "SyncHall$Condition" rfl (by decide +kernel) (Nat.le_of_ble_eq_true rfl) ?_
  intro sz p e u m below meth c S P hsz hr hlk hnm htb ls hl Q hQ
  have hl : lv_has ls 1 [(0, .ref (ad (18 + s)))] := hl
  have hx := S.1
  have hb := S.2.1
  generalize hH0 : u.heap = H at P ⊢
  generalize ([] : List Loc) = locs at P ⊢
  refine lv_aload_n hx hb dX9_lock_0 rfl (lv_at hl 0 rfl) ?_
  refine pw_get (q := (RX9, TX9, 4)) (k := 3) S P (hF.cd (by omega) hk).1 (hF.cd (by omega) hk).2 rfl (by decide) q333 (Or.inl rfl) rfl dX9_lock_1 ?_
  exact gw_aret S P hQ hr hlk ⟨Nat.le_of_ble_eq_true rfl, Nat.le_of_ble_eq_true rfl⟩ dX9_lock_4 (Or.inr ⟨_, rfl⟩) (pRd_a (rfl))

set_option maxHeartbeats 4000000 in
set_option maxRecDepth 100000 in
theorem hr_X9_canTake {l : Launch} {D : va_G} {cs : Nat → ClassId} {ad : Nat → Nat} {L : List Nat} {f : Nat → va_E} {n : Nat} {st : St} (ho : Ok n st) {s : Nat} (hs : s < 8) (hk : st.1 12 s = 6) {t : Nat} (ht : t < 6) {wb : Bool}  (hF : HF cs ad st L f) : PM l D cs yX9_canTake cX9_canTake 3 (some .boolean) (rmL 2 0 0) [.ref (ad (18 + s)), .ref (ad (12 + t)), .int (bI wb)] L f (pRd L f (some (.int 0))) := by
  refine hm_of "SyncHall$Condition" rfl (by decide +kernel) (Nat.le_of_ble_eq_true rfl) ?_
  intro sz p e u m below meth c S P hsz hr hlk hnm htb ls hl Q hQ
  have hl : lv_has ls 3 [(0, .ref (ad (18 + s))), (1, .ref (ad (12 + t))), (2, .int (bI wb))] := hl
  have hx := S.1
  have hb := S.2.1
  generalize hH0 : u.heap = H at P ⊢
  generalize ([] : List Loc) = locs at P ⊢
  refine lv_iconst (v := 0) hx hb dX9_canTake_0 (by decide) ?_
  exact gw_zret S P hQ hr hlk ⟨Nat.le_of_ble_eq_true rfl, Nat.le_of_ble_eq_true rfl⟩ dX9_canTake_1 (by first | decide | exact bI_or _) (pRd_i (rfl))

set_option maxHeartbeats 4000000 in
set_option maxRecDepth 100000 in
theorem hr_X9_mustQueue {l : Launch} {D : va_G} {cs : Nat → ClassId} {ad : Nat → Nat} {L : List Nat} {f : Nat → va_E} {n : Nat} {st : St} (ho : Ok n st) {s : Nat} (hs : s < 8) (hk : st.1 12 s = 6) {t : Nat} (ht : t < 6) {wb : Bool}  (hF : HF cs ad st L f) : PM l D cs yX9_mustQueue cX9_mustQueue 3 (some .boolean) (rmL 2 0 0) [.ref (ad (18 + s)), .ref (ad (12 + t)), .int (bI wb)] L f (pRd L f (some (.int 1))) := by
  refine hm_of "SyncHall$Condition" rfl (by decide +kernel) (Nat.le_of_ble_eq_true rfl) ?_
  intro sz p e u m below meth c S P hsz hr hlk hnm htb ls hl Q hQ
  have hl : lv_has ls 3 [(0, .ref (ad (18 + s))), (1, .ref (ad (12 + t))), (2, .int (bI wb))] := hl
  have hx := S.1
  have hb := S.2.1
  generalize hH0 : u.heap = H at P ⊢
  generalize ([] : List Loc) = locs at P ⊢
  refine lv_iconst (v := 1) hx hb dX9_mustQueue_0 (by decide) ?_
  exact gw_zret S P hQ hr hlk ⟨Nat.le_of_ble_eq_true rfl, Nat.le_of_ble_eq_true rfl⟩ dX9_mustQueue_1 (by first | decide | exact bI_or _) (pRd_i (rfl))

set_option maxHeartbeats 4000000 in
set_option maxRecDepth 100000 in
theorem hr_X4_amount {l : Launch} {D : va_G} {cs : Nat → ClassId} {ad : Nat → Nat} {L : List Nat} {f : Nat → va_E} {n : Nat} {st : St} (ho : Ok n st) {s : Nat} (hs : s < 8) (hk : hKd st s)  (hF : HF cs ad st L f) : PM l D cs yX4_amount cX4_amount 1 (some .int) (rmL 2 0 0) [.ref (ad (18 + s))] L f (pRd L f (some (.int 0))) := by
  refine hm_of "SyncHall$Sync" rfl (by decide +kernel) (Nat.le_of_ble_eq_true rfl) ?_
  intro sz p e u m below meth c S P hsz hr hlk hnm htb ls hl Q hQ
  have hl : lv_has ls 1 [(0, .ref (ad (18 + s)))] := hl
  have hx := S.1
  have hb := S.2.1
  generalize hH0 : u.heap = H at P ⊢
  generalize ([] : List Loc) = locs at P ⊢
  refine lv_iconst (v := 0) hx hb dX4_amount_0 (by decide) ?_
  exact gw_iret S P hQ hr hlk ⟨Nat.le_of_ble_eq_true rfl, Nat.le_of_ble_eq_true rfl⟩ dX4_amount_1 (pRd_i (rfl))

set_option maxHeartbeats 4000000 in
set_option maxRecDepth 100000 in
theorem hr_X4_held {l : Launch} {D : va_G} {cs : Nat → ClassId} {ad : Nat → Nat} {L : List Nat} {f : Nat → va_E} {n : Nat} {st : St} (ho : Ok n st) {s : Nat} (hs : s < 8) (hk : hKd st s) {t : Nat} (ht : t < 6)  (hF : HF cs ad st L f) : PM l D cs yX4_held cX4_held 2 (some .int) (rmL 2 0 0) [.ref (ad (18 + s)), .ref (ad (12 + t))] L f (pRd L f (some (.int 0))) := by
  refine hm_of "SyncHall$Sync" rfl (by decide +kernel) (Nat.le_of_ble_eq_true rfl) ?_
  intro sz p e u m below meth c S P hsz hr hlk hnm htb ls hl Q hQ
  have hl : lv_has ls 2 [(0, .ref (ad (18 + s))), (1, .ref (ad (12 + t)))] := hl
  have hx := S.1
  have hb := S.2.1
  generalize hH0 : u.heap = H at P ⊢
  generalize ([] : List Loc) = locs at P ⊢
  refine lv_iconst (v := 0) hx hb dX4_held_0 (by decide) ?_
  exact gw_iret S P hQ hr hlk ⟨Nat.le_of_ble_eq_true rfl, Nat.le_of_ble_eq_true rfl⟩ dX4_held_1 (pRd_i (rfl))

set_option maxHeartbeats 4000000 in
set_option maxRecDepth 100000 in
theorem hr_X4_refuses {l : Launch} {D : va_G} {cs : Nat → ClassId} {ad : Nat → Nat} {L : List Nat} {f : Nat → va_E} {n : Nat} {st : St} (ho : Ok n st) {s : Nat} (hs : s < 8) (hk : hKd st s) {t : Nat} (ht : t < 6) {wb : Bool}  (hF : HF cs ad st L f) : PM l D cs yX4_refuses cX4_refuses 3 (some .boolean) (rmL 2 0 0) [.ref (ad (18 + s)), .ref (ad (12 + t)), .int (bI wb)] L f (pRd L f (some (.int 0))) := by
  refine hm_of "SyncHall$Sync" rfl (by decide +kernel) (Nat.le_of_ble_eq_true rfl) ?_
  intro sz p e u m below meth c S P hsz hr hlk hnm htb ls hl Q hQ
  have hl : lv_has ls 3 [(0, .ref (ad (18 + s))), (1, .ref (ad (12 + t))), (2, .int (bI wb))] := hl
  have hx := S.1
  have hb := S.2.1
  generalize hH0 : u.heap = H at P ⊢
  generalize ([] : List Loc) = locs at P ⊢
  refine lv_iconst (v := 0) hx hb dX4_refuses_0 (by decide) ?_
  exact gw_zret S P hQ hr hlk ⟨Nat.le_of_ble_eq_true rfl, Nat.le_of_ble_eq_true rfl⟩ dX4_refuses_1 (by first | decide | exact bI_or _) (pRd_i (rfl))

set_option maxHeartbeats 4000000 in
set_option maxRecDepth 100000 in
theorem hr_X4_nextToServe {l : Launch} {D : va_G} {cs : Nat → ClassId} {ad : Nat → Nat} {L : List Nat} {f : Nat → va_E} {n : Nat} {st : St} (ho : Ok n st) {s : Nat} (hs : s < 8) (hk : hKd st s)  (hF : HF cs ad st L f) : PM l D cs yX4_nextToServe cX4_nextToServe 1 (some (.object "SyncHall$Waiter")) (rmL 2 0 0) [.ref (ad (18 + s))] L f (pRd L f (some (va_rf (hFi st ad s)))) := by
  refine hm_of "SyncHall$Sync" rfl (by decide +kernel) (Nat.le_of_ble_eq_true rfl) ?_
  intro sz p e u m below meth c S P hsz hr hlk hnm htb ls hl Q hQ
  have hl : lv_has ls 1 [(0, .ref (ad (18 + s)))] := hl
  have hx := S.1
  have hb := S.2.1
  generalize hH0 : u.heap = H at P ⊢
  generalize ([] : List Loc) = locs at P ⊢
  refine lv_aload_n hx hb dX4_nextToServe_0 rfl (lv_at hl 0 rfl) ?_
  refine hs_get 0 (by decide) S P hF (by omega) hk q259 dX4_nextToServe_1 ?_
  exact gw_aret S P hQ hr hlk ⟨Nat.le_of_ble_eq_true rfl, Nat.le_of_ble_eq_true rfl⟩ dX4_nextToServe_4 (va_rf_or _) (pRd_a (rfl))

set_option maxHeartbeats 4000000 in
set_option maxRecDepth 100000 in
theorem hr_X4_served {l : Launch} {D : va_G} {cs : Nat → ClassId} {ad : Nat → Nat} {L : List Nat} {f : Nat → va_E} {n : Nat} {st : St} (ho : Ok n st) {s : Nat} (hs : s < 8) (hk : hKd st s)  (hF : HF cs ad st L f) : PM l D cs yX4_served cX4_served 1 (some .int) (rmL 2 0 0) [.ref (ad (18 + s))] L f (pRd L f (some (.int (st.1 21 s)))) := by
  refine hm_of "SyncHall$Sync" rfl (by decide +kernel) (Nat.le_of_ble_eq_true rfl) ?_
  intro sz p e u m below meth c S P hsz hr hlk hnm htb ls hl Q hQ
  have hl : lv_has ls 1 [(0, .ref (ad (18 + s)))] := hl
  have hx := S.1
  have hb := S.2.1
  generalize hH0 : u.heap = H at P ⊢
  generalize ([] : List Loc) = locs at P ⊢
  refine lv_aload_n hx hb dX4_served_0 rfl (lv_at hl 0 rfl) ?_
  refine hs_get 2 (by decide) S P hF (by omega) hk q264 dX4_served_1 ?_
  exact gw_iret S P hQ hr hlk ⟨Nat.le_of_ble_eq_true rfl, Nat.le_of_ble_eq_true rfl⟩ dX4_served_4 (pRd_i (rfl))

set_option maxHeartbeats 4000000 in
set_option maxRecDepth 100000 in
theorem hr_X4_mean {l : Launch} {D : va_G} {cs : Nat → ClassId} {ad : Nat → Nat} {L : List Nat} {f : Nat → va_E} {n : Nat} {st : St} (ho : Ok n st) {s : Nat} (hs : s < 8) (hk : hKd st s) (hc : ¬ st.1 21 s = 0)  (hF : HF cs ad st L f) : PM l D cs yX4_mean cX4_mean 1 (some .double) (rmL 2 0 0) [.ref (ad (18 + s))] L f (pRd L f (some (.double (FP.ddiv (st.2.1 20 s) (FP.i2d (st.1 21 s)))))) := by
  refine hm_of "SyncHall$Sync" rfl (by decide +kernel) (Nat.le_of_ble_eq_true rfl) ?_
  intro sz p e u m below meth c S P hsz hr hlk hnm htb ls hl Q hQ
  have hl : lv_has ls 1 [(0, .ref (ad (18 + s)))] := hl
  have hx := S.1
  have hb := S.2.1
  generalize hH0 : u.heap = H at P ⊢
  generalize ([] : List Loc) = locs at P ⊢
  refine lv_aload_n hx hb dX4_mean_0 rfl (lv_at hl 0 rfl) ?_
  refine hs_get 1 (by decide) S P hF (by omega) hk q263 dX4_mean_1 ?_
  refine lv_aload_n hx hb dX4_mean_4 rfl (lv_at hl 0 rfl) ?_
  refine hs_get 2 (by decide) S P hF (by omega) hk q264 dX4_mean_5 ?_
  refine lv_i2d hx hb dX4_mean_8 ?_
  refine lv_ddiv hx hb dX4_mean_9 (fb_ddiv (ho.db.2.2 s hs) hc) ?_
  exact gw_dret S P hQ hr hlk ⟨Nat.le_of_ble_eq_true rfl, Nat.le_of_ble_eq_true rfl⟩ dX4_mean_10 (pRd_d (rfl))

set_option maxHeartbeats 4000000 in
set_option maxRecDepth 100000 in
theorem hr_X8_kind {l : Launch} {D : va_G} {cs : Nat → ClassId} {ad : Nat → Nat} {L : List Nat} {f : Nat → va_E} {n : Nat} {st : St} (ho : Ok n st) {s : Nat} (hs : s < 8) (hk : st.1 12 s = 5)  (hF : HF cs ad st L f) : PM l D cs yX8_kind cX8_kind 1 (some .int) (rmL 2 0 0) [.ref (ad (18 + s))] L f (pRd L f (some (.int (st.1 12 s)))) := by
  refine hm_of "SyncHall$Shared" rfl (by decide +kernel) (Nat.le_of_ble_eq_true rfl) ?_
  intro sz p e u m below meth c S P hsz hr hlk hnm htb ls hl Q hQ
  have hl : lv_has ls 1 [(0, .ref (ad (18 + s)))] := hl
  have hx := S.1
  have hb := S.2.1
  generalize hH0 : u.heap = H at P ⊢
  generalize ([] : List Loc) = locs at P ⊢
  refine lv_iconst (v := 5) hx hb dX8_kind_0 (by decide) ?_
  exact gw_iret S P hQ hr hlk ⟨Nat.le_of_ble_eq_true rfl, Nat.le_of_ble_eq_true rfl⟩ dX8_kind_1 (pRd_i (hk.symm))

set_option maxHeartbeats 4000000 in
set_option maxRecDepth 100000 in
theorem hr_X8_othersRead {l : Launch} {D : va_G} {cs : Nat → ClassId} {ad : Nat → Nat} {L : List Nat} {f : Nat → va_E} {n : Nat} {st : St} (ho : Ok n st) {s : Nat} (hs : s < 8) (hk : st.1 12 s = 5) {t : Nat} (ht : t < 6)  (hF : HF cs ad st L f) : PM l D cs yX8_othersRead cX8_othersRead 3 (some .boolean) (rmL 2 0 0) [.ref (ad (18 + s)), .ref (ad (12 + t))] L f (pRd L f (some (.int (bI (s_others st t s))))) := by
  refine hm_of "SyncHall$Shared" rfl (by decide +kernel) (Nat.le_of_ble_eq_true rfl) ?_
  intro sz p e u m below meth c S P hsz hr hlk hnm htb ls hl Q hQ
  have hl : lv_has ls 3 [(0, .ref (ad (18 + s))), (1, .ref (ad (12 + t)))] := hl
  have hx := S.1
  have hb := S.2.1
  generalize hH0 : u.heap = H at P ⊢
  generalize ([] : List Loc) = locs at P ⊢
  refine lv_iconst (v := 0) hx hb dX8_othersRead_0 (by decide) ?_
  refine lv_istore_n (lv' := [(2, .int 0), (0, .ref (ad (18 + s))), (1, .ref (ad (12 + t)))]) hx hb dX8_othersRead_1 rfl hl (by decide) rfl (fun ls hl => ?_)
  have loop2 : ∀ (d : Nat) (o : Nat), 6 - o < d → (o ≤ 6) → (∀ j, j < o → ¬ (j ≠ t ∧ 0 < st.1 17 (6 * s + j))) → ∀ (H : Heap) (locs : List Loc), PW D cs (pA L sz) u L f H locs → ∀ (ls : Array Slot), lv_has ls 3 [(2, .int (nI o)), (0, .ref (ad (18 + s))), (1, .ref (ad (12 + t)))] → W p l e (rmL 2 0 0) u m ([.ref (ad (18 + s)), .ref (ad (12 + t))] : List Value).toArray below meth c H locs 0 0 Q (F0 m 2 ls []) := by
    intro d2
    induction d2 with
    | zero => intro o hd; exact absurd hd (by omega)
    | succ d2 ih2 =>
      intro o hd2 ho6 hinv H locs P ls hl
      refine lv_iload_n hx hb dX8_othersRead_2 rfl (lv_at hl 0 rfl) ?_
      refine lv_bipush (v := 6) hx hb dX8_othersRead_3 (by decide) ?_
      refine ni_icmp_ge (tgt := 33) (a := o) (b := 6) hx hb (by omega) (by omega) dX8_othersRead_5 (by decide) (fun c5 => ?_) (fun c5 => ?_)
      · have _h := True.intro
        refine lv_iconst (v := 0) hx hb dX8_othersRead_33 (by decide) ?_
        exact gw_zret S P hQ hr hlk ⟨Nat.le_of_ble_eq_true rfl, Nat.le_of_ble_eq_true rfl⟩ dX8_othersRead_34 (by first | decide | exact bI_or _) (pRd_i (by rw [s_others_f (fun j hj => hinv j (by omega))]; rfl))
      · have _h := True.intro
        refine lv_iload_n hx hb dX8_othersRead_8 rfl (lv_at hl 0 rfl) ?_
        refine lv_aload_n hx hb dX8_othersRead_9 rfl (lv_at hl 2 rfl) ?_
        refine pw_callR (nL' := 1) (rest := [.int (nI o)]) S P (hg_number (hF.m (by omega)) (hF.tk (by omega))) q428 q37 (pw_entV (q := (RX2, TX2, 5)) [] S P (hF.m (by omega)) (hF.tk (by omega)) rfl q425 q426 q427 q428 ⟨by decide +kernel, by decide +kernel, (by decide +kernel : (parseMethodDescriptor yX2_number.desc).map (fun d => d.parameters.length) = some 0)⟩ dX8_othersRead_10) hl.1 (Nat.le_of_ble_eq_true rfl) ⟨Nat.le_of_ble_eq_true rfl, Nat.le_of_ble_eq_true rfl⟩ ⟨Nat.le_of_ble_eq_true rfl, Nat.le_of_ble_eq_true rfl⟩ (fun H locs P => ?_)
        refine W.eq (g2 := F0 m 13 ls [.int (nI t), .int (nI o)]) rfl ?_
        refine W.widen (k := 0) (n := 0) (Nat.le_of_ble_eq_true rfl) (Nat.le_of_ble_eq_true rfl) ?_
        refine ni_icmp_eq (tgt := 27) (a := o) (b := t) hx hb (by omega) (by omega) dX8_othersRead_13 (by decide) (fun c13 => ?_) (fun c13 => ?_)
        · have _h := True.intro
          refine lv_iinc (v := nI (o + 1)) (lv' := [(2, .int (nI (o + 1))), (0, .ref (ad (18 + s))), (1, .ref (ad (12 + t)))]) hx hb dX8_othersRead_27 hl (k := 0) rfl (nI_1 _) (by decide) rfl (fun ls hl => ?_)
          refine lv_goto (tgt := 2) hx hb dX8_othersRead_30 (by decide) ?_
          exact ih2 (o + 1) (by omega) (by omega) (fun j hj => by
            rcases Nat.lt_or_ge j o with hj2 | hj2
            · exact hinv j hj2
            · have : j = o := by omega
              subst this
              intro h; exact h.1 c13) _ _ P ls (lv_sub hl [0, 1, 2] rfl)
        · have _h := True.intro
          refine lv_aload_n hx hb dX8_othersRead_16 rfl (lv_at hl 1 rfl) ?_
          refine pw_get (q := (RX8, TX8, 6)) (k := 5) S P (hF.sh (by omega) hk).1 (hF.sh (by omega) hk).2 rfl (by decide) q315 (Or.inl rfl) rfl dX8_othersRead_17 ?_
          refine lv_iload_n hx hb dX8_othersRead_20 rfl (lv_at hl 0 rfl) ?_
          refine pw_iald (j := o) S P (hF.mem (hl_rd (by omega) hk)) (hF.rd (by omega) hk) rfl (by omega) (by decide) dX8_othersRead_21 ?_
          refine lw_eqi (y := st.1 17 (6 * s + o)) (if_pos (by omega)) ?_
          refine lw_if_le (tgt := 27) (x := st.1 17 (6 * s + o)) hx hb dX8_othersRead_22 (by decide) (fun c22 => ?_) (fun c22 => ?_)
          · have _h := True.intro
            refine lv_iinc (v := nI (o + 1)) (lv' := [(2, .int (nI (o + 1))), (0, .ref (ad (18 + s))), (1, .ref (ad (12 + t)))]) hx hb dX8_othersRead_27 hl (k := 0) rfl (nI_1 _) (by decide) rfl (fun ls hl => ?_)
            refine lv_goto (tgt := 2) hx hb dX8_othersRead_30 (by decide) ?_
            exact ih2 (o + 1) (by omega) (by omega) (fun j hj => by
              rcases Nat.lt_or_ge j o with hj2 | hj2
              · exact hinv j hj2
              · have : j = o := by omega
                subst this
                intro h; exact c22 h.2) _ _ P ls (lv_sub hl [0, 1, 2] rfl)
          · have _h := True.intro
            refine lv_iconst (v := 1) hx hb dX8_othersRead_25 (by decide) ?_
            exact gw_zret S P hQ hr hlk ⟨Nat.le_of_ble_eq_true rfl, Nat.le_of_ble_eq_true rfl⟩ dX8_othersRead_26 (by first | decide | exact bI_or _) (pRd_i (by rw [s_others_t (by omega) c13 c22]; rfl))
  exact loop2 _ 0 (Nat.lt_succ_self _) (by omega) (fun j hj => absurd hj (by omega)) _ _ P ls (lv_sub hl [0, 1, 2] (rfl))

set_option maxHeartbeats 4000000 in
set_option maxRecDepth 100000 in
theorem hr_X8_isInside {l : Launch} {D : va_G} {cs : Nat → ClassId} {ad : Nat → Nat} {L : List Nat} {f : Nat → va_E} {n : Nat} {st : St} (ho : Ok n st) {s : Nat} (hs : s < 8) (hk : st.1 12 s = 5) {t : Nat} (ht : t < 6)  (hF : HF cs ad st L f) : PM l D cs yX8_isInside cX8_isInside 2 (some .boolean) (rmL 2 0 0) [.ref (ad (18 + s)), .ref (ad (12 + t))] L f (pRd L f (some (.int (bI (decide (st.1 13 s = nI t ∨ 0 < st.1 17 (6 * s + t))))))) := by
  refine hm_of "SyncHall$Shared" rfl (by decide +kernel) (Nat.le_of_ble_eq_true rfl) ?_
  intro sz p e u m below meth c S P hsz hr hlk hnm htb ls hl Q hQ
  have hl : lv_has ls 2 [(0, .ref (ad (18 + s))), (1, .ref (ad (12 + t)))] := hl
  have hx := S.1
  have hb := S.2.1
  generalize hH0 : u.heap = H at P ⊢
  generalize ([] : List Loc) = locs at P ⊢
  refine lv_aload_n hx hb dX8_isInside_0 rfl (lv_at hl 0 rfl) ?_
  refine pw_get (q := (RX8, TX8, 6)) (k := 3) S P (hF.sh (by omega) hk).1 (hF.sh (by omega) hk).2 rfl (by decide) q313 (Or.inl rfl) rfl dX8_isInside_1 ?_
  refine lv_aload_n hx hb dX8_isInside_4 rfl (lv_at hl 1 rfl) ?_
  refine lv_acmp_eq (tgt := 20) (rx := hOw st ad s) (ry := some (ad (12 + t))) hx hb dX8_isInside_5 (by decide) (fun c5 => ?_) (fun c5 => ?_)
  · rw [hOw_some hF ho (by omega) (by omega)] at c5
    refine lv_iconst (v := 1) hx hb dX8_isInside_20 (by decide) ?_
    refine lv_goto (tgt := 25) hx hb dX8_isInside_21 (by decide) ?_
    exact gw_zret S P hQ hr hlk ⟨Nat.le_of_ble_eq_true rfl, Nat.le_of_ble_eq_true rfl⟩ dX8_isInside_25 (by first | decide | exact bI_or _) (pRd_i (by simp_all [bI]))
  · rw [hOw_some hF ho (by omega) (by omega)] at c5
    refine lv_aload_n hx hb dX8_isInside_8 rfl (lv_at hl 0 rfl) ?_
    refine pw_get (q := (RX8, TX8, 6)) (k := 5) S P (hF.sh (by omega) hk).1 (hF.sh (by omega) hk).2 rfl (by decide) q315 (Or.inl rfl) rfl dX8_isInside_9 ?_
    refine lv_aload_n hx hb dX8_isInside_12 rfl (lv_at hl 1 rfl) ?_
    refine pw_callR (nL' := 1) (rest := [.ref (ad (26 + s))]) S P (hg_number (hF.m (by omega)) (hF.tk (by omega))) q428 q37 (pw_entV (q := (RX2, TX2, 5)) [] S P (hF.m (by omega)) (hF.tk (by omega)) rfl q425 q426 q427 q428 ⟨by decide +kernel, by decide +kernel, (by decide +kernel : (parseMethodDescriptor yX2_number.desc).map (fun d => d.parameters.length) = some 0)⟩ dX8_isInside_13) hl.1 (Nat.le_of_ble_eq_true rfl) ⟨Nat.le_of_ble_eq_true rfl, Nat.le_of_ble_eq_true rfl⟩ ⟨Nat.le_of_ble_eq_true rfl, Nat.le_of_ble_eq_true rfl⟩ (fun H locs P => ?_)
    refine W.eq (g2 := F0 m 16 ls [.int (nI t), .ref (ad (26 + s))]) rfl ?_
    refine W.widen (k := 0) (n := 0) (Nat.le_of_ble_eq_true rfl) (Nat.le_of_ble_eq_true rfl) ?_
    refine pw_iald (j := t) S P (hF.mem (hl_rd (by omega) hk)) (hF.rd (by omega) hk) rfl (by omega) (by decide) dX8_isInside_16 ?_
    refine lw_eqi (y := st.1 17 (6 * s + t)) (if_pos (by omega)) ?_
    refine lw_if_le (tgt := 24) (x := st.1 17 (6 * s + t)) hx hb dX8_isInside_17 (by decide) (fun c17 => ?_) (fun c17 => ?_)
    · have _h := True.intro
      refine lv_iconst (v := 0) hx hb dX8_isInside_24 (by decide) ?_
      exact gw_zret S P hQ hr hlk ⟨Nat.le_of_ble_eq_true rfl, Nat.le_of_ble_eq_true rfl⟩ dX8_isInside_25 (by first | decide | exact bI_or _) (pRd_i (by simp_all [bI]))
    · have _h := True.intro
      refine lv_iconst (v := 1) hx hb dX8_isInside_20 (by decide) ?_
      refine lv_goto (tgt := 25) hx hb dX8_isInside_21 (by decide) ?_
      exact gw_zret S P hQ hr hlk ⟨Nat.le_of_ble_eq_true rfl, Nat.le_of_ble_eq_true rfl⟩ dX8_isInside_25 (by first | decide | exact bI_or _) (pRd_i (by simp_all [bI]))

set_option maxHeartbeats 4000000 in
set_option maxRecDepth 100000 in
theorem hr_X8_canTake {l : Launch} {D : va_G} {cs : Nat → ClassId} {ad : Nat → Nat} {L : List Nat} {f : Nat → va_E} {n : Nat} {st : St} (ho : Ok n st) {s : Nat} (hs : s < 8) (hk : st.1 12 s = 5) {t : Nat} (ht : t < 6) {wb : Bool}  (hF : HF cs ad st L f) : PM l D cs yX8_canTake cX8_canTake 4 (some .boolean) (rmL 4 0 0) [.ref (ad (18 + s)), .ref (ad (12 + t)), .int (bI wb)] L f (pRd L f (some (.int (bI (s_canTake st t s (bI wb)))))) := by
  refine hm_of "SyncHall$Shared" rfl (by decide +kernel) (Nat.le_of_ble_eq_true rfl) ?_
  intro sz p e u m below meth c S P hsz hr hlk hnm htb ls hl Q hQ
  have hl : lv_has ls 4 [(0, .ref (ad (18 + s))), (1, .ref (ad (12 + t))), (2, .int (bI wb))] := hl
  have hx := S.1
  have hb := S.2.1
  generalize hH0 : u.heap = H at P ⊢
  generalize ([] : List Loc) = locs at P ⊢
  refine lv_aload_n hx hb dX8_canTake_0 rfl (lv_at hl 0 rfl) ?_
  refine pw_get (q := (RX8, TX8, 6)) (k := 3) S P (hF.sh (by omega) hk).1 (hF.sh (by omega) hk).2 rfl (by decide) q313 (Or.inl rfl) rfl dX8_canTake_1 ?_
  refine lw_ifnull (tgt := 15) hx hb dX8_canTake_4 (by decide) (fun c4 => ?_) (fun c4 => ?_)
  · rw [hOw_none ho (by omega)] at c4
    refine lv_iconst (v := 1) hx hb dX8_canTake_15 (by decide) ?_
    refine lv_goto (tgt := 20) hx hb dX8_canTake_16 (by decide) ?_
    refine lv_istore_n (lv' := [(3, .int 1), (0, .ref (ad (18 + s))), (1, .ref (ad (12 + t))), (2, .int (bI wb))]) hx hb dX8_canTake_20 rfl hl (by decide) rfl (fun ls hl => ?_)
    refine lv_iload_n hx hb dX8_canTake_21 rfl (lv_at hl 0 rfl) ?_
    refine ni_if_eq (tgt := 41) (a := 1) hx hb (by omega) dX8_canTake_22 (by decide) (fun c22 => ?_) (fun c22 => ?_)
    · exact absurd c22 (by decide)
    · have _h := True.intro
      refine lv_iload_n hx hb dX8_canTake_25 rfl (lv_at hl 3 rfl) ?_
      refine lv_if_eq (tgt := 37) (x := bI wb) hx hb dX8_canTake_26 (by decide) (fun c26 => ?_) (fun c26 => ?_)
      · rw [bI_eq0] at c26
        refine lv_iconst (v := 1) hx hb dX8_canTake_37 (by decide) ?_
        refine lv_goto (tgt := 42) hx hb dX8_canTake_38 (by decide) ?_
        exact gw_zret S P hQ hr hlk ⟨Nat.le_of_ble_eq_true rfl, Nat.le_of_ble_eq_true rfl⟩ dX8_canTake_42 (by first | decide | exact bI_or _) (pRd_i (by simp_all [s_canTake, bI]))
      · rw [bI_eq0, Bool.not_eq_false] at c26
        refine lv_aload_n hx hb dX8_canTake_29 rfl (lv_at hl 1 rfl) ?_
        refine lv_aload_n hx hb dX8_canTake_30 rfl (lv_at hl 2 rfl) ?_
        refine pw_callR (nL' := 3) (rest := []) S P (hr_X8_othersRead ho hs hk ht hF) q481 q49 (pw_entV (q := (RX8, TX8, 6)) [.ref (ad (12 + t))] S P (hF.sh (by omega) hk).1 (hF.sh (by omega) hk).2 rfl q478 q480 qs11 q481 ⟨by decide +kernel, by decide +kernel, (by decide +kernel : (parseMethodDescriptor yX8_othersRead.desc).map (fun d => d.parameters.length) = some 1)⟩ dX8_canTake_31) hl.1 (Nat.le_of_ble_eq_true rfl) ⟨Nat.le_of_ble_eq_true rfl, Nat.le_of_ble_eq_true rfl⟩ ⟨Nat.le_of_ble_eq_true rfl, Nat.le_of_ble_eq_true rfl⟩ (fun H locs P => ?_)
        refine W.eq (g2 := F0 m 34 ls [.int (bI (s_others st t s))]) rfl ?_
        refine W.widen (k := 0) (n := 0) (Nat.le_of_ble_eq_true rfl) (Nat.le_of_ble_eq_true rfl) ?_
        refine lv_if_ne (tgt := 41) (x := bI (s_others st t s)) hx hb dX8_canTake_34 (by decide) (fun c34 => ?_) (fun c34 => ?_)
        · rw [bI_eq0, Bool.not_eq_false] at c34
          refine lv_iconst (v := 0) hx hb dX8_canTake_41 (by decide) ?_
          exact gw_zret S P hQ hr hlk ⟨Nat.le_of_ble_eq_true rfl, Nat.le_of_ble_eq_true rfl⟩ dX8_canTake_42 (by first | decide | exact bI_or _) (pRd_i (by simp_all [s_canTake, bI]))
        · rw [bI_eq0] at c34
          refine lv_iconst (v := 1) hx hb dX8_canTake_37 (by decide) ?_
          refine lv_goto (tgt := 42) hx hb dX8_canTake_38 (by decide) ?_
          exact gw_zret S P hQ hr hlk ⟨Nat.le_of_ble_eq_true rfl, Nat.le_of_ble_eq_true rfl⟩ dX8_canTake_42 (by first | decide | exact bI_or _) (pRd_i (by simp_all [s_canTake, bI]))
  · rw [hOw_none ho (by omega)] at c4
    refine lv_aload_n hx hb dX8_canTake_7 rfl (lv_at hl 0 rfl) ?_
    refine pw_get (q := (RX8, TX8, 6)) (k := 3) S P (hF.sh (by omega) hk).1 (hF.sh (by omega) hk).2 rfl (by decide) q313 (Or.inl rfl) rfl dX8_canTake_8 ?_
    refine lv_aload_n hx hb dX8_canTake_11 rfl (lv_at hl 1 rfl) ?_
    refine lv_acmp_ne (tgt := 19) (rx := hOw st ad s) (ry := some (ad (12 + t))) hx hb dX8_canTake_12 (by decide) (fun c12 => ?_) (fun c12 => ?_)
    · rw [hOw_some hF ho (by omega) (by omega)] at c12
      refine lv_iconst (v := 0) hx hb dX8_canTake_19 (by decide) ?_
      refine lv_istore_n (lv' := [(3, .int 0), (0, .ref (ad (18 + s))), (1, .ref (ad (12 + t))), (2, .int (bI wb))]) hx hb dX8_canTake_20 rfl hl (by decide) rfl (fun ls hl => ?_)
      refine lv_iload_n hx hb dX8_canTake_21 rfl (lv_at hl 0 rfl) ?_
      refine ni_if_eq (tgt := 41) (a := 0) hx hb (by omega) dX8_canTake_22 (by decide) (fun c22 => ?_) (fun c22 => ?_)
      · have _h := True.intro
        refine lv_iconst (v := 0) hx hb dX8_canTake_41 (by decide) ?_
        exact gw_zret S P hQ hr hlk ⟨Nat.le_of_ble_eq_true rfl, Nat.le_of_ble_eq_true rfl⟩ dX8_canTake_42 (by first | decide | exact bI_or _) (pRd_i (by simp_all [s_canTake, bI]))
      · exact absurd c22 (by decide)
    · rw [hOw_some hF ho (by omega) (by omega)] at c12
      refine lv_iconst (v := 1) hx hb dX8_canTake_15 (by decide) ?_
      refine lv_goto (tgt := 20) hx hb dX8_canTake_16 (by decide) ?_
      refine lv_istore_n (lv' := [(3, .int 1), (0, .ref (ad (18 + s))), (1, .ref (ad (12 + t))), (2, .int (bI wb))]) hx hb dX8_canTake_20 rfl hl (by decide) rfl (fun ls hl => ?_)
      refine lv_iload_n hx hb dX8_canTake_21 rfl (lv_at hl 0 rfl) ?_
      refine ni_if_eq (tgt := 41) (a := 1) hx hb (by omega) dX8_canTake_22 (by decide) (fun c22 => ?_) (fun c22 => ?_)
      · exact absurd c22 (by decide)
      · have _h := True.intro
        refine lv_iload_n hx hb dX8_canTake_25 rfl (lv_at hl 3 rfl) ?_
        refine lv_if_eq (tgt := 37) (x := bI wb) hx hb dX8_canTake_26 (by decide) (fun c26 => ?_) (fun c26 => ?_)
        · rw [bI_eq0] at c26
          refine lv_iconst (v := 1) hx hb dX8_canTake_37 (by decide) ?_
          refine lv_goto (tgt := 42) hx hb dX8_canTake_38 (by decide) ?_
          exact gw_zret S P hQ hr hlk ⟨Nat.le_of_ble_eq_true rfl, Nat.le_of_ble_eq_true rfl⟩ dX8_canTake_42 (by first | decide | exact bI_or _) (pRd_i (by simp_all [s_canTake, bI]))
        · rw [bI_eq0, Bool.not_eq_false] at c26
          refine lv_aload_n hx hb dX8_canTake_29 rfl (lv_at hl 1 rfl) ?_
          refine lv_aload_n hx hb dX8_canTake_30 rfl (lv_at hl 2 rfl) ?_
          refine pw_callR (nL' := 3) (rest := []) S P (hr_X8_othersRead ho hs hk ht hF) q481 q49 (pw_entV (q := (RX8, TX8, 6)) [.ref (ad (12 + t))] S P (hF.sh (by omega) hk).1 (hF.sh (by omega) hk).2 rfl q478 q480 qs11 q481 ⟨by decide +kernel, by decide +kernel, (by decide +kernel : (parseMethodDescriptor yX8_othersRead.desc).map (fun d => d.parameters.length) = some 1)⟩ dX8_canTake_31) hl.1 (Nat.le_of_ble_eq_true rfl) ⟨Nat.le_of_ble_eq_true rfl, Nat.le_of_ble_eq_true rfl⟩ ⟨Nat.le_of_ble_eq_true rfl, Nat.le_of_ble_eq_true rfl⟩ (fun H locs P => ?_)
          refine W.eq (g2 := F0 m 34 ls [.int (bI (s_others st t s))]) rfl ?_
          refine W.widen (k := 0) (n := 0) (Nat.le_of_ble_eq_true rfl) (Nat.le_of_ble_eq_true rfl) ?_
          refine lv_if_ne (tgt := 41) (x := bI (s_others st t s)) hx hb dX8_canTake_34 (by decide) (fun c34 => ?_) (fun c34 => ?_)
          · rw [bI_eq0, Bool.not_eq_false] at c34
            refine lv_iconst (v := 0) hx hb dX8_canTake_41 (by decide) ?_
            exact gw_zret S P hQ hr hlk ⟨Nat.le_of_ble_eq_true rfl, Nat.le_of_ble_eq_true rfl⟩ dX8_canTake_42 (by first | decide | exact bI_or _) (pRd_i (by simp_all [s_canTake, bI]))
          · rw [bI_eq0] at c34
            refine lv_iconst (v := 1) hx hb dX8_canTake_37 (by decide) ?_
            refine lv_goto (tgt := 42) hx hb dX8_canTake_38 (by decide) ?_
            exact gw_zret S P hQ hr hlk ⟨Nat.le_of_ble_eq_true rfl, Nat.le_of_ble_eq_true rfl⟩ dX8_canTake_42 (by first | decide | exact bI_or _) (pRd_i (by simp_all [s_canTake, bI]))

set_option maxHeartbeats 4000000 in
set_option maxRecDepth 100000 in
theorem hr_X8_refuses {l : Launch} {D : va_G} {cs : Nat → ClassId} {ad : Nat → Nat} {L : List Nat} {f : Nat → va_E} {n : Nat} {st : St} (ho : Ok n st) {s : Nat} (hs : s < 8) (hk : st.1 12 s = 5) {t : Nat} (ht : t < 6) {wb : Bool}  (hF : HF cs ad st L f) : PM l D cs yX8_refuses cX8_refuses 3 (some .boolean) (rmL 2 0 0) [.ref (ad (18 + s)), .ref (ad (12 + t)), .int (bI wb)] L f (pRd L f (some (.int (bI (decide (wb = true ∧ ¬ st.1 13 s = nI t ∧ 0 < st.1 17 (6 * s + t))))))) := by
  refine hm_of "SyncHall$Shared" rfl (by decide +kernel) (Nat.le_of_ble_eq_true rfl) ?_
  intro sz p e u m below meth c S P hsz hr hlk hnm htb ls hl Q hQ
  have hl : lv_has ls 3 [(0, .ref (ad (18 + s))), (1, .ref (ad (12 + t))), (2, .int (bI wb))] := hl
  have hx := S.1
  have hb := S.2.1
  generalize hH0 : u.heap = H at P ⊢
  generalize ([] : List Loc) = locs at P ⊢
  refine lv_iload_n hx hb dX8_refuses_0 rfl (lv_at hl 2 rfl) ?_
  refine lv_if_eq (tgt := 28) (x := bI wb) hx hb dX8_refuses_1 (by decide) (fun c1 => ?_) (fun c1 => ?_)
  · rw [bI_eq0] at c1
    refine lv_iconst (v := 0) hx hb dX8_refuses_28 (by decide) ?_
    exact gw_zret S P hQ hr hlk ⟨Nat.le_of_ble_eq_true rfl, Nat.le_of_ble_eq_true rfl⟩ dX8_refuses_29 (by first | decide | exact bI_or _) (pRd_i (by simp_all [bI]))
  · rw [bI_eq0, Bool.not_eq_false] at c1
    refine lv_aload_n hx hb dX8_refuses_4 rfl (lv_at hl 0 rfl) ?_
    refine pw_get (q := (RX8, TX8, 6)) (k := 3) S P (hF.sh (by omega) hk).1 (hF.sh (by omega) hk).2 rfl (by decide) q313 (Or.inl rfl) rfl dX8_refuses_5 ?_
    refine lv_aload_n hx hb dX8_refuses_8 rfl (lv_at hl 1 rfl) ?_
    refine lv_acmp_eq (tgt := 28) (rx := hOw st ad s) (ry := some (ad (12 + t))) hx hb dX8_refuses_9 (by decide) (fun c9 => ?_) (fun c9 => ?_)
    · rw [hOw_some hF ho (by omega) (by omega)] at c9
      refine lv_iconst (v := 0) hx hb dX8_refuses_28 (by decide) ?_
      exact gw_zret S P hQ hr hlk ⟨Nat.le_of_ble_eq_true rfl, Nat.le_of_ble_eq_true rfl⟩ dX8_refuses_29 (by first | decide | exact bI_or _) (pRd_i (by simp_all [bI]))
    · rw [hOw_some hF ho (by omega) (by omega)] at c9
      refine lv_aload_n hx hb dX8_refuses_12 rfl (lv_at hl 0 rfl) ?_
      refine pw_get (q := (RX8, TX8, 6)) (k := 5) S P (hF.sh (by omega) hk).1 (hF.sh (by omega) hk).2 rfl (by decide) q315 (Or.inl rfl) rfl dX8_refuses_13 ?_
      refine lv_aload_n hx hb dX8_refuses_16 rfl (lv_at hl 1 rfl) ?_
      refine pw_callR (nL' := 1) (rest := [.ref (ad (26 + s))]) S P (hg_number (hF.m (by omega)) (hF.tk (by omega))) q428 q37 (pw_entV (q := (RX2, TX2, 5)) [] S P (hF.m (by omega)) (hF.tk (by omega)) rfl q425 q426 q427 q428 ⟨by decide +kernel, by decide +kernel, (by decide +kernel : (parseMethodDescriptor yX2_number.desc).map (fun d => d.parameters.length) = some 0)⟩ dX8_refuses_17) hl.1 (Nat.le_of_ble_eq_true rfl) ⟨Nat.le_of_ble_eq_true rfl, Nat.le_of_ble_eq_true rfl⟩ ⟨Nat.le_of_ble_eq_true rfl, Nat.le_of_ble_eq_true rfl⟩ (fun H locs P => ?_)
      refine W.eq (g2 := F0 m 20 ls [.int (nI t), .ref (ad (26 + s))]) rfl ?_
      refine W.widen (k := 0) (n := 0) (Nat.le_of_ble_eq_true rfl) (Nat.le_of_ble_eq_true rfl) ?_
      refine pw_iald (j := t) S P (hF.mem (hl_rd (by omega) hk)) (hF.rd (by omega) hk) rfl (by omega) (by decide) dX8_refuses_20 ?_
      refine lw_eqi (y := st.1 17 (6 * s + t)) (if_pos (by omega)) ?_
      refine lw_if_le (tgt := 28) (x := st.1 17 (6 * s + t)) hx hb dX8_refuses_21 (by decide) (fun c21 => ?_) (fun c21 => ?_)
      · have _h := True.intro
        refine lv_iconst (v := 0) hx hb dX8_refuses_28 (by decide) ?_
        exact gw_zret S P hQ hr hlk ⟨Nat.le_of_ble_eq_true rfl, Nat.le_of_ble_eq_true rfl⟩ dX8_refuses_29 (by first | decide | exact bI_or _) (pRd_i (by simp_all [bI]))
      · have _h := True.intro
        refine lv_iconst (v := 1) hx hb dX8_refuses_24 (by decide) ?_
        refine lv_goto (tgt := 29) hx hb dX8_refuses_25 (by decide) ?_
        exact gw_zret S P hQ hr hlk ⟨Nat.le_of_ble_eq_true rfl, Nat.le_of_ble_eq_true rfl⟩ dX8_refuses_29 (by first | decide | exact bI_or _) (pRd_i (by simp_all [bI]))

set_option maxHeartbeats 4000000 in
set_option maxRecDepth 100000 in
theorem hr_X8_held {l : Launch} {D : va_G} {cs : Nat → ClassId} {ad : Nat → Nat} {L : List Nat} {f : Nat → va_E} {n : Nat} {st : St} (ho : Ok n st) {s : Nat} (hs : s < 8) (hk : st.1 12 s = 5) {t : Nat} (ht : t < 6)  (hF : HF cs ad st L f) : PM l D cs yX8_held cX8_held 2 (some .int) (rmL 2 0 0) [.ref (ad (18 + s)), .ref (ad (12 + t))] L f (pRd L f (some (.int ((if st.1 13 s = nI t then st.1 14 s else 0) + st.1 17 (6 * s + t))))) := by
  refine hm_of "SyncHall$Shared" rfl (by decide +kernel) (Nat.le_of_ble_eq_true rfl) ?_
  intro sz p e u m below meth c S P hsz hr hlk hnm htb ls hl Q hQ
  have hl : lv_has ls 2 [(0, .ref (ad (18 + s))), (1, .ref (ad (12 + t)))] := hl
  have hx := S.1
  have hb := S.2.1
  generalize hH0 : u.heap = H at P ⊢
  generalize ([] : List Loc) = locs at P ⊢
  refine lv_aload_n hx hb dX8_held_0 rfl (lv_at hl 0 rfl) ?_
  refine pw_get (q := (RX8, TX8, 6)) (k := 3) S P (hF.sh (by omega) hk).1 (hF.sh (by omega) hk).2 rfl (by decide) q313 (Or.inl rfl) rfl dX8_held_1 ?_
  refine lv_aload_n hx hb dX8_held_4 rfl (lv_at hl 1 rfl) ?_
  refine lv_acmp_ne (tgt := 15) (rx := hOw st ad s) (ry := some (ad (12 + t))) hx hb dX8_held_5 (by decide) (fun c5 => ?_) (fun c5 => ?_)
  · rw [hOw_some hF ho (by omega) (by omega)] at c5
    refine lv_iconst (v := 0) hx hb dX8_held_15 (by decide) ?_
    refine lv_aload_n hx hb dX8_held_16 rfl (lv_at hl 0 rfl) ?_
    refine pw_get (q := (RX8, TX8, 6)) (k := 5) S P (hF.sh (by omega) hk).1 (hF.sh (by omega) hk).2 rfl (by decide) q315 (Or.inl rfl) rfl dX8_held_17 ?_
    refine lv_aload_n hx hb dX8_held_20 rfl (lv_at hl 1 rfl) ?_
    refine pw_callR (nL' := 1) (rest := [.ref (ad (26 + s)), .int 0]) S P (hg_number (hF.m (by omega)) (hF.tk (by omega))) q428 q37 (pw_entV (q := (RX2, TX2, 5)) [] S P (hF.m (by omega)) (hF.tk (by omega)) rfl q425 q426 q427 q428 ⟨by decide +kernel, by decide +kernel, (by decide +kernel : (parseMethodDescriptor yX2_number.desc).map (fun d => d.parameters.length) = some 0)⟩ dX8_held_21) hl.1 (Nat.le_of_ble_eq_true rfl) ⟨Nat.le_of_ble_eq_true rfl, Nat.le_of_ble_eq_true rfl⟩ ⟨Nat.le_of_ble_eq_true rfl, Nat.le_of_ble_eq_true rfl⟩ (fun H locs P => ?_)
    refine W.eq (g2 := F0 m 24 ls [.int (nI t), .ref (ad (26 + s)), .int 0]) rfl ?_
    refine W.widen (k := 0) (n := 0) (Nat.le_of_ble_eq_true rfl) (Nat.le_of_ble_eq_true rfl) ?_
    refine pw_iald (j := t) S P (hF.mem (hl_rd (by omega) hk)) (hF.rd (by omega) hk) rfl (by omega) (by decide) dX8_held_24 ?_
    refine lw_eqi (y := st.1 17 (6 * s + t)) (if_pos (by omega)) ?_
    refine lv_iadd hx hb dX8_held_25 ?_
    exact gw_iret S P hQ hr hlk ⟨Nat.le_of_ble_eq_true rfl, Nat.le_of_ble_eq_true rfl⟩ dX8_held_26 (pRd_i (by simp_all []))
  · rw [hOw_some hF ho (by omega) (by omega)] at c5
    refine lv_aload_n hx hb dX8_held_8 rfl (lv_at hl 0 rfl) ?_
    refine pw_get (q := (RX8, TX8, 6)) (k := 4) S P (hF.sh (by omega) hk).1 (hF.sh (by omega) hk).2 rfl (by decide) q314 (Or.inl rfl) rfl dX8_held_9 ?_
    refine lv_goto (tgt := 16) hx hb dX8_held_12 (by decide) ?_
    refine lv_aload_n hx hb dX8_held_16 rfl (lv_at hl 0 rfl) ?_
    refine pw_get (q := (RX8, TX8, 6)) (k := 5) S P (hF.sh (by omega) hk).1 (hF.sh (by omega) hk).2 rfl (by decide) q315 (Or.inl rfl) rfl dX8_held_17 ?_
    refine lv_aload_n hx hb dX8_held_20 rfl (lv_at hl 1 rfl) ?_
    refine pw_callR (nL' := 1) (rest := [.ref (ad (26 + s)), .int (st.1 14 s)]) S P (hg_number (hF.m (by omega)) (hF.tk (by omega))) q428 q37 (pw_entV (q := (RX2, TX2, 5)) [] S P (hF.m (by omega)) (hF.tk (by omega)) rfl q425 q426 q427 q428 ⟨by decide +kernel, by decide +kernel, (by decide +kernel : (parseMethodDescriptor yX2_number.desc).map (fun d => d.parameters.length) = some 0)⟩ dX8_held_21) hl.1 (Nat.le_of_ble_eq_true rfl) ⟨Nat.le_of_ble_eq_true rfl, Nat.le_of_ble_eq_true rfl⟩ ⟨Nat.le_of_ble_eq_true rfl, Nat.le_of_ble_eq_true rfl⟩ (fun H locs P => ?_)
    refine W.eq (g2 := F0 m 24 ls [.int (nI t), .ref (ad (26 + s)), .int (st.1 14 s)]) rfl ?_
    refine W.widen (k := 0) (n := 0) (Nat.le_of_ble_eq_true rfl) (Nat.le_of_ble_eq_true rfl) ?_
    refine pw_iald (j := t) S P (hF.mem (hl_rd (by omega) hk)) (hF.rd (by omega) hk) rfl (by omega) (by decide) dX8_held_24 ?_
    refine lw_eqi (y := st.1 17 (6 * s + t)) (if_pos (by omega)) ?_
    refine lv_iadd hx hb dX8_held_25 ?_
    exact gw_iret S P hQ hr hlk ⟨Nat.le_of_ble_eq_true rfl, Nat.le_of_ble_eq_true rfl⟩ dX8_held_26 (pRd_i (by simp_all []))

set_option maxHeartbeats 4000000 in
set_option maxRecDepth 100000 in
theorem hr_X4_waiters {l : Launch} {D : va_G} {cs : Nat → ClassId} {ad : Nat → Nat} {L : List Nat} {f : Nat → va_E} {n : Nat} {st : St} (ho : Ok n st) {s : Nat} (hs : s < 8) (hk : hKd st s)  (hF : HF cs ad st L f) : PM l D cs yX4_waiters cX4_waiters 3 (some .int) (rmL 2 0 0) [.ref (ad (18 + s))] L f (pRd L f (some (.int (nI (st.2.2 s).length)))) := by
  refine hm_of "SyncHall$Sync" rfl (by decide +kernel) (Nat.le_of_ble_eq_true rfl) ?_
  intro sz p e u m below meth c S P hsz hr hlk hnm htb ls hl Q hQ
  have hl : lv_has ls 3 [(0, .ref (ad (18 + s)))] := hl
  have hx := S.1
  have hb := S.2.1
  generalize hH0 : u.heap = H at P ⊢
  generalize ([] : List Loc) = locs at P ⊢
  have hlen := (ho.wf s hs).1
  refine lv_iconst (v := 0) hx hb dX4_waiters_0 (by decide) ?_
  refine lv_istore_n (lv' := [(1, .int 0), (0, .ref (ad (18 + s)))]) hx hb dX4_waiters_1 rfl hl (by decide) rfl (fun ls hl => ?_)
  refine lv_aload_n hx hb dX4_waiters_2 rfl (lv_at hl 1 rfl) ?_
  refine hs_get 0 (by decide) S P hF (by omega) hk q259 dX4_waiters_3 ?_
  refine lw_astore_n (lv' := [(2, va_rf (hFi st ad s)), (1, .int 0), (0, .ref (ad (18 + s)))]) hx hb dX4_waiters_6 rfl hl (by decide) rfl (fun ls hl => ?_)
  have loop7 : ∀ (d : Nat) (i : Nat), 7 - i < d → (i ≤ (st.2.2 s).length) → ∀ (H : Heap) (locs : List Loc), PW D cs (pA L sz) u L f H locs → ∀ (ls : Array Slot), lv_has ls 3 [(2, va_rf (hAt st ad s i)), (1, .int (nI i)), (0, .ref (ad (18 + s)))] → W p l e (rmL 2 0 0) u m ([.ref (ad (18 + s))] : List Value).toArray below meth c H locs 0 0 Q (F0 m 7 ls []) := by
    intro d7
    induction d7 with
    | zero => intro i hd; exact absurd hd (by omega)
    | succ d7 ih7 =>
      intro i hd7 hi H locs P ls hl
      rcases Nat.lt_or_ge i (st.2.2 s).length with hi2 | hi2
      · obtain ⟨hw6, hwb, hww⟩ := ho.rowx hs hi2
        rw [hAt_some hi2] at hl
        refine lv_aload_n hx hb dX4_waiters_7 rfl (lv_at hl 0 rfl) ?_
        refine lv_ifnull hx hb dX4_waiters_8 ?_
        refine lv_iinc (v := nI (i + 1)) (lv' := [(1, .int (nI (i + 1))), (2, .ref (ad (34 + ((st.2.2 s).getD i 0)))), (0, .ref (ad (18 + s)))]) hx hb dX4_waiters_11 hl (k := 1) rfl (nI_1 _) (by decide) rfl (fun ls hl => ?_)
        refine lv_aload_n hx hb dX4_waiters_14 rfl (lv_at hl 1 rfl) ?_
        refine pw_get (q := (RX10, TX10, 8)) (k := 7) S P (hF.mem (hl_wt hw6 hwb)) (hF.wt hw6 hwb) rfl (by decide) q519 (Or.inl rfl) rfl dX4_waiters_15 ?_
        refine lw_eqv (w := va_rf (hAt st ad s (i + 1))) (by rw [hNx_at ho hs hi2]) ?_
        refine lw_astore_n (lv' := [(2, va_rf (hAt st ad s (i + 1))), (1, .int (nI (i + 1))), (0, .ref (ad (18 + s)))]) hx hb dX4_waiters_18 rfl hl (by decide) rfl (fun ls hl => ?_)
        refine lv_goto (tgt := 7) hx hb dX4_waiters_19 (by decide) ?_
        exact ih7 (i + 1) (by omega) (by omega) _ _ P ls (lv_sub hl [0, 1, 2] rfl)
      · rw [hAt_none (by omega)] at hl
        refine lv_aload_nN hx hb dX4_waiters_7 rfl (lv_at hl 0 rfl) ?_
        refine lv_ifnullN (tgt := 22) hx hb dX4_waiters_8 (by decide) ?_
        refine lv_iload_n hx hb dX4_waiters_22 rfl (lv_at hl 1 rfl) ?_
        exact gw_iret S P hQ hr hlk ⟨Nat.le_of_ble_eq_true rfl, Nat.le_of_ble_eq_true rfl⟩ dX4_waiters_23 (pRd_i (by rw [show i = (st.2.2 s).length by omega]))
  exact loop7 _ 0 (Nat.lt_succ_self _) (by omega) _ _ P ls (lv_sub hl [0, 1, 2] (rfl))

set_option maxHeartbeats 4000000 in
set_option maxRecDepth 100000 in
theorem hr_X8_writerWaits {l : Launch} {D : va_G} {cs : Nat → ClassId} {ad : Nat → Nat} {L : List Nat} {f : Nat → va_E} {n : Nat} {st : St} (ho : Ok n st) {s : Nat} (hs : s < 8) (hk : st.1 12 s = 5)  (hF : HF cs ad st L f) : PM l D cs yX8_writerWaits cX8_writerWaits 2 (some .boolean) (rmL 2 0 0) [.ref (ad (18 + s))] L f (pRd L f (some (.int (bI ((st.2.2 s).any (fun u => decide (st.1 6 u = 1))))))) := by
  refine hm_of "SyncHall$Shared" rfl (by decide +kernel) (Nat.le_of_ble_eq_true rfl) ?_
  intro sz p e u m below meth c S P hsz hr hlk hnm htb ls hl Q hQ
  have hl : lv_has ls 2 [(0, .ref (ad (18 + s)))] := hl
  have hx := S.1
  have hb := S.2.1
  generalize hH0 : u.heap = H at P ⊢
  generalize ([] : List Loc) = locs at P ⊢
  have hlen := (ho.wf s hs).1
  refine lv_aload_n hx hb dX8_writerWaits_0 rfl (lv_at hl 0 rfl) ?_
  refine pw_get (q := (RX8, TX8, 6)) (k := 0) S P (hF.sh (by omega) hk).1 (hF.sh (by omega) hk).2 rfl (by decide) q257 (Or.inr q258) rfl dX8_writerWaits_1 ?_
  refine lw_astore_n (lv' := [(1, va_rf (hFi st ad s)), (0, .ref (ad (18 + s)))]) hx hb dX8_writerWaits_4 rfl hl (by decide) rfl (fun ls hl => ?_)
  have loop5 : ∀ (d : Nat) (i : Nat), 7 - i < d → (i ≤ (st.2.2 s).length) → (∀ j, j < i → ¬ st.1 6 ((st.2.2 s).getD j 0) = 1) → ∀ (H : Heap) (locs : List Loc), PW D cs (pA L sz) u L f H locs → ∀ (ls : Array Slot), lv_has ls 2 [(1, va_rf (hAt st ad s i)), (0, .ref (ad (18 + s)))] → W p l e (rmL 2 0 0) u m ([.ref (ad (18 + s))] : List Value).toArray below meth c H locs 0 0 Q (F0 m 5 ls []) := by
    intro d5
    induction d5 with
    | zero => intro i hd; exact absurd hd (by omega)
    | succ d5 ih5 =>
      intro i hd5 hi hinv H locs P ls hl
      rcases Nat.lt_or_ge i (st.2.2 s).length with hi2 | hi2
      · obtain ⟨hw6, hwb, hww⟩ := ho.rowx hs hi2
        rw [hAt_some hi2] at hl
        refine lv_aload_n hx hb dX8_writerWaits_5 rfl (lv_at hl 0 rfl) ?_
        refine lv_ifnull hx hb dX8_writerWaits_6 ?_
        refine lv_aload_n hx hb dX8_writerWaits_9 rfl (lv_at hl 0 rfl) ?_
        refine pw_callR (nL' := 1) (rest := []) S P (hg_w_writes (hF.mem (hl_wt hw6 hwb)) (hF.wt hw6 hwb)) q459 q52 (pw_entV (q := (RX10, TX10, 8)) [] S P (hF.mem (hl_wt hw6 hwb)) (hF.wt hw6 hwb) rfl q456 q457 q458 q459 ⟨by decide +kernel, by decide +kernel, (by decide +kernel : (parseMethodDescriptor yX10_writes.desc).map (fun d => d.parameters.length) = some 0)⟩ dX8_writerWaits_10) hl.1 (Nat.le_of_ble_eq_true rfl) ⟨Nat.le_of_ble_eq_true rfl, Nat.le_of_ble_eq_true rfl⟩ ⟨Nat.le_of_ble_eq_true rfl, Nat.le_of_ble_eq_true rfl⟩ (fun H locs P => ?_)
        refine W.eq (g2 := F0 m 13 ls [.int (bI (hWb st ((st.2.2 s).getD i 0)))]) rfl ?_
        refine W.widen (k := 0) (n := 0) (Nat.le_of_ble_eq_true rfl) (Nat.le_of_ble_eq_true rfl) ?_
        refine lv_if_eq (tgt := 18) (x := bI (hWb st ((st.2.2 s).getD i 0))) hx hb dX8_writerWaits_13 (by decide) (fun c13 => ?_) (fun c13 => ?_)
        · rw [bI_eq0] at c13
          refine lv_aload_n hx hb dX8_writerWaits_18 rfl (lv_at hl 0 rfl) ?_
          refine pw_get (q := (RX10, TX10, 8)) (k := 7) S P (hF.mem (hl_wt hw6 hwb)) (hF.wt hw6 hwb) rfl (by decide) q517 (Or.inl rfl) rfl dX8_writerWaits_19 ?_
          refine lw_eqv (w := va_rf (hAt st ad s (i + 1))) (by rw [hNx_at ho hs hi2]) ?_
          refine lw_astore_n (lv' := [(1, va_rf (hAt st ad s (i + 1))), (0, .ref (ad (18 + s)))]) hx hb dX8_writerWaits_22 rfl hl (by decide) rfl (fun ls hl => ?_)
          refine lv_goto (tgt := 5) hx hb dX8_writerWaits_23 (by decide) ?_
          exact ih5 (i + 1) (by omega) (by omega) (fun j hj => by
            rcases Nat.lt_or_ge j i with hj2 | hj2
            · exact hinv j hj2
            · have : j = i := by omega
              subst this
              intro h
              rw [(hWb_at ho hs hi2 hk).mpr h] at c13
              exact absurd c13 (by decide)) _ _ P ls (lv_sub hl [0, 1] rfl)
        · rw [bI_eq0, Bool.not_eq_false] at c13
          refine lv_iconst (v := 1) hx hb dX8_writerWaits_16 (by decide) ?_
          exact gw_zret S P hQ hr hlk ⟨Nat.le_of_ble_eq_true rfl, Nat.le_of_ble_eq_true rfl⟩ dX8_writerWaits_17 (by first | decide | exact bI_or _) (pRd_i (by rw [ls_any_t (i := i) hi2 (decide_eq_true ((hWb_at ho hs hi2 hk).mp c13))]; rfl))
      · rw [hAt_none (by omega)] at hl
        refine lv_aload_nN hx hb dX8_writerWaits_5 rfl (lv_at hl 0 rfl) ?_
        refine lv_ifnullN (tgt := 26) hx hb dX8_writerWaits_6 (by decide) ?_
        refine lv_iconst (v := 0) hx hb dX8_writerWaits_26 (by decide) ?_
        exact gw_zret S P hQ hr hlk ⟨Nat.le_of_ble_eq_true rfl, Nat.le_of_ble_eq_true rfl⟩ dX8_writerWaits_27 (by first | decide | exact bI_or _) (pRd_i (by rw [ls_any_f (fun j hj hq => hinv j (by omega) (of_decide_eq_true hq))]; rfl))
  exact loop5 _ 0 (Nat.lt_succ_self _) (by omega) (fun j hj => absurd hj (by omega)) _ _ P ls (lv_sub hl [0, 1] (rfl))

set_option maxHeartbeats 4000000 in
set_option maxRecDepth 100000 in
theorem hr_X8_nextToServe {l : Launch} {D : va_G} {cs : Nat → ClassId} {ad : Nat → Nat} {L : List Nat} {f : Nat → va_E} {n : Nat} {st : St} (ho : Ok n st) {s : Nat} (hs : s < 8) (hk : st.1 12 s = 5)  (hF : HF cs ad st L f) : PM l D cs yX8_nextToServe cX8_nextToServe 2 (some (.object "SyncHall$Waiter")) (rmL 2 0 0) [.ref (ad (18 + s))] L f (pRd L f (some (va_rf (hNext st ad s)))) := by
  refine hm_of "SyncHall$Shared" rfl (by decide +kernel) (Nat.le_of_ble_eq_true rfl) ?_
  intro sz p e u m below meth c S P hsz hr hlk hnm htb ls hl Q hQ
  have hl : lv_has ls 2 [(0, .ref (ad (18 + s)))] := hl
  have hx := S.1
  have hb := S.2.1
  generalize hH0 : u.heap = H at P ⊢
  generalize ([] : List Loc) = locs at P ⊢
  have hlen := (ho.wf s hs).1
  refine lv_aload_n hx hb dX8_nextToServe_0 rfl (lv_at hl 0 rfl) ?_
  refine pw_get (q := (RX8, TX8, 6)) (k := 0) S P (hF.sh (by omega) hk).1 (hF.sh (by omega) hk).2 rfl (by decide) q257 (Or.inr q258) rfl dX8_nextToServe_1 ?_
  refine lw_astore_n (lv' := [(1, va_rf (hFi st ad s)), (0, .ref (ad (18 + s)))]) hx hb dX8_nextToServe_4 rfl hl (by decide) rfl (fun ls hl => ?_)
  have loop5 : ∀ (d : Nat) (i : Nat), 7 - i < d → (i ≤ (st.2.2 s).length) → (∀ j, j < i → ¬ st.1 6 ((st.2.2 s).getD j 0) = 1) → ∀ (H : Heap) (locs : List Loc), PW D cs (pA L sz) u L f H locs → ∀ (ls : Array Slot), lv_has ls 2 [(1, va_rf (hAt st ad s i)), (0, .ref (ad (18 + s)))] → W p l e (rmL 2 0 0) u m ([.ref (ad (18 + s))] : List Value).toArray below meth c H locs 0 0 Q (F0 m 5 ls []) := by
    intro d5
    induction d5 with
    | zero => intro i hd; exact absurd hd (by omega)
    | succ d5 ih5 =>
      intro i hd5 hi hinv H locs P ls hl
      rcases Nat.lt_or_ge i (st.2.2 s).length with hi2 | hi2
      · obtain ⟨hw6, hwb, hww⟩ := ho.rowx hs hi2
        rw [hAt_some hi2] at hl
        refine lv_aload_n hx hb dX8_nextToServe_5 rfl (lv_at hl 0 rfl) ?_
        refine lv_ifnull hx hb dX8_nextToServe_6 ?_
        refine lv_aload_n hx hb dX8_nextToServe_9 rfl (lv_at hl 0 rfl) ?_
        refine pw_callR (nL' := 1) (rest := []) S P (hg_w_writes (hF.mem (hl_wt hw6 hwb)) (hF.wt hw6 hwb)) q459 q52 (pw_entV (q := (RX10, TX10, 8)) [] S P (hF.mem (hl_wt hw6 hwb)) (hF.wt hw6 hwb) rfl q456 q457 q458 q459 ⟨by decide +kernel, by decide +kernel, (by decide +kernel : (parseMethodDescriptor yX10_writes.desc).map (fun d => d.parameters.length) = some 0)⟩ dX8_nextToServe_10) hl.1 (Nat.le_of_ble_eq_true rfl) ⟨Nat.le_of_ble_eq_true rfl, Nat.le_of_ble_eq_true rfl⟩ ⟨Nat.le_of_ble_eq_true rfl, Nat.le_of_ble_eq_true rfl⟩ (fun H locs P => ?_)
        refine W.eq (g2 := F0 m 13 ls [.int (bI (hWb st ((st.2.2 s).getD i 0)))]) rfl ?_
        refine W.widen (k := 0) (n := 0) (Nat.le_of_ble_eq_true rfl) (Nat.le_of_ble_eq_true rfl) ?_
        refine lv_if_eq (tgt := 18) (x := bI (hWb st ((st.2.2 s).getD i 0))) hx hb dX8_nextToServe_13 (by decide) (fun c13 => ?_) (fun c13 => ?_)
        · rw [bI_eq0] at c13
          refine lv_aload_n hx hb dX8_nextToServe_18 rfl (lv_at hl 0 rfl) ?_
          refine pw_get (q := (RX10, TX10, 8)) (k := 7) S P (hF.mem (hl_wt hw6 hwb)) (hF.wt hw6 hwb) rfl (by decide) q517 (Or.inl rfl) rfl dX8_nextToServe_19 ?_
          refine lw_eqv (w := va_rf (hAt st ad s (i + 1))) (by rw [hNx_at ho hs hi2]) ?_
          refine lw_astore_n (lv' := [(1, va_rf (hAt st ad s (i + 1))), (0, .ref (ad (18 + s)))]) hx hb dX8_nextToServe_22 rfl hl (by decide) rfl (fun ls hl => ?_)
          refine lv_goto (tgt := 5) hx hb dX8_nextToServe_23 (by decide) ?_
          exact ih5 (i + 1) (by omega) (by omega) (fun j hj => by
            rcases Nat.lt_or_ge j i with hj2 | hj2
            · exact hinv j hj2
            · have : j = i := by omega
              subst this
              intro h
              rw [(hWb_at ho hs hi2 hk).mpr h] at c13
              exact absurd c13 (by decide)) _ _ P ls (lv_sub hl [0, 1] rfl)
        · rw [bI_eq0, Bool.not_eq_false] at c13
          refine lv_aload_n hx hb dX8_nextToServe_16 rfl (lv_at hl 0 rfl) ?_
          exact gw_aret S P hQ hr hlk ⟨Nat.le_of_ble_eq_true rfl, Nat.le_of_ble_eq_true rfl⟩ dX8_nextToServe_17 (Or.inr ⟨_, rfl⟩) (pRd_a (by rw [hNext_some (by omega), sn5_found hk (fun t ht => (ho.2.1 t (ho.row hs ht).1).2) hi2 hinv ((hWb_at ho hs hi2 hk).mp c13)]; rfl))
      · rw [hAt_none (by omega)] at hl
        refine lv_aload_nN hx hb dX8_nextToServe_5 rfl (lv_at hl 0 rfl) ?_
        refine lv_ifnullN (tgt := 26) hx hb dX8_nextToServe_6 (by decide) ?_
        refine lv_aload_n hx hb dX8_nextToServe_26 rfl (lv_at hl 1 rfl) ?_
        refine pw_get (q := (RX8, TX8, 6)) (k := 0) S P (hF.sh (by omega) hk).1 (hF.sh (by omega) hk).2 rfl (by decide) q257 (Or.inr q258) rfl dX8_nextToServe_27 ?_
        exact gw_aret S P hQ hr hlk ⟨Nat.le_of_ble_eq_true rfl, Nat.le_of_ble_eq_true rfl⟩ dX8_nextToServe_30 (va_rf_or _) (pRd_a (by rw [sn5_none hk (fun j hj => hinv j (by omega))]))
  exact loop5 _ 0 (Nat.lt_succ_self _) (by omega) (fun j hj => absurd hj (by omega)) _ _ P ls (lv_sub hl [0, 1] (rfl))

set_option maxHeartbeats 4000000 in
set_option maxRecDepth 100000 in
theorem hr_X8_mustQueue {l : Launch} {D : va_G} {cs : Nat → ClassId} {ad : Nat → Nat} {L : List Nat} {f : Nat → va_E} {n : Nat} {st : St} (ho : Ok n st) {s : Nat} (hs : s < 8) (hk : st.1 12 s = 5) {t : Nat} (ht : t < 6) {wb : Bool}  (hF : HF cs ad st L f) : PM l D cs yX8_mustQueue cX8_mustQueue 3 (some .boolean) (rmL 4 0 0) [.ref (ad (18 + s)), .ref (ad (12 + t)), .int (bI wb)] L f (pRd L f (some (.int (bI (s_mustQueue st t s (bI wb)))))) := by
  refine hm_of "SyncHall$Shared" rfl (by decide +kernel) (Nat.le_of_ble_eq_true rfl) ?_
  intro sz p e u m below meth c S P hsz hr hlk hnm htb ls hl Q hQ
  have hl : lv_has ls 3 [(0, .ref (ad (18 + s))), (1, .ref (ad (12 + t))), (2, .int (bI wb))] := hl
  have hx := S.1
  have hb := S.2.1
  generalize hH0 : u.heap = H at P ⊢
  generalize ([] : List Loc) = locs at P ⊢
  refine lv_aload_n hx hb dX8_mustQueue_0 rfl (lv_at hl 0 rfl) ?_
  refine lv_aload_n hx hb dX8_mustQueue_1 rfl (lv_at hl 1 rfl) ?_
  refine pw_callR (nL' := 2) (rest := []) S P (hr_X8_isInside ho hs hk ht hF) q451 q49 (pw_entV (q := (RX8, TX8, 6)) [.ref (ad (12 + t))] S P (hF.sh (by omega) hk).1 (hF.sh (by omega) hk).2 rfl q448 q450 qs9 q451 ⟨by decide +kernel, by decide +kernel, (by decide +kernel : (parseMethodDescriptor yX8_isInside.desc).map (fun d => d.parameters.length) = some 1)⟩ dX8_mustQueue_2) hl.1 (Nat.le_of_ble_eq_true rfl) ⟨Nat.le_of_ble_eq_true rfl, Nat.le_of_ble_eq_true rfl⟩ ⟨Nat.le_of_ble_eq_true rfl, Nat.le_of_ble_eq_true rfl⟩ (fun H locs P => ?_)
  refine W.eq (g2 := F0 m 5 ls [.int (bI (decide (st.1 13 s = nI t ∨ 0 < st.1 17 (6 * s + t))))]) rfl ?_
  refine W.widen (k := 0) (n := 0) (Nat.le_of_ble_eq_true rfl) (Nat.le_of_ble_eq_true rfl) ?_
  refine lv_if_eq (tgt := 10) (x := bI (decide (st.1 13 s = nI t ∨ 0 < st.1 17 (6 * s + t)))) hx hb dX8_mustQueue_5 (by decide) (fun c5 => ?_) (fun c5 => ?_)
  · simp only [bI_eq0, decide_eq_false_iff_not, decide_eq_true_eq, Classical.not_not] at c5
    refine lv_iload_n hx hb dX8_mustQueue_10 rfl (lv_at hl 2 rfl) ?_
    refine lv_if_eq (tgt := 29) (x := bI wb) hx hb dX8_mustQueue_11 (by decide) (fun c11 => ?_) (fun c11 => ?_)
    · rw [bI_eq0] at c11
      refine lv_aload_n hx hb dX8_mustQueue_29 rfl (lv_at hl 0 rfl) ?_
      refine pw_callR (nL' := 2) (rest := []) S P (hr_X8_writerWaits ho hs hk hF) q455 q49 (pw_entV (q := (RX8, TX8, 6)) [] S P (hF.sh (by omega) hk).1 (hF.sh (by omega) hk).2 rfl q452 q454 qs10 q455 ⟨by decide +kernel, by decide +kernel, (by decide +kernel : (parseMethodDescriptor yX8_writerWaits.desc).map (fun d => d.parameters.length) = some 0)⟩ dX8_mustQueue_30) hl.1 (Nat.le_of_ble_eq_true rfl) ⟨Nat.le_of_ble_eq_true rfl, Nat.le_of_ble_eq_true rfl⟩ ⟨Nat.le_of_ble_eq_true rfl, Nat.le_of_ble_eq_true rfl⟩ (fun H locs P => ?_)
      refine W.eq (g2 := F0 m 33 ls [.int (bI ((st.2.2 s).any (fun u => decide (st.1 6 u = 1))))]) rfl ?_
      refine W.widen (k := 0) (n := 0) (Nat.le_of_ble_eq_true rfl) (Nat.le_of_ble_eq_true rfl) ?_
      exact gw_zret S P hQ hr hlk ⟨Nat.le_of_ble_eq_true rfl, Nat.le_of_ble_eq_true rfl⟩ dX8_mustQueue_33 (by first | decide | exact bI_or _) (pRd_i (by subst c11; rw [s_mq5r hk c5]))
    · rw [bI_eq0, Bool.not_eq_false] at c11
      refine lv_aload_n hx hb dX8_mustQueue_14 rfl (lv_at hl 0 rfl) ?_
      refine pw_get (q := (RX8, TX8, 6)) (k := 0) S P (hF.sh (by omega) hk).1 (hF.sh (by omega) hk).2 rfl (by decide) q257 (Or.inr q258) rfl dX8_mustQueue_15 ?_
      refine lw_ifnull (tgt := 25) hx hb dX8_mustQueue_18 (by decide) (fun c18 => ?_) (fun c18 => ?_)
      · rw [hFi_none] at c18
        refine lv_iconst (v := 0) hx hb dX8_mustQueue_25 (by decide) ?_
        refine lv_goto (tgt := 33) hx hb dX8_mustQueue_26 (by decide) ?_
        exact gw_zret S P hQ hr hlk ⟨Nat.le_of_ble_eq_true rfl, Nat.le_of_ble_eq_true rfl⟩ dX8_mustQueue_33 (by first | decide | exact bI_or _) (pRd_i (by subst c11; rw [s_mq5w hk c5, c18]; rfl))
      · rw [hFi_none] at c18
        refine lv_iconst (v := 1) hx hb dX8_mustQueue_21 (by decide) ?_
        refine lv_goto (tgt := 33) hx hb dX8_mustQueue_22 (by decide) ?_
        exact gw_zret S P hQ hr hlk ⟨Nat.le_of_ble_eq_true rfl, Nat.le_of_ble_eq_true rfl⟩ dX8_mustQueue_33 (by first | decide | exact bI_or _) (pRd_i (by subst c11; rw [s_mq5w hk c5, (Bool.not_eq_true _).mp c18]; rfl))
  · simp only [bI_eq0, Bool.not_eq_false, decide_eq_false_iff_not, decide_eq_true_eq, Classical.not_not] at c5
    refine lv_iconst (v := 0) hx hb dX8_mustQueue_8 (by decide) ?_
    exact gw_zret S P hQ hr hlk ⟨Nat.le_of_ble_eq_true rfl, Nat.le_of_ble_eq_true rfl⟩ dX8_mustQueue_9 (by first | decide | exact bI_or _) (pRd_i (by rw [s_mq5i hk c5]; rfl))

set_option maxHeartbeats 4000000 in
set_option maxRecDepth 100000 in
theorem hr_X6_nextToServe {l : Launch} {D : va_G} {cs : Nat → ClassId} {ad : Nat → Nat} {L : List Nat} {f : Nat → va_E} {n : Nat} {st : St} (ho : Ok n st) {s : Nat} (hs : s < 8) (hk : st.1 12 s = 2 ∨ st.1 12 s = 3)  (hF : HF cs ad st L f) : PM l D cs yX6_nextToServe cX6_nextToServe 3 (some (.object "SyncHall$Waiter")) (rmL 2 0 0) [.ref (ad (18 + s))] L f (pRd L f (some (va_rf (hNext st ad s)))) := by
  refine hm_of "SyncHall$Semaphore" rfl (by decide +kernel) (Nat.le_of_ble_eq_true rfl) ?_
  intro sz p e u m below meth c S P hsz hr hlk hnm htb ls hl Q hQ
  have hl : lv_has ls 3 [(0, .ref (ad (18 + s)))] := hl
  have hx := S.1
  have hb := S.2.1
  generalize hH0 : u.heap = H at P ⊢
  generalize ([] : List Loc) = locs at P ⊢
  have hlen := (ho.wf s hs).1
  refine lv_aload_n hx hb dX6_nextToServe_0 rfl (lv_at hl 0 rfl) ?_
  refine pw_get (q := (RX6, TX6, 5)) (k := 0) S P (hF.sm (by omega) hk).1 (hF.sm (by omega) hk).2 rfl (by decide) q253 (Or.inr q254) rfl dX6_nextToServe_1 ?_
  refine lw_astore_n (lv' := [(1, va_rf (hFi st ad s)), (0, .ref (ad (18 + s)))]) hx hb dX6_nextToServe_4 rfl hl (by decide) rfl (fun ls hl => ?_)
  refine lv_aload_n hx hb dX6_nextToServe_5 rfl (lv_at hl 1 rfl) ?_
  refine pw_get (q := (RX6, TX6, 5)) (k := 0) S P (hF.sm (by omega) hk).1 (hF.sm (by omega) hk).2 rfl (by decide) q253 (Or.inr q254) rfl dX6_nextToServe_6 ?_
  refine lw_astore_n (lv' := [(2, va_rf (hFi st ad s)), (1, va_rf (hFi st ad s)), (0, .ref (ad (18 + s)))]) hx hb dX6_nextToServe_9 rfl hl (by decide) (by simp [List.filter, lw_cat]) (fun ls hl => ?_)
  rcases Nat.lt_or_ge 0 (st.2.2 s).length with hne | hne
  · rw [show hFi st ad s = some (ad (34 + (st.2.2 s).getD 0 0)) from hAt_some hne] at hl
    obtain ⟨hb6, hbb, -⟩ := ho.rowx hs hne
    have loop10 : ∀ (d : Nat) (i b : Nat), 7 - i < d → (i ≤ (st.2.2 s).length) → (b < 6) → (¬ st.1 1 b = 0) → (st.1 12 s = 3 → s_next st s = s_nextF st s b ((st.2.2 s).drop i)) → (¬ st.1 12 s = 3 → i = 0 ∧ b = (st.2.2 s).getD 0 0) → ∀ (H : Heap) (locs : List Loc), PW D cs (pA L sz) u L f H locs → ∀ (ls : Array Slot), lv_has ls 3 [(2, va_rf (hAt st ad s i)), (1, .ref (ad (34 + b))), (0, .ref (ad (18 + s)))] → W p l e (rmL 2 0 0) u m ([.ref (ad (18 + s))] : List Value).toArray below meth c H locs 0 0 Q (F0 m 10 ls []) := by
      intro d10
      induction d10 with
      | zero => intro i b hd; exact absurd hd (by omega)
      | succ d10 ih10 =>
        intro i b hd10 hi hb6 hbb hinv hfst H locs P ls hl
        rcases Nat.lt_or_ge i (st.2.2 s).length with hi2 | hi2
        · obtain ⟨hw6, hwb, hww⟩ := ho.rowx hs hi2
          rw [hAt_some hi2] at hl
          refine lv_aload_n hx hb dX6_nextToServe_10 rfl (lv_at hl 0 rfl) ?_
          refine lv_ifnull hx hb dX6_nextToServe_11 ?_
          refine lv_aload_n hx hb dX6_nextToServe_14 rfl (lv_at hl 2 rfl) ?_
          refine pw_get (q := (RX6, TX6, 5)) (k := 3) S P (hF.sm (by omega) hk).1 (hF.sm (by omega) hk).2 rfl (by decide) q284 (Or.inl rfl) rfl dX6_nextToServe_15 ?_
          refine lv_if_eq (tgt := 49) (x := bI (decide (st.1 12 s = 3))) hx hb dX6_nextToServe_18 (by decide) (fun c18 => ?_) (fun c18 => ?_)
          · simp only [bI_eq0, decide_eq_false_iff_not, decide_eq_true_eq, Classical.not_not] at c18
            refine lv_aload_n hx hb dX6_nextToServe_49 rfl (lv_at hl 1 rfl) ?_
            exact gw_aret S P hQ hr hlk ⟨Nat.le_of_ble_eq_true rfl, Nat.le_of_ble_eq_true rfl⟩ dX6_nextToServe_50 (Or.inr ⟨_, rfl⟩) (pRd_a (by rw [sn_first c18 (by rcases hk with q | q <;> rw [q] <;> decide), (hfst c18).2, show hFi st ad s = _ from hAt_some hne]; rfl))
          · simp only [bI_eq0, Bool.not_eq_false, decide_eq_false_iff_not, decide_eq_true_eq, Classical.not_not] at c18
            refine lv_aload_n hx hb dX6_nextToServe_21 rfl (lv_at hl 0 rfl) ?_
            refine pw_callR (nL' := 1) (rest := []) S P (hg_w_task (hF.mem (hl_wt hw6 hwb)) (hF.wt hw6 hwb)) q550 q52 (pw_entV (q := (RX10, TX10, 8)) [] S P (hF.mem (hl_wt hw6 hwb)) (hF.wt hw6 hwb) rfl q607 q548 q549 q550 ⟨by decide +kernel, by decide +kernel, (by decide +kernel : (parseMethodDescriptor yX10_task.desc).map (fun d => d.parameters.length) = some 0)⟩ dX6_nextToServe_22) hl.1 (Nat.le_of_ble_eq_true rfl) ⟨Nat.le_of_ble_eq_true rfl, Nat.le_of_ble_eq_true rfl⟩ ⟨Nat.le_of_ble_eq_true rfl, Nat.le_of_ble_eq_true rfl⟩ (fun H locs P => ?_)
            refine W.eq (g2 := F0 m 25 ls [.ref (ad (12 + ((st.2.2 s).getD i 0)))]) rfl ?_
            refine W.widen (k := 0) (n := 0) (Nat.le_of_ble_eq_true rfl) (Nat.le_of_ble_eq_true rfl) ?_
            refine pw_get (q := (RX2, TX2, 5)) (k := 1) S P (hF.m (by omega)) (hF.tk (by omega)) rfl (by decide) q75 (Or.inl rfl) rfl dX6_nextToServe_25 ?_
            refine lv_aload_n hx hb dX6_nextToServe_28 rfl (lv_at hl 1 rfl) ?_
            refine pw_callR (nL' := 1) (rest := [.double (st.2.1 3 ((st.2.2 s).getD i 0))]) S P (hg_w_task (hF.mem (hl_wt hb6 hbb)) (hF.wt hb6 hbb)) q550 q52 (pw_entV (q := (RX10, TX10, 8)) [] S P (hF.mem (hl_wt hb6 hbb)) (hF.wt hb6 hbb) rfl q607 q548 q549 q550 ⟨by decide +kernel, by decide +kernel, (by decide +kernel : (parseMethodDescriptor yX10_task.desc).map (fun d => d.parameters.length) = some 0)⟩ dX6_nextToServe_29) hl.1 (Nat.le_of_ble_eq_true rfl) ⟨Nat.le_of_ble_eq_true rfl, Nat.le_of_ble_eq_true rfl⟩ ⟨Nat.le_of_ble_eq_true rfl, Nat.le_of_ble_eq_true rfl⟩ (fun H locs P => ?_)
            refine W.eq (g2 := F0 m 32 ls [.ref (ad (12 + b)), .double (st.2.1 3 ((st.2.2 s).getD i 0))]) rfl ?_
            refine W.widen (k := 0) (n := 0) (Nat.le_of_ble_eq_true rfl) (Nat.le_of_ble_eq_true rfl) ?_
            refine pw_get (q := (RX2, TX2, 5)) (k := 1) S P (hF.m (by omega)) (hF.tk (by omega)) rfl (by decide) q75 (Or.inl rfl) rfl dX6_nextToServe_32 ?_
            refine lv_dcmp hx hb dX6_nextToServe_35 ?_
            refine lw_if_le (tgt := 41) (x := Op.cmpValue (FP.dcmp (st.2.1 3 ((st.2.2 s).getD i 0)) (st.2.1 3 b)) .l) hx hb dX6_nextToServe_36 (by decide) (fun c36 => ?_) (fun c36 => ?_)
            · simp only [cv_l_gt0, Decidable.not_not] at c36
              refine lv_aload_n hx hb dX6_nextToServe_41 rfl (lv_at hl 0 rfl) ?_
              refine pw_get (q := (RX10, TX10, 8)) (k := 7) S P (hF.mem (hl_wt hw6 hwb)) (hF.wt hw6 hwb) rfl (by decide) q518 (Or.inl rfl) rfl dX6_nextToServe_42 ?_
              refine lw_eqv (w := va_rf (hAt st ad s (i + 1))) (by rw [hNx_at ho hs hi2]) ?_
              refine lw_astore_n (lv' := [(2, va_rf (hAt st ad s (i + 1))), (1, .ref (ad (34 + b))), (0, .ref (ad (18 + s)))]) hx hb dX6_nextToServe_45 rfl hl (by decide) rfl (fun ls hl => ?_)
              refine lv_goto (tgt := 10) hx hb dX6_nextToServe_46 (by decide) ?_
              exact ih10 (i + 1) b (by omega) (by omega) hb6 hbb (fun h3 => by
                rw [hinv h3, ls_drop hi2]
                show s_nextF st s (if s_better st s b ((st.2.2 s).getD i 0) = true then _ else _) _ = _
                rw [if_neg (by simp [-List.getD_eq_getElem?_getD, s_better, h3, c36])]) (fun h => absurd c18 h) _ _ P ls (lv_sub hl [0, 1, 2] rfl)
            · simp only [cv_l_gt0, Decidable.not_not] at c36
              refine lv_aload_n hx hb dX6_nextToServe_39 rfl (lv_at hl 0 rfl) ?_
              refine lv_astore_n (lv' := [(1, .ref (ad (34 + ((st.2.2 s).getD i 0)))), (2, .ref (ad (34 + ((st.2.2 s).getD i 0)))), (0, .ref (ad (18 + s)))]) hx hb dX6_nextToServe_40 rfl hl (by decide) rfl (fun ls hl => ?_)
              refine lv_aload_n hx hb dX6_nextToServe_41 rfl (lv_at hl 1 rfl) ?_
              refine pw_get (q := (RX10, TX10, 8)) (k := 7) S P (hF.mem (hl_wt hw6 hwb)) (hF.wt hw6 hwb) rfl (by decide) q518 (Or.inl rfl) rfl dX6_nextToServe_42 ?_
              refine lw_eqv (w := va_rf (hAt st ad s (i + 1))) (by rw [hNx_at ho hs hi2]) ?_
              refine lw_astore_n (lv' := [(2, va_rf (hAt st ad s (i + 1))), (1, .ref (ad (34 + ((st.2.2 s).getD i 0)))), (0, .ref (ad (18 + s)))]) hx hb dX6_nextToServe_45 rfl hl (by decide) rfl (fun ls hl => ?_)
              refine lv_goto (tgt := 10) hx hb dX6_nextToServe_46 (by decide) ?_
              exact ih10 (i + 1) ((st.2.2 s).getD i 0) (by omega) (by omega) hw6 hwb (fun h3 => by
                rw [hinv h3, ls_drop hi2]
                show s_nextF st s (if s_better st s b ((st.2.2 s).getD i 0) = true then _ else _) _ = _
                rw [if_pos (by simp [-List.getD_eq_getElem?_getD, s_better, h3, c36])]) (fun h => absurd c18 h) _ _ P ls (lv_sub hl [0, 1, 2] rfl)
        · rw [hAt_none (by omega)] at hl
          refine lv_aload_nN hx hb dX6_nextToServe_10 rfl (lv_at hl 0 rfl) ?_
          refine lv_ifnullN (tgt := 49) hx hb dX6_nextToServe_11 (by decide) ?_
          refine lv_aload_n hx hb dX6_nextToServe_49 rfl (lv_at hl 1 rfl) ?_
          exact gw_aret S P hQ hr hlk ⟨Nat.le_of_ble_eq_true rfl, Nat.le_of_ble_eq_true rfl⟩ dX6_nextToServe_50 (Or.inr ⟨_, rfl⟩) (pRd_a (by
              rw [hNext_some hne]
              by_cases h3 : st.1 12 s = 3
              · rw [hinv h3, List.drop_eq_nil_of_le (by omega)]; rfl
              · exact absurd (hfst h3).1 (by omega)))
    exact loop10 _ 0 ((st.2.2 s).getD 0 0) (Nat.lt_succ_self _) (by omega) hb6 hbb (fun h3 => sn3_0 hne h3) (fun _ => ⟨rfl, rfl⟩) _ _ P ls (lv_sub hl [0, 1, 2] (by rw [hAt_some hne]; rfl))
  · rw [show hFi st ad s = none from hAt_none (by omega)] at hl
    refine lv_aload_nN hx hb dX6_nextToServe_10 rfl (lv_at hl 0 rfl) ?_
    refine lv_ifnullN (tgt := 49) hx hb dX6_nextToServe_11 (by decide) ?_
    refine lv_aload_nN hx hb dX6_nextToServe_49 rfl (lv_at hl 1 rfl) ?_
    exact gw_aret S P hQ hr hlk ⟨Nat.le_of_ble_eq_true rfl, Nat.le_of_ble_eq_true rfl⟩ dX6_nextToServe_50 (Or.inl rfl) (pRd_a (by rw [hNext_none (by omega)]; rfl))
