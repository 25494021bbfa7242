/-! the syncs' small writing methods, by gen_h4.py -/
section HSP
variable {p : Program} {l : Launch} {e : Env} {R : Room} {u : State} {m : MethodId} {args : Array Value} {below : List Frame} {meth : Method} {c : Code} {H : Heap} {locs : List Loc} {cells slots : Nat} {Q : State → Prop}
variable {cc : ByteArray} {nL pc : Nat} {ls : Array Slot} {rest : List Value} {D : va_G} {cs : Nat → ClassId} {A : Nat → Prop} {L : List Nat} {f : Nat → va_E} {own : String} {ad : Nat → Nat} {st : St}
theorem vf_us {α : Type} {g : Nat → α} {k : Nat} {x : α} : vf_upd g k x k = x := by simp [vf_upd]
theorem hs_putW {s idx : Nat} {v : UInt64} (S : CallFix p m c cc nL u args lw_all own) (P : PW D cs A u L f H locs) (hF : HF cs ad st L f) (hs : s < 8) (hk : hKd st s) (hlink : Cond.fieldLink own idx "SyncHall$Sync" (TX5 1).2.1 (TX5 1).2.2.1 ∈ lw_all) (hdg : decode cc pc = .ok (.putfield idx, 3))
    (kk : ∀ (H1 : Heap) (locs1 : List Loc) (f' : Nat → va_E), PW D cs A u L f' H1 locs1 → HF cs ad (sD st 20 s v) L f' → (∀ a, ¬ hOwn st ad a → f' a = f a) → W p l e R u m args below meth c H1 locs1 cells slots Q (F0 m (pc + 3) ls rest)) : W p l e R u m args below meth c H locs cells slots Q (F0 m pc ls (.double v :: .ref (ad (18 + s)) :: rest)) := by
  have hkne := hk.ne
  rcases hk with hk | hk | hk | hk | hk
  · exact hp_sync (st' := sD st 20 s v) (q := (RX5, TX5, 6)) (k := 1) S P hF hs hkne (hSync_lk hk) rfl (by decide) hlink (Or.inl rfl) rfl rfl rfl (Nat.le_of_ble_eq_true rfl) sDiff_D (by rw [hSync_lk (st := sD st 20 s v) hk, show (sD st 20 s v).2.1 20 s = v from vf_us]; rfl) hdg kk
  · exact hp_sync (st' := sD st 20 s v) (q := (RX6, TX6, 5)) (k := 1) S P hF hs hkne (hSync_sm hk) rfl (by decide) hlink (Or.inl rfl) rfl rfl rfl (Nat.le_of_ble_eq_true rfl) sDiff_D (by rw [hSync_sm (st := sD st 20 s v) hk, show (sD st 20 s v).2.1 20 s = v from vf_us]; rfl) hdg kk
  · exact hp_sync (st' := sD st 20 s v) (q := (RX7, TX7, 4)) (k := 1) S P hF hs hkne (hSync_la hk) rfl (by decide) hlink (Or.inl rfl) rfl rfl rfl (Nat.le_of_ble_eq_true rfl) sDiff_D (by rw [hSync_la (st := sD st 20 s v) hk, show (sD st 20 s v).2.1 20 s = v from vf_us]; rfl) hdg kk
  · exact hp_sync (st' := sD st 20 s v) (q := (RX8, TX8, 6)) (k := 1) S P hF hs hkne (hSync_sh hk) rfl (by decide) hlink (Or.inl rfl) rfl rfl rfl (Nat.le_of_ble_eq_true rfl) sDiff_D (by rw [hSync_sh (st := sD st 20 s v) hk, show (sD st 20 s v).2.1 20 s = v from vf_us]; rfl) hdg kk
  · exact hp_sync (st' := sD st 20 s v) (q := (RX9, TX9, 4)) (k := 1) S P hF hs hkne (hSync_cd hk) rfl (by decide) hlink (Or.inl rfl) rfl rfl rfl (Nat.le_of_ble_eq_true rfl) sDiff_D (by rw [hSync_cd (st := sD st 20 s v) hk, show (sD st 20 s v).2.1 20 s = v from vf_us]; rfl) hdg kk

theorem hs_putS {s idx : Nat} {v : Int32} (S : CallFix p m c cc nL u args lw_all own) (P : PW D cs A u L f H locs) (hF : HF cs ad st L f) (hs : s < 8) (hk : hKd st s) (hlink : Cond.fieldLink own idx "SyncHall$Sync" (TX5 2).2.1 (TX5 2).2.2.1 ∈ lw_all) (hdg : decode cc pc = .ok (.putfield idx, 3))
    (kk : ∀ (H1 : Heap) (locs1 : List Loc) (f' : Nat → va_E), PW D cs A u L f' H1 locs1 → HF cs ad (sI st 21 s v) L f' → (∀ a, ¬ hOwn st ad a → f' a = f a) → W p l e R u m args below meth c H1 locs1 cells slots Q (F0 m (pc + 3) ls rest)) : W p l e R u m args below meth c H locs cells slots Q (F0 m pc ls (.int v :: .ref (ad (18 + s)) :: rest)) := by
  have hkne := hk.ne
  rcases hk with hk | hk | hk | hk | hk
  · exact hp_sync (st' := sI st 21 s v) (q := (RX5, TX5, 6)) (k := 2) S P hF hs hkne (hSync_lk hk) rfl (by decide) hlink (Or.inl rfl) rfl rfl rfl (Nat.le_of_ble_eq_true rfl) (sDiff_I (by decide)) (by rw [hSync_lk (st := sI st 21 s v) hk, show (sI st 21 s v).1 21 s = v from pk_us]; rfl) hdg kk
  · exact hp_sync (st' := sI st 21 s v) (q := (RX6, TX6, 5)) (k := 2) S P hF hs hkne (hSync_sm hk) rfl (by decide) hlink (Or.inl rfl) rfl rfl rfl (Nat.le_of_ble_eq_true rfl) (sDiff_I (by decide)) (by rw [hSync_sm (st := sI st 21 s v) hk, show (sI st 21 s v).1 21 s = v from pk_us]; rfl) hdg kk
  · exact hp_sync (st' := sI st 21 s v) (q := (RX7, TX7, 4)) (k := 2) S P hF hs hkne (hSync_la hk) rfl (by decide) hlink (Or.inl rfl) rfl rfl rfl (Nat.le_of_ble_eq_true rfl) (sDiff_I (by decide)) (by rw [hSync_la (st := sI st 21 s v) hk, show (sI st 21 s v).1 21 s = v from pk_us]; rfl) hdg kk
  · exact hp_sync (st' := sI st 21 s v) (q := (RX8, TX8, 6)) (k := 2) S P hF hs hkne (hSync_sh hk) rfl (by decide) hlink (Or.inl rfl) rfl rfl rfl (Nat.le_of_ble_eq_true rfl) (sDiff_I (by decide)) (by rw [hSync_sh (st := sI st 21 s v) hk, show (sI st 21 s v).1 21 s = v from pk_us]; rfl) hdg kk
  · exact hp_sync (st' := sI st 21 s v) (q := (RX9, TX9, 4)) (k := 2) S P hF hs hkne (hSync_cd hk) rfl (by decide) hlink (Or.inl rfl) rfl rfl rfl (Nat.le_of_ble_eq_true rfl) (sDiff_I (by decide)) (by rw [hSync_cd (st := sI st 21 s v) hk, show (sI st 21 s v).1 21 s = v from pk_us]; rfl) hdg kk

end HSP

set_option maxHeartbeats 8000000 in
set_option maxRecDepth 100000 in
theorem hw_X4_note {l : Launch} {D : va_G} {cs : Nat → ClassId} {ad : Nat → Nat} {L : List Nat} {f : Nat → va_E} {st : St} {s : Nat} (hs : s < 8) (hk : hKd st s) {v : UInt64} (hdb : fb 1400 (st.2.1 20 s)) (hv : fb 1201 v)  (hF : HF cs ad st L f) : PM l D cs yX4_note cX4_note 3 none (rmL 2 0 0) [.ref (ad (18 + s)), .double v] L f (hPostS cs ad st L f (.inl none) (sI (sD st 20 s (FP.dadd (st.2.1 20 s) v)) 21 s (st.1 21 s + 1))) := by
  refine hm_of "SyncHall$Sync" rfl (by decide +kernel) (Nat.le_of_ble_eq_true rfl) ?_
  intro sz p e u m below meth c S P hsz hr hlk hnm htb ls hl Q hQ
  have hl : lv_has ls 3 [(0, .ref (ad (18 + s))), (1, .double v)] := hl
  have hx := S.1
  have hb := S.2.1
  generalize hH0 : u.heap = H at P ⊢
  generalize ([] : List Loc) = locs at P ⊢
  have hFr : ∀ a, ¬ hOwn st ad a → f a = f a := fun _ _ => rfl
  refine lv_aload_n hx hb dX4_note_0 rfl (lv_at hl 0 rfl) ?_
  refine lv_dup hx hb dX4_note_1 rfl ?_
  refine hs_get 1 (by decide) S P hF (by omega) hk q263 dX4_note_2 ?_
  refine lv_dload_n hx hb dX4_note_5 rfl (lv_at hl 1 rfl) ?_
  refine lv_dadd hx hb dX4_note_6 ((fb_sum hdb hv).2) ?_
  refine hs_putW (v := FP.dadd (st.2.1 20 s) v) S P hF (by omega) hk q263 dX4_note_7 (fun H locs f P hF hfr => ?_)
  have hFr : ∀ a, ¬ hOwn st ad a → f a = _ := fun a ha => (hfr a ha).trans (hFr a ha)
  refine lv_aload_n hx hb dX4_note_10 rfl (lv_at hl 0 rfl) ?_
  refine lv_dup hx hb dX4_note_11 rfl ?_
  refine hs_get 2 (by decide) S P hF (by omega) hk q264 dX4_note_12 ?_
  refine lv_iconst (v := 1) hx hb dX4_note_15 (by decide) ?_
  refine lv_iadd hx hb dX4_note_16 ?_
  refine hs_putS (v := (st.1 21 s) + 1) S P hF (by omega) hk q264 dX4_note_17 (fun H locs f P hF hfr => ?_)
  have hFr : ∀ a, ¬ hOwn st ad a → f a = _ := fun a ha => (hfr a ha).trans (hFr a ha)
  exact gw_vret S P hQ hr hlk ⟨Nat.le_of_ble_eq_true rfl, Nat.le_of_ble_eq_true rfl⟩ dX4_note_20 (hPost_same hF (fun _ hr => hr) hFr)

set_option maxHeartbeats 8000000 in
set_option maxRecDepth 100000 in
theorem hw_X5_take {l : Launch} {D : va_G} {cs : Nat → ClassId} {ad : Nat → Nat} {L : List Nat} {f : Nat → va_E} {n : Nat} {st : St} (ho : Ok n st) {s : Nat} (hs : s < 8) (hk : st.1 12 s = 0 ∨ st.1 12 s = 1) {t : Nat} (ht : t < 6) {wb : Bool}  (hF : HF cs ad st L f) : PM l D cs yX5_take cX5_take 3 none (rmL 2 0 0) [.ref (ad (18 + s)), .ref (ad (12 + t)), .int (bI wb)] L f (hPostS cs ad st L f (.inl none) (sI (sI st 13 s (nI t)) 14 s (st.1 14 s + 1))) := by
  refine hm_of "SyncHall$Lock" rfl (by decide +kernel) (Nat.le_of_ble_eq_true rfl) ?_
  intro sz p e u m below meth c S P hsz hr hlk hnm htb ls hl Q hQ
  have hl : lv_has ls 3 [(0, .ref (ad (18 + s))), (1, .ref (ad (12 + t))), (2, .int (bI wb))] := hl
  have hx := S.1
  have hb := S.2.1
  generalize hH0 : u.heap = H at P ⊢
  generalize ([] : List Loc) = locs at P ⊢
  have hFr : ∀ a, ¬ hOwn st ad a → f a = f a := fun _ _ => rfl
  have hkne : ¬ st.1 12 s = -1 := by rcases hk with q | q <;> rw [q] <;> decide
  refine lv_aload_n hx hb dX5_take_0 rfl (lv_at hl 0 rfl) ?_
  refine lv_aload_n hx hb dX5_take_1 rfl (lv_at hl 1 rfl) ?_
  refine hp_sync (st' := sI st 13 s (nI t)) (s := s) (q := (RX5, TX5, 6)) (k := 4) (v := .ref (ad (12 + t))) S P hF (by omega) hkne (hSync_lk hk) rfl (by decide) q251 (Or.inl rfl) rfl rfl rfl (Nat.le_of_ble_eq_true rfl) (sDiff_I (by decide)) (by rw [hSync_lk (st := sI st 13 s (nI t)) hk, hOw_set (by omega)]; rfl) dX5_take_2 (fun H locs f P hF hfr => ?_)
  have hFr : ∀ a, ¬ hOwn st ad a → f a = _ := fun a ha => (hfr a ha).trans (hFr a ha)
  refine lv_aload_n hx hb dX5_take_5 rfl (lv_at hl 0 rfl) ?_
  refine lv_dup hx hb dX5_take_6 rfl ?_
  refine pw_get (q := (RX5, TX5, 6)) (k := 5) S P (hF.lk (by omega) hk).1 (hF.lk (by omega) hk).2 rfl (by decide) q252 (Or.inl rfl) rfl dX5_take_7 ?_
  refine lv_iconst (v := 1) hx hb dX5_take_10 (by decide) ?_
  refine lv_iadd hx hb dX5_take_11 ?_
  refine hp_sync (st' := sI (sI st 13 s (nI t)) 14 s ((st.1 14 s) + 1)) (s := s) (q := (RX5, TX5, 6)) (k := 5) (v := .int ((st.1 14 s) + 1)) S P hF (by omega) hkne (hSync_lk hk) rfl (by decide) q252 (Or.inl rfl) rfl rfl rfl (Nat.le_of_ble_eq_true rfl) (sDiff_I (by decide)) (by rw [hSync_lk (st := sI (sI st 13 s (nI t)) 14 s ((st.1 14 s) + 1)) hk, show (sI (sI st 13 s (nI t)) 14 s ((st.1 14 s) + 1)).1 14 s = (st.1 14 s) + 1 from pk_us]; rfl) dX5_take_12 (fun H locs f P hF hfr => ?_)
  have hFr : ∀ a, ¬ hOwn st ad a → f a = _ := fun a ha => (hfr a ha).trans (hFr a ha)
  exact gw_vret S P hQ hr hlk ⟨Nat.le_of_ble_eq_true rfl, Nat.le_of_ble_eq_true rfl⟩ dX5_take_15 (by rw [show sI (sI st 13 s (nI t)) 14 s (st.1 14 s + 1) = sI (sI st 13 s (nI t)) 14 s ((st.1 14 s) + 1) from rfl]; exact hPost_same hF (fun _ hr => hr) hFr)

set_option maxHeartbeats 8000000 in
set_option maxRecDepth 100000 in
theorem hw_X5_leave {l : Launch} {D : va_G} {cs : Nat → ClassId} {ad : Nat → Nat} {L : List Nat} {f : Nat → va_E} {n : Nat} {st : St} (ho : Ok n st) {s : Nat} (hs : s < 8) (hk : st.1 12 s = 0 ∨ st.1 12 s = 1)  (hF : HF cs ad st L f) : PM l D cs yX5_leave cX5_leave 2 (some .int) (rmL 2 0 0) [.ref (ad (18 + s))] L f (hPostS cs ad st L f (.inl (some (.int (st.1 14 s)))) (sI (sI st 14 s 0) 13 s (-1))) := by
  refine hm_of "SyncHall$Lock" rfl (by decide +kernel) (Nat.le_of_ble_eq_true rfl) ?_
  intro sz p e u m below meth c S P hsz hr hlk hnm htb ls hl Q hQ
  have hl : lv_has ls 2 [(0, .ref (ad (18 + s)))] := hl
  have hx := S.1
  have hb := S.2.1
  generalize hH0 : u.heap = H at P ⊢
  generalize ([] : List Loc) = locs at P ⊢
  have hFr : ∀ a, ¬ hOwn st ad a → f a = f a := fun _ _ => rfl
  have hkne : ¬ st.1 12 s = -1 := by rcases hk with q | q <;> rw [q] <;> decide
  refine lv_aload_n hx hb dX5_leave_0 rfl (lv_at hl 0 rfl) ?_
  refine pw_get (q := (RX5, TX5, 6)) (k := 5) S P (hF.lk (by omega) hk).1 (hF.lk (by omega) hk).2 rfl (by decide) q252 (Or.inl rfl) rfl dX5_leave_1 ?_
  refine lv_istore_n (lv' := [(1, .int (st.1 14 s)), (0, .ref (ad (18 + s)))]) hx hb dX5_leave_4 rfl hl (by decide) rfl (fun ls hl => ?_)
  refine lv_aload_n hx hb dX5_leave_5 rfl (lv_at hl 1 rfl) ?_
  refine lv_iconst (v := 0) hx hb dX5_leave_6 (by decide) ?_
  refine hp_sync (st' := sI st 14 s 0) (s := s) (q := (RX5, TX5, 6)) (k := 5) (v := .int 0) S P hF (by omega) hkne (hSync_lk hk) rfl (by decide) q252 (Or.inl rfl) rfl rfl rfl (Nat.le_of_ble_eq_true rfl) (sDiff_I (by decide)) (by rw [hSync_lk (st := sI st 14 s 0) hk, show (sI st 14 s 0).1 14 s = 0 from pk_us]; rfl) dX5_leave_7 (fun H locs f P hF hfr => ?_)
  have hFr : ∀ a, ¬ hOwn st ad a → f a = _ := fun a ha => (hfr a ha).trans (hFr a ha)
  refine lv_aload_n hx hb dX5_leave_10 rfl (lv_at hl 1 rfl) ?_
  refine lv_null hx hb dX5_leave_11 ?_
  refine hp_sync (st' := sI (sI st 14 s 0) 13 s (-1)) (s := s) (q := (RX5, TX5, 6)) (k := 4) (v := .null) S P hF (by omega) hkne (hSync_lk hk) rfl (by decide) q251 (Or.inl rfl) rfl rfl rfl (Nat.le_of_ble_eq_true rfl) (sDiff_I (by decide)) (by rw [hSync_lk (st := sI (sI st 14 s 0) 13 s (-1)) hk, hOw_clr]; rfl) dX5_leave_12 (fun H locs f P hF hfr => ?_)
  have hFr : ∀ a, ¬ hOwn st ad a → f a = _ := fun a ha => (hfr a ha).trans (hFr a ha)
  refine lv_iload_n hx hb dX5_leave_15 rfl (lv_at hl 0 rfl) ?_
  exact gw_iret S P hQ hr hlk ⟨Nat.le_of_ble_eq_true rfl, Nat.le_of_ble_eq_true rfl⟩ dX5_leave_16 (hPost_same hF (fun _ hr => hr) hFr)

set_option maxHeartbeats 8000000 in
set_option maxRecDepth 100000 in
theorem hw_X5_giveBack {l : Launch} {D : va_G} {cs : Nat → ClassId} {ad : Nat → Nat} {L : List Nat} {f : Nat → va_E} {n : Nat} {st : St} (ho : Ok n st) {s : Nat} (hs : s < 8) (hk : st.1 12 s = 0 ∨ st.1 12 s = 1) {t : Nat} (ht : t < 6) {wb : Bool} (how : st.1 13 s = nI t)  (hF : HF cs ad st L f) : PM l D cs yX5_giveBack cX5_giveBack 3 none (rmL 7 1 6) [.ref (ad (18 + s)), .ref (ad (12 + t)), .int (bI wb)] L f (hPostS cs ad st L f (.inl none) (if st.1 14 s - 1 = 0 then sI (sI st 14 s (st.1 14 s - 1)) 13 s (-1) else sI st 14 s (st.1 14 s - 1))) := by
  refine hm_of "SyncHall$Lock" rfl (by decide +kernel) (Nat.le_of_ble_eq_true rfl) ?_
  intro sz p e u m below meth c S P hsz hr hlk hnm htb ls hl Q hQ
  have hl : lv_has ls 3 [(0, .ref (ad (18 + s))), (1, .ref (ad (12 + t))), (2, .int (bI wb))] := hl
  have hx := S.1
  have hb := S.2.1
  generalize hH0 : u.heap = H at P ⊢
  generalize ([] : List Loc) = locs at P ⊢
  have hFr : ∀ a, ¬ hOwn st ad a → f a = f a := fun _ _ => rfl
  have hkne : ¬ st.1 12 s = -1 := by rcases hk with q | q <;> rw [q] <;> decide
  refine lv_aload_n hx hb dX5_giveBack_0 rfl (lv_at hl 0 rfl) ?_
  refine pw_get (q := (RX5, TX5, 6)) (k := 4) S P (hF.lk (by omega) hk).1 (hF.lk (by omega) hk).2 rfl (by decide) q251 (Or.inl rfl) rfl dX5_giveBack_1 ?_
  refine lv_aload_n hx hb dX5_giveBack_4 rfl (lv_at hl 1 rfl) ?_
  refine lv_acmp_ne (tgt := 12) (rx := hOw st ad s) (ry := some (ad (12 + t))) hx hb dX5_giveBack_5 (by decide) (fun c5 => ?_) (fun c5 => ?_)
  · rw [hOw_some hF ho (by omega) (by omega)] at c5
    exact absurd how c5
  · rw [hOw_some hF ho (by omega) (by omega)] at c5
    refine lv_iconst (v := 1) hx hb dX5_giveBack_8 (by decide) ?_
    refine lv_goto (tgt := 13) hx hb dX5_giveBack_9 (by decide) ?_
    refine pw_callR (nL' := 1) (rest := []) S P (hs_state True.intro) q222 q36 (pw_entSN "SyncHall" [.int 1] S (P.2.2.2.2.1.use q580 rfl) q221 q36 q222 ⟨by decide +kernel, by decide +kernel, (by decide +kernel : (parseMethodDescriptor yX1_state.desc).map (fun d => d.parameters.length) = some 1)⟩ dX5_giveBack_13) hl.1 (Nat.le_of_ble_eq_true rfl) ⟨Nat.le_of_ble_eq_true rfl, Nat.le_of_ble_eq_true rfl⟩ ⟨Nat.le_of_ble_eq_true rfl, Nat.le_of_ble_eq_true rfl⟩ (fun H locs P => ?_)
    refine W.eq (g2 := F0 m 16 ls []) rfl ?_
    refine W.widen (k := 1) (n := 6) (Nat.le_of_ble_eq_true rfl) (Nat.le_of_ble_eq_true rfl) ?_
    refine lv_aload_n hx hb dX5_giveBack_16 rfl (lv_at hl 0 rfl) ?_
    refine lv_dup hx hb dX5_giveBack_17 rfl ?_
    refine pw_get (q := (RX5, TX5, 6)) (k := 5) S P (hF.lk (by omega) hk).1 (hF.lk (by omega) hk).2 rfl (by decide) q252 (Or.inl rfl) rfl dX5_giveBack_18 ?_
    refine lv_iconst (v := 1) hx hb dX5_giveBack_21 (by decide) ?_
    refine lv_isub hx hb dX5_giveBack_22 ?_
    refine hp_sync (st' := sI st 14 s ((st.1 14 s) - 1)) (s := s) (q := (RX5, TX5, 6)) (k := 5) (v := .int ((st.1 14 s) - 1)) S P hF (by omega) hkne (hSync_lk hk) rfl (by decide) q252 (Or.inl rfl) rfl rfl rfl (Nat.le_of_ble_eq_true rfl) (sDiff_I (by decide)) (by rw [hSync_lk (st := sI st 14 s ((st.1 14 s) - 1)) hk, show (sI st 14 s ((st.1 14 s) - 1)).1 14 s = (st.1 14 s) - 1 from pk_us]; rfl) dX5_giveBack_23 (fun H locs f P hF hfr => ?_)
    have hFr : ∀ a, ¬ hOwn st ad a → f a = _ := fun a ha => (hfr a ha).trans (hFr a ha)
    refine lv_aload_n hx hb dX5_giveBack_26 rfl (lv_at hl 0 rfl) ?_
    refine pw_get (q := (RX5, TX5, 6)) (k := 5) S P (hF.lk (by omega) hk).1 (hF.lk (by omega) hk).2 rfl (by decide) q252 (Or.inl rfl) rfl dX5_giveBack_27 ?_
    refine lw_eqi (y := st.1 14 s - 1) (by exact pk_us) ?_
    refine lv_if_ne (tgt := 38) (x := st.1 14 s - 1) hx hb dX5_giveBack_30 (by decide) (fun c30 => ?_) (fun c30 => ?_)
    · have _h := True.intro
      exact gw_vret S P hQ hr hlk ⟨Nat.le_of_ble_eq_true rfl, Nat.le_of_ble_eq_true rfl⟩ dX5_giveBack_38 (by rw [if_neg c30]; exact hPost_same hF (fun _ hr => hr) hFr)
    · have _h := True.intro
      refine lv_aload_n hx hb dX5_giveBack_33 rfl (lv_at hl 0 rfl) ?_
      refine lv_null hx hb dX5_giveBack_34 ?_
      refine hp_sync (st' := sI (sI st 14 s ((st.1 14 s) - 1)) 13 s (-1)) (s := s) (q := (RX5, TX5, 6)) (k := 4) (v := .null) S P hF (by omega) hkne (hSync_lk hk) rfl (by decide) q251 (Or.inl rfl) rfl rfl rfl (Nat.le_of_ble_eq_true rfl) (sDiff_I (by decide)) (by rw [hSync_lk (st := sI (sI st 14 s ((st.1 14 s) - 1)) 13 s (-1)) hk, hOw_clr]; rfl) dX5_giveBack_35 (fun H locs f P hF hfr => ?_)
      have hFr : ∀ a, ¬ hOwn st ad a → f a = _ := fun a ha => (hfr a ha).trans (hFr a ha)
      exact gw_vret S P hQ hr hlk ⟨Nat.le_of_ble_eq_true rfl, Nat.le_of_ble_eq_true rfl⟩ dX5_giveBack_38 (by rw [if_pos c30]; exact hPost_same hF (fun _ hr => hr) hFr)

set_option maxHeartbeats 8000000 in
set_option maxRecDepth 100000 in
theorem ht_X5_giveBack {l : Launch} {D : va_G} {cs : Nat → ClassId} {ad : Nat → Nat} {L : List Nat} {f : Nat → va_E} (hst : l.stackTraces = false) {n : Nat} {st : St} (ho : Ok n st) {s : Nat} (hs : s < 8) (hk : st.1 12 s = 0 ∨ st.1 12 s = 1) {t : Nat} (ht : t < 6) {wb : Bool} (how : ¬ st.1 13 s = nI t)  (hF : HF cs ad st L f) : PM l D cs yX5_giveBack cX5_giveBack 3 none (rmL 7 1 6) [.ref (ad (18 + s)), .ref (ad (12 + t)), .int (bI wb)] L f (hPostS cs ad st L f (.inr "java/lang/IllegalStateException") st) := by
  refine hm_of "SyncHall$Lock" rfl (by decide +kernel) (Nat.le_of_ble_eq_true rfl) ?_
  intro sz p e u m below meth c S P hsz hr hlk hnm htb ls hl Q hQ
  have hl : lv_has ls 3 [(0, .ref (ad (18 + s))), (1, .ref (ad (12 + t))), (2, .int (bI wb))] := hl
  have hx := S.1
  have hb := S.2.1
  generalize hH0 : u.heap = H at P ⊢
  generalize ([] : List Loc) = locs at P ⊢
  have hFr : ∀ a, ¬ hOwn st ad a → f a = f a := fun _ _ => rfl
  have hkne : ¬ st.1 12 s = -1 := by rcases hk with q | q <;> rw [q] <;> decide
  refine lv_aload_n hx hb dX5_giveBack_0 rfl (lv_at hl 0 rfl) ?_
  refine pw_get (q := (RX5, TX5, 6)) (k := 4) S P (hF.lk (by omega) hk).1 (hF.lk (by omega) hk).2 rfl (by decide) q251 (Or.inl rfl) rfl dX5_giveBack_1 ?_
  refine lv_aload_n hx hb dX5_giveBack_4 rfl (lv_at hl 1 rfl) ?_
  refine lv_acmp_ne (tgt := 12) (rx := hOw st ad s) (ry := some (ad (12 + t))) hx hb dX5_giveBack_5 (by decide) (fun c5 => ?_) (fun c5 => ?_)
  · rw [hOw_some hF ho (by omega) (by omega)] at c5
    refine lv_iconst (v := 0) hx hb dX5_giveBack_12 (by decide) ?_
    exact pw_callT (nL' := 1) (rest := []) S P hQ (ht_state hst) q222 q36 (pw_entSN "SyncHall" [.int 0] S (P.2.2.2.2.1.use q580 rfl) q221 q36 q222 ⟨by decide +kernel, by decide +kernel, (by decide +kernel : (parseMethodDescriptor yX1_state.desc).map (fun d => d.parameters.length) = some 1)⟩ dX5_giveBack_13) htb hlk hl.1 (Nat.le_of_ble_eq_true rfl) ⟨Nat.le_of_ble_eq_true rfl, Nat.le_of_ble_eq_true rfl⟩ ⟨Nat.le_of_ble_eq_true rfl, Nat.le_of_ble_eq_true rfl⟩ ⟨Nat.le_of_ble_eq_true rfl, Nat.le_of_ble_eq_true rfl⟩ (hPost_same hF (fun _ hr => hr) hFr)
  · rw [hOw_some hF ho (by omega) (by omega)] at c5
    exact absurd c5 how

set_option maxHeartbeats 8000000 in
set_option maxRecDepth 100000 in
theorem hw_X6_take {l : Launch} {D : va_G} {cs : Nat → ClassId} {ad : Nat → Nat} {L : List Nat} {f : Nat → va_E} {n : Nat} {st : St} (ho : Ok n st) {s : Nat} (hs : s < 8) (hk : st.1 12 s = 2 ∨ st.1 12 s = 3) {t : Nat} (ht : t < 6) {wb : Bool}  (hF : HF cs ad st L f) : PM l D cs yX6_take cX6_take 3 none (rmL 2 0 0) [.ref (ad (18 + s)), .ref (ad (12 + t)), .int (bI wb)] L f (hPostS cs ad st L f (.inl none) (sI st 15 s (st.1 15 s - 1))) := by
  refine hm_of "SyncHall$Semaphore" rfl (by decide +kernel) (Nat.le_of_ble_eq_true rfl) ?_
  intro sz p e u m below meth c S P hsz hr hlk hnm htb ls hl Q hQ
  have hl : lv_has ls 3 [(0, .ref (ad (18 + s))), (1, .ref (ad (12 + t))), (2, .int (bI wb))] := hl
  have hx := S.1
  have hb := S.2.1
  generalize hH0 : u.heap = H at P ⊢
  generalize ([] : List Loc) = locs at P ⊢
  have hFr : ∀ a, ¬ hOwn st ad a → f a = f a := fun _ _ => rfl
  have hkne : ¬ st.1 12 s = -1 := by rcases hk with q | q <;> rw [q] <;> decide
  refine lv_aload_n hx hb dX6_take_0 rfl (lv_at hl 0 rfl) ?_
  refine lv_dup hx hb dX6_take_1 rfl ?_
  refine pw_get (q := (RX6, TX6, 5)) (k := 4) S P (hF.sm (by omega) hk).1 (hF.sm (by omega) hk).2 rfl (by decide) q285 (Or.inl rfl) rfl dX6_take_2 ?_
  refine lv_iconst (v := 1) hx hb dX6_take_5 (by decide) ?_
  refine lv_isub hx hb dX6_take_6 ?_
  refine hp_sync (st' := sI st 15 s ((st.1 15 s) - 1)) (s := s) (q := (RX6, TX6, 5)) (k := 4) (v := .int ((st.1 15 s) - 1)) S P hF (by omega) hkne (hSync_sm hk) rfl (by decide) q285 (Or.inl rfl) rfl rfl rfl (Nat.le_of_ble_eq_true rfl) (sDiff_I (by decide)) (by rw [hSync_sm (st := sI st 15 s ((st.1 15 s) - 1)) hk, show (sI st 15 s ((st.1 15 s) - 1)).1 15 s = (st.1 15 s) - 1 from pk_us]; rfl) dX6_take_7 (fun H locs f P hF hfr => ?_)
  have hFr : ∀ a, ¬ hOwn st ad a → f a = _ := fun a ha => (hfr a ha).trans (hFr a ha)
  exact gw_vret S P hQ hr hlk ⟨Nat.le_of_ble_eq_true rfl, Nat.le_of_ble_eq_true rfl⟩ dX6_take_10 (by rw [show sI st 15 s (st.1 15 s - 1) = sI st 15 s ((st.1 15 s) - 1) from rfl]; exact hPost_same hF (fun _ hr => hr) hFr)

set_option maxHeartbeats 8000000 in
set_option maxRecDepth 100000 in
theorem hw_X6_giveBack {l : Launch} {D : va_G} {cs : Nat → ClassId} {ad : Nat → Nat} {L : List Nat} {f : Nat → va_E} {n : Nat} {st : St} (ho : Ok n st) {s : Nat} (hs : s < 8) (hk : st.1 12 s = 2 ∨ st.1 12 s = 3) {t : Nat} (ht : t < 6) {wb : Bool} (hp : st.1 15 s < 100)  (hF : HF cs ad st L f) : PM l D cs yX6_giveBack cX6_giveBack 3 none (rmL 7 1 6) [.ref (ad (18 + s)), .ref (ad (12 + t)), .int (bI wb)] L f (hPostS cs ad st L f (.inl none) (sI st 15 s (st.1 15 s + 1))) := by
  refine hm_of "SyncHall$Semaphore" rfl (by decide +kernel) (Nat.le_of_ble_eq_true rfl) ?_
  intro sz p e u m below meth c S P hsz hr hlk hnm htb ls hl Q hQ
  have hl : lv_has ls 3 [(0, .ref (ad (18 + s))), (1, .ref (ad (12 + t))), (2, .int (bI wb))] := hl
  have hx := S.1
  have hb := S.2.1
  generalize hH0 : u.heap = H at P ⊢
  generalize ([] : List Loc) = locs at P ⊢
  have hFr : ∀ a, ¬ hOwn st ad a → f a = f a := fun _ _ => rfl
  have hkne : ¬ st.1 12 s = -1 := by rcases hk with q | q <;> rw [q] <;> decide
  refine lv_aload_n hx hb dX6_giveBack_0 rfl (lv_at hl 0 rfl) ?_
  refine pw_get (q := (RX6, TX6, 5)) (k := 4) S P (hF.sm (by omega) hk).1 (hF.sm (by omega) hk).2 rfl (by decide) q285 (Or.inl rfl) rfl dX6_giveBack_1 ?_
  refine lv_bipush (v := 100) hx hb dX6_giveBack_4 (by decide) ?_
  refine lw_icmp_ge (tgt := 13) (x := st.1 15 s) (y := 100) hx hb dX6_giveBack_6 (by decide) (fun c6 => ?_) (fun c6 => ?_)
  · exact absurd hp c6
  · have _h := True.intro
    refine lv_iconst (v := 1) hx hb dX6_giveBack_9 (by decide) ?_
    refine lv_goto (tgt := 14) hx hb dX6_giveBack_10 (by decide) ?_
    refine pw_callR (nL' := 1) (rest := []) S P (hs_can True.intro) q375 q36 (pw_entSN "SyncHall" [.int 1] S (P.2.2.2.2.1.use q584 rfl) q374 q36 q375 ⟨by decide +kernel, by decide +kernel, (by decide +kernel : (parseMethodDescriptor yX1_can.desc).map (fun d => d.parameters.length) = some 1)⟩ dX6_giveBack_14) hl.1 (Nat.le_of_ble_eq_true rfl) ⟨Nat.le_of_ble_eq_true rfl, Nat.le_of_ble_eq_true rfl⟩ ⟨Nat.le_of_ble_eq_true rfl, Nat.le_of_ble_eq_true rfl⟩ (fun H locs P => ?_)
    refine W.eq (g2 := F0 m 17 ls []) rfl ?_
    refine W.widen (k := 1) (n := 6) (Nat.le_of_ble_eq_true rfl) (Nat.le_of_ble_eq_true rfl) ?_
    refine lv_aload_n hx hb dX6_giveBack_17 rfl (lv_at hl 0 rfl) ?_
    refine lv_dup hx hb dX6_giveBack_18 rfl ?_
    refine pw_get (q := (RX6, TX6, 5)) (k := 4) S P (hF.sm (by omega) hk).1 (hF.sm (by omega) hk).2 rfl (by decide) q285 (Or.inl rfl) rfl dX6_giveBack_19 ?_
    refine lv_iconst (v := 1) hx hb dX6_giveBack_22 (by decide) ?_
    refine lv_iadd hx hb dX6_giveBack_23 ?_
    refine hp_sync (st' := sI st 15 s ((st.1 15 s) + 1)) (s := s) (q := (RX6, TX6, 5)) (k := 4) (v := .int ((st.1 15 s) + 1)) S P hF (by omega) hkne (hSync_sm hk) rfl (by decide) q285 (Or.inl rfl) rfl rfl rfl (Nat.le_of_ble_eq_true rfl) (sDiff_I (by decide)) (by rw [hSync_sm (st := sI st 15 s ((st.1 15 s) + 1)) hk, show (sI st 15 s ((st.1 15 s) + 1)).1 15 s = (st.1 15 s) + 1 from pk_us]; rfl) dX6_giveBack_24 (fun H locs f P hF hfr => ?_)
    have hFr : ∀ a, ¬ hOwn st ad a → f a = _ := fun a ha => (hfr a ha).trans (hFr a ha)
    exact gw_vret S P hQ hr hlk ⟨Nat.le_of_ble_eq_true rfl, Nat.le_of_ble_eq_true rfl⟩ dX6_giveBack_27 (by rw [show sI st 15 s (st.1 15 s + 1) = sI st 15 s ((st.1 15 s) + 1) from rfl]; exact hPost_same hF (fun _ hr => hr) hFr)

set_option maxHeartbeats 8000000 in
set_option maxRecDepth 100000 in
theorem ht_X6_giveBack {l : Launch} {D : va_G} {cs : Nat → ClassId} {ad : Nat → Nat} {L : List Nat} {f : Nat → va_E} (hst : l.stackTraces = false) {n : Nat} {st : St} (ho : Ok n st) {s : Nat} (hs : s < 8) (hk : st.1 12 s = 2 ∨ st.1 12 s = 3) {t : Nat} (ht : t < 6) {wb : Bool} (hp : ¬ st.1 15 s < 100)  (hF : HF cs ad st L f) : PM l D cs yX6_giveBack cX6_giveBack 3 none (rmL 7 1 6) [.ref (ad (18 + s)), .ref (ad (12 + t)), .int (bI wb)] L f (hPostS cs ad st L f (.inr "java/lang/UnsupportedOperationException") st) := by
  refine hm_of "SyncHall$Semaphore" rfl (by decide +kernel) (Nat.le_of_ble_eq_true rfl) ?_
  intro sz p e u m below meth c S P hsz hr hlk hnm htb ls hl Q hQ
  have hl : lv_has ls 3 [(0, .ref (ad (18 + s))), (1, .ref (ad (12 + t))), (2, .int (bI wb))] := hl
  have hx := S.1
  have hb := S.2.1
  generalize hH0 : u.heap = H at P ⊢
  generalize ([] : List Loc) = locs at P ⊢
  have hFr : ∀ a, ¬ hOwn st ad a → f a = f a := fun _ _ => rfl
  have hkne : ¬ st.1 12 s = -1 := by rcases hk with q | q <;> rw [q] <;> decide
  refine lv_aload_n hx hb dX6_giveBack_0 rfl (lv_at hl 0 rfl) ?_
  refine pw_get (q := (RX6, TX6, 5)) (k := 4) S P (hF.sm (by omega) hk).1 (hF.sm (by omega) hk).2 rfl (by decide) q285 (Or.inl rfl) rfl dX6_giveBack_1 ?_
  refine lv_bipush (v := 100) hx hb dX6_giveBack_4 (by decide) ?_
  refine lw_icmp_ge (tgt := 13) (x := st.1 15 s) (y := 100) hx hb dX6_giveBack_6 (by decide) (fun c6 => ?_) (fun c6 => ?_)
  · have _h := True.intro
    refine lv_iconst (v := 0) hx hb dX6_giveBack_13 (by decide) ?_
    exact pw_callT (nL' := 1) (rest := []) S P hQ (ht_can hst) q375 q36 (pw_entSN "SyncHall" [.int 0] S (P.2.2.2.2.1.use q584 rfl) q374 q36 q375 ⟨by decide +kernel, by decide +kernel, (by decide +kernel : (parseMethodDescriptor yX1_can.desc).map (fun d => d.parameters.length) = some 1)⟩ dX6_giveBack_14) htb hlk hl.1 (Nat.le_of_ble_eq_true rfl) ⟨Nat.le_of_ble_eq_true rfl, Nat.le_of_ble_eq_true rfl⟩ ⟨Nat.le_of_ble_eq_true rfl, Nat.le_of_ble_eq_true rfl⟩ ⟨Nat.le_of_ble_eq_true rfl, Nat.le_of_ble_eq_true rfl⟩ (hPost_same hF (fun _ hr => hr) hFr)
  · exact absurd c6 hp

set_option maxHeartbeats 8000000 in
set_option maxRecDepth 100000 in
theorem hw_X7_take {l : Launch} {D : va_G} {cs : Nat → ClassId} {ad : Nat → Nat} {L : List Nat} {f : Nat → va_E} {n : Nat} {st : St} (ho : Ok n st) {s : Nat} (hs : s < 8) (hk : st.1 12 s = 4) {t : Nat} (ht : t < 6) {wb : Bool}  (hF : HF cs ad st L f) : PM l D cs yX7_take cX7_take 3 none (rmL 2 0 0) [.ref (ad (18 + s)), .ref (ad (12 + t)), .int (bI wb)] L f (hPostS cs ad st L f (.inl none) st) := by
  refine hm_of "SyncHall$Latch" rfl (by decide +kernel) (Nat.le_of_ble_eq_true rfl) ?_
  intro sz p e u m below meth c S P hsz hr hlk hnm htb ls hl Q hQ
  have hl : lv_has ls 3 [(0, .ref (ad (18 + s))), (1, .ref (ad (12 + t))), (2, .int (bI wb))] := hl
  have hx := S.1
  have hb := S.2.1
  generalize hH0 : u.heap = H at P ⊢
  generalize ([] : List Loc) = locs at P ⊢
  have hFr : ∀ a, ¬ hOwn st ad a → f a = f a := fun _ _ => rfl
  have hkne : ¬ st.1 12 s = -1 := by rw [hk]; decide
  exact gw_vret S P hQ hr hlk ⟨Nat.le_of_ble_eq_true rfl, Nat.le_of_ble_eq_true rfl⟩ dX7_take_0 (hPost_same hF (fun _ hr => hr) hFr)

set_option maxHeartbeats 8000000 in
set_option maxRecDepth 100000 in
theorem hw_X7_giveBack {l : Launch} {D : va_G} {cs : Nat → ClassId} {ad : Nat → Nat} {L : List Nat} {f : Nat → va_E} {n : Nat} {st : St} (ho : Ok n st) {s : Nat} (hs : s < 8) (hk : st.1 12 s = 4) {t : Nat} (ht : t < 6) {wb : Bool}  (hF : HF cs ad st L f) : PM l D cs yX7_giveBack cX7_giveBack 3 none (rmL 2 0 0) [.ref (ad (18 + s)), .ref (ad (12 + t)), .int (bI wb)] L f (hPostS cs ad st L f (.inl none) (if 0 < st.1 15 s then sI st 15 s (st.1 15 s - 1) else st)) := by
  refine hm_of "SyncHall$Latch" rfl (by decide +kernel) (Nat.le_of_ble_eq_true rfl) ?_
  intro sz p e u m below meth c S P hsz hr hlk hnm htb ls hl Q hQ
  have hl : lv_has ls 3 [(0, .ref (ad (18 + s))), (1, .ref (ad (12 + t))), (2, .int (bI wb))] := hl
  have hx := S.1
  have hb := S.2.1
  generalize hH0 : u.heap = H at P ⊢
  generalize ([] : List Loc) = locs at P ⊢
  have hFr : ∀ a, ¬ hOwn st ad a → f a = f a := fun _ _ => rfl
  have hkne : ¬ st.1 12 s = -1 := by rw [hk]; decide
  refine lv_aload_n hx hb dX7_giveBack_0 rfl (lv_at hl 0 rfl) ?_
  refine pw_get (q := (RX7, TX7, 4)) (k := 3) S P (hF.la (by omega) hk).1 (hF.la (by omega) hk).2 rfl (by decide) q300 (Or.inl rfl) rfl dX7_giveBack_1 ?_
  refine lw_if_le (tgt := 17) (x := st.1 15 s) hx hb dX7_giveBack_4 (by decide) (fun c4 => ?_) (fun c4 => ?_)
  · have _h := True.intro
    exact gw_vret S P hQ hr hlk ⟨Nat.le_of_ble_eq_true rfl, Nat.le_of_ble_eq_true rfl⟩ dX7_giveBack_17 (by rw [if_neg c4]; exact hPost_same hF (fun _ hr => hr) hFr)
  · have _h := True.intro
    refine lv_aload_n hx hb dX7_giveBack_7 rfl (lv_at hl 0 rfl) ?_
    refine lv_dup hx hb dX7_giveBack_8 rfl ?_
    refine pw_get (q := (RX7, TX7, 4)) (k := 3) S P (hF.la (by omega) hk).1 (hF.la (by omega) hk).2 rfl (by decide) q300 (Or.inl rfl) rfl dX7_giveBack_9 ?_
    refine lv_iconst (v := 1) hx hb dX7_giveBack_12 (by decide) ?_
    refine lv_isub hx hb dX7_giveBack_13 ?_
    refine hp_sync (st' := sI st 15 s ((st.1 15 s) - 1)) (s := s) (q := (RX7, TX7, 4)) (k := 3) (v := .int ((st.1 15 s) - 1)) S P hF (by omega) hkne (hSync_la hk) rfl (by decide) q300 (Or.inl rfl) rfl rfl rfl (Nat.le_of_ble_eq_true rfl) (sDiff_I (by decide)) (by rw [hSync_la (st := sI st 15 s ((st.1 15 s) - 1)) hk, show (sI st 15 s ((st.1 15 s) - 1)).1 15 s = (st.1 15 s) - 1 from pk_us]; rfl) dX7_giveBack_14 (fun H locs f P hF hfr => ?_)
    have hFr : ∀ a, ¬ hOwn st ad a → f a = _ := fun a ha => (hfr a ha).trans (hFr a ha)
    exact gw_vret S P hQ hr hlk ⟨Nat.le_of_ble_eq_true rfl, Nat.le_of_ble_eq_true rfl⟩ dX7_giveBack_17 (by rw [if_pos c4]; exact hPost_same hF (fun _ hr => hr) hFr)

set_option maxHeartbeats 8000000 in
set_option maxRecDepth 100000 in
theorem hw_X9_take {l : Launch} {D : va_G} {cs : Nat → ClassId} {ad : Nat → Nat} {L : List Nat} {f : Nat → va_E} {n : Nat} {st : St} (ho : Ok n st) {s : Nat} (hs : s < 8) (hk : st.1 12 s = 6) {t : Nat} (ht : t < 6) {wb : Bool}  (hF : HF cs ad st L f) : PM l D cs yX9_take cX9_take 3 none (rmL 2 0 0) [.ref (ad (18 + s)), .ref (ad (12 + t)), .int (bI wb)] L f (hPostS cs ad st L f (.inl none) st) := by
  refine hm_of "SyncHall$Condition" rfl (by decide +kernel) (Nat.le_of_ble_eq_true rfl) ?_
  intro sz p e u m below meth c S P hsz hr hlk hnm htb ls hl Q hQ
  have hl : lv_has ls 3 [(0, .ref (ad (18 + s))), (1, .ref (ad (12 + t))), (2, .int (bI wb))] := hl
  have hx := S.1
  have hb := S.2.1
  generalize hH0 : u.heap = H at P ⊢
  generalize ([] : List Loc) = locs at P ⊢
  have hFr : ∀ a, ¬ hOwn st ad a → f a = f a := fun _ _ => rfl
  have hkne : ¬ st.1 12 s = -1 := by rw [hk]; decide
  exact gw_vret S P hQ hr hlk ⟨Nat.le_of_ble_eq_true rfl, Nat.le_of_ble_eq_true rfl⟩ dX9_take_0 (hPost_same hF (fun _ hr => hr) hFr)

set_option maxHeartbeats 8000000 in
set_option maxRecDepth 100000 in
theorem ht_X9_giveBack {l : Launch} {D : va_G} {cs : Nat → ClassId} {ad : Nat → Nat} {L : List Nat} {f : Nat → va_E} (hst : l.stackTraces = false) {n : Nat} {st : St} (ho : Ok n st) {s : Nat} (hs : s < 8) (hk : st.1 12 s = 6) {t : Nat} (ht : t < 6) {wb : Bool}  (hF : HF cs ad st L f) : PM l D cs yX9_giveBack cX9_giveBack 3 none (rmL 7 1 6) [.ref (ad (18 + s)), .ref (ad (12 + t)), .int (bI wb)] L f (hPostS cs ad st L f (.inr "java/lang/UnsupportedOperationException") st) := by
  refine hm_of "SyncHall$Condition" rfl (by decide +kernel) (Nat.le_of_ble_eq_true rfl) ?_
  intro sz p e u m below meth c S P hsz hr hlk hnm htb ls hl Q hQ
  have hl : lv_has ls 3 [(0, .ref (ad (18 + s))), (1, .ref (ad (12 + t))), (2, .int (bI wb))] := hl
  have hx := S.1
  have hb := S.2.1
  generalize hH0 : u.heap = H at P ⊢
  generalize ([] : List Loc) = locs at P ⊢
  have hFr : ∀ a, ¬ hOwn st ad a → f a = f a := fun _ _ => rfl
  have hkne : ¬ st.1 12 s = -1 := by rw [hk]; decide
  refine lv_iconst (v := 0) hx hb dX9_giveBack_0 (by decide) ?_
  exact pw_callT (nL' := 1) (rest := []) S P hQ (ht_can hst) q375 q36 (pw_entSN "SyncHall" [.int 0] S (P.2.2.2.2.1.use q573 rfl) q374 q36 q375 ⟨by decide +kernel, by decide +kernel, (by decide +kernel : (parseMethodDescriptor yX1_can.desc).map (fun d => d.parameters.length) = some 1)⟩ dX9_giveBack_1) htb hlk hl.1 (Nat.le_of_ble_eq_true rfl) ⟨Nat.le_of_ble_eq_true rfl, Nat.le_of_ble_eq_true rfl⟩ ⟨Nat.le_of_ble_eq_true rfl, Nat.le_of_ble_eq_true rfl⟩ ⟨Nat.le_of_ble_eq_true rfl, Nat.le_of_ble_eq_true rfl⟩ (hPost_same hF (fun _ hr => hr) hFr)

set_option maxHeartbeats 8000000 in
set_option maxRecDepth 100000 in
theorem hw_X8_take {l : Launch} {D : va_G} {cs : Nat → ClassId} {ad : Nat → Nat} {L : List Nat} {f : Nat → va_E} {n : Nat} {st : St} (ho : Ok n st) {s : Nat} (hs : s < 8) (hk : st.1 12 s = 5) {t : Nat} (ht : t < 6) {wb : Bool}  (hF : HF cs ad st L f) : PM l D cs yX8_take cX8_take 3 none (rmL 2 0 0) [.ref (ad (18 + s)), .ref (ad (12 + t)), .int (bI wb)] L f (hPostS cs ad st L f (.inl none) (if wb = true then sI (sI st 13 s (nI t)) 14 s (st.1 14 s + 1) else sI st 17 (6 * s + t) (st.1 17 (6 * s + t) + 1))) := by
  refine hm_of "SyncHall$Shared" rfl (by decide +kernel) (Nat.le_of_ble_eq_true rfl) ?_
  intro sz p e u m below meth c S P hsz hr hlk hnm htb ls hl Q hQ
  have hl : lv_has ls 3 [(0, .ref (ad (18 + s))), (1, .ref (ad (12 + t))), (2, .int (bI wb))] := hl
  have hx := S.1
  have hb := S.2.1
  generalize hH0 : u.heap = H at P ⊢
  generalize ([] : List Loc) = locs at P ⊢
  have hFr : ∀ a, ¬ hOwn st ad a → f a = f a := fun _ _ => rfl
  have hkne : ¬ st.1 12 s = -1 := by rw [hk]; decide
  refine lv_iload_n hx hb dX8_take_0 rfl (lv_at hl 2 rfl) ?_
  refine lv_if_eq (tgt := 22) (x := bI wb) hx hb dX8_take_1 (by decide) (fun c1 => ?_) (fun c1 => ?_)
  · rw [bI_eq0] at c1
    refine lv_aload_n hx hb dX8_take_22 rfl (lv_at hl 0 rfl) ?_
    refine pw_get (q := (RX8, TX8, 6)) (k := 5) S P (hF.sh (by omega) hk).1 (hF.sh (by omega) hk).2 rfl (by decide) q315 (Or.inl rfl) rfl dX8_take_23 ?_
    refine lv_aload_n hx hb dX8_take_26 rfl (lv_at hl 1 rfl) ?_
    refine pw_callR (nL' := 1) (rest := [.ref (ad (26 + s))]) S P (hg_number (hF.m (by omega)) (hF.tk (by omega))) q428 q37 (pw_entV (q := (RX2, TX2, 5)) [] S P (hF.m (by omega)) (hF.tk (by omega)) rfl q425 q426 q427 q428 ⟨by decide +kernel, by decide +kernel, (by decide +kernel : (parseMethodDescriptor yX2_number.desc).map (fun d => d.parameters.length) = some 0)⟩ dX8_take_27) hl.1 (Nat.le_of_ble_eq_true rfl) ⟨Nat.le_of_ble_eq_true rfl, Nat.le_of_ble_eq_true rfl⟩ ⟨Nat.le_of_ble_eq_true rfl, Nat.le_of_ble_eq_true rfl⟩ (fun H locs P => ?_)
    refine W.eq (g2 := F0 m 30 ls [.int (nI t), .ref (ad (26 + s))]) rfl ?_
    refine W.widen (k := 0) (n := 0) (Nat.le_of_ble_eq_true rfl) (Nat.le_of_ble_eq_true rfl) ?_
    refine lv_dup2_11 hx hb dX8_take_30 rfl rfl ?_
    refine pw_iald (j := t) S P (hF.mem (hl_rd (by omega) hk)) (hF.rd (by omega) hk) rfl (by omega) (by decide) dX8_take_31 ?_
    refine lw_eqi (y := st.1 17 (6 * s + t)) (if_pos (by omega)) ?_
    refine lv_iconst (v := 1) hx hb dX8_take_32 (by decide) ?_
    refine lv_iadd hx hb dX8_take_33 ?_
    refine hp_rd (v := (st.1 17 (6 * s + t)) + 1) (t := t) S P hF (by omega) hk (by omega) dX8_take_34 (fun H locs f P hF hfr => ?_)
    have hFr : ∀ a, ¬ hOwn st ad a → f a = _ := fun a ha => (hfr a ha).trans (hFr a ha)
    exact gw_vret S P hQ hr hlk ⟨Nat.le_of_ble_eq_true rfl, Nat.le_of_ble_eq_true rfl⟩ dX8_take_35 (by subst c1; exact hPost_same hF (fun _ hr => hr) hFr)
  · rw [bI_eq0, Bool.not_eq_false] at c1
    refine lv_aload_n hx hb dX8_take_4 rfl (lv_at hl 0 rfl) ?_
    refine lv_aload_n hx hb dX8_take_5 rfl (lv_at hl 1 rfl) ?_
    refine hp_sync (st' := sI st 13 s (nI t)) (s := s) (q := (RX8, TX8, 6)) (k := 3) (v := .ref (ad (12 + t))) S P hF (by omega) hkne (hSync_sh hk) rfl (by decide) q313 (Or.inl rfl) rfl rfl rfl (Nat.le_of_ble_eq_true rfl) (sDiff_I (by decide)) (by rw [hSync_sh (st := sI st 13 s (nI t)) hk, hOw_set (by omega)]; rfl) dX8_take_6 (fun H locs f P hF hfr => ?_)
    have hFr : ∀ a, ¬ hOwn st ad a → f a = _ := fun a ha => (hfr a ha).trans (hFr a ha)
    refine lv_aload_n hx hb dX8_take_9 rfl (lv_at hl 0 rfl) ?_
    refine lv_dup hx hb dX8_take_10 rfl ?_
    refine pw_get (q := (RX8, TX8, 6)) (k := 4) S P (hF.sh (by omega) hk).1 (hF.sh (by omega) hk).2 rfl (by decide) q314 (Or.inl rfl) rfl dX8_take_11 ?_
    refine lv_iconst (v := 1) hx hb dX8_take_14 (by decide) ?_
    refine lv_iadd hx hb dX8_take_15 ?_
    refine hp_sync (st' := sI (sI st 13 s (nI t)) 14 s ((st.1 14 s) + 1)) (s := s) (q := (RX8, TX8, 6)) (k := 4) (v := .int ((st.1 14 s) + 1)) S P hF (by omega) hkne (hSync_sh hk) rfl (by decide) q314 (Or.inl rfl) rfl rfl rfl (Nat.le_of_ble_eq_true rfl) (sDiff_I (by decide)) (by rw [hSync_sh (st := sI (sI st 13 s (nI t)) 14 s ((st.1 14 s) + 1)) hk, show (sI (sI st 13 s (nI t)) 14 s ((st.1 14 s) + 1)).1 14 s = (st.1 14 s) + 1 from pk_us]; rfl) dX8_take_16 (fun H locs f P hF hfr => ?_)
    have hFr : ∀ a, ¬ hOwn st ad a → f a = _ := fun a ha => (hfr a ha).trans (hFr a ha)
    refine lv_goto (tgt := 35) hx hb dX8_take_19 (by decide) ?_
    exact gw_vret S P hQ hr hlk ⟨Nat.le_of_ble_eq_true rfl, Nat.le_of_ble_eq_true rfl⟩ dX8_take_35 (by subst c1; exact hPost_same hF (fun _ hr => hr) hFr)

set_option maxHeartbeats 8000000 in
set_option maxRecDepth 100000 in
theorem hw_X8_giveBack1 {l : Launch} {D : va_G} {cs : Nat → ClassId} {ad : Nat → Nat} {L : List Nat} {f : Nat → va_E} {n : Nat} {st : St} (ho : Ok n st) {s : Nat} (hs : s < 8) (hk : st.1 12 s = 5) {t : Nat} (ht : t < 6) (how : st.1 13 s = nI t)  (hF : HF cs ad st L f) : PM l D cs yX8_giveBack cX8_giveBack 3 none (rmL 7 1 6) [.ref (ad (18 + s)), .ref (ad (12 + t)), .int 1] L f (hPostS cs ad st L f (.inl none) (if st.1 14 s - 1 = 0 then sI (sI st 14 s (st.1 14 s - 1)) 13 s (-1) else sI st 14 s (st.1 14 s - 1))) := by
  refine hm_of "SyncHall$Shared" rfl (by decide +kernel) (Nat.le_of_ble_eq_true rfl) ?_
  intro sz p e u m below meth c S P hsz hr hlk hnm htb ls hl Q hQ
  have hl : lv_has ls 3 [(0, .ref (ad (18 + s))), (1, .ref (ad (12 + t))), (2, .int 1)] := hl
  have hx := S.1
  have hb := S.2.1
  generalize hH0 : u.heap = H at P ⊢
  generalize ([] : List Loc) = locs at P ⊢
  have hFr : ∀ a, ¬ hOwn st ad a → f a = f a := fun _ _ => rfl
  have hkne : ¬ st.1 12 s = -1 := by rw [hk]; decide
  refine lv_iload_n hx hb dX8_giveBack_0 rfl (lv_at hl 2 rfl) ?_
  refine ni_if_eq (tgt := 20) (a := 1) hx hb (by omega) dX8_giveBack_1 (by decide) (fun c1 => ?_) (fun c1 => ?_)
  · exact absurd c1 (by decide)
  · have _h := True.intro
    refine lv_aload_n hx hb dX8_giveBack_4 rfl (lv_at hl 0 rfl) ?_
    refine pw_get (q := (RX8, TX8, 6)) (k := 3) S P (hF.sh (by omega) hk).1 (hF.sh (by omega) hk).2 rfl (by decide) q313 (Or.inl rfl) rfl dX8_giveBack_5 ?_
    refine lv_aload_n hx hb dX8_giveBack_8 rfl (lv_at hl 1 rfl) ?_
    refine lv_acmp_ne (tgt := 16) (rx := hOw st ad s) (ry := some (ad (12 + t))) hx hb dX8_giveBack_9 (by decide) (fun c9 => ?_) (fun c9 => ?_)
    · rw [hOw_some hF ho (by omega) (by omega)] at c9
      exact absurd how c9
    · rw [hOw_some hF ho (by omega) (by omega)] at c9
      refine lv_iconst (v := 1) hx hb dX8_giveBack_12 (by decide) ?_
      refine lv_goto (tgt := 37) hx hb dX8_giveBack_13 (by decide) ?_
      refine pw_callR (nL' := 1) (rest := []) S P (hs_state True.intro) q222 q36 (pw_entSN "SyncHall" [.int 1] S (P.2.2.2.2.1.use q588 rfl) q221 q36 q222 ⟨by decide +kernel, by decide +kernel, (by decide +kernel : (parseMethodDescriptor yX1_state.desc).map (fun d => d.parameters.length) = some 1)⟩ dX8_giveBack_37) hl.1 (Nat.le_of_ble_eq_true rfl) ⟨Nat.le_of_ble_eq_true rfl, Nat.le_of_ble_eq_true rfl⟩ ⟨Nat.le_of_ble_eq_true rfl, Nat.le_of_ble_eq_true rfl⟩ (fun H locs P => ?_)
      refine W.eq (g2 := F0 m 40 ls []) rfl ?_
      refine W.widen (k := 1) (n := 6) (Nat.le_of_ble_eq_true rfl) (Nat.le_of_ble_eq_true rfl) ?_
      refine lv_iload_n hx hb dX8_giveBack_40 rfl (lv_at hl 2 rfl) ?_
      refine ni_if_ne (tgt := 58) (a := 1) hx hb (by omega) dX8_giveBack_41 (by decide) (fun c41 => ?_) (fun c41 => ?_)
      · have _h := True.intro
        refine lv_aload_n hx hb dX8_giveBack_58 rfl (lv_at hl 0 rfl) ?_
        refine lv_dup hx hb dX8_giveBack_59 rfl ?_
        refine pw_get (q := (RX8, TX8, 6)) (k := 4) S P (hF.sh (by omega) hk).1 (hF.sh (by omega) hk).2 rfl (by decide) q314 (Or.inl rfl) rfl dX8_giveBack_60 ?_
        refine lv_iconst (v := 1) hx hb dX8_giveBack_63 (by decide) ?_
        refine lv_isub hx hb dX8_giveBack_64 ?_
        refine hp_sync (st' := sI st 14 s ((st.1 14 s) - 1)) (s := s) (q := (RX8, TX8, 6)) (k := 4) (v := .int ((st.1 14 s) - 1)) S P hF (by omega) hkne (hSync_sh hk) rfl (by decide) q314 (Or.inl rfl) rfl rfl rfl (Nat.le_of_ble_eq_true rfl) (sDiff_I (by decide)) (by rw [hSync_sh (st := sI st 14 s ((st.1 14 s) - 1)) hk, show (sI st 14 s ((st.1 14 s) - 1)).1 14 s = (st.1 14 s) - 1 from pk_us]; rfl) dX8_giveBack_65 (fun H locs f P hF hfr => ?_)
        have hFr : ∀ a, ¬ hOwn st ad a → f a = _ := fun a ha => (hfr a ha).trans (hFr a ha)
        refine lv_aload_n hx hb dX8_giveBack_68 rfl (lv_at hl 0 rfl) ?_
        refine pw_get (q := (RX8, TX8, 6)) (k := 4) S P (hF.sh (by omega) hk).1 (hF.sh (by omega) hk).2 rfl (by decide) q314 (Or.inl rfl) rfl dX8_giveBack_69 ?_
        refine lw_eqi (y := st.1 14 s - 1) (by exact pk_us) ?_
        refine lv_if_ne (tgt := 80) (x := st.1 14 s - 1) hx hb dX8_giveBack_72 (by decide) (fun c72 => ?_) (fun c72 => ?_)
        · have _h := True.intro
          exact gw_vret S P hQ hr hlk ⟨Nat.le_of_ble_eq_true rfl, Nat.le_of_ble_eq_true rfl⟩ dX8_giveBack_80 (by rw [if_neg c72]; exact hPost_same hF (fun _ hr => hr) hFr)
        · have _h := True.intro
          refine lv_aload_n hx hb dX8_giveBack_75 rfl (lv_at hl 0 rfl) ?_
          refine lv_null hx hb dX8_giveBack_76 ?_
          refine hp_sync (st' := sI (sI st 14 s ((st.1 14 s) - 1)) 13 s (-1)) (s := s) (q := (RX8, TX8, 6)) (k := 3) (v := .null) S P hF (by omega) hkne (hSync_sh hk) rfl (by decide) q313 (Or.inl rfl) rfl rfl rfl (Nat.le_of_ble_eq_true rfl) (sDiff_I (by decide)) (by rw [hSync_sh (st := sI (sI st 14 s ((st.1 14 s) - 1)) 13 s (-1)) hk, hOw_clr]; rfl) dX8_giveBack_77 (fun H locs f P hF hfr => ?_)
          have hFr : ∀ a, ¬ hOwn st ad a → f a = _ := fun a ha => (hfr a ha).trans (hFr a ha)
          exact gw_vret S P hQ hr hlk ⟨Nat.le_of_ble_eq_true rfl, Nat.le_of_ble_eq_true rfl⟩ dX8_giveBack_80 (by rw [if_pos c72]; exact hPost_same hF (fun _ hr => hr) hFr)
      · exact absurd c41 (by decide)

set_option maxHeartbeats 8000000 in
set_option maxRecDepth 100000 in
theorem hw_X8_giveBack0 {l : Launch} {D : va_G} {cs : Nat → ClassId} {ad : Nat → Nat} {L : List Nat} {f : Nat → va_E} {n : Nat} {st : St} (ho : Ok n st) {s : Nat} (hs : s < 8) (hk : st.1 12 s = 5) {t : Nat} (ht : t < 6) (hrd : 0 < st.1 17 (6 * s + t))  (hF : HF cs ad st L f) : PM l D cs yX8_giveBack cX8_giveBack 3 none (rmL 7 1 6) [.ref (ad (18 + s)), .ref (ad (12 + t)), .int 0] L f (hPostS cs ad st L f (.inl none) (sI st 17 (6 * s + t) (st.1 17 (6 * s + t) - 1))) := by
  refine hm_of "SyncHall$Shared" rfl (by decide +kernel) (Nat.le_of_ble_eq_true rfl) ?_
  intro sz p e u m below meth c S P hsz hr hlk hnm htb ls hl Q hQ
  have hl : lv_has ls 3 [(0, .ref (ad (18 + s))), (1, .ref (ad (12 + t))), (2, .int 0)] := hl
  have hx := S.1
  have hb := S.2.1
  generalize hH0 : u.heap = H at P ⊢
  generalize ([] : List Loc) = locs at P ⊢
  have hFr : ∀ a, ¬ hOwn st ad a → f a = f a := fun _ _ => rfl
  have hkne : ¬ st.1 12 s = -1 := by rw [hk]; decide
  refine lv_iload_n hx hb dX8_giveBack_0 rfl (lv_at hl 2 rfl) ?_
  refine ni_if_eq (tgt := 20) (a := 0) hx hb (by omega) dX8_giveBack_1 (by decide) (fun c1 => ?_) (fun c1 => ?_)
  · have _h := True.intro
    refine lv_aload_n hx hb dX8_giveBack_20 rfl (lv_at hl 0 rfl) ?_
    refine pw_get (q := (RX8, TX8, 6)) (k := 5) S P (hF.sh (by omega) hk).1 (hF.sh (by omega) hk).2 rfl (by decide) q315 (Or.inl rfl) rfl dX8_giveBack_21 ?_
    refine lv_aload_n hx hb dX8_giveBack_24 rfl (lv_at hl 1 rfl) ?_
    refine pw_callR (nL' := 1) (rest := [.ref (ad (26 + s))]) S P (hg_number (hF.m (by omega)) (hF.tk (by omega))) q428 q37 (pw_entV (q := (RX2, TX2, 5)) [] S P (hF.m (by omega)) (hF.tk (by omega)) rfl q425 q426 q427 q428 ⟨by decide +kernel, by decide +kernel, (by decide +kernel : (parseMethodDescriptor yX2_number.desc).map (fun d => d.parameters.length) = some 0)⟩ dX8_giveBack_25) hl.1 (Nat.le_of_ble_eq_true rfl) ⟨Nat.le_of_ble_eq_true rfl, Nat.le_of_ble_eq_true rfl⟩ ⟨Nat.le_of_ble_eq_true rfl, Nat.le_of_ble_eq_true rfl⟩ (fun H locs P => ?_)
    refine W.eq (g2 := F0 m 28 ls [.int (nI t), .ref (ad (26 + s))]) rfl ?_
    refine W.widen (k := 0) (n := 0) (Nat.le_of_ble_eq_true rfl) (Nat.le_of_ble_eq_true rfl) ?_
    refine pw_iald (j := t) S P (hF.mem (hl_rd (by omega) hk)) (hF.rd (by omega) hk) rfl (by omega) (by decide) dX8_giveBack_28 ?_
    refine lw_eqi (y := st.1 17 (6 * s + t)) (if_pos (by omega)) ?_
    refine lw_if_le (tgt := 36) (x := st.1 17 (6 * s + t)) hx hb dX8_giveBack_29 (by decide) (fun c29 => ?_) (fun c29 => ?_)
    · exact absurd hrd c29
    · have _h := True.intro
      refine lv_iconst (v := 1) hx hb dX8_giveBack_32 (by decide) ?_
      refine lv_goto (tgt := 37) hx hb dX8_giveBack_33 (by decide) ?_
      refine pw_callR (nL' := 1) (rest := []) S P (hs_state True.intro) q222 q36 (pw_entSN "SyncHall" [.int 1] S (P.2.2.2.2.1.use q588 rfl) q221 q36 q222 ⟨by decide +kernel, by decide +kernel, (by decide +kernel : (parseMethodDescriptor yX1_state.desc).map (fun d => d.parameters.length) = some 1)⟩ dX8_giveBack_37) hl.1 (Nat.le_of_ble_eq_true rfl) ⟨Nat.le_of_ble_eq_true rfl, Nat.le_of_ble_eq_true rfl⟩ ⟨Nat.le_of_ble_eq_true rfl, Nat.le_of_ble_eq_true rfl⟩ (fun H locs P => ?_)
      refine W.eq (g2 := F0 m 40 ls []) rfl ?_
      refine W.widen (k := 1) (n := 6) (Nat.le_of_ble_eq_true rfl) (Nat.le_of_ble_eq_true rfl) ?_
      refine lv_iload_n hx hb dX8_giveBack_40 rfl (lv_at hl 2 rfl) ?_
      refine ni_if_ne (tgt := 58) (a := 0) hx hb (by omega) dX8_giveBack_41 (by decide) (fun c41 => ?_) (fun c41 => ?_)
      · exact absurd c41 (by decide)
      · have _h := True.intro
        refine lv_aload_n hx hb dX8_giveBack_44 rfl (lv_at hl 0 rfl) ?_
        refine pw_get (q := (RX8, TX8, 6)) (k := 5) S P (hF.sh (by omega) hk).1 (hF.sh (by omega) hk).2 rfl (by decide) q315 (Or.inl rfl) rfl dX8_giveBack_45 ?_
        refine lv_aload_n hx hb dX8_giveBack_48 rfl (lv_at hl 1 rfl) ?_
        refine pw_callR (nL' := 1) (rest := [.ref (ad (26 + s))]) S P (hg_number (hF.m (by omega)) (hF.tk (by omega))) q428 q37 (pw_entV (q := (RX2, TX2, 5)) [] S P (hF.m (by omega)) (hF.tk (by omega)) rfl q425 q426 q427 q428 ⟨by decide +kernel, by decide +kernel, (by decide +kernel : (parseMethodDescriptor yX2_number.desc).map (fun d => d.parameters.length) = some 0)⟩ dX8_giveBack_49) hl.1 (Nat.le_of_ble_eq_true rfl) ⟨Nat.le_of_ble_eq_true rfl, Nat.le_of_ble_eq_true rfl⟩ ⟨Nat.le_of_ble_eq_true rfl, Nat.le_of_ble_eq_true rfl⟩ (fun H locs P => ?_)
        refine W.eq (g2 := F0 m 52 ls [.int (nI t), .ref (ad (26 + s))]) rfl ?_
        refine W.widen (k := 1) (n := 6) (Nat.le_of_ble_eq_true rfl) (Nat.le_of_ble_eq_true rfl) ?_
        refine lv_dup2_11 hx hb dX8_giveBack_52 rfl rfl ?_
        refine pw_iald (j := t) S P (hF.mem (hl_rd (by omega) hk)) (hF.rd (by omega) hk) rfl (by omega) (by decide) dX8_giveBack_53 ?_
        refine lw_eqi (y := st.1 17 (6 * s + t)) (if_pos (by omega)) ?_
        refine lv_iconst (v := 1) hx hb dX8_giveBack_54 (by decide) ?_
        refine lv_isub hx hb dX8_giveBack_55 ?_
        refine hp_rd (v := (st.1 17 (6 * s + t)) - 1) (t := t) S P hF (by omega) hk (by omega) dX8_giveBack_56 (fun H locs f P hF hfr => ?_)
        have hFr : ∀ a, ¬ hOwn st ad a → f a = _ := fun a ha => (hfr a ha).trans (hFr a ha)
        exact gw_vret S P hQ hr hlk ⟨Nat.le_of_ble_eq_true rfl, Nat.le_of_ble_eq_true rfl⟩ dX8_giveBack_57 (hPost_same hF (fun _ hr => hr) hFr)
  · exact absurd c1 (by decide)

set_option maxHeartbeats 8000000 in
set_option maxRecDepth 100000 in
theorem ht_X8_giveBack1 {l : Launch} {D : va_G} {cs : Nat → ClassId} {ad : Nat → Nat} {L : List Nat} {f : Nat → va_E} (hst : l.stackTraces = false) {n : Nat} {st : St} (ho : Ok n st) {s : Nat} (hs : s < 8) (hk : st.1 12 s = 5) {t : Nat} (ht : t < 6) (how : ¬ st.1 13 s = nI t)  (hF : HF cs ad st L f) : PM l D cs yX8_giveBack cX8_giveBack 3 none (rmL 7 1 6) [.ref (ad (18 + s)), .ref (ad (12 + t)), .int 1] L f (hPostS cs ad st L f (.inr "java/lang/IllegalStateException") st) := by
  refine hm_of "SyncHall$Shared" rfl (by decide +kernel) (Nat.le_of_ble_eq_true rfl) ?_
  intro sz p e u m below meth c S P hsz hr hlk hnm htb ls hl Q hQ
  have hl : lv_has ls 3 [(0, .ref (ad (18 + s))), (1, .ref (ad (12 + t))), (2, .int 1)] := hl
  have hx := S.1
  have hb := S.2.1
  generalize hH0 : u.heap = H at P ⊢
  generalize ([] : List Loc) = locs at P ⊢
  have hFr : ∀ a, ¬ hOwn st ad a → f a = f a := fun _ _ => rfl
  have hkne : ¬ st.1 12 s = -1 := by rw [hk]; decide
  refine lv_iload_n hx hb dX8_giveBack_0 rfl (lv_at hl 2 rfl) ?_
  refine ni_if_eq (tgt := 20) (a := 1) hx hb (by omega) dX8_giveBack_1 (by decide) (fun c1 => ?_) (fun c1 => ?_)
  · exact absurd c1 (by decide)
  · have _h := True.intro
    refine lv_aload_n hx hb dX8_giveBack_4 rfl (lv_at hl 0 rfl) ?_
    refine pw_get (q := (RX8, TX8, 6)) (k := 3) S P (hF.sh (by omega) hk).1 (hF.sh (by omega) hk).2 rfl (by decide) q313 (Or.inl rfl) rfl dX8_giveBack_5 ?_
    refine lv_aload_n hx hb dX8_giveBack_8 rfl (lv_at hl 1 rfl) ?_
    refine lv_acmp_ne (tgt := 16) (rx := hOw st ad s) (ry := some (ad (12 + t))) hx hb dX8_giveBack_9 (by decide) (fun c9 => ?_) (fun c9 => ?_)
    · rw [hOw_some hF ho (by omega) (by omega)] at c9
      refine lv_iconst (v := 0) hx hb dX8_giveBack_16 (by decide) ?_
      refine lv_goto (tgt := 37) hx hb dX8_giveBack_17 (by decide) ?_
      exact pw_callT (nL' := 1) (rest := []) S P hQ (ht_state hst) q222 q36 (pw_entSN "SyncHall" [.int 0] S (P.2.2.2.2.1.use q588 rfl) q221 q36 q222 ⟨by decide +kernel, by decide +kernel, (by decide +kernel : (parseMethodDescriptor yX1_state.desc).map (fun d => d.parameters.length) = some 1)⟩ dX8_giveBack_37) htb hlk hl.1 (Nat.le_of_ble_eq_true rfl) ⟨Nat.le_of_ble_eq_true rfl, Nat.le_of_ble_eq_true rfl⟩ ⟨Nat.le_of_ble_eq_true rfl, Nat.le_of_ble_eq_true rfl⟩ ⟨Nat.le_of_ble_eq_true rfl, Nat.le_of_ble_eq_true rfl⟩ (hPost_same hF (fun _ hr => hr) hFr)
    · rw [hOw_some hF ho (by omega) (by omega)] at c9
      exact absurd c9 how

set_option maxHeartbeats 8000000 in
set_option maxRecDepth 100000 in
theorem ht_X8_giveBack0 {l : Launch} {D : va_G} {cs : Nat → ClassId} {ad : Nat → Nat} {L : List Nat} {f : Nat → va_E} (hst : l.stackTraces = false) {n : Nat} {st : St} (ho : Ok n st) {s : Nat} (hs : s < 8) (hk : st.1 12 s = 5) {t : Nat} (ht : t < 6) (hrd : ¬ 0 < st.1 17 (6 * s + t))  (hF : HF cs ad st L f) : PM l D cs yX8_giveBack cX8_giveBack 3 none (rmL 7 1 6) [.ref (ad (18 + s)), .ref (ad (12 + t)), .int 0] L f (hPostS cs ad st L f (.inr "java/lang/IllegalStateException") st) := by
  refine hm_of "SyncHall$Shared" rfl (by decide +kernel) (Nat.le_of_ble_eq_true rfl) ?_
  intro sz p e u m below meth c S P hsz hr hlk hnm htb ls hl Q hQ
  have hl : lv_has ls 3 [(0, .ref (ad (18 + s))), (1, .ref (ad (12 + t))), (2, .int 0)] := hl
  have hx := S.1
  have hb := S.2.1
  generalize hH0 : u.heap = H at P ⊢
  generalize ([] : List Loc) = locs at P ⊢
  have hFr : ∀ a, ¬ hOwn st ad a → f a = f a := fun _ _ => rfl
  have hkne : ¬ st.1 12 s = -1 := by rw [hk]; decide
  refine lv_iload_n hx hb dX8_giveBack_0 rfl (lv_at hl 2 rfl) ?_
  refine ni_if_eq (tgt := 20) (a := 0) hx hb (by omega) dX8_giveBack_1 (by decide) (fun c1 => ?_) (fun c1 => ?_)
  · have _h := True.intro
    refine lv_aload_n hx hb dX8_giveBack_20 rfl (lv_at hl 0 rfl) ?_
    refine pw_get (q := (RX8, TX8, 6)) (k := 5) S P (hF.sh (by omega) hk).1 (hF.sh (by omega) hk).2 rfl (by decide) q315 (Or.inl rfl) rfl dX8_giveBack_21 ?_
    refine lv_aload_n hx hb dX8_giveBack_24 rfl (lv_at hl 1 rfl) ?_
    refine pw_callR (nL' := 1) (rest := [.ref (ad (26 + s))]) S P (hg_number (hF.m (by omega)) (hF.tk (by omega))) q428 q37 (pw_entV (q := (RX2, TX2, 5)) [] S P (hF.m (by omega)) (hF.tk (by omega)) rfl q425 q426 q427 q428 ⟨by decide +kernel, by decide +kernel, (by decide +kernel : (parseMethodDescriptor yX2_number.desc).map (fun d => d.parameters.length) = some 0)⟩ dX8_giveBack_25) hl.1 (Nat.le_of_ble_eq_true rfl) ⟨Nat.le_of_ble_eq_true rfl, Nat.le_of_ble_eq_true rfl⟩ ⟨Nat.le_of_ble_eq_true rfl, Nat.le_of_ble_eq_true rfl⟩ (fun H locs P => ?_)
    refine W.eq (g2 := F0 m 28 ls [.int (nI t), .ref (ad (26 + s))]) rfl ?_
    refine W.widen (k := 0) (n := 0) (Nat.le_of_ble_eq_true rfl) (Nat.le_of_ble_eq_true rfl) ?_
    refine pw_iald (j := t) S P (hF.mem (hl_rd (by omega) hk)) (hF.rd (by omega) hk) rfl (by omega) (by decide) dX8_giveBack_28 ?_
    refine lw_eqi (y := st.1 17 (6 * s + t)) (if_pos (by omega)) ?_
    refine lw_if_le (tgt := 36) (x := st.1 17 (6 * s + t)) hx hb dX8_giveBack_29 (by decide) (fun c29 => ?_) (fun c29 => ?_)
    · have _h := True.intro
      refine lv_iconst (v := 0) hx hb dX8_giveBack_36 (by decide) ?_
      exact pw_callT (nL' := 1) (rest := []) S P hQ (ht_state hst) q222 q36 (pw_entSN "SyncHall" [.int 0] S (P.2.2.2.2.1.use q588 rfl) q221 q36 q222 ⟨by decide +kernel, by decide +kernel, (by decide +kernel : (parseMethodDescriptor yX1_state.desc).map (fun d => d.parameters.length) = some 1)⟩ dX8_giveBack_37) htb hlk hl.1 (Nat.le_of_ble_eq_true rfl) ⟨Nat.le_of_ble_eq_true rfl, Nat.le_of_ble_eq_true rfl⟩ ⟨Nat.le_of_ble_eq_true rfl, Nat.le_of_ble_eq_true rfl⟩ ⟨Nat.le_of_ble_eq_true rfl, Nat.le_of_ble_eq_true rfl⟩ (hPost_same hF (fun _ hr => hr) hFr)
    · exact absurd c29 hrd
  · exact absurd c1 (by decide)

set_option maxHeartbeats 8000000 in
set_option maxRecDepth 100000 in
theorem hw_X5_takeFor {l : Launch} {D : va_G} {cs : Nat → ClassId} {ad : Nat → Nat} {L : List Nat} {f : Nat → va_E} {n : Nat} {st : St} (ho : Ok n st) {s : Nat} (hs : s < 8) (hk : st.1 12 s = 0 ∨ st.1 12 s = 1) {t : Nat} (ht : t < 6) {w sy : Nat} {wb : Bool} {dp oc : Int32} {en si : UInt64} {nx : Option Nat} (hw : w ∈ L) (hwo : ¬ hOwn st ad w) (hfw : f w = .inr (2, [.ref (ad (12 + t)), .ref sy, .int (bI wb), .double en, .double si, .int dp, .int oc, va_rf nx]))  (hF : HF cs ad st L f) : PM l D cs yX5_takeFor cX5_takeFor 2 none (rmL 2 0 0) [.ref (ad (18 + s)), .ref w] L f (hPostS cs ad st L f (.inl none) (sI (sI st 13 s (nI t)) 14 s (st.1 14 s + (if 0 < dp then dp else 1)))) := by
  refine hm_of "SyncHall$Lock" rfl (by decide +kernel) (Nat.le_of_ble_eq_true rfl) ?_
  intro sz p e u m below meth c S P hsz hr hlk hnm htb ls hl Q hQ
  have hl : lv_has ls 2 [(0, .ref (ad (18 + s))), (1, .ref w)] := hl
  have hx := S.1
  have hb := S.2.1
  generalize hH0 : u.heap = H at P ⊢
  generalize ([] : List Loc) = locs at P ⊢
  have hFr : ∀ a, ¬ hOwn st ad a → f a = f a := fun _ _ => rfl
  have hkne : ¬ st.1 12 s = -1 := by rcases hk with q | q <;> rw [q] <;> decide
  refine lv_aload_n hx hb dX5_takeFor_0 rfl (lv_at hl 0 rfl) ?_
  refine lv_aload_n hx hb dX5_takeFor_1 rfl (lv_at hl 1 rfl) ?_
  refine pw_callR (nL' := 1) (rest := [.ref (ad (18 + s))]) S P (hg_w_task hw hfw) q550 q52 (pw_entV (q := (RX10, TX10, 8)) [] S P hw hfw rfl q631 q548 q549 q550 ⟨by decide +kernel, by decide +kernel, (by decide +kernel : (parseMethodDescriptor yX10_task.desc).map (fun d => d.parameters.length) = some 0)⟩ dX5_takeFor_2) hl.1 (Nat.le_of_ble_eq_true rfl) ⟨Nat.le_of_ble_eq_true rfl, Nat.le_of_ble_eq_true rfl⟩ ⟨Nat.le_of_ble_eq_true rfl, Nat.le_of_ble_eq_true rfl⟩ (fun H locs P => ?_)
  refine W.eq (g2 := F0 m 5 ls [.ref (ad (12 + t)), .ref (ad (18 + s))]) rfl ?_
  refine W.widen (k := 0) (n := 0) (Nat.le_of_ble_eq_true rfl) (Nat.le_of_ble_eq_true rfl) ?_
  refine hp_sync (st' := sI st 13 s (nI t)) (s := s) (q := (RX5, TX5, 6)) (k := 4) (v := .ref (ad (12 + t))) S P hF (by omega) hkne (hSync_lk hk) rfl (by decide) q251 (Or.inl rfl) rfl rfl rfl (Nat.le_of_ble_eq_true rfl) (sDiff_I (by decide)) (by rw [hSync_lk (st := sI st 13 s (nI t)) hk, hOw_set (by omega)]; rfl) dX5_takeFor_5 (fun H locs f P hF hfr => ?_)
  have hFr : ∀ a, ¬ hOwn st ad a → f a = _ := fun a ha => (hfr a ha).trans (hFr a ha)
  have hfw := (hfr w hwo).trans hfw
  refine lv_aload_n hx hb dX5_takeFor_8 rfl (lv_at hl 0 rfl) ?_
  refine lv_dup hx hb dX5_takeFor_9 rfl ?_
  refine pw_get (q := (RX5, TX5, 6)) (k := 5) S P (hF.lk (by omega) hk).1 (hF.lk (by omega) hk).2 rfl (by decide) q252 (Or.inl rfl) rfl dX5_takeFor_10 ?_
  refine lv_aload_n hx hb dX5_takeFor_13 rfl (lv_at hl 1 rfl) ?_
  refine pw_callR (nL' := 1) (rest := [.int (st.1 14 s), .ref (ad (18 + s))]) S P (hg_w_takesBack hw hfw) q635 q52 (pw_entV (q := (RX10, TX10, 8)) [] S P hw hfw rfl q632 q633 q634 q635 ⟨by decide +kernel, by decide +kernel, (by decide +kernel : (parseMethodDescriptor yX10_takesBack.desc).map (fun d => d.parameters.length) = some 0)⟩ dX5_takeFor_14) hl.1 (Nat.le_of_ble_eq_true rfl) ⟨Nat.le_of_ble_eq_true rfl, Nat.le_of_ble_eq_true rfl⟩ ⟨Nat.le_of_ble_eq_true rfl, Nat.le_of_ble_eq_true rfl⟩ (fun H locs P => ?_)
  refine W.eq (g2 := F0 m 17 ls [.int (bI (decide (0 < dp))), .int (st.1 14 s), .ref (ad (18 + s))]) rfl ?_
  refine W.widen (k := 0) (n := 0) (Nat.le_of_ble_eq_true rfl) (Nat.le_of_ble_eq_true rfl) ?_
  refine lv_if_eq (tgt := 27) (x := bI (decide (0 < dp))) hx hb dX5_takeFor_17 (by decide) (fun c17 => ?_) (fun c17 => ?_)
  · simp only [bI_eq0, decide_eq_false_iff_not, decide_eq_true_eq, Classical.not_not] at c17
    refine lv_iconst (v := 1) hx hb dX5_takeFor_27 (by decide) ?_
    refine lv_iadd hx hb dX5_takeFor_28 ?_
    refine hp_sync (st' := sI (sI st 13 s (nI t)) 14 s ((st.1 14 s) + 1)) (s := s) (q := (RX5, TX5, 6)) (k := 5) (v := .int ((st.1 14 s) + 1)) S P hF (by omega) hkne (hSync_lk hk) rfl (by decide) q252 (Or.inl rfl) rfl rfl rfl (Nat.le_of_ble_eq_true rfl) (sDiff_I (by decide)) (by rw [hSync_lk (st := sI (sI st 13 s (nI t)) 14 s ((st.1 14 s) + 1)) hk, show (sI (sI st 13 s (nI t)) 14 s ((st.1 14 s) + 1)).1 14 s = (st.1 14 s) + 1 from pk_us]; rfl) dX5_takeFor_29 (fun H locs f P hF hfr => ?_)
    have hFr : ∀ a, ¬ hOwn st ad a → f a = _ := fun a ha => (hfr a ha).trans (hFr a ha)
    have hfw := (hfr w hwo).trans hfw
    exact gw_vret S P hQ hr hlk ⟨Nat.le_of_ble_eq_true rfl, Nat.le_of_ble_eq_true rfl⟩ dX5_takeFor_32 (by rw [if_neg c17]; exact hPost_same hF (fun _ hr => hr) hFr)
  · simp only [bI_eq0, Bool.not_eq_false, decide_eq_false_iff_not, decide_eq_true_eq, Classical.not_not] at c17
    refine lv_aload_n hx hb dX5_takeFor_20 rfl (lv_at hl 1 rfl) ?_
    refine pw_callR (nL' := 1) (rest := [.int (st.1 14 s), .ref (ad (18 + s))]) S P (hg_w_depth hw hfw) q639 q52 (pw_entV (q := (RX10, TX10, 8)) [] S P hw hfw rfl q636 q637 q638 q639 ⟨by decide +kernel, by decide +kernel, (by decide +kernel : (parseMethodDescriptor yX10_depth.desc).map (fun d => d.parameters.length) = some 0)⟩ dX5_takeFor_21) hl.1 (Nat.le_of_ble_eq_true rfl) ⟨Nat.le_of_ble_eq_true rfl, Nat.le_of_ble_eq_true rfl⟩ ⟨Nat.le_of_ble_eq_true rfl, Nat.le_of_ble_eq_true rfl⟩ (fun H locs P => ?_)
    refine W.eq (g2 := F0 m 24 ls [.int dp, .int (st.1 14 s), .ref (ad (18 + s))]) rfl ?_
    refine W.widen (k := 0) (n := 0) (Nat.le_of_ble_eq_true rfl) (Nat.le_of_ble_eq_true rfl) ?_
    refine lv_goto (tgt := 28) hx hb dX5_takeFor_24 (by decide) ?_
    refine lv_iadd hx hb dX5_takeFor_28 ?_
    refine hp_sync (st' := sI (sI st 13 s (nI t)) 14 s ((st.1 14 s) + dp)) (s := s) (q := (RX5, TX5, 6)) (k := 5) (v := .int ((st.1 14 s) + dp)) S P hF (by omega) hkne (hSync_lk hk) rfl (by decide) q252 (Or.inl rfl) rfl rfl rfl (Nat.le_of_ble_eq_true rfl) (sDiff_I (by decide)) (by rw [hSync_lk (st := sI (sI st 13 s (nI t)) 14 s ((st.1 14 s) + dp)) hk, show (sI (sI st 13 s (nI t)) 14 s ((st.1 14 s) + dp)).1 14 s = (st.1 14 s) + dp from pk_us]; rfl) dX5_takeFor_29 (fun H locs f P hF hfr => ?_)
    have hFr : ∀ a, ¬ hOwn st ad a → f a = _ := fun a ha => (hfr a ha).trans (hFr a ha)
    have hfw := (hfr w hwo).trans hfw
    exact gw_vret S P hQ hr hlk ⟨Nat.le_of_ble_eq_true rfl, Nat.le_of_ble_eq_true rfl⟩ dX5_takeFor_32 (by rw [if_pos c17]; exact hPost_same hF (fun _ hr => hr) hFr)
