/-! Sync.add, Sync.remove, by gen_h5.py -/
set_option maxHeartbeats 8000000 in
set_option maxRecDepth 100000 in
theorem hw_add {l : Launch} {D : va_G} {cs : Nat → ClassId} {ad : Nat → Nat} {L : List Nat} {f : Nat → va_E} {n : Nat} {st : St} (ho : Ok n st) {s : Nat} (hs : s < 8) (hk : hKd st s) {t : Nat} (ht : t < 6) {st' : St} {w : Nat} (hb0 : st.1 1 t = 0) (hd : wDiff st st' t s) (hw : w ∈ L) (hwo : ¬ hOwn st ad w) (hfw : f w = hWait st' (va_up ad (34 + t) w) t) (hF : HF cs ad st L f) : PM l D cs yX4_add cX4_add 3 none (rmL 3 0 0) [.ref (ad (18 + s)), .ref w] L f (hPostA cs ad st L f st' t w) := by
  refine hm_of "SyncHall$Sync" rfl (by decide +kernel) (Nat.le_of_ble_eq_true rfl) ?_
  intro sz p e u m below meth c S P hsz hr hlk hnm htb ls hl Q hQ
  have hl : lv_has ls 3 [(0, .ref (ad (18 + s))), (1, .ref w)] := hl
  have hx := S.1
  have hb := S.2.1
  generalize hH0 : u.heap = H at P ⊢
  generalize ([] : List Loc) = locs at P ⊢
  have hFr : ∀ a, ¬ hOwn st ad a → f a = f a := fun _ _ => rfl
  have hkne := hk.ne
  have hfw2 : f w = .inr (2, [.ref (ad (12 + t)), .ref (ad (18 + s)), .int (hWr st' t), .double (st'.2.1 7 t), .double (st'.2.1 8 t), .int (st'.1 9 t), .int (hWo st' t), va_rf none]) := by rw [hfw]; unfold hWait; rw [hd.wf_t hs, hd.nx_t ho hs hb0, adw (by omega), adw (by omega)]
  refine lv_aload_n hx hb dX4_add_0 rfl (lv_at hl 1 rfl) ?_
  refine pw_callR (nL' := 1) (rest := []) S P (hg_w_task hw hfw2) q550 q52 (pw_entV (q := (RX10, TX10, 8)) [] S P hw hfw2 rfl q547 q548 q549 q550 ⟨by decide +kernel, by decide +kernel, (by decide +kernel : (parseMethodDescriptor yX10_task.desc).map (fun d => d.parameters.length) = some 0)⟩ dX4_add_1) hl.1 (Nat.le_of_ble_eq_true rfl) ⟨Nat.le_of_ble_eq_true rfl, Nat.le_of_ble_eq_true rfl⟩ ⟨Nat.le_of_ble_eq_true rfl, Nat.le_of_ble_eq_true rfl⟩ (fun H locs P => ?_)
  refine W.eq (g2 := F0 m 4 ls [.ref (ad (12 + t))]) rfl ?_
  refine W.widen (k := 0) (n := 0) (Nat.le_of_ble_eq_true rfl) (Nat.le_of_ble_eq_true rfl) ?_
  refine lv_aload_n hx hb dX4_add_4 rfl (lv_at hl 1 rfl) ?_
  refine pw_put (q := (RX2, TX2, 5)) (k := 4) S P (hF.m (by omega)) (hF.tk ht) rfl (by decide) q82 (Or.inl rfl) rfl rfl rfl (Nat.le_of_ble_eq_true rfl) dX4_add_5 (fun H locs P => ?_)
  obtain ⟨f1, hf1, P⟩ : ∃ z, z = va_up f (ad (12 + t)) (.inr (1, [.int (nI t), .double (st.2.1 3 t), .int (st.1 4 t), .int (st.1 2 t), .ref w])) ∧ PW D cs (pA L sz) u L z H locs := ⟨_, rfl, P⟩
  have hg1 : ∀ r, hLive st r → r ≠ 12 + t → f1 (ad r) = hC cs st ad r := fun r hr hne => by
    have : ad r ≠ ad (12 + t) := fun z => hne (hF.2 _ _ hr (hl_lo (by omega)) z)
    rw [hf1]; simp only [va_up, if_neg this]; exact hF.eq hr
  have hse : ad (18 + s) ∈ L ∧ f1 (ad (18 + s)) = hSync st ad s := ⟨hF.mem (hl_sy hs hkne), (hg1 _ (hl_sy hs hkne) (by omega)).trans (hC_sy hs)⟩
  refine lv_aload_n hx hb dX4_add_8 rfl (lv_at hl 0 rfl) ?_
  refine hs_gete 0 (by decide) S P hse hk q259 dX4_add_9 ?_
  refine lw_ifnonnull (tgt := 21) hx hb dX4_add_12 (by decide) (fun c12 => ?_) (fun c12 => ?_)
  · rw [hFi_none] at c12
    refine lv_aload_n hx hb dX4_add_21 rfl (lv_at hl 0 rfl) ?_
    refine hs_gete 0 (by decide) S P hse hk q259 dX4_add_22 ?_
    refine lw_astore_n (lv' := [(2, va_rf (hFi st ad s)), (0, .ref (ad (18 + s))), (1, .ref w)]) hx hb dX4_add_25 rfl hl (by decide) rfl (fun ls hl => ?_)
    have hne : 0 < (st.2.2 s).length := by
      cases hq : st.2.2 s with
      | nil => rw [hq] at c12; exact absurd rfl c12
      | cons a l => simp
    have hlen := (ho.wf s hs).1
    have loop26 : ∀ (d : Nat) (i : Nat), 7 - i < d → (i < (st.2.2 s).length) → ∀ (H : Heap) (locs : List Loc), PW D cs (pA L sz) u L f1 H locs → ∀ (ls : Array Slot), lv_has ls 3 [(2, .ref (ad (34 + (st.2.2 s).getD i 0))), (0, .ref (ad (18 + s))), (1, .ref w)] → W p l e (rmL 3 0 0) u m ([.ref (ad (18 + s)), .ref w] : List Value).toArray below meth c H locs 0 0 Q (F0 m 26 ls []) := by
      intro d26
      induction d26 with
      | zero => intro i hd; exact absurd hd (by omega)
      | succ d26 ih26 =>
        intro i hd26 hi2 H locs P ls hl
        obtain ⟨hw6, hwb, hww⟩ := ho.rowx hs hi2
        have hwe : f1 (ad (34 + (st.2.2 s).getD i 0)) = hWait st ad ((st.2.2 s).getD i 0) := (hg1 _ (hl_wt hw6 hwb) (by omega)).trans hC_wt
        refine lv_aload_n hx hb dX4_add_26 rfl (lv_at hl 0 rfl) ?_
        refine pw_get (q := (RX10, TX10, 8)) (k := 7) S P (hF.mem (hl_wt hw6 hwb)) hwe rfl (by decide) q519 (Or.inl rfl) rfl dX4_add_27 ?_
        refine lw_eqv (w := va_rf (hAt st ad s (i + 1))) (by rw [hNx_at ho hs hi2]) ?_
        refine lw_ifnull (tgt := 41) hx hb dX4_add_30 (by decide) (fun c30 => ?_) (fun c30 => ?_)
        · have hi3 : ¬ i + 1 < (st.2.2 s).length := fun z => by rw [hAt_some z] at c30; cases c30
          refine lv_aload_n hx hb dX4_add_41 rfl (lv_at hl 0 rfl) ?_
          refine lv_aload_n hx hb dX4_add_42 rfl (lv_at hl 2 rfl) ?_
          refine pw_put (q := (RX10, TX10, 8)) (k := 7) S P (hF.mem (hl_wt hw6 hwb)) hwe rfl (by decide) q519 (Or.inl rfl) rfl rfl rfl (Nat.le_of_ble_eq_true rfl) dX4_add_43 (fun H locs P => ?_)
          have hil : i = (st.2.2 s).length - 1 := by omega
          have hle : lastR st s = 34 + (st.2.2 s).getD i 0 := by unfold lastR; rw [if_neg c12, hil]
          have P : PW D cs (pA L sz) u L (va_up f1 (ad (34 + (st.2.2 s).getD i 0)) (.inr (2, [.ref (ad (12 + (st.2.2 s).getD i 0)), .ref (ad (18 + s_wf st ((st.2.2 s).getD i 0))), .int (hWr st ((st.2.2 s).getD i 0)), .double (st.2.1 7 ((st.2.2 s).getD i 0)), .double (st.2.1 8 ((st.2.2 s).getD i 0)), .int (st.1 9 ((st.2.2 s).getD i 0)), .int (hWo st ((st.2.2 s).getD i 0)), .ref w]))) H locs := P
          have hF2 := hF.added (f2 := va_up f1 (ad (34 + (st.2.2 s).getD i 0)) (.inr (2, [.ref (ad (12 + (st.2.2 s).getD i 0)), .ref (ad (18 + s_wf st ((st.2.2 s).getD i 0))), .int (hWr st ((st.2.2 s).getD i 0)), .double (st.2.1 7 ((st.2.2 s).getD i 0)), .double (st.2.1 8 ((st.2.2 s).getD i 0)), .int (st.1 9 ((st.2.2 s).getD i 0)), .int (hWo st ((st.2.2 s).getD i 0)), .ref w]))) ho hs ht hkne hb0 hd hw hwo hfw (by
            rw [show va_up f1 (ad (34 + (st.2.2 s).getD i 0)) (.inr (2, [.ref (ad (12 + (st.2.2 s).getD i 0)), .ref (ad (18 + s_wf st ((st.2.2 s).getD i 0))), .int (hWr st ((st.2.2 s).getD i 0)), .double (st.2.1 7 ((st.2.2 s).getD i 0)), .double (st.2.1 8 ((st.2.2 s).getD i 0)), .int (st.1 9 ((st.2.2 s).getD i 0)), .int (hWo st ((st.2.2 s).getD i 0)), .ref w])) (ad (12 + t)) = f1 (ad (12 + t)) from if_neg (fun z => absurd (hF.2 _ _ (hl_lo (by omega)) (hl_wt hw6 hwb) z) (by omega)), hf1]
            simp only [va_up, if_true]
            exact hd.task_t.symm) (by
            rw [hle, hC_wt, hd.wait_last ho hs hb0 hi2 hil]
            simp [-List.getD_eq_getElem?_getD, va_up]) (fun a ha1 ha2 => by
            rw [hle] at ha2
            simp only [va_up, if_neg ha2]
            rw [hf1]; simp only [va_up, if_neg ha1])
          have hfr2 : ∀ a, ¬ hOwn st ad a → (va_up f1 (ad (34 + (st.2.2 s).getD i 0)) (.inr (2, [.ref (ad (12 + (st.2.2 s).getD i 0)), .ref (ad (18 + s_wf st ((st.2.2 s).getD i 0))), .int (hWr st ((st.2.2 s).getD i 0)), .double (st.2.1 7 ((st.2.2 s).getD i 0)), .double (st.2.1 8 ((st.2.2 s).getD i 0)), .int (st.1 9 ((st.2.2 s).getD i 0)), .int (hWo st ((st.2.2 s).getD i 0)), .ref w]))) a = f a := fun a hno => by
            have h1 : a ≠ ad (34 + (st.2.2 s).getD i 0) := fun z => hno ⟨_, hl_wt hw6 hwb, z⟩
            have h2 : a ≠ ad (12 + t) := fun z => hno ⟨_, hl_lo (by omega), z⟩
            simp only [va_up, if_neg h1]
            rw [hf1]; simp only [va_up, if_neg h2]
          exact gw_vret S P hQ hr hlk ⟨Nat.le_of_ble_eq_true rfl, Nat.le_of_ble_eq_true rfl⟩ dX4_add_46 (⟨rfl, rfl, hF2, fun a haw hno => ⟨hfr2 a hno, hd.own haw hno⟩⟩)
        · have hi3 : i + 1 < (st.2.2 s).length := Decidable.byContradiction (fun z => c30 (hAt_none z))
          refine lv_aload_n hx hb dX4_add_33 rfl (lv_at hl 0 rfl) ?_
          refine pw_get (q := (RX10, TX10, 8)) (k := 7) S P (hF.mem (hl_wt hw6 hwb)) hwe rfl (by decide) q519 (Or.inl rfl) rfl dX4_add_34 ?_
          refine lw_eqv (w := .ref (ad (34 + (st.2.2 s).getD (i + 1) 0))) (by rw [hNx_at ho hs hi2, hAt_some hi3]; rfl) ?_
          refine lv_astore_n (lv' := [(2, .ref (ad (34 + (st.2.2 s).getD (i + 1) 0))), (0, .ref (ad (18 + s))), (1, .ref w)]) hx hb dX4_add_37 rfl hl (by decide) rfl (fun ls hl => ?_)
          refine lv_goto (tgt := 26) hx hb dX4_add_38 (by decide) ?_
          exact ih26 (i + 1) (by omega) hi3 _ _ P ls (lv_sub hl [0, 1, 2] rfl)
    exact loop26 _ 0 (Nat.lt_succ_self _) hne _ _ P ls (lv_sub hl [0, 1, 2] (by rw [show hFi st ad s = _ from hAt_some hne]; rfl))
  · rw [hFi_none] at c12
    refine lv_aload_n hx hb dX4_add_15 rfl (lv_at hl 0 rfl) ?_
    refine lv_aload_n hx hb dX4_add_16 rfl (lv_at hl 1 rfl) ?_
    refine hs_put0 (v := some w) S P hse hk q259 dX4_add_17 (fun H locs P => ?_)
    have hle : lastR st s = 18 + s := by unfold lastR; rw [if_pos c12]
    have hemp : st.2.2 s = [] := List.isEmpty_iff.mp c12
    have hF2 := hF.added (f2 := va_up f1 (ad (18 + s)) (hSyncV st ad s (va_rf (some w)))) ho hs ht hkne hb0 hd hw hwo hfw (by
      rw [show va_up f1 (ad (18 + s)) (hSyncV st ad s (va_rf (some w))) (ad (12 + t)) = f1 (ad (12 + t)) from if_neg (fun z => absurd (hF.2 _ _ (hl_lo (by omega)) (hl_sy hs hkne) z) (by omega)), hf1]
      simp only [va_up, if_true]
      exact hd.task_t.symm) (by
      rw [hle, hC_sy hs, hd.sync_first hs ho hk hemp]
      simp [va_up]) (fun a ha1 ha2 => by
      rw [hle] at ha2
      simp only [va_up, if_neg ha2]
      rw [hf1]; simp only [va_up, if_neg ha1])
    have hfr2 : ∀ a, ¬ hOwn st ad a → va_up f1 (ad (18 + s)) (hSyncV st ad s (va_rf (some w))) a = f a := fun a hno => by
      have h1 : a ≠ ad (18 + s) := fun z => hno ⟨_, hl_sy hs hkne, z⟩
      have h2 : a ≠ ad (12 + t) := fun z => hno ⟨_, hl_lo (by omega), z⟩
      simp only [va_up, if_neg h1]
      rw [hf1]; simp only [va_up, if_neg h2]
    exact gw_vret S P hQ hr hlk ⟨Nat.le_of_ble_eq_true rfl, Nat.le_of_ble_eq_true rfl⟩ dX4_add_20 (⟨rfl, rfl, hF2, fun a haw hno => ⟨hfr2 a hno, hd.own haw hno⟩⟩)

set_option maxHeartbeats 8000000 in
set_option maxRecDepth 100000 in
theorem hw_remove {l : Launch} {D : va_G} {cs : Nat → ClassId} {ad : Nat → Nat} {L : List Nat} {f : Nat → va_E} {n : Nat} {st : St} (ho : Ok n st) {s : Nat} (hs : s < 8) (hk : hKd st s) {t : Nat} (hm : t ∈ st.2.2 s) (hF : HF cs ad st L f) : PM l D cs yX4_remove cX4_remove 3 none (rmL 3 0 0) [.ref (ad (18 + s)), .ref (ad (34 + t))] L f (hPostR cs ad st L f t s) := by
  refine hm_of "SyncHall$Sync" rfl (by decide +kernel) (Nat.le_of_ble_eq_true rfl) ?_
  intro sz p e u m below meth c S P hsz hr hlk hnm htb ls hl Q hQ
  have hl : lv_has ls 3 [(0, .ref (ad (18 + s))), (1, .ref (ad (34 + t)))] := hl
  have hx := S.1
  have hb := S.2.1
  generalize hH0 : u.heap = H at P ⊢
  generalize ([] : List Loc) = locs at P ⊢
  have hFr : ∀ a, ¬ hOwn st ad a → f a = f a := fun _ _ => rfl
  have hkne := hk.ne
  have ht := (ho.row hs hm).1
  have hbt : ¬ st.1 1 t = 0 := by rw [(ho.row hs hm).2.2.1]; decide
  refine lv_aload_n hx hb dX4_remove_0 rfl (lv_at hl 1 rfl) ?_
  refine pw_callR (nL' := 1) (rest := []) S P (hg_w_task (hF.mem (hl_wt ht hbt)) (hF.wt ht hbt)) q550 q52 (pw_entV (q := (RX10, TX10, 8)) [] S P (hF.mem (hl_wt ht hbt)) (hF.wt ht hbt) rfl q547 q548 q549 q550 ⟨by decide +kernel, by decide +kernel, (by decide +kernel : (parseMethodDescriptor yX10_task.desc).map (fun d => d.parameters.length) = some 0)⟩ dX4_remove_1) hl.1 (Nat.le_of_ble_eq_true rfl) ⟨Nat.le_of_ble_eq_true rfl, Nat.le_of_ble_eq_true rfl⟩ ⟨Nat.le_of_ble_eq_true rfl, Nat.le_of_ble_eq_true rfl⟩ (fun H locs P => ?_)
  refine W.eq (g2 := F0 m 4 ls [.ref (ad (12 + t))]) rfl ?_
  refine W.widen (k := 0) (n := 0) (Nat.le_of_ble_eq_true rfl) (Nat.le_of_ble_eq_true rfl) ?_
  refine lv_null hx hb dX4_remove_4 ?_
  refine pw_put (q := (RX2, TX2, 5)) (k := 4) S P (hF.m (by omega)) (hF.tk ht) rfl (by decide) q82 (Or.inl rfl) rfl rfl rfl (Nat.le_of_ble_eq_true rfl) dX4_remove_5 (fun H locs P => ?_)
  obtain ⟨f1, hf1, P⟩ : ∃ z, z = va_up f (ad (12 + t)) (.inr (1, [.int (nI t), .double (st.2.1 3 t), .int (st.1 4 t), .int (st.1 2 t), .null])) ∧ PW D cs (pA L sz) u L z H locs := ⟨_, rfl, P⟩
  have hg1 : ∀ r, hLive st r → r ≠ 12 + t → f1 (ad r) = hC cs st ad r := fun r hr hne => by
    have : ad r ≠ ad (12 + t) := fun z => hne (hF.2 _ _ hr (hl_lo (by omega)) z)
    rw [hf1]; simp only [va_up, if_neg this]; exact hF.eq hr
  have hse : ad (18 + s) ∈ L ∧ f1 (ad (18 + s)) = hSync st ad s := ⟨hF.mem (hl_sy hs hkne), (hg1 _ (hl_sy hs hkne) (by omega)).trans (hC_sy hs)⟩
  have hte : f1 (ad (34 + t)) = hWait st ad t := (hg1 _ (hl_wt ht hbt) (by omega)).trans hC_wt
  refine lv_aload_n hx hb dX4_remove_8 rfl (lv_at hl 0 rfl) ?_
  refine hs_gete 0 (by decide) S P hse hk q259 dX4_remove_9 ?_
  refine lv_aload_n hx hb dX4_remove_12 rfl (lv_at hl 1 rfl) ?_
  refine lv_acmp_ne (tgt := 25) (rx := hFi st ad s) (ry := some (ad (34 + t))) hx hb dX4_remove_13 (by decide) (fun c13 => ?_) (fun c13 => ?_)
  · rw [show hFi st ad s = hAt st ad s 0 from rfl, hAt_is hF ho hs hm, ← List.head?_eq_getElem?] at c13
    have hne : 0 < (st.2.2 s).length := List.length_pos_of_mem hm
    refine lv_aload_n hx hb dX4_remove_25 rfl (lv_at hl 0 rfl) ?_
    refine hs_gete 0 (by decide) S P hse hk q259 dX4_remove_26 ?_
    refine lw_astore_n (lv' := [(2, va_rf (hFi st ad s)), (0, .ref (ad (18 + s))), (1, .ref (ad (34 + t)))]) hx hb dX4_remove_29 rfl hl (by decide) rfl (fun ls hl => ?_)
    have hlen := (ho.wf s hs).1
    have loop30 : ∀ (d : Nat) (i : Nat), 7 - i < d → (i < (st.2.2 s).length) → (∀ j, j ≤ i → (st.2.2 s).getD j 0 ≠ t) → ∀ (H : Heap) (locs : List Loc), PW D cs (pA L sz) u L f1 H locs → ∀ (ls : Array Slot), lv_has ls 3 [(2, .ref (ad (34 + (st.2.2 s).getD i 0))), (0, .ref (ad (18 + s))), (1, .ref (ad (34 + t)))] → W p l e (rmL 3 0 0) u m ([.ref (ad (18 + s)), .ref (ad (34 + t))] : List Value).toArray below meth c H locs 0 0 Q (F0 m 30 ls []) := by
      intro d30
      induction d30 with
      | zero => intro i hd; exact absurd hd (by omega)
      | succ d30 ih30 =>
        intro i hd30 hi2 hno H locs P ls hl
        obtain ⟨hw6, hwb, hww⟩ := ho.rowx hs hi2
        have hwe : f1 (ad (34 + (st.2.2 s).getD i 0)) = hWait st ad ((st.2.2 s).getD i 0) := (hg1 _ (hl_wt hw6 hwb) (by omega)).trans hC_wt
        refine lv_aload_n hx hb dX4_remove_30 rfl (lv_at hl 0 rfl) ?_
        refine pw_get (q := (RX10, TX10, 8)) (k := 7) S P (hF.mem (hl_wt hw6 hwb)) hwe rfl (by decide) q519 (Or.inl rfl) rfl dX4_remove_31 ?_
        refine lw_eqv (w := va_rf (hAt st ad s (i + 1))) (by rw [hNx_at ho hs hi2]) ?_
        refine lv_aload_n hx hb dX4_remove_34 rfl (lv_at hl 2 rfl) ?_
        refine lv_acmp_eq (tgt := 46) (rx := hAt st ad s (i + 1)) (ry := some (ad (34 + t))) hx hb dX4_remove_35 (by decide) (fun c35 => ?_) (fun c35 => ?_)
        · rw [hAt_is hF ho hs hm] at c35
          refine lv_aload_n hx hb dX4_remove_46 rfl (lv_at hl 0 rfl) ?_
          refine lv_aload_n hx hb dX4_remove_47 rfl (lv_at hl 2 rfl) ?_
          refine pw_get (q := (RX10, TX10, 8)) (k := 7) S P (hF.mem (hl_wt ht hbt)) hte rfl (by decide) q519 (Or.inl rfl) rfl dX4_remove_48 ?_
          refine pw_put (q := (RX10, TX10, 8)) (k := 7) S P (hF.mem (hl_wt hw6 hwb)) hwe rfl (by decide) q519 (Or.inl rfl) rfl (by cases hNx st ad t <;> rfl) (by cases hNx st ad t <;> rfl) (Nat.le_of_ble_eq_true rfl) dX4_remove_51 (fun H locs P => ?_)
          have P : PW D cs (pA L sz) u L (va_up f1 (ad (34 + (st.2.2 s).getD i 0)) (.inr (2, [.ref (ad (12 + (st.2.2 s).getD i 0)), .ref (ad (18 + s_wf st ((st.2.2 s).getD i 0))), .int (hWr st ((st.2.2 s).getD i 0)), .double (st.2.1 7 ((st.2.2 s).getD i 0)), .double (st.2.1 8 ((st.2.2 s).getD i 0)), .int (st.1 9 ((st.2.2 s).getD i 0)), .int (hWo st ((st.2.2 s).getD i 0)), va_rf (hNx st ad t)]))) H locs := P
          have hut : (st.2.2 s).getD i 0 ≠ t := hno i (Nat.le_refl i)
          have hun : nxt (st.2.2 s) ((st.2.2 s).getD i 0) = some t := by rw [nxt_at (ho.1 s hs).2.2.1 hi2]; exact c35
          have hF2 := hF.removed (f2 := va_up f1 (ad (34 + (st.2.2 s).getD i 0)) (.inr (2, [.ref (ad (12 + (st.2.2 s).getD i 0)), .ref (ad (18 + s_wf st ((st.2.2 s).getD i 0))), .int (hWr st ((st.2.2 s).getD i 0)), .double (st.2.1 7 ((st.2.2 s).getD i 0)), .double (st.2.1 8 ((st.2.2 s).getD i 0)), .int (st.1 9 ((st.2.2 s).getD i 0)), .int (hWo st ((st.2.2 s).getD i 0)), va_rf (hNx st ad t)]))) (r0 := 34 + (st.2.2 s).getD i 0) ho hs hm (Or.inr ⟨c13, (st.2.2 s).getD i 0, ls_mem hi2, hut, hun, rfl⟩) (by
            rw [show va_up f1 (ad (34 + (st.2.2 s).getD i 0)) (.inr (2, [.ref (ad (12 + (st.2.2 s).getD i 0)), .ref (ad (18 + s_wf st ((st.2.2 s).getD i 0))), .int (hWr st ((st.2.2 s).getD i 0)), .double (st.2.1 7 ((st.2.2 s).getD i 0)), .double (st.2.1 8 ((st.2.2 s).getD i 0)), .int (st.1 9 ((st.2.2 s).getD i 0)), .int (hWo st ((st.2.2 s).getD i 0)), va_rf (hNx st ad t)])) (ad (12 + t)) = f1 (ad (12 + t)) from if_neg (fun z => absurd (hF.2 _ _ (hl_lo (by omega)) (hl_wt hw6 hwb) z) (by omega)), hf1]
            simp only [va_up, if_true]
            exact (rv_task ht).symm) (by
            rw [hC_wt, rv_pred ho hs hm (ls_mem hi2) hut hun]
            simp [-List.getD_eq_getElem?_getD, va_up]) (fun a ha1 ha2 => by
            simp only [va_up, if_neg ha2]
            rw [hf1]; simp only [va_up, if_neg ha1])
          have hfr2 : ∀ a, ¬ hOwn st ad a → (va_up f1 (ad (34 + (st.2.2 s).getD i 0)) (.inr (2, [.ref (ad (12 + (st.2.2 s).getD i 0)), .ref (ad (18 + s_wf st ((st.2.2 s).getD i 0))), .int (hWr st ((st.2.2 s).getD i 0)), .double (st.2.1 7 ((st.2.2 s).getD i 0)), .double (st.2.1 8 ((st.2.2 s).getD i 0)), .int (st.1 9 ((st.2.2 s).getD i 0)), .int (hWo st ((st.2.2 s).getD i 0)), va_rf (hNx st ad t)]))) a = f a := fun a hno => by
            have h1 : a ≠ ad (34 + (st.2.2 s).getD i 0) := fun z => hno ⟨_, (hl_wt hw6 hwb), z⟩
            have h2 : a ≠ ad (12 + t) := fun z => hno ⟨_, hl_lo (by omega), z⟩
            simp only [va_up, if_neg h1]
            rw [hf1]; simp only [va_up, if_neg h2]
          have hwt2 : (va_up f1 (ad (34 + (st.2.2 s).getD i 0)) (.inr (2, [.ref (ad (12 + (st.2.2 s).getD i 0)), .ref (ad (18 + s_wf st ((st.2.2 s).getD i 0))), .int (hWr st ((st.2.2 s).getD i 0)), .double (st.2.1 7 ((st.2.2 s).getD i 0)), .double (st.2.1 8 ((st.2.2 s).getD i 0)), .int (st.1 9 ((st.2.2 s).getD i 0)), .int (hWo st ((st.2.2 s).getD i 0)), va_rf (hNx st ad t)]))) (ad (34 + t)) = f (ad (34 + t)) := by
            have h1 : ad (34 + t) ≠ ad (34 + (st.2.2 s).getD i 0) := fun z => absurd (hF.2 _ _ (hl_wt ht hbt) (hl_wt hw6 hwb) z) (by omega)
            have h2 : ad (34 + t) ≠ ad (12 + t) := fun z => absurd (hF.2 _ _ (hl_wt ht hbt) (hl_lo (by omega)) z) (by omega)
            simp only [va_up, if_neg h1]
            rw [hf1]; simp only [va_up, if_neg h2]
          exact gw_vret S P hQ hr hlk ⟨Nat.le_of_ble_eq_true rfl, Nat.le_of_ble_eq_true rfl⟩ dX4_remove_54 (⟨rfl, rfl, hF2, hwt2, hfr2⟩)
        · rw [hAt_is hF ho hs hm] at c35
          have hi3 : i + 1 < (st.2.2 s).length := by
            obtain ⟨k, hk1, hk2⟩ := ls_has hm
            rcases Nat.lt_or_ge i k with q | q
            · omega
            · exact absurd hk2 (hno k q)
          refine lv_aload_n hx hb dX4_remove_38 rfl (lv_at hl 0 rfl) ?_
          refine pw_get (q := (RX10, TX10, 8)) (k := 7) S P (hF.mem (hl_wt hw6 hwb)) hwe rfl (by decide) q519 (Or.inl rfl) rfl dX4_remove_39 ?_
          refine lw_eqv (w := .ref (ad (34 + (st.2.2 s).getD (i + 1) 0))) (by rw [hNx_at ho hs hi2, hAt_some hi3]; rfl) ?_
          refine lv_astore_n (lv' := [(2, .ref (ad (34 + (st.2.2 s).getD (i + 1) 0))), (0, .ref (ad (18 + s))), (1, .ref (ad (34 + t)))]) hx hb dX4_remove_42 rfl hl (by decide) rfl (fun ls hl => ?_)
          refine lv_goto (tgt := 30) hx hb dX4_remove_43 (by decide) ?_
          exact ih30 (i + 1) (by omega) hi3 (fun j hj => by
            rcases Nat.lt_or_ge i j with q | q
            · have : j = i + 1 := by omega
              subst this
              intro e
              apply c35
              rw [List.getElem?_eq_getElem hi3]
              rw [ls_getD hi3] at e
              rw [e]
            · exact hno j q) _ _ P ls (lv_sub hl [0, 1, 2] rfl)
    exact loop30 _ 0 (Nat.lt_succ_self _) hne (fun j hj => by
      have : j = 0 := by omega
      subst this
      intro e
      apply c13
      rw [List.head?_eq_getElem?, List.getElem?_eq_getElem hne]
      rw [ls_getD hne] at e
      rw [e]) _ _ P ls (lv_sub hl [0, 1, 2] (by rw [show hFi st ad s = _ from hAt_some hne]; rfl))
  · rw [show hFi st ad s = hAt st ad s 0 from rfl, hAt_is hF ho hs hm, ← List.head?_eq_getElem?] at c13
    refine lv_aload_n hx hb dX4_remove_16 rfl (lv_at hl 0 rfl) ?_
    refine lv_aload_n hx hb dX4_remove_17 rfl (lv_at hl 1 rfl) ?_
    refine pw_get (q := (RX10, TX10, 8)) (k := 7) S P (hF.mem (hl_wt ht hbt)) hte rfl (by decide) q519 (Or.inl rfl) rfl dX4_remove_18 ?_
    refine hs_put0 (v := hNx st ad t) S P hse hk q259 dX4_remove_21 (fun H locs P => ?_)
    have hF2 := hF.removed (f2 := va_up f1 (ad (18 + s)) (hSyncV st ad s (va_rf (hNx st ad t)))) (r0 := 18 + s) ho hs hm (Or.inl ⟨c13, rfl⟩) (by
      rw [show va_up f1 (ad (18 + s)) (hSyncV st ad s (va_rf (hNx st ad t))) (ad (12 + t)) = f1 (ad (12 + t)) from if_neg (fun z => absurd (hF.2 _ _ (hl_lo (by omega)) (hl_sy hs hkne) z) (by omega)), hf1]
      simp only [va_up, if_true]
      exact (rv_task ht).symm) (by
      rw [hC_sy hs, rv_first ho hs hm c13]
      simp [va_up]) (fun a ha1 ha2 => by
      simp only [va_up, if_neg ha2]
      rw [hf1]; simp only [va_up, if_neg ha1])
    have hfr2 : ∀ a, ¬ hOwn st ad a → (va_up f1 (ad (18 + s)) (hSyncV st ad s (va_rf (hNx st ad t)))) a = f a := fun a hno => by
      have h1 : a ≠ ad (18 + s) := fun z => hno ⟨_, (hl_sy hs hkne), z⟩
      have h2 : a ≠ ad (12 + t) := fun z => hno ⟨_, hl_lo (by omega), z⟩
      simp only [va_up, if_neg h1]
      rw [hf1]; simp only [va_up, if_neg h2]
    have hwt2 : (va_up f1 (ad (18 + s)) (hSyncV st ad s (va_rf (hNx st ad t)))) (ad (34 + t)) = f (ad (34 + t)) := by
      have h1 : ad (34 + t) ≠ ad (18 + s) := fun z => absurd (hF.2 _ _ (hl_wt ht hbt) (hl_sy hs hkne) z) (by omega)
      have h2 : ad (34 + t) ≠ ad (12 + t) := fun z => absurd (hF.2 _ _ (hl_wt ht hbt) (hl_lo (by omega)) z) (by omega)
      simp only [va_up, if_neg h1]
      rw [hf1]; simp only [va_up, if_neg h2]
    exact gw_vret S P hQ hr hlk ⟨Nat.le_of_ble_eq_true rfl, Nat.le_of_ble_eq_true rfl⟩ dX4_remove_24 (⟨rfl, rfl, hF2, hwt2, hfr2⟩)
