/-! Sync.takeFor, Sync.serve, by gen_h7.py -/
set_option maxHeartbeats 8000000 in
set_option maxRecDepth 100000 in
theorem hw_X4_takeFor {l : Launch} {D : va_G} {cs : Nat → ClassId} {ad : Nat → Nat} {L : List Nat} {f : Nat → va_E} {n : Nat} {st : St} (ho : Ok n st) {s : Nat} (hs : s < 8) (hk : hK4 st s) {t : Nat} (ht : t < 6) {w sy : Nat} {wb : Bool} {dp oc : Int32} {en si : UInt64} {nx : Option Nat} (hw : w ∈ L) (hwo : ¬ hOwn st ad w) (hfw : f w = .inr (2, [.ref (ad (12 + t)), .ref sy, .int (bI wb), .double en, .double si, .int dp, .int oc, va_rf nx]))  (hF : HF cs ad st L f) : PM l D cs yX4_takeFor cX4_takeFor 2 none (rmL 3 0 0) [.ref (ad (18 + s)), .ref w] L f (hPostS cs ad st L f (.inl none) (s_take st t s (bI wb))) := by
  refine hm_of "SyncHall$Sync" rfl (by decide +kernel) (Nat.le_of_ble_eq_true rfl) ?_
  intro sz p e u m below meth c S P hsz hr hlk hnm htb ls hl Q hQ
  have hl : lv_has ls 2 [(0, .ref (ad (18 + s))), (1, .ref w)] := hl
  have hx := S.1
  have hb := S.2.1
  generalize hH0 : u.heap = H at P ⊢
  generalize ([] : List Loc) = locs at P ⊢
  have hFr : ∀ a, ¬ hOwn st ad a → f a = f a := fun _ _ => rfl
  refine lv_aload_n hx hb dX4_takeFor_0 rfl (lv_at hl 0 rfl) ?_
  refine lv_aload_n hx hb dX4_takeFor_1 rfl (lv_at hl 1 rfl) ?_
  refine pw_callR (nL' := 1) (rest := [.ref (ad (18 + s))]) S P (hg_w_task hw hfw) q550 q52 (pw_entV (q := (RX10, TX10, 8)) [] S P hw hfw rfl q547 q548 q549 q550 ⟨by decide +kernel, by decide +kernel, (by decide +kernel : (parseMethodDescriptor yX10_task.desc).map (fun d => d.parameters.length) = some 0)⟩ dX4_takeFor_2) hl.1 (Nat.le_of_ble_eq_true rfl) ⟨Nat.le_of_ble_eq_true rfl, Nat.le_of_ble_eq_true rfl⟩ ⟨Nat.le_of_ble_eq_true rfl, Nat.le_of_ble_eq_true rfl⟩ (fun H locs P => ?_)
  refine W.eq (g2 := F0 m 5 ls [.ref (ad (12 + t)), .ref (ad (18 + s))]) rfl ?_
  refine W.widen (k := 0) (n := 0) (Nat.le_of_ble_eq_true rfl) (Nat.le_of_ble_eq_true rfl) ?_
  refine lv_aload_n hx hb dX4_takeFor_5 rfl (lv_at hl 1 rfl) ?_
  refine pw_callR (nL' := 1) (rest := [.ref (ad (12 + t)), .ref (ad (18 + s))]) S P (hg_w_writes hw hfw) q459 q52 (pw_entV (q := (RX10, TX10, 8)) [] S P hw hfw rfl q612 q457 q458 q459 ⟨by decide +kernel, by decide +kernel, (by decide +kernel : (parseMethodDescriptor yX10_writes.desc).map (fun d => d.parameters.length) = some 0)⟩ dX4_takeFor_6) hl.1 (Nat.le_of_ble_eq_true rfl) ⟨Nat.le_of_ble_eq_true rfl, Nat.le_of_ble_eq_true rfl⟩ ⟨Nat.le_of_ble_eq_true rfl, Nat.le_of_ble_eq_true rfl⟩ (fun H locs P => ?_)
  refine W.eq (g2 := F0 m 9 ls [.int (bI wb), .ref (ad (12 + t)), .ref (ad (18 + s))]) rfl ?_
  refine W.widen (k := 0) (n := 0) (Nat.le_of_ble_eq_true rfl) (Nat.le_of_ble_eq_true rfl) ?_
  refine vc_take (wb := wb) S P ho hF hs hk ht q643 dX4_takeFor_9 hl.1 (Nat.le_of_ble_eq_true rfl) ⟨Nat.le_of_ble_eq_true rfl, Nat.le_of_ble_eq_true rfl⟩ ⟨Nat.le_of_ble_eq_true rfl, Nat.le_of_ble_eq_true rfl⟩ (fun H locs f P hF hlv hfr => ?_)
  exact gw_vret S P hQ hr hlk ⟨Nat.le_of_ble_eq_true rfl, Nat.le_of_ble_eq_true rfl⟩ dX4_takeFor_12 (hPost_same hF hlv hfr)

section VCT
variable {p : Program} {l : Launch} {e : Env} {R : Room} {u : State} {m : MethodId} {args : Array Value} {below : List Frame} {meth : Method} {c : Code} {H : Heap} {locs : List Loc} {cells slots : Nat} {Q : State → Prop}
variable {cc : ByteArray} {nL pc : Nat} {ls : Array Slot} {rest : List Value} {D : va_G} {cs : Nat → ClassId} {A : Nat → Prop} {L : List Nat} {f : Nat → va_E} {own : String} {ad : Nat → Nat} {st st' : St} {n : Nat}
theorem hOwn_no {X Y : St} {a : Nat} (h : ∀ r, hLive X r → hLive Y r) (ha : ¬ hOwn Y ad a) : ¬ hOwn X ad a := fun ⟨r, hr, e⟩ => ha ⟨r, h r hr, e⟩
theorem s_take_Ik {S : St} {t s k : Nat} {m : Int32} (h : k ≠ 13 ∧ k ≠ 14 ∧ k ≠ 15 ∧ k ≠ 17) : (s_take S t s m).1 k = S.1 k := by
  have key : ∀ (X : St) (j i : Nat) (v : Int32), k ≠ j → (sI X j i v).1 k = X.1 k := fun X j i v hj => by show va_up X.1 j _ k = _; simp [va_up, hj]
  unfold s_take
  split
  · exact key _ _ _ _ h.2.2.1
  · split
    · exact key _ _ _ _ h.2.2.2
    · split
      · rfl
      · rw [key _ _ _ _ h.2.1, key _ _ _ _ h.1]
theorem s_take_D {S : St} {t s : Nat} {m : Int32} : (s_take S t s m).2 = S.2 := by
  unfold s_take
  split
  · rfl
  · split
    · rfl
    · split <;> rfl
theorem hTF_I {S : St} {t s k : Nat} {wb : Bool} {dp : Int32} (h : k ≠ 13 ∧ k ≠ 14 ∧ k ≠ 15 ∧ k ≠ 17) : (hTF S t s wb dp).1 k = S.1 k := by
  have key : ∀ (X : St) (j i : Nat) (v : Int32), k ≠ j → (sI X j i v).1 k = X.1 k := fun X j i v hj => by show va_up X.1 j _ k = _; simp [va_up, hj]
  unfold hTF
  split
  · rw [key _ _ _ _ h.2.1, key _ _ _ _ h.1]
  · exact s_take_Ik h
theorem hTF_D {S : St} {t s : Nat} {wb : Bool} {dp : Int32} : (hTF S t s wb dp).2 = S.2 := by
  unfold hTF
  split
  · rfl
  · exact s_take_D

theorem vc_takeFor {s idx : Nat} (S : CallFix p m c cc nL u args lw_all own) (P : PW D cs A u L f H locs) (ho : Ok n st) (hF : HF cs ad st L f) (hs : s < 8) (hk : hK4 st s) {t w sy : Nat} {wb : Bool} {dp oc : Int32} {en si : UInt64} {nx : Option Nat} (ht : t < 6) (hw : w ∈ L) (hwo : ¬ hOwn st ad w) (hfw : f w = .inr (2, [.ref (ad (12 + t)), .ref sy, .int (bI wb), .double en, .double si, .int dp, .int oc, va_rf nx])) (q1 : Cond.methodLink own idx ⟨"SyncHall$Sync", "takeFor", "(LSyncHall$Waiter;)V"⟩ ∈ lw_all) (hdg : decode cc pc = .ok (.invokevirtual idx, 3)) (hls : ls.size = nL) (hroom : (rest.map fun v => v.category).sum ≤ 8) (hR : 4 ≤ R.frames ∧ 214 ≤ R.locals) (hf : cells ≤ R.cells ∧ slots ≤ R.slots)
    (kr : ∀ (H1 : Heap) (locs1 : List Loc) (f' : Nat → va_E), PW D cs A u L f' H1 locs1 → HF cs ad (hTF st t s wb dp) L f' → (∀ r, hLive (hTF st t s wb dp) r → hLive st r) → (∀ a, ¬ hOwn st ad a → f' a = f a) → W p l e R u m args below meth c H1 locs1 cells slots Q (F0 m (pc + 3) ls rest)) : W p l e R u m args below meth c H locs cells slots Q (F0 m pc ls (.ref w :: .ref (ad (18 + s)) :: rest)) := by
  rcases hk with hk | hk | hk | hk
  · exact pw_callS (nL' := 2) S P (hw_X5_takeFor ho hs hk ht hw hwo hfw hF) q630 q46 (pw_entU (q := (RX5, TX5, 6)) "SyncHall$Sync" [.ref w] S P (hF.lk hs hk).1 (hF.lk hs hk).2 rfl q1 q625 q628 q629 q630 (va_Decl_in S q624 q642) ⟨by decide +kernel, by decide +kernel, (by decide +kernel : (parseMethodDescriptor (⟨"SyncHall$Sync", "takeFor", "(LSyncHall$Waiter;)V"⟩ : MethodName).desc).map (fun d => d.parameters.length) = some 1)⟩ hdg) hls hroom ⟨Nat.le_trans (Nat.le_of_ble_eq_true rfl) hR.1, Nat.le_trans (Nat.le_of_ble_eq_true rfl) hR.2⟩ hf (fun H1 locs1 f' P1 h1 h2 h3 => kr H1 locs1 f' P1 (by rw [show hTF st t s wb dp = sI (sI st 13 s (nI t)) 14 s (st.1 14 s + (if 0 < dp then dp else 1)) from if_pos hk]; exact h1) (by rw [show hTF st t s wb dp = sI (sI st 13 s (nI t)) 14 s (st.1 14 s + (if 0 < dp then dp else 1)) from if_pos hk]; exact h2) h3)
  · exact pw_callS (nL' := 2) S P (hw_X4_takeFor ho hs (Or.inr (Or.inl hk)) ht hw hwo hfw hF) q642 q45 (pw_entV (q := (RX6, TX6, 5)) [.ref w] S P (hF.sm hs hk).1 (hF.sm hs hk).2 rfl q1 q624 q640 q642 ⟨by decide +kernel, by decide +kernel, (by decide +kernel : (parseMethodDescriptor (⟨"SyncHall$Sync", "takeFor", "(LSyncHall$Waiter;)V"⟩ : MethodName).desc).map (fun d => d.parameters.length) = some 1)⟩ hdg) hls hroom ⟨Nat.le_trans (Nat.le_of_ble_eq_true rfl) hR.1, Nat.le_trans (Nat.le_of_ble_eq_true rfl) hR.2⟩ hf (fun H1 locs1 f' P1 h1 h2 h3 => kr H1 locs1 f' P1 (by rw [show hTF st t s wb dp = s_take st t s (bI wb) from if_neg (by rcases hk with z | z <;> rw [z] <;> decide)]; exact h1) (by rw [show hTF st t s wb dp = s_take st t s (bI wb) from if_neg (by rcases hk with z | z <;> rw [z] <;> decide)]; exact h2) h3)
  · exact pw_callS (nL' := 2) S P (hw_X4_takeFor ho hs (Or.inr (Or.inr (Or.inl hk))) ht hw hwo hfw hF) q642 q45 (pw_entV (q := (RX7, TX7, 4)) [.ref w] S P (hF.la hs hk).1 (hF.la hs hk).2 rfl q1 q624 q627 q642 ⟨by decide +kernel, by decide +kernel, (by decide +kernel : (parseMethodDescriptor (⟨"SyncHall$Sync", "takeFor", "(LSyncHall$Waiter;)V"⟩ : MethodName).desc).map (fun d => d.parameters.length) = some 1)⟩ hdg) hls hroom ⟨Nat.le_trans (Nat.le_of_ble_eq_true rfl) hR.1, Nat.le_trans (Nat.le_of_ble_eq_true rfl) hR.2⟩ hf (fun H1 locs1 f' P1 h1 h2 h3 => kr H1 locs1 f' P1 (by rw [show hTF st t s wb dp = s_take st t s (bI wb) from if_neg (by rw [hk]; decide)]; exact h1) (by rw [show hTF st t s wb dp = s_take st t s (bI wb) from if_neg (by rw [hk]; decide)]; exact h2) h3)
  · exact pw_callS (nL' := 2) S P (hw_X4_takeFor ho hs (Or.inr (Or.inr (Or.inr hk))) ht hw hwo hfw hF) q642 q45 (pw_entV (q := (RX8, TX8, 6)) [.ref w] S P (hF.sh hs hk).1 (hF.sh hs hk).2 rfl q1 q624 q641 q642 ⟨by decide +kernel, by decide +kernel, (by decide +kernel : (parseMethodDescriptor (⟨"SyncHall$Sync", "takeFor", "(LSyncHall$Waiter;)V"⟩ : MethodName).desc).map (fun d => d.parameters.length) = some 1)⟩ hdg) hls hroom ⟨Nat.le_trans (Nat.le_of_ble_eq_true rfl) hR.1, Nat.le_trans (Nat.le_of_ble_eq_true rfl) hR.2⟩ hf (fun H1 locs1 f' P1 h1 h2 h3 => kr H1 locs1 f' P1 (by rw [show hTF st t s wb dp = s_take st t s (bI wb) from if_neg (by rw [hk]; decide)]; exact h1) (by rw [show hTF st t s wb dp = s_take st t s (bI wb) from if_neg (by rw [hk]; decide)]; exact h2) h3)
end VCT

set_option maxHeartbeats 8000000 in
set_option maxRecDepth 100000 in
theorem hw_serve {l : Launch} {D : va_G} {cs : Nat → ClassId} {ad : Nat → Nat} {L : List Nat} {f : Nat → va_E} {n : Nat} {st : St} (ho : Ok n st) {s : Nat} (hs : s < 8) (hk : hK4 st s) (hn : n ≤ 100) {nw : UInt64} (hnow : st.2.1 11 0 = nw) (hnb : fb 1200 nw)  (hF : HF cs ad st L f) : PM l D cs yX4_serve cX4_serve 4 none (rmL 5 0 0) [.ref (ad (18 + s)), .double nw] L f (hPostS cs ad st L f (.inl none) (s_serve st s)) := by
  refine hm_of "SyncHall$Sync" rfl (by decide +kernel) (Nat.le_of_ble_eq_true rfl) ?_
  intro sz p e u m below meth c S P hsz hr hlk hnm htb ls hl Q hQ
  have hl : lv_has ls 4 [(0, .ref (ad (18 + s))), (1, .double nw)] := hl
  have hx := S.1
  have hb := S.2.1
  generalize hH0 : u.heap = H at P ⊢
  generalize ([] : List Loc) = locs at P ⊢
  have hFr : ∀ a, ¬ hOwn st ad a → f a = f a := fun _ _ => rfl
  refine lv_aload_n hx hb dX4_serve_0 rfl (lv_at hl 0 rfl) ?_
  refine vc_next S P ho hF hs hk q598 dX4_serve_1 hl.1 (Nat.le_of_ble_eq_true rfl) ⟨Nat.le_of_ble_eq_true rfl, Nat.le_of_ble_eq_true rfl⟩ ⟨Nat.le_of_ble_eq_true rfl, Nat.le_of_ble_eq_true rfl⟩ (fun H locs P => ?_)
  refine lw_astore_n (lv' := [(3, va_rf (hNext st ad s)), (0, .ref (ad (18 + s))), (1, .double nw)]) hx hb dX4_serve_4 rfl hl (by decide) rfl (fun ls hl => ?_)
  have h6 : ∀ X : St, hK4 X s → ¬ X.1 12 s = 6 := fun X h => by rcases h with (q | q) | (q | q) | q | q <;> rw [q] <;> decide
  obtain ⟨f0, hf0⟩ : ∃ z, z = f := ⟨f, rfl⟩
  have loop5 : ∀ (d : Nat) (st1 : St) (f1 : Nat → va_E), (st1.2.2 s).length < d → (Ok n st1) → (HF cs ad st1 L f1) → (hK4 st1 s) → (∀ r, hLive st1 r → hLive st r) → (∀ a, ¬ hOwn st ad a → f1 a = f0 a) → (s_serve st1 s = s_serve st s) → (st1.2.1 11 0 = nw) → ∀ (H : Heap) (locs : List Loc), PW D cs (pA L sz) u L f1 H locs → ∀ (ls : Array Slot), lv_has ls 4 [(3, va_rf (hNext st1 ad s)), (0, .ref (ad (18 + s))), (1, .double nw)] → W p l e (rmL 5 0 0) u m ([.ref (ad (18 + s)), .double nw] : List Value).toArray below meth c H locs 0 0 Q (F0 m 5 ls []) := by
    intro d5
    induction d5 with
    | zero => intro st1 f1 hd; exact absurd hd (by omega)
    | succ d5 ih5 =>
      intro st1 f1 hd5 ho hF hk hlv hFr0 hsv hnow H locs P ls hl
      have h6 := h6 st1 hk
      refine lw_aload_n hx hb dX4_serve_5 rfl (lv_at hl 0 rfl) ?_
      refine lw_ifnull (tgt := 63) hx hb dX4_serve_6 (by decide) (fun c6 => ?_) (fun c6 => ?_)
      · have hgo : s_goes st1 s = false := by
          unfold s_goes
          have : (st1.2.2 s).isEmpty = true := ls_ie0 (fun z => by rw [hNext_some z] at c6; cases c6)
          rw [this]; simp
        exact gw_vret S P hQ hr hlk ⟨Nat.le_of_ble_eq_true rfl, Nat.le_of_ble_eq_true rfl⟩ dX4_serve_63 (by rw [show s_serve st s = st1 from hsv.symm.trans (s_serveN_no hgo)]; exact hPost_same hF hlv (fun a ha => (hFr0 a ha).trans (congrFun hf0 a)))
      · have _h := True.intro
        have hne : 0 < (st1.2.2 s).length := Decidable.byContradiction (fun z => c6 (hNext_none z))
        rw [hNext_some hne] at hl
        have hm := s_next_mem hne
        obtain ⟨t, hte⟩ : ∃ t, t = s_next st1 s := ⟨_, rfl⟩
        rw [← hte] at hl hm
        have ht := (ho.row hs hm).1
        have hbt : ¬ st1.1 1 t = 0 := by rw [(ho.row hs hm).2.2.1]; decide
        refine lv_aload_n hx hb dX4_serve_9 rfl (lv_at hl 1 rfl) ?_
        refine lv_aload_n hx hb dX4_serve_10 rfl (lv_at hl 0 rfl) ?_
        refine pw_callR (nL' := 1) (rest := [.ref (ad (18 + s))]) S P (hg_w_task (hF.mem (hl_wt ht hbt)) (hF.wt ht hbt)) q550 q52 (pw_entV (q := (RX10, TX10, 8)) [] S P (hF.mem (hl_wt ht hbt)) (hF.wt ht hbt) rfl q547 q548 q549 q550 ⟨by decide +kernel, by decide +kernel, (by decide +kernel : (parseMethodDescriptor yX10_task.desc).map (fun d => d.parameters.length) = some 0)⟩ dX4_serve_11) hl.1 (Nat.le_of_ble_eq_true rfl) ⟨Nat.le_of_ble_eq_true rfl, Nat.le_of_ble_eq_true rfl⟩ ⟨Nat.le_of_ble_eq_true rfl, Nat.le_of_ble_eq_true rfl⟩ (fun H locs P => ?_)
        refine W.eq (g2 := F0 m 14 ls [.ref (ad (12 + t)), .ref (ad (18 + s))]) rfl ?_
        refine W.widen (k := 0) (n := 0) (Nat.le_of_ble_eq_true rfl) (Nat.le_of_ble_eq_true rfl) ?_
        refine lv_aload_n hx hb dX4_serve_14 rfl (lv_at hl 0 rfl) ?_
        refine pw_callR (nL' := 1) (rest := [.ref (ad (12 + t)), .ref (ad (18 + s))]) S P (hg_w_writes (hF.mem (hl_wt ht hbt)) (hF.wt ht hbt)) q459 q52 (pw_entV (q := (RX10, TX10, 8)) [] S P (hF.mem (hl_wt ht hbt)) (hF.wt ht hbt) rfl q612 q457 q458 q459 ⟨by decide +kernel, by decide +kernel, (by decide +kernel : (parseMethodDescriptor yX10_writes.desc).map (fun d => d.parameters.length) = some 0)⟩ dX4_serve_15) hl.1 (Nat.le_of_ble_eq_true rfl) ⟨Nat.le_of_ble_eq_true rfl, Nat.le_of_ble_eq_true rfl⟩ ⟨Nat.le_of_ble_eq_true rfl, Nat.le_of_ble_eq_true rfl⟩ (fun H locs P => ?_)
        refine W.eq (g2 := F0 m 18 ls [.int (bI (hWb st1 t)), .ref (ad (12 + t)), .ref (ad (18 + s))]) rfl ?_
        refine W.widen (k := 0) (n := 0) (Nat.le_of_ble_eq_true rfl) (Nat.le_of_ble_eq_true rfl) ?_
        refine vc_canTake (wb := hWb st1 t) S P ho hF hs hk ht q613 dX4_serve_18 hl.1 (Nat.le_of_ble_eq_true rfl) ⟨Nat.le_of_ble_eq_true rfl, Nat.le_of_ble_eq_true rfl⟩ ⟨Nat.le_of_ble_eq_true rfl, Nat.le_of_ble_eq_true rfl⟩ (fun H locs P => ?_)
        refine lv_if_eq (tgt := 63) (x := bI (s_canTake st1 t s (bI (hWb st1 t)))) hx hb dX4_serve_21 (by decide) (fun c21 => ?_) (fun c21 => ?_)
        · rw [bI_eq0] at c21
          rw [can_mode ho hs hm h6] at c21
          have hgo : s_goes st1 s = false := by
            unfold s_goes
            rw [← hte, c21]; simp
          exact gw_vret S P hQ hr hlk ⟨Nat.le_of_ble_eq_true rfl, Nat.le_of_ble_eq_true rfl⟩ dX4_serve_63 (by rw [show s_serve st s = st1 from hsv.symm.trans (s_serveN_no hgo)]; exact hPost_same hF hlv (fun a ha => (hFr0 a ha).trans (congrFun hf0 a)))
        · rw [bI_eq0, Bool.not_eq_false] at c21
          rw [can_mode ho hs hm h6] at c21
          refine lv_aload_n hx hb dX4_serve_24 rfl (lv_at hl 1 rfl) ?_
          refine lv_aload_n hx hb dX4_serve_25 rfl (lv_at hl 0 rfl) ?_
          have hwt0 : f1 (ad (34 + t)) = .inr (2, [.ref (ad (12 + t)), .ref (ad (18 + s_wf st1 t)), .int (bI (hWb st1 t)), .double (st1.2.1 7 t), .double (st1.2.1 8 t), .int (st1.1 9 t), .int (hWo st1 t), va_rf (hNx st1 ad t)]) := hF.wt ht hbt
          have hwm : ad (34 + t) ∈ L := hF.mem (hl_wt ht hbt)
          have hwo : ¬ hOwn (sI (s_remove st1 t s) 1 t 0) ad (ad (34 + t)) := rv_own hF ht hbt
          refine vc_remove S P ho hF hs hk.kd hm q614 dX4_serve_26 hl.1 (Nat.le_of_ble_eq_true rfl) ⟨Nat.le_of_ble_eq_true rfl, Nat.le_of_ble_eq_true rfl⟩ ⟨Nat.le_of_ble_eq_true rfl, Nat.le_of_ble_eq_true rfl⟩ (fun H locs fA P hF hwc hfr1 => ?_)
          have hwe := hwc.trans hwt0
          refine lv_aload_n hx hb dX4_serve_29 rfl (lv_at hl 1 rfl) ?_
          refine lv_aload_n hx hb dX4_serve_30 rfl (lv_at hl 0 rfl) ?_
          refine vc_takeFor (wb := hWb st1 t) S P (ho.rmB hs hm).1 hF hs hk ht hwm hwo hwe q623 dX4_serve_31 hl.1 (Nat.le_of_ble_eq_true rfl) ⟨Nat.le_of_ble_eq_true rfl, Nat.le_of_ble_eq_true rfl⟩ ⟨Nat.le_of_ble_eq_true rfl, Nat.le_of_ble_eq_true rfl⟩ (fun H locs f P hF hlv2 hfr2 => ?_)
          have hwe := (hfr2 _ hwo).trans hwe
          have hwo := hOwn_no hlv2 hwo
          have hI12 : ∀ k, k ≠ 13 ∧ k ≠ 14 ∧ k ≠ 15 ∧ k ≠ 17 → (hTF (sI (s_remove st1 t s) 1 t 0) t s (hWb st1 t) (st1.1 9 t)).1 k = (sI (s_remove st1 t s) 1 t 0).1 k := fun k h => hTF_I h
          have hD12 : (hTF (sI (s_remove st1 t s) 1 t 0) t s (hWb st1 t) (st1.1 9 t)).2 = (sI (s_remove st1 t s) 1 t 0).2 := hTF_D
          obtain ⟨stF, hstF⟩ : ∃ z, z = hTF (sI (s_remove st1 t s) 1 t 0) t s (hWb st1 t) (st1.1 9 t) := ⟨_, rfl⟩
          rw [← hstF] at hF hlv2 hwo hI12 hD12
          have hFr : ∀ a, ¬ hOwn stF ad a → f a = f a := fun _ _ => rfl
          refine lv_aload_n hx hb dX4_serve_34 rfl (lv_at hl 0 rfl) ?_
          refine pw_callR (nL' := 1) (rest := []) S P (hg_w_task hwm hwe) q550 q52 (pw_entV (q := (RX10, TX10, 8)) [] S P hwm hwe rfl q547 q548 q549 q550 ⟨by decide +kernel, by decide +kernel, (by decide +kernel : (parseMethodDescriptor yX10_task.desc).map (fun d => d.parameters.length) = some 0)⟩ dX4_serve_35) hl.1 (Nat.le_of_ble_eq_true rfl) ⟨Nat.le_of_ble_eq_true rfl, Nat.le_of_ble_eq_true rfl⟩ ⟨Nat.le_of_ble_eq_true rfl, Nat.le_of_ble_eq_true rfl⟩ (fun H locs P => ?_)
          refine W.eq (g2 := F0 m 38 ls [.ref (ad (12 + t))]) rfl ?_
          refine W.widen (k := 0) (n := 0) (Nat.le_of_ble_eq_true rfl) (Nat.le_of_ble_eq_true rfl) ?_
          refine lv_aload_n hx hb dX4_serve_38 rfl (lv_at hl 0 rfl) ?_
          refine pw_callR (nL' := 1) (rest := [.ref (ad (12 + t))]) S P (hg_w_outcome hwm hwe) q647 q52 (pw_entV (q := (RX10, TX10, 8)) [] S P hwm hwe rfl q644 q645 q646 q647 ⟨by decide +kernel, by decide +kernel, (by decide +kernel : (parseMethodDescriptor yX10_outcome.desc).map (fun d => d.parameters.length) = some 0)⟩ dX4_serve_39) hl.1 (Nat.le_of_ble_eq_true rfl) ⟨Nat.le_of_ble_eq_true rfl, Nat.le_of_ble_eq_true rfl⟩ ⟨Nat.le_of_ble_eq_true rfl, Nat.le_of_ble_eq_true rfl⟩ (fun H locs P => ?_)
          refine W.eq (g2 := F0 m 42 ls [.int (hWo st1 t), .ref (ad (12 + t))]) rfl ?_
          refine W.widen (k := 0) (n := 0) (Nat.le_of_ble_eq_true rfl) (Nat.le_of_ble_eq_true rfl) ?_
          refine hp_task (st' := sI stF 4 t (hWo st1 t)) (t := t) (k := 2) (v := .int (hWo st1 t)) S P hF (by omega) (by decide) q79 rfl rfl (rfl) (rfl) (tDiff_I (by decide)) (by unfold hTask; rw [show (sI stF 4 t (hWo st1 t)).1 4 t = hWo st1 t from pk_us]; rfl) dX4_serve_42 (fun H locs f P hF hfr => ?_)
          have hFr : ∀ a, ¬ hOwn stF ad a → f a = _ := fun a ha => (hfr a ha).trans (hFr a ha)
          have hwe := (hfr _ hwo).trans hwe
          refine lv_aload_n hx hb dX4_serve_45 rfl (lv_at hl 1 rfl) ?_
          refine lv_dload_n hx hb dX4_serve_46 rfl (lv_at hl 2 rfl) ?_
          refine lv_aload_n hx hb dX4_serve_47 rfl (lv_at hl 0 rfl) ?_
          refine pw_callR (nL' := 1) (rest := [.double nw, .ref (ad (18 + s))]) S P (hg_w_since hwm hwe) q651 q52 (pw_entV (q := (RX10, TX10, 8)) [] S P hwm hwe rfl q648 q649 q650 q651 ⟨by decide +kernel, by decide +kernel, (by decide +kernel : (parseMethodDescriptor yX10_since.desc).map (fun d => d.parameters.length) = some 0)⟩ dX4_serve_48) hl.1 (Nat.le_of_ble_eq_true rfl) ⟨Nat.le_of_ble_eq_true rfl, Nat.le_of_ble_eq_true rfl⟩ ⟨Nat.le_of_ble_eq_true rfl, Nat.le_of_ble_eq_true rfl⟩ (fun H locs P => ?_)
          refine W.eq (g2 := F0 m 51 ls [.double (st1.2.1 8 t), .double nw, .ref (ad (18 + s))]) rfl ?_
          refine W.widen (k := 0) (n := 0) (Nat.le_of_ble_eq_true rfl) (Nat.le_of_ble_eq_true rfl) ?_
          refine lv_dsub hx hb dX4_serve_51 ((fb_wait hnb (ho.db.2.1 t ht)).2) ?_
          have hk5 : hKd (sI stF 4 t (hWo st1 t)) s := by show hKd stF s; unfold hKd; rw [hI12 12 (by decide)]; exact hk.kd
          refine vc_note S P hF hs hk5 (by show fb 1400 (stF.2.1 20 s); rw [hD12]; exact ho.db.2.2 s hs) (fb_wait hnb (ho.db.2.1 t ht)).1 q652 dX4_serve_52 hl.1 (Nat.le_of_ble_eq_true rfl) ⟨Nat.le_of_ble_eq_true rfl, Nat.le_of_ble_eq_true rfl⟩ ⟨Nat.le_of_ble_eq_true rfl, Nat.le_of_ble_eq_true rfl⟩ (fun H locs f P hF hlv3 hfr => ?_)
          have hFr : ∀ a, ¬ hOwn stF ad a → f a = _ := fun a ha => (hfr a ha).trans (hFr a ha)
          have hwe := (hfr _ hwo).trans hwe
          have hF4 : HF cs ad (hS4 st1 t s) L f := by
            unfold hS4
            rw [← hstF, hnow]
            exact hF
          have hb4 : (hS4 st1 t s).1 1 t = 0 := by
            unfold hS4
            rw [← hstF]
            show stF.1 1 t = 0
            rw [hI12 1 (by decide)]
            exact pk_us
          have hF : HF cs ad (s_serve1 st1 t s) L f := by
            rw [serve1_eq ho hs hm h6 c21]
            split
            · exact hF4.nine hb4
            · exact hF4
          have hg : s_goes st1 s = true := s_goes_t h6 hne (by rw [← hte]; exact c21)
          have ho2 : Ok n (s_serve1 st1 t s) := by rw [hte]; exact ho.serve1 hs hn hg
          have hk2 : hK4 (s_serve1 st1 t s) s := by unfold hK4; rw [s_serve1_I (by decide)]; exact hk
          have hlv4 : ∀ r, hLive (s_serve1 st1 t s) r → hLive st r := fun r hr => by
            refine hlv r ?_
            rcases hr with q | ⟨q1, q2, q3⟩ | ⟨q1, q2, q3⟩ | ⟨q1, q2, q3⟩
            · exact Or.inl q
            · exact Or.inr (Or.inl ⟨q1, q2, by rw [s_serve1_I (by decide)] at q3; exact q3⟩)
            · exact Or.inr (Or.inr (Or.inl ⟨q1, q2, by rw [s_serve1_I (by decide)] at q3; exact q3⟩))
            · exact Or.inr (Or.inr (Or.inr ⟨q1, q2, s_serve1_B q3⟩))
          have hlR : ∀ r, hLive (sI (s_remove st1 t s) 1 t 0) r → hLive st r := fun r hr => hlv r (rv_live hr).1
          have hFr4 : ∀ a, ¬ hOwn st ad a → f a = f0 a := fun a ha => (hFr a (hOwn_no (fun r hr => hlR r (hlv2 r hr)) ha)).trans ((hfr2 a (hOwn_no hlR ha)).trans ((hfr1 a (hOwn_no hlv ha)).trans (hFr0 a ha)))
          have hlen := s_serve1_len hm
          have hs4 : s_serve (s_serve1 st1 t s) s = s_serve st s := by
            rw [← hsv]
            unfold s_serve
            rw [s_serveN_go hg (hte ▸ hm), ← hte]
          refine lv_aload_n hx hb dX4_serve_55 rfl (lv_at hl 1 rfl) ?_
          refine vc_next S P ho2 hF hs hk2 q598 dX4_serve_56 hl.1 (Nat.le_of_ble_eq_true rfl) ⟨Nat.le_of_ble_eq_true rfl, Nat.le_of_ble_eq_true rfl⟩ ⟨Nat.le_of_ble_eq_true rfl, Nat.le_of_ble_eq_true rfl⟩ (fun H locs P => ?_)
          refine lw_astore_n (lv' := [(3, va_rf (hNext (s_serve1 st1 t s) ad s)), (0, .ref (ad (18 + s))), (1, .double nw)]) hx hb dX4_serve_59 rfl hl (by decide) rfl (fun ls hl => ?_)
          refine lv_goto (tgt := 5) hx hb dX4_serve_60 (by decide) ?_
          exact ih5 (s_serve1 st1 t s) f (by omega) ho2 hF hk2 hlv4 hFr4 hs4 (by rw [s_serve1_D]; exact hnow) _ _ P ls (lv_sub hl [0, 1, 2] rfl)
  exact loop5 _ st f (Nat.lt_succ_self _) ho hF hk (fun _ h => h) (fun a _ => by rw [hf0]) rfl hnow _ _ P ls (lv_sub hl [0, 1, 2] (rfl))

section VSV
variable {p : Program} {l : Launch} {e : Env} {R : Room} {u : State} {m : MethodId} {args : Array Value} {below : List Frame} {meth : Method} {c : Code} {H : Heap} {locs : List Loc} {cells slots : Nat} {Q : State → Prop}
variable {cc : ByteArray} {nL pc : Nat} {ls : Array Slot} {rest : List Value} {D : va_G} {cs : Nat → ClassId} {A : Nat → Prop} {L : List Nat} {f : Nat → va_E} {own : String} {ad : Nat → Nat} {st : St} {n : Nat}
theorem vc_serve {s idx : Nat} (S : CallFix p m c cc nL u args lw_all own) (P : PW D cs A u L f H locs) (ho : Ok n st) (hF : HF cs ad st L f) (hs : s < 8) (hk : hK4 st s) (hn : n ≤ 100) {nw : UInt64} (hnow : st.2.1 11 0 = nw) (hnb : fb 1200 nw) (q1 : Cond.methodLink own idx ⟨"SyncHall$Sync", "serve", "(D)V"⟩ ∈ lw_all) (hdg : decode cc pc = .ok (.invokevirtual idx, 3)) (hls : ls.size = nL) (hroom : (rest.map fun v => v.category).sum ≤ 8) (hR : 6 ≤ R.frames ∧ 343 ≤ R.locals) (hf : cells ≤ R.cells ∧ slots ≤ R.slots)
    (kr : ∀ (H1 : Heap) (locs1 : List Loc) (f' : Nat → va_E), PW D cs A u L f' H1 locs1 → HF cs ad (s_serve st s) L f' → (∀ r, hLive (s_serve st s) r → hLive st r) → (∀ a, ¬ hOwn st ad a → f' a = f a) → W p l e R u m args below meth c H1 locs1 cells slots Q (F0 m (pc + 3) ls rest)) : W p l e R u m args below meth c H locs cells slots Q (F0 m pc ls (.double nw :: .ref (ad (18 + s)) :: rest)) := by
  have hM := hw_serve (l := l) (D := D) ho hs hk hn hnow hnb hF
  rcases hk with hk | hk | hk | hk
  · exact pw_callS (nL' := 4) S P (hM) q597 q45 (pw_entV (q := (RX5, TX5, 6)) [.double nw] S P (hF.lk hs hk).1 (hF.lk hs hk).2 rfl q1 q590 q594 q597 ⟨by decide +kernel, by decide +kernel, (by decide +kernel : (parseMethodDescriptor (⟨"SyncHall$Sync", "serve", "(D)V"⟩ : MethodName).desc).map (fun d => d.parameters.length) = some 1)⟩ hdg) hls hroom ⟨Nat.le_trans (Nat.le_of_ble_eq_true rfl) hR.1, Nat.le_trans (Nat.le_of_ble_eq_true rfl) hR.2⟩ hf (kr)
  · exact pw_callS (nL' := 4) S P (hM) q597 q45 (pw_entV (q := (RX6, TX6, 5)) [.double nw] S P (hF.sm hs hk).1 (hF.sm hs hk).2 rfl q1 q590 q595 q597 ⟨by decide +kernel, by decide +kernel, (by decide +kernel : (parseMethodDescriptor (⟨"SyncHall$Sync", "serve", "(D)V"⟩ : MethodName).desc).map (fun d => d.parameters.length) = some 1)⟩ hdg) hls hroom ⟨Nat.le_trans (Nat.le_of_ble_eq_true rfl) hR.1, Nat.le_trans (Nat.le_of_ble_eq_true rfl) hR.2⟩ hf (kr)
  · exact pw_callS (nL' := 4) S P (hM) q597 q45 (pw_entV (q := (RX7, TX7, 4)) [.double nw] S P (hF.la hs hk).1 (hF.la hs hk).2 rfl q1 q590 q593 q597 ⟨by decide +kernel, by decide +kernel, (by decide +kernel : (parseMethodDescriptor (⟨"SyncHall$Sync", "serve", "(D)V"⟩ : MethodName).desc).map (fun d => d.parameters.length) = some 1)⟩ hdg) hls hroom ⟨Nat.le_trans (Nat.le_of_ble_eq_true rfl) hR.1, Nat.le_trans (Nat.le_of_ble_eq_true rfl) hR.2⟩ hf (kr)
  · exact pw_callS (nL' := 4) S P (hM) q597 q45 (pw_entV (q := (RX8, TX8, 6)) [.double nw] S P (hF.sh hs hk).1 (hF.sh hs hk).2 rfl q1 q590 q596 q597 ⟨by decide +kernel, by decide +kernel, (by decide +kernel : (parseMethodDescriptor (⟨"SyncHall$Sync", "serve", "(D)V"⟩ : MethodName).desc).map (fun d => d.parameters.length) = some 1)⟩ hdg) hls hroom ⟨Nat.le_trans (Nat.le_of_ble_eq_true rfl) hR.1, Nat.le_trans (Nat.le_of_ble_eq_true rfl) hR.2⟩ hf (kr)
end VSV
