/-! a sync of any kind whose cell is known: its first waiter; add and remove -/
def hSyncV (st : St) (ad : Nat → Nat) (s : Nat) (v : Value) : va_E :=
  if st.1 12 s = 0 ∨ st.1 12 s = 1 then .inr (3, [v, .double (st.2.1 20 s), .int (st.1 21 s), .int (bI (decide (st.1 12 s = 1))), va_rf (hOw st ad s), .int (st.1 14 s)])
  else if st.1 12 s = 2 ∨ st.1 12 s = 3 then .inr (4, [v, .double (st.2.1 20 s), .int (st.1 21 s), .int (bI (decide (st.1 12 s = 3))), .int (st.1 15 s)])
  else if st.1 12 s = 4 then .inr (5, [v, .double (st.2.1 20 s), .int (st.1 21 s), .int (st.1 15 s)])
  else if st.1 12 s = 5 then .inr (6, [v, .double (st.2.1 20 s), .int (st.1 21 s), va_rf (hOw st ad s), .int (st.1 14 s), .ref (ad (26 + s))])
  else .inr (7, [v, .double (st.2.1 20 s), .int (st.1 21 s), .ref (ad (18 + s_lk st s))])
theorem hSyncV_eq {st : St} {ad : Nat → Nat} {s : Nat} : hSync st ad s = hSyncV st ad s (va_rf (hFi st ad s)) := rfl
section HSE
variable {p : Program} {l : Launch} {e : Env} {R : Room} {u : State} {m : MethodId} {args : Array Value} {below : List Frame} {meth : Method} {c : Code} {H : Heap} {locs : List Loc} {cells slots : Nat} {Q : State → Prop}
variable {cc : ByteArray} {nL pc : Nat} {ls : Array Slot} {rest : List Value} {D : va_G} {cs : Nat → ClassId} {A : Nat → Prop} {L : List Nat} {f : Nat → va_E} {own : String} {ad : Nat → Nat} {st : St}
theorem hs_gete (k : Nat) {s idx : Nat} (hk3 : k < 3) (S : CallFix p m c cc nL u args lw_all own) (P : PW D cs A u L f H locs) (he : ad (18 + s) ∈ L ∧ f (ad (18 + s)) = hSync st ad s) (hk : hKd st s) (hlink : Cond.fieldLink own idx "SyncHall$Sync" (TX5 k).2.1 (TX5 k).2.2.1 ∈ lw_all) (hdg : decode cc pc = .ok (.getfield idx, 3))
    (kk : W p l e R u m args below meth c H locs cells slots Q (F0 m (pc + 3) ls (hsV st ad s k :: rest))) : W p l e R u m args below meth c H locs cells slots Q (F0 m pc ls (.ref (ad (18 + s)) :: rest)) := by
  match k, hk3 with
  | 0, _ =>
    rcases hk with hk | hk | hk | hk | hk
    · exact pw_get (q := (RX5, TX5, 6)) (k := 0) S P he.1 (he.2.trans (hSync_lk hk)) rfl (by decide) hlink (Or.inl rfl) rfl hdg kk
    · exact pw_get (q := (RX6, TX6, 5)) (k := 0) S P he.1 (he.2.trans (hSync_sm hk)) rfl (by decide) hlink (Or.inl rfl) rfl hdg kk
    · exact pw_get (q := (RX7, TX7, 4)) (k := 0) S P he.1 (he.2.trans (hSync_la hk)) rfl (by decide) hlink (Or.inl rfl) rfl hdg kk
    · exact pw_get (q := (RX8, TX8, 6)) (k := 0) S P he.1 (he.2.trans (hSync_sh hk)) rfl (by decide) hlink (Or.inl rfl) rfl hdg kk
    · exact pw_get (q := (RX9, TX9, 4)) (k := 0) S P he.1 (he.2.trans (hSync_cd hk)) rfl (by decide) hlink (Or.inl rfl) rfl hdg kk
  | 1, _ =>
    rcases hk with hk | hk | hk | hk | hk
    · exact pw_get (q := (RX5, TX5, 6)) (k := 1) S P he.1 (he.2.trans (hSync_lk hk)) rfl (by decide) hlink (Or.inl rfl) rfl hdg kk
    · exact pw_get (q := (RX6, TX6, 5)) (k := 1) S P he.1 (he.2.trans (hSync_sm hk)) rfl (by decide) hlink (Or.inl rfl) rfl hdg kk
    · exact pw_get (q := (RX7, TX7, 4)) (k := 1) S P he.1 (he.2.trans (hSync_la hk)) rfl (by decide) hlink (Or.inl rfl) rfl hdg kk
    · exact pw_get (q := (RX8, TX8, 6)) (k := 1) S P he.1 (he.2.trans (hSync_sh hk)) rfl (by decide) hlink (Or.inl rfl) rfl hdg kk
    · exact pw_get (q := (RX9, TX9, 4)) (k := 1) S P he.1 (he.2.trans (hSync_cd hk)) rfl (by decide) hlink (Or.inl rfl) rfl hdg kk
  | 2, _ =>
    rcases hk with hk | hk | hk | hk | hk
    · exact pw_get (q := (RX5, TX5, 6)) (k := 2) S P he.1 (he.2.trans (hSync_lk hk)) rfl (by decide) hlink (Or.inl rfl) rfl hdg kk
    · exact pw_get (q := (RX6, TX6, 5)) (k := 2) S P he.1 (he.2.trans (hSync_sm hk)) rfl (by decide) hlink (Or.inl rfl) rfl hdg kk
    · exact pw_get (q := (RX7, TX7, 4)) (k := 2) S P he.1 (he.2.trans (hSync_la hk)) rfl (by decide) hlink (Or.inl rfl) rfl hdg kk
    · exact pw_get (q := (RX8, TX8, 6)) (k := 2) S P he.1 (he.2.trans (hSync_sh hk)) rfl (by decide) hlink (Or.inl rfl) rfl hdg kk
    · exact pw_get (q := (RX9, TX9, 4)) (k := 2) S P he.1 (he.2.trans (hSync_cd hk)) rfl (by decide) hlink (Or.inl rfl) rfl hdg kk
theorem hs_put0 {s idx : Nat} {v : Option Nat} (S : CallFix p m c cc nL u args lw_all own) (P : PW D cs A u L f H locs) (he : ad (18 + s) ∈ L ∧ f (ad (18 + s)) = hSync st ad s) (hk : hKd st s) (hlink : Cond.fieldLink own idx "SyncHall$Sync" (TX5 0).2.1 (TX5 0).2.2.1 ∈ lw_all) (hdg : decode cc pc = .ok (.putfield idx, 3))
    (kk : ∀ (H1 : Heap) (locs1 : List Loc), PW D cs A u L (va_up f (ad (18 + s)) (hSyncV st ad s (va_rf v))) H1 locs1 → W p l e R u m args below meth c H1 locs1 cells slots Q (F0 m (pc + 3) ls rest)) : W p l e R u m args below meth c H locs cells slots Q (F0 m pc ls (va_rf v :: .ref (ad (18 + s)) :: rest)) := by
  have hn : ∀ C : String, narrow (.object C) (va_rf v) = va_rf v := fun C => by cases v <;> rfl
  have hf : ∀ C : String, fits (.object C) (va_rf v) = true := fun C => by cases v <;> rfl
  rcases hk with hk | hk | hk | hk | hk
  · refine pw_put (q := (RX5, TX5, 6)) (k := 0) S P he.1 (he.2.trans (hSync_lk hk)) rfl (by decide) hlink (Or.inl rfl) rfl (hn _) (hf _) (Nat.le_of_ble_eq_true rfl) hdg (fun H1 locs1 P1 => kk H1 locs1 ?_)
    unfold hSyncV
    rw [if_pos hk]
    exact P1
  · refine pw_put (q := (RX6, TX6, 5)) (k := 0) S P he.1 (he.2.trans (hSync_sm hk)) rfl (by decide) hlink (Or.inl rfl) rfl (hn _) (hf _) (Nat.le_of_ble_eq_true rfl) hdg (fun H1 locs1 P1 => kk H1 locs1 ?_)
    unfold hSyncV
    rw [if_neg (by rcases hk with q | q <;> rw [q] <;> decide), if_pos hk]
    exact P1
  · refine pw_put (q := (RX7, TX7, 4)) (k := 0) S P he.1 (he.2.trans (hSync_la hk)) rfl (by decide) hlink (Or.inl rfl) rfl (hn _) (hf _) (Nat.le_of_ble_eq_true rfl) hdg (fun H1 locs1 P1 => kk H1 locs1 ?_)
    unfold hSyncV
    rw [if_neg (by rw [hk]; decide), if_neg (by rw [hk]; decide), if_pos hk]
    exact P1
  · refine pw_put (q := (RX8, TX8, 6)) (k := 0) S P he.1 (he.2.trans (hSync_sh hk)) rfl (by decide) hlink (Or.inl rfl) rfl (hn _) (hf _) (Nat.le_of_ble_eq_true rfl) hdg (fun H1 locs1 P1 => kk H1 locs1 ?_)
    unfold hSyncV
    rw [if_neg (by rw [hk]; decide), if_neg (by rw [hk]; decide), if_neg (by rw [hk]; decide), if_pos hk]
    exact P1
  · refine pw_put (q := (RX9, TX9, 4)) (k := 0) S P he.1 (he.2.trans (hSync_cd hk)) rfl (by decide) hlink (Or.inl rfl) rfl (hn _) (hf _) (Nat.le_of_ble_eq_true rfl) hdg (fun H1 locs1 P1 => kk H1 locs1 ?_)
    unfold hSyncV
    rw [if_neg (by rw [hk]; decide), if_neg (by rw [hk]; decide), if_neg (by rw [hk]; decide), if_neg (by rw [hk]; decide)]
    exact P1
end HSE
section HAD
variable {cs : Nat → ClassId} {ad : Nat → Nat} {st st' : St} {L : List Nat} {f f2 : Nat → va_E} {n t s w : Nat}
theorem wDiff.wf_t (h : wDiff st st' t s) (hs : s < 8) : s_wf st' t = s := by
  unfold s_wf
  rw [h.2.2.2.2.2.2]
  exact iN_nI hs (by decide)
theorem wDiff.nx_t (h : wDiff st st' t s) (ho : Ok n st) (hs : s < 8) (hb : st.1 1 t = 0) : hNx st' (va_up ad (34 + t) w) t = none := by
  unfold hNx
  rw [h.wf_t hs, h.2.2.2.2.1]
  have e2 : va_up st.2.2 s (st.2.2 s ++ [t]) s = st.2.2 s ++ [t] := by simp [va_up]
  rw [e2, nxt_end (ho.out hs hb)]
  rfl
theorem wDiff.task_t (h : wDiff st st' t s) : hTask st' (va_up ad (34 + t) w) t = .inr (1, [.int (nI t), .double (st.2.1 3 t), .int (st.1 4 t), .int (st.1 2 t), .ref w]) := by
  unfold hTask hPl
  rw [h.2.2.2.2.2.1, if_neg (by decide), h.1 4 (by decide) (by decide) (by decide) (by decide) (by decide), h.1 2 (by decide) (by decide) (by decide) (by decide) (by decide), h.2.2.1 3 (by decide) (by decide)]
  have : va_up ad (34 + t) w (34 + t) = w := by simp [va_up]
  rw [this]; rfl
theorem wDiff.sync_first (h : wDiff st st' t s) (hs : s < 8) (ho : Ok n st) (hk : hKd st s) (he : st.2.2 s = []) : hSync st' (va_up ad (34 + t) w) s = hSyncV st ad s (va_rf (some w)) := by
  have e : ∀ k, k = 12 ∨ k = 13 ∨ k = 14 ∨ k = 15 ∨ k = 16 ∨ k = 21 → st'.1 k = st.1 k := fun k hk => h.1 k (by omega) (by omega) (by omega) (by omega) (by omega)
  have hlk : s_lk st' s = s_lk st s := by unfold s_lk; rw [e 16 (by omega)]
  have e20 := h.2.2.1 20 (by decide) (by decide)
  have hfi : hFi st' (va_up ad (34 + t) w) s = some w := by
    unfold hFi hAt
    rw [h.2.2.2.2.1]
    have e2 : va_up st.2.2 s (st.2.2 s ++ [t]) s = [t] := by simp [va_up, he]
    rw [e2]
    show some (va_up ad (34 + t) w (34 + t)) = some w
    simp [va_up]
  have how : hOw st' (va_up ad (34 + t) w) s = hOw st ad s := by
    unfold hOw
    rw [e 13 (by omega)]
    rcases (ho.1 s hs).1.2.1 with q | ⟨u, hu, q⟩
    · rw [q, if_pos rfl, if_pos rfl]
    · rw [q, if_neg (nI_m1 (by omega)), if_neg (nI_m1 (by omega)), iN_nI hu (by decide), adw (by omega)]
  have hl8 : st.1 12 s = 6 → va_up ad (34 + t) w (18 + s_lk st s) = ad (18 + s_lk st s) := fun h6 => by
    have := ((ho.1 s hs).1.2.2.2.1 h6).1
    exact adw (by omega)
  unfold hSync hSyncV
  rw [e 12 (by omega), e 14 (by omega), e 15 (by omega), e 21 (by omega), e20, hfi, how, hlk, adw (r := 26 + s) (by omega)]
  rcases hk with hk | hk | hk | hk | hk
  · rw [if_pos hk, if_pos hk]
  · rw [if_neg (by rcases hk with q | q <;> rw [q] <;> decide), if_pos hk, if_neg (by rcases hk with q | q <;> rw [q] <;> decide), if_pos hk]
  · rw [hk]; rfl
  · rw [hk]; rfl
  · rw [hl8 hk]
theorem wDiff.wait_last (h : wDiff st st' t s) (ho : Ok n st) (hs : s < 8) (hb : st.1 1 t = 0) {i : Nat} (hi : i < (st.2.2 s).length) (hil : i = (st.2.2 s).length - 1) : hWait st' (va_up ad (34 + t) w) ((st.2.2 s).getD i 0) = .inr (2, [.ref (ad (12 + (st.2.2 s).getD i 0)), .ref (ad (18 + s_wf st ((st.2.2 s).getD i 0))), .int (hWr st ((st.2.2 s).getD i 0)), .double (st.2.1 7 ((st.2.2 s).getD i 0)), .double (st.2.1 8 ((st.2.2 s).getD i 0)), .int (st.1 9 ((st.2.2 s).getD i 0)), .int (hWo st ((st.2.2 s).getD i 0)), .ref w]) := by
  obtain ⟨h6, hbb, hww⟩ := ho.rowx hs hi
  have hm := ls_mem hi
  have hnx : nxt (st.2.2 s) ((st.2.2 s).getD i 0) = none := by
    rw [nxt_at (ho.1 s hs).2.2.1 hi]
    exact List.getElem?_eq_none (by omega)
  generalize (st.2.2 s).getD i 0 = v at *
  have hv : v ≠ t := fun e => hbb (e ▸ hb)
  have hnx2 : hNx st' (va_up ad (34 + t) w) v = some w := by
    unfold hNx
    rw [h.wf hv, hww, h.2.2.2.2.1]
    have e2 : va_up st.2.2 s (st.2.2 s ++ [t]) s = st.2.2 s ++ [t] := by simp [va_up]
    rw [e2, nxt_app hm, hnx]
    show some (va_up ad (34 + t) w (34 + t)) = some w
    simp [va_up]
  unfold hWait hWr hWb hWo
  rw [h.wf hv, hnx2, h.1 12 (by decide) (by decide) (by decide) (by decide) (by decide), h.2.1 6 v hv, h.2.1 9 v hv, h.2.1 10 v hv, h.2.2.2.1 7 v hv, h.2.2.2.1 8 v hv, adw (by omega), adw (by rw [hww]; omega)]
  rfl
/-- a contract's end: t waits now, with the waiter w -/
def hPostA (cs : Nat → ClassId) (ad : Nat → Nat) (st : St) (L : List Nat) (f : Nat → va_E) (st' : St) (t w : Nat) : pR → List Nat → (Nat → va_E) → Prop := fun r L' f' =>
  r = .inl none ∧ L' = L ∧ HF cs (va_up ad (34 + t) w) st' L f' ∧ ∀ a, a ≠ w → ¬ hOwn st ad a → f' a = f a ∧ ¬ hOwn st' (va_up ad (34 + t) w) a
theorem wDiff.own (h : wDiff st st' t s) {a : Nat} (haw : a ≠ w) (hno : ¬ hOwn st ad a) : ¬ hOwn st' (va_up ad (34 + t) w) a := by
  rintro ⟨r, hr, e⟩
  by_cases q : r = 34 + t
  · subst q
    exact haw (e.trans (by simp [va_up]))
  · rw [adw q] at e
    refine hno ⟨r, ?_, e⟩
    rcases hr with q0 | ⟨q1, q2, q3⟩ | ⟨q1, q2, q3⟩ | ⟨q1, q2, q3⟩
    · exact Or.inl q0
    · exact Or.inr (Or.inl ⟨q1, q2, by rw [← h.1 12 (by decide) (by decide) (by decide) (by decide) (by decide)]; exact q3⟩)
    · exact Or.inr (Or.inr (Or.inl ⟨q1, q2, by rw [← h.1 12 (by decide) (by decide) (by decide) (by decide) (by decide)]; exact q3⟩))
    · exact Or.inr (Or.inr (Or.inr ⟨q1, q2, by rw [← h.2.1 1 (r - 34) (by omega)]; exact q3⟩))
end HAD
