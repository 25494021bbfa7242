/-! the call of giveBack, SyncHall.release, by gen_h15.py -/
def hGbC (st : St) (t s : Nat) (m : Int32) : Int32 :=
  if st.1 12 s = 6 ∨ ((st.1 12 s = 2 ∨ st.1 12 s = 3) ∧ st.1 15 s = 100) then 4
  else if st.1 12 s = 5 ∧ m = 0 then (if st.1 17 (6 * s + t) = 0 then 3 else 0)
  else if st.1 12 s = 2 ∨ st.1 12 s = 3 then 0 else if st.1 12 s = 4 then 0 else if ¬ st.1 13 s = nI t then 3 else 0
def hGb (st : St) (t s : Nat) (m : Int32) : St :=
  if st.1 12 s = 5 ∧ m = 0 then sI st 17 (6 * s + t) (st.1 17 (6 * s + t) - 1)
  else if st.1 12 s = 2 ∨ st.1 12 s = 3 then sI st 15 s (st.1 15 s + 1)
  else if st.1 12 s = 4 then sI st 15 s (if 0 < st.1 15 s then st.1 15 s - 1 else 0)
  else if st.1 14 s - 1 = 0 then sI (sI st 14 s (st.1 14 s - 1)) 13 s (-1) else sI st 14 s (st.1 14 s - 1)
section VGB
variable {p : Program} {l : Launch} {e : Env} {R : Room} {u : State} {m : MethodId} {args : Array Value} {below : List Frame} {meth : Method} {c : Code} {H : Heap} {locs : List Loc} {cells slots : Nat} {Q : State → Prop}
variable {cc : ByteArray} {nL pc : Nat} {ls : Array Slot} {rest : List Value} {D : va_G} {cs : Nat → ClassId} {L : List Nat} {f : Nat → va_E} {own : String} {ad : Nat → Nat} {st : St} {n sz mc ms : Nat} {L0 : List Nat} {post : pR → List Nat → (Nat → va_E) → Prop}
theorem s_rel_gb {t s : Nat} {m : Int32} (h : s_check st t s = 0) : s_rel st t s m = if ¬ hGbC st t s m = 0 then (hGbC st t s m, 0, st) else (0, nI (st.2.2 s).length, s_serve (hGb st t s m) s) := by
  unfold s_rel hGbC hGb
  rw [if_neg (by rw [h]; exact fun z => z rfl)]
  by_cases h1 : st.1 12 s = 6 ∨ ((st.1 12 s = 2 ∨ st.1 12 s = 3) ∧ st.1 15 s = 100)
  · simp only [if_pos h1]; rfl
  · simp only [if_neg h1]
    by_cases h2 : st.1 12 s = 5 ∧ m = 0
    · simp only [if_pos h2]
      by_cases h3 : st.1 17 (6 * s + t) = 0
      · simp only [if_pos h3]; rfl
      · simp only [if_neg h3]; rfl
    · simp only [if_neg h2]
      by_cases h3 : st.1 12 s = 2 ∨ st.1 12 s = 3
      · simp only [if_pos h3]; rfl
      · simp only [if_neg h3]
        by_cases h4 : st.1 12 s = 4
        · simp only [if_pos h4]; rfl
        · simp only [if_neg h4]
          by_cases h5 : st.1 13 s = nI t
          · simp only [h5, not_true_eq_false, if_false]
          · simp only [h5, not_false_eq_true, if_true]; rfl
theorem gb_lk {t s : Nat} {m : Int32} (hk : st.1 12 s = 0 ∨ st.1 12 s = 1) : hGbC st t s m = (if ¬ st.1 13 s = nI t then 3 else 0) ∧ hGb st t s m = if st.1 14 s - 1 = 0 then sI (sI st 14 s (st.1 14 s - 1)) 13 s (-1) else sI st 14 s (st.1 14 s - 1) := by
  unfold hGbC hGb
  rcases hk with q | q <;> simp [q]
theorem gb_sm {t s : Nat} {m : Int32} (hk : st.1 12 s = 2 ∨ st.1 12 s = 3) : hGbC st t s m = (if st.1 15 s = 100 then 4 else 0) ∧ hGb st t s m = sI st 15 s (st.1 15 s + 1) := by
  unfold hGbC hGb
  rcases hk with q | q <;> simp [q]
theorem gb_la {t s : Nat} {m : Int32} (hk : st.1 12 s = 4) : hGbC st t s m = 0 ∧ hGb st t s m = sI st 15 s (if 0 < st.1 15 s then st.1 15 s - 1 else 0) := by
  unfold hGbC hGb
  simp [hk]
theorem gb_sh0 {t s : Nat} (hk : st.1 12 s = 5) : hGbC st t s 0 = (if st.1 17 (6 * s + t) = 0 then 3 else 0) ∧ hGb st t s 0 = sI st 17 (6 * s + t) (st.1 17 (6 * s + t) - 1) := by
  unfold hGbC hGb
  simp [hk]
theorem gb_sh1 {t s : Nat} (hk : st.1 12 s = 5) : hGbC st t s 1 = (if ¬ st.1 13 s = nI t then 3 else 0) ∧ hGb st t s 1 = if st.1 14 s - 1 = 0 then sI (sI st 14 s (st.1 14 s - 1)) 13 s (-1) else sI st 14 s (st.1 14 s - 1) := by
  unfold hGbC hGb
  simp [hk]
theorem gb_cd {t s : Nat} {m : Int32} (hk : st.1 12 s = 6) : hGbC st t s m = 4 := by
  unfold hGbC
  simp [hk]
theorem sI_self {k j : Nat} {v : Int32} (h : st.1 k j = v) : sI st k j v = st := by
  unfold sI
  refine Prod.ext ?_ rfl
  show va_up st.1 k (upd (st.1 k) j v) = st.1
  funext a
  unfold va_up
  split
  · rename_i e
    subst e
    funext b
    unfold upd
    split
    · rename_i e; subst e; exact h.symm
    · rfl
  · rfl
theorem sm_100 (ho : Ok n st) {s : Nat} (hs : s < 8) : st.1 15 s = 100 ↔ ¬ st.1 15 s < 100 := by
  obtain ⟨p, hp, h15⟩ := (ho.1 s hs).1.2.2.2.2.1
  rw [h15.1]
  constructor
  · intro z; rw [z]; decide
  · intro z
    have : ¬ p < 100 := fun q => z ((nI_ltI (b := 100) (by omega) (by decide)).mpr q)
    have : p = 100 := by omega
    rw [this]; rfl
theorem rd_pos (ho : Ok n st) (hn : n ≤ 100) {t s : Nat} (hs : s < 8) (ht : t < 6) : (¬ st.1 17 (6 * s + t) = 0) ↔ 0 < st.1 17 (6 * s + t) := by
  obtain ⟨d, hd, hd2, -⟩ := (ho.1 s hs).2.2.2.1 t ht
  rw [hd, nI_gt0 (by omega)]
  constructor
  · intro z
    refine Nat.pos_of_ne_zero (fun q => z (by rw [q]; rfl))
  · intro z q
    have := nIj (a := d) (b := 0) (by omega) (by decide) q
    omega
theorem la_0 (ho : Ok n st) {s : Nat} (hs : s < 8) (h : ¬ 0 < st.1 15 s) : st.1 15 s = 0 := by
  obtain ⟨p, hp, h15⟩ := (ho.1 s hs).1.2.2.2.2.1
  rw [h15.1] at h ⊢
  rw [nI_gt0 (by omega)] at h
  rw [show p = 0 by omega]; rfl

set_option maxHeartbeats 4000000 in
theorem vc_giveBack0 {t s idx : Nat} (hst : l.stackTraces = false) (S : CallFix p m c cc nL u args lw_all own) (P : PW D cs (pA L0 sz) u L f H locs) (hQ : Q = MQT below (PQ D L0 sz post) args u mc ms (pA L0 sz)) (htb : c.exceptionTable.toList = []) (hlk : meth.locks = false) (ho : Ok n st) (hn : n ≤ 100) (hF : HF cs ad st L f) (hs : s < 8) (hk : hKd st s) (ht : t < 6) (q1 : Cond.methodLink own idx ⟨"SyncHall$Sync", "giveBack", "(LSyncHall$Task;Z)V"⟩ ∈ lw_all) (hdg : decode cc pc = .ok (.invokevirtual idx, 3)) (hls : ls.size = nL) (hroom : (rest.map fun v => v.category).sum ≤ 8) (hR : 8 ≤ R.frames ∧ 470 ≤ R.locals) (hf : cells + 1 ≤ R.cells ∧ slots + 6 ≤ R.slots) (hw : cells + 1 ≤ mc ∧ slots + 6 ≤ ms)
    (kr : hGbC st t s 0 = 0 → ∀ (H1 : Heap) (locs1 : List Loc) (f' : Nat → va_E), PW D cs (pA L0 sz) u L f' H1 locs1 → HF cs ad (hGb st t s 0) L f' → (∀ r, hLive (hGb st t s 0) r → hLive st r) → (∀ a, ¬ hOwn st ad a → f' a = f a) → W p l e R u m args below meth c H1 locs1 (cells + 1) (slots + 6) Q (F0 m (pc + 3) ls rest))
    (kt : ¬ hGbC st t s 0 = 0 → ∀ (L' : List Nat) (f' : Nat → va_E), hPostS cs ad st L f (.inr (hExc (hGbC st t s 0))) st (.inr (hExc (hGbC st t s 0))) L' f' → post (.inr (hExc (hGbC st t s 0))) L' f') : W p l e R u m args below meth c H locs cells slots Q (F0 m pc ls (.int 0 :: .ref (ad (12 + t)) :: .ref (ad (18 + s)) :: rest)) := by
  rcases hk with hk | hk | hk | hk | hk
  · by_cases how : st.1 13 s = nI t
    · refine pw_callS (nL' := 3) S P (hw_X5_giveBack (wb := false) ho hs hk ht how hF) q579 q46 (pw_entU (q := (RX5, TX5, 6)) "SyncHall$Sync" [.ref (ad (12 + t)), .int 0] S P (hF.lk hs hk).1 (hF.lk hs hk).2 rfl q1 q569 q577 q578 q579 (va_Decl.abs (P.2.2.2.2.1.use q568 rfl)) ⟨by decide +kernel, by decide +kernel, (by decide +kernel : (parseMethodDescriptor (⟨"SyncHall$Sync", "giveBack", "(LSyncHall$Task;Z)V"⟩ : MethodName).desc).map (fun d => d.parameters.length) = some 2)⟩ hdg) hls hroom ⟨Nat.le_trans (Nat.le_of_ble_eq_true rfl) hR.1, Nat.le_trans (Nat.le_of_ble_eq_true rfl) hR.2⟩ ⟨Nat.le_trans (by simp only [rmL]; omega) hf.1, Nat.le_trans (by simp only [rmL]; omega) hf.2⟩ (fun H1 locs1 f' P1 h1 h2 h3 => W.widen (k := cells + 1) (n := slots + 6) (by simp only [rmL]; omega) (by simp only [rmL]; omega) (kr (by rw [(gb_lk (m := 0) (t := t) hk).1, if_neg (fun z => z how)]) H1 locs1 f' P1 (by rw [(gb_lk (m := 0) (t := t) hk).2]; exact h1) (by rw [(gb_lk (m := 0) (t := t) hk).2]; exact h2) h3))
    · exact pw_callX (nL' := 3) S P hQ (ht_X5_giveBack (wb := false) hst ho hs hk ht how hF) q579 q46 (pw_entU (q := (RX5, TX5, 6)) "SyncHall$Sync" [.ref (ad (12 + t)), .int 0] S P (hF.lk hs hk).1 (hF.lk hs hk).2 rfl q1 q569 q577 q578 q579 (va_Decl.abs (P.2.2.2.2.1.use q568 rfl)) ⟨by decide +kernel, by decide +kernel, (by decide +kernel : (parseMethodDescriptor (⟨"SyncHall$Sync", "giveBack", "(LSyncHall$Task;Z)V"⟩ : MethodName).desc).map (fun d => d.parameters.length) = some 2)⟩ hdg) htb hlk hls hroom ⟨Nat.le_trans (Nat.le_of_ble_eq_true rfl) hR.1, Nat.le_trans (Nat.le_of_ble_eq_true rfl) hR.2⟩ ⟨Nat.le_trans (by simp only [rmL]; omega) hf.1, Nat.le_trans (by simp only [rmL]; omega) hf.2⟩ ⟨Nat.le_trans (by simp only [rmL]; omega) hw.1, Nat.le_trans (by simp only [rmL]; omega) hw.2⟩ (fun v L' f' h => by obtain ⟨h1, -⟩ := h; cases h1) (fun C L' f' h => by
        have e : C = hExc (hGbC st t s 0) := by obtain ⟨h1, -⟩ := h; cases h1; rw [(gb_lk (m := 0) (t := t) hk).1, if_pos how]; rfl
        subst e
        exact kt (by rw [(gb_lk (m := 0) (t := t) hk).1, if_pos how]; decide) L' f' (by
          obtain ⟨-, h2, h3, h4, h5⟩ := h
          exact ⟨rfl, h2, h3, h4, h5⟩))
  · by_cases hp : st.1 15 s < 100
    · refine pw_callS (nL' := 3) S P (hw_X6_giveBack (wb := false) ho hs hk ht hp hF) q583 q47 (pw_entU (q := (RX6, TX6, 5)) "SyncHall$Sync" [.ref (ad (12 + t)), .int 0] S P (hF.sm hs hk).1 (hF.sm hs hk).2 rfl q1 q569 q581 q582 q583 (va_Decl.abs (P.2.2.2.2.1.use q568 rfl)) ⟨by decide +kernel, by decide +kernel, (by decide +kernel : (parseMethodDescriptor (⟨"SyncHall$Sync", "giveBack", "(LSyncHall$Task;Z)V"⟩ : MethodName).desc).map (fun d => d.parameters.length) = some 2)⟩ hdg) hls hroom ⟨Nat.le_trans (Nat.le_of_ble_eq_true rfl) hR.1, Nat.le_trans (Nat.le_of_ble_eq_true rfl) hR.2⟩ ⟨Nat.le_trans (by simp only [rmL]; omega) hf.1, Nat.le_trans (by simp only [rmL]; omega) hf.2⟩ (fun H1 locs1 f' P1 h1 h2 h3 => W.widen (k := cells + 1) (n := slots + 6) (by simp only [rmL]; omega) (by simp only [rmL]; omega) (kr (by rw [(gb_sm (m := 0) (t := t) hk).1, if_neg (fun z => (sm_100 ho hs).mp z hp)]) H1 locs1 f' P1 (by rw [(gb_sm (m := 0) (t := t) hk).2]; exact h1) (by rw [(gb_sm (m := 0) (t := t) hk).2]; exact h2) h3))
    · exact pw_callX (nL' := 3) S P hQ (ht_X6_giveBack (wb := false) hst ho hs hk ht hp hF) q583 q47 (pw_entU (q := (RX6, TX6, 5)) "SyncHall$Sync" [.ref (ad (12 + t)), .int 0] S P (hF.sm hs hk).1 (hF.sm hs hk).2 rfl q1 q569 q581 q582 q583 (va_Decl.abs (P.2.2.2.2.1.use q568 rfl)) ⟨by decide +kernel, by decide +kernel, (by decide +kernel : (parseMethodDescriptor (⟨"SyncHall$Sync", "giveBack", "(LSyncHall$Task;Z)V"⟩ : MethodName).desc).map (fun d => d.parameters.length) = some 2)⟩ hdg) htb hlk hls hroom ⟨Nat.le_trans (Nat.le_of_ble_eq_true rfl) hR.1, Nat.le_trans (Nat.le_of_ble_eq_true rfl) hR.2⟩ ⟨Nat.le_trans (by simp only [rmL]; omega) hf.1, Nat.le_trans (by simp only [rmL]; omega) hf.2⟩ ⟨Nat.le_trans (by simp only [rmL]; omega) hw.1, Nat.le_trans (by simp only [rmL]; omega) hw.2⟩ (fun v L' f' h => by obtain ⟨h1, -⟩ := h; cases h1) (fun C L' f' h => by
        have e : C = hExc (hGbC st t s 0) := by obtain ⟨h1, -⟩ := h; cases h1; rw [(gb_sm (m := 0) (t := t) hk).1, if_pos ((sm_100 ho hs).mpr hp)]; rfl
        subst e
        exact kt (by rw [(gb_sm (m := 0) (t := t) hk).1, if_pos ((sm_100 ho hs).mpr hp)]; decide) L' f' (by
          obtain ⟨-, h2, h3, h4, h5⟩ := h
          exact ⟨rfl, h2, h3, h4, h5⟩))
  · have el : hGb st t s 0 = (if 0 < st.1 15 s then sI st 15 s (st.1 15 s - 1) else st) := by
      rw [(gb_la (m := 0) (t := t) hk).2]
      split
      · rfl
      · rename_i z; exact sI_self (la_0 ho hs z)
    refine pw_callS (nL' := 3) S P (hw_X7_giveBack (wb := false) ho hs hk ht hF) q576 q48 (pw_entU (q := (RX7, TX7, 4)) "SyncHall$Sync" [.ref (ad (12 + t)), .int 0] S P (hF.la hs hk).1 (hF.la hs hk).2 rfl q1 q569 q574 q575 q576 (va_Decl.abs (P.2.2.2.2.1.use q568 rfl)) ⟨by decide +kernel, by decide +kernel, (by decide +kernel : (parseMethodDescriptor (⟨"SyncHall$Sync", "giveBack", "(LSyncHall$Task;Z)V"⟩ : MethodName).desc).map (fun d => d.parameters.length) = some 2)⟩ hdg) hls hroom ⟨Nat.le_trans (Nat.le_of_ble_eq_true rfl) hR.1, Nat.le_trans (Nat.le_of_ble_eq_true rfl) hR.2⟩ ⟨Nat.le_trans (by simp only [rmL]; omega) hf.1, Nat.le_trans (by simp only [rmL]; omega) hf.2⟩ (fun H1 locs1 f' P1 h1 h2 h3 => W.widen (k := cells + 1) (n := slots + 6) (by simp only [rmL]; omega) (by simp only [rmL]; omega) (kr (gb_la (m := 0) (t := t) hk).1 H1 locs1 f' P1 (by rw [el]; exact h1) (by rw [el]; exact h2) h3))
  · by_cases hrd : 0 < st.1 17 (6 * s + t)
    · refine pw_callS (nL' := 3) S P (hw_X8_giveBack0 ho hs hk ht hrd hF) q587 q49 (pw_entU (q := (RX8, TX8, 6)) "SyncHall$Sync" [.ref (ad (12 + t)), .int 0] S P (hF.sh hs hk).1 (hF.sh hs hk).2 rfl q1 q569 q585 q586 q587 (va_Decl.abs (P.2.2.2.2.1.use q568 rfl)) ⟨by decide +kernel, by decide +kernel, (by decide +kernel : (parseMethodDescriptor (⟨"SyncHall$Sync", "giveBack", "(LSyncHall$Task;Z)V"⟩ : MethodName).desc).map (fun d => d.parameters.length) = some 2)⟩ hdg) hls hroom ⟨Nat.le_trans (Nat.le_of_ble_eq_true rfl) hR.1, Nat.le_trans (Nat.le_of_ble_eq_true rfl) hR.2⟩ ⟨Nat.le_trans (by simp only [rmL]; omega) hf.1, Nat.le_trans (by simp only [rmL]; omega) hf.2⟩ (fun H1 locs1 f' P1 h1 h2 h3 => W.widen (k := cells + 1) (n := slots + 6) (by simp only [rmL]; omega) (by simp only [rmL]; omega) (kr (by rw [(gb_sh0 (t := t) hk).1, if_neg ((rd_pos ho hn hs ht).mpr hrd)]) H1 locs1 f' P1 (by rw [(gb_sh0 (t := t) hk).2]; exact h1) (by rw [(gb_sh0 (t := t) hk).2]; exact h2) h3))
    · exact pw_callX (nL' := 3) S P hQ (ht_X8_giveBack0 hst ho hs hk ht hrd hF) q587 q49 (pw_entU (q := (RX8, TX8, 6)) "SyncHall$Sync" [.ref (ad (12 + t)), .int 0] S P (hF.sh hs hk).1 (hF.sh hs hk).2 rfl q1 q569 q585 q586 q587 (va_Decl.abs (P.2.2.2.2.1.use q568 rfl)) ⟨by decide +kernel, by decide +kernel, (by decide +kernel : (parseMethodDescriptor (⟨"SyncHall$Sync", "giveBack", "(LSyncHall$Task;Z)V"⟩ : MethodName).desc).map (fun d => d.parameters.length) = some 2)⟩ hdg) htb hlk hls hroom ⟨Nat.le_trans (Nat.le_of_ble_eq_true rfl) hR.1, Nat.le_trans (Nat.le_of_ble_eq_true rfl) hR.2⟩ ⟨Nat.le_trans (by simp only [rmL]; omega) hf.1, Nat.le_trans (by simp only [rmL]; omega) hf.2⟩ ⟨Nat.le_trans (by simp only [rmL]; omega) hw.1, Nat.le_trans (by simp only [rmL]; omega) hw.2⟩ (fun v L' f' h => by obtain ⟨h1, -⟩ := h; cases h1) (fun C L' f' h => by
        have e : C = hExc (hGbC st t s 0) := by obtain ⟨h1, -⟩ := h; cases h1; rw [(gb_sh0 (t := t) hk).1, if_pos (Classical.not_not.mp (fun z => hrd ((rd_pos ho hn hs ht).mp z)))]; rfl
        subst e
        exact kt (by rw [(gb_sh0 (t := t) hk).1, if_pos (Classical.not_not.mp (fun z => hrd ((rd_pos ho hn hs ht).mp z)))]; decide) L' f' (by
          obtain ⟨-, h2, h3, h4, h5⟩ := h
          exact ⟨rfl, h2, h3, h4, h5⟩))
  · exact pw_callX (nL' := 3) S P hQ (ht_X9_giveBack (wb := false) hst ho hs hk ht hF) q572 q50 (pw_entU (q := (RX9, TX9, 4)) "SyncHall$Sync" [.ref (ad (12 + t)), .int 0] S P (hF.cd hs hk).1 (hF.cd hs hk).2 rfl q1 q569 q570 q571 q572 (va_Decl.abs (P.2.2.2.2.1.use q568 rfl)) ⟨by decide +kernel, by decide +kernel, (by decide +kernel : (parseMethodDescriptor (⟨"SyncHall$Sync", "giveBack", "(LSyncHall$Task;Z)V"⟩ : MethodName).desc).map (fun d => d.parameters.length) = some 2)⟩ hdg) htb hlk hls hroom ⟨Nat.le_trans (Nat.le_of_ble_eq_true rfl) hR.1, Nat.le_trans (Nat.le_of_ble_eq_true rfl) hR.2⟩ ⟨Nat.le_trans (by simp only [rmL]; omega) hf.1, Nat.le_trans (by simp only [rmL]; omega) hf.2⟩ ⟨Nat.le_trans (by simp only [rmL]; omega) hw.1, Nat.le_trans (by simp only [rmL]; omega) hw.2⟩ (fun v L' f' h => by obtain ⟨h1, -⟩ := h; cases h1) (fun C L' f' h => by
        have e : C = hExc (hGbC st t s 0) := by obtain ⟨h1, -⟩ := h; cases h1; rw [gb_cd (m := 0) (t := t) hk]; rfl
        subst e
        exact kt (by rw [gb_cd (m := 0) (t := t) hk]; decide) L' f' (by
          obtain ⟨-, h2, h3, h4, h5⟩ := h
          exact ⟨rfl, h2, h3, h4, h5⟩))

set_option maxHeartbeats 4000000 in
theorem vc_giveBack1 {t s idx : Nat} (hst : l.stackTraces = false) (S : CallFix p m c cc nL u args lw_all own) (P : PW D cs (pA L0 sz) u L f H locs) (hQ : Q = MQT below (PQ D L0 sz post) args u mc ms (pA L0 sz)) (htb : c.exceptionTable.toList = []) (hlk : meth.locks = false) (ho : Ok n st) (hn : n ≤ 100) (hF : HF cs ad st L f) (hs : s < 8) (hk : hKd st s) (ht : t < 6) (q1 : Cond.methodLink own idx ⟨"SyncHall$Sync", "giveBack", "(LSyncHall$Task;Z)V"⟩ ∈ lw_all) (hdg : decode cc pc = .ok (.invokevirtual idx, 3)) (hls : ls.size = nL) (hroom : (rest.map fun v => v.category).sum ≤ 8) (hR : 8 ≤ R.frames ∧ 470 ≤ R.locals) (hf : cells + 1 ≤ R.cells ∧ slots + 6 ≤ R.slots) (hw : cells + 1 ≤ mc ∧ slots + 6 ≤ ms)
    (kr : hGbC st t s 1 = 0 → ∀ (H1 : Heap) (locs1 : List Loc) (f' : Nat → va_E), PW D cs (pA L0 sz) u L f' H1 locs1 → HF cs ad (hGb st t s 1) L f' → (∀ r, hLive (hGb st t s 1) r → hLive st r) → (∀ a, ¬ hOwn st ad a → f' a = f a) → W p l e R u m args below meth c H1 locs1 (cells + 1) (slots + 6) Q (F0 m (pc + 3) ls rest))
    (kt : ¬ hGbC st t s 1 = 0 → ∀ (L' : List Nat) (f' : Nat → va_E), hPostS cs ad st L f (.inr (hExc (hGbC st t s 1))) st (.inr (hExc (hGbC st t s 1))) L' f' → post (.inr (hExc (hGbC st t s 1))) L' f') : W p l e R u m args below meth c H locs cells slots Q (F0 m pc ls (.int 1 :: .ref (ad (12 + t)) :: .ref (ad (18 + s)) :: rest)) := by
  rcases hk with hk | hk | hk | hk | hk
  · by_cases how : st.1 13 s = nI t
    · refine pw_callS (nL' := 3) S P (hw_X5_giveBack (wb := true) ho hs hk ht how hF) q579 q46 (pw_entU (q := (RX5, TX5, 6)) "SyncHall$Sync" [.ref (ad (12 + t)), .int 1] S P (hF.lk hs hk).1 (hF.lk hs hk).2 rfl q1 q569 q577 q578 q579 (va_Decl.abs (P.2.2.2.2.1.use q568 rfl)) ⟨by decide +kernel, by decide +kernel, (by decide +kernel : (parseMethodDescriptor (⟨"SyncHall$Sync", "giveBack", "(LSyncHall$Task;Z)V"⟩ : MethodName).desc).map (fun d => d.parameters.length) = some 2)⟩ hdg) hls hroom ⟨Nat.le_trans (Nat.le_of_ble_eq_true rfl) hR.1, Nat.le_trans (Nat.le_of_ble_eq_true rfl) hR.2⟩ ⟨Nat.le_trans (by simp only [rmL]; omega) hf.1, Nat.le_trans (by simp only [rmL]; omega) hf.2⟩ (fun H1 locs1 f' P1 h1 h2 h3 => W.widen (k := cells + 1) (n := slots + 6) (by simp only [rmL]; omega) (by simp only [rmL]; omega) (kr (by rw [(gb_lk (m := 1) (t := t) hk).1, if_neg (fun z => z how)]) H1 locs1 f' P1 (by rw [(gb_lk (m := 1) (t := t) hk).2]; exact h1) (by rw [(gb_lk (m := 1) (t := t) hk).2]; exact h2) h3))
    · exact pw_callX (nL' := 3) S P hQ (ht_X5_giveBack (wb := true) hst ho hs hk ht how hF) q579 q46 (pw_entU (q := (RX5, TX5, 6)) "SyncHall$Sync" [.ref (ad (12 + t)), .int 1] S P (hF.lk hs hk).1 (hF.lk hs hk).2 rfl q1 q569 q577 q578 q579 (va_Decl.abs (P.2.2.2.2.1.use q568 rfl)) ⟨by decide +kernel, by decide +kernel, (by decide +kernel : (parseMethodDescriptor (⟨"SyncHall$Sync", "giveBack", "(LSyncHall$Task;Z)V"⟩ : MethodName).desc).map (fun d => d.parameters.length) = some 2)⟩ hdg) htb hlk hls hroom ⟨Nat.le_trans (Nat.le_of_ble_eq_true rfl) hR.1, Nat.le_trans (Nat.le_of_ble_eq_true rfl) hR.2⟩ ⟨Nat.le_trans (by simp only [rmL]; omega) hf.1, Nat.le_trans (by simp only [rmL]; omega) hf.2⟩ ⟨Nat.le_trans (by simp only [rmL]; omega) hw.1, Nat.le_trans (by simp only [rmL]; omega) hw.2⟩ (fun v L' f' h => by obtain ⟨h1, -⟩ := h; cases h1) (fun C L' f' h => by
        have e : C = hExc (hGbC st t s 1) := by obtain ⟨h1, -⟩ := h; cases h1; rw [(gb_lk (m := 1) (t := t) hk).1, if_pos how]; rfl
        subst e
        exact kt (by rw [(gb_lk (m := 1) (t := t) hk).1, if_pos how]; decide) L' f' (by
          obtain ⟨-, h2, h3, h4, h5⟩ := h
          exact ⟨rfl, h2, h3, h4, h5⟩))
  · by_cases hp : st.1 15 s < 100
    · refine pw_callS (nL' := 3) S P (hw_X6_giveBack (wb := true) ho hs hk ht hp hF) q583 q47 (pw_entU (q := (RX6, TX6, 5)) "SyncHall$Sync" [.ref (ad (12 + t)), .int 1] S P (hF.sm hs hk).1 (hF.sm hs hk).2 rfl q1 q569 q581 q582 q583 (va_Decl.abs (P.2.2.2.2.1.use q568 rfl)) ⟨by decide +kernel, by decide +kernel, (by decide +kernel : (parseMethodDescriptor (⟨"SyncHall$Sync", "giveBack", "(LSyncHall$Task;Z)V"⟩ : MethodName).desc).map (fun d => d.parameters.length) = some 2)⟩ hdg) hls hroom ⟨Nat.le_trans (Nat.le_of_ble_eq_true rfl) hR.1, Nat.le_trans (Nat.le_of_ble_eq_true rfl) hR.2⟩ ⟨Nat.le_trans (by simp only [rmL]; omega) hf.1, Nat.le_trans (by simp only [rmL]; omega) hf.2⟩ (fun H1 locs1 f' P1 h1 h2 h3 => W.widen (k := cells + 1) (n := slots + 6) (by simp only [rmL]; omega) (by simp only [rmL]; omega) (kr (by rw [(gb_sm (m := 1) (t := t) hk).1, if_neg (fun z => (sm_100 ho hs).mp z hp)]) H1 locs1 f' P1 (by rw [(gb_sm (m := 1) (t := t) hk).2]; exact h1) (by rw [(gb_sm (m := 1) (t := t) hk).2]; exact h2) h3))
    · exact pw_callX (nL' := 3) S P hQ (ht_X6_giveBack (wb := true) hst ho hs hk ht hp hF) q583 q47 (pw_entU (q := (RX6, TX6, 5)) "SyncHall$Sync" [.ref (ad (12 + t)), .int 1] S P (hF.sm hs hk).1 (hF.sm hs hk).2 rfl q1 q569 q581 q582 q583 (va_Decl.abs (P.2.2.2.2.1.use q568 rfl)) ⟨by decide +kernel, by decide +kernel, (by decide +kernel : (parseMethodDescriptor (⟨"SyncHall$Sync", "giveBack", "(LSyncHall$Task;Z)V"⟩ : MethodName).desc).map (fun d => d.parameters.length) = some 2)⟩ hdg) htb hlk hls hroom ⟨Nat.le_trans (Nat.le_of_ble_eq_true rfl) hR.1, Nat.le_trans (Nat.le_of_ble_eq_true rfl) hR.2⟩ ⟨Nat.le_trans (by simp only [rmL]; omega) hf.1, Nat.le_trans (by simp only [rmL]; omega) hf.2⟩ ⟨Nat.le_trans (by simp only [rmL]; omega) hw.1, Nat.le_trans (by simp only [rmL]; omega) hw.2⟩ (fun v L' f' h => by obtain ⟨h1, -⟩ := h; cases h1) (fun C L' f' h => by
        have e : C = hExc (hGbC st t s 1) := by obtain ⟨h1, -⟩ := h; cases h1; rw [(gb_sm (m := 1) (t := t) hk).1, if_pos ((sm_100 ho hs).mpr hp)]; rfl
        subst e
        exact kt (by rw [(gb_sm (m := 1) (t := t) hk).1, if_pos ((sm_100 ho hs).mpr hp)]; decide) L' f' (by
          obtain ⟨-, h2, h3, h4, h5⟩ := h
          exact ⟨rfl, h2, h3, h4, h5⟩))
  · have el : hGb st t s 1 = (if 0 < st.1 15 s then sI st 15 s (st.1 15 s - 1) else st) := by
      rw [(gb_la (m := 1) (t := t) hk).2]
      split
      · rfl
      · rename_i z; exact sI_self (la_0 ho hs z)
    refine pw_callS (nL' := 3) S P (hw_X7_giveBack (wb := true) ho hs hk ht hF) q576 q48 (pw_entU (q := (RX7, TX7, 4)) "SyncHall$Sync" [.ref (ad (12 + t)), .int 1] S P (hF.la hs hk).1 (hF.la hs hk).2 rfl q1 q569 q574 q575 q576 (va_Decl.abs (P.2.2.2.2.1.use q568 rfl)) ⟨by decide +kernel, by decide +kernel, (by decide +kernel : (parseMethodDescriptor (⟨"SyncHall$Sync", "giveBack", "(LSyncHall$Task;Z)V"⟩ : MethodName).desc).map (fun d => d.parameters.length) = some 2)⟩ hdg) hls hroom ⟨Nat.le_trans (Nat.le_of_ble_eq_true rfl) hR.1, Nat.le_trans (Nat.le_of_ble_eq_true rfl) hR.2⟩ ⟨Nat.le_trans (by simp only [rmL]; omega) hf.1, Nat.le_trans (by simp only [rmL]; omega) hf.2⟩ (fun H1 locs1 f' P1 h1 h2 h3 => W.widen (k := cells + 1) (n := slots + 6) (by simp only [rmL]; omega) (by simp only [rmL]; omega) (kr (gb_la (m := 1) (t := t) hk).1 H1 locs1 f' P1 (by rw [el]; exact h1) (by rw [el]; exact h2) h3))
  · by_cases how : st.1 13 s = nI t
    · refine pw_callS (nL' := 3) S P (hw_X8_giveBack1 ho hs hk ht how hF) q587 q49 (pw_entU (q := (RX8, TX8, 6)) "SyncHall$Sync" [.ref (ad (12 + t)), .int 1] S P (hF.sh hs hk).1 (hF.sh hs hk).2 rfl q1 q569 q585 q586 q587 (va_Decl.abs (P.2.2.2.2.1.use q568 rfl)) ⟨by decide +kernel, by decide +kernel, (by decide +kernel : (parseMethodDescriptor (⟨"SyncHall$Sync", "giveBack", "(LSyncHall$Task;Z)V"⟩ : MethodName).desc).map (fun d => d.parameters.length) = some 2)⟩ hdg) hls hroom ⟨Nat.le_trans (Nat.le_of_ble_eq_true rfl) hR.1, Nat.le_trans (Nat.le_of_ble_eq_true rfl) hR.2⟩ ⟨Nat.le_trans (by simp only [rmL]; omega) hf.1, Nat.le_trans (by simp only [rmL]; omega) hf.2⟩ (fun H1 locs1 f' P1 h1 h2 h3 => W.widen (k := cells + 1) (n := slots + 6) (by simp only [rmL]; omega) (by simp only [rmL]; omega) (kr (by rw [(gb_sh1 (t := t) hk).1, if_neg (fun z => z how)]) H1 locs1 f' P1 (by rw [(gb_sh1 (t := t) hk).2]; exact h1) (by rw [(gb_sh1 (t := t) hk).2]; exact h2) h3))
    · exact pw_callX (nL' := 3) S P hQ (ht_X8_giveBack1 hst ho hs hk ht how hF) q587 q49 (pw_entU (q := (RX8, TX8, 6)) "SyncHall$Sync" [.ref (ad (12 + t)), .int 1] S P (hF.sh hs hk).1 (hF.sh hs hk).2 rfl q1 q569 q585 q586 q587 (va_Decl.abs (P.2.2.2.2.1.use q568 rfl)) ⟨by decide +kernel, by decide +kernel, (by decide +kernel : (parseMethodDescriptor (⟨"SyncHall$Sync", "giveBack", "(LSyncHall$Task;Z)V"⟩ : MethodName).desc).map (fun d => d.parameters.length) = some 2)⟩ hdg) htb hlk hls hroom ⟨Nat.le_trans (Nat.le_of_ble_eq_true rfl) hR.1, Nat.le_trans (Nat.le_of_ble_eq_true rfl) hR.2⟩ ⟨Nat.le_trans (by simp only [rmL]; omega) hf.1, Nat.le_trans (by simp only [rmL]; omega) hf.2⟩ ⟨Nat.le_trans (by simp only [rmL]; omega) hw.1, Nat.le_trans (by simp only [rmL]; omega) hw.2⟩ (fun v L' f' h => by obtain ⟨h1, -⟩ := h; cases h1) (fun C L' f' h => by
        have e : C = hExc (hGbC st t s 1) := by obtain ⟨h1, -⟩ := h; cases h1; rw [(gb_sh1 (t := t) hk).1, if_pos how]; rfl
        subst e
        exact kt (by rw [(gb_sh1 (t := t) hk).1, if_pos how]; decide) L' f' (by
          obtain ⟨-, h2, h3, h4, h5⟩ := h
          exact ⟨rfl, h2, h3, h4, h5⟩))
  · exact pw_callX (nL' := 3) S P hQ (ht_X9_giveBack (wb := true) hst ho hs hk ht hF) q572 q50 (pw_entU (q := (RX9, TX9, 4)) "SyncHall$Sync" [.ref (ad (12 + t)), .int 1] S P (hF.cd hs hk).1 (hF.cd hs hk).2 rfl q1 q569 q570 q571 q572 (va_Decl.abs (P.2.2.2.2.1.use q568 rfl)) ⟨by decide +kernel, by decide +kernel, (by decide +kernel : (parseMethodDescriptor (⟨"SyncHall$Sync", "giveBack", "(LSyncHall$Task;Z)V"⟩ : MethodName).desc).map (fun d => d.parameters.length) = some 2)⟩ hdg) htb hlk hls hroom ⟨Nat.le_trans (Nat.le_of_ble_eq_true rfl) hR.1, Nat.le_trans (Nat.le_of_ble_eq_true rfl) hR.2⟩ ⟨Nat.le_trans (by simp only [rmL]; omega) hf.1, Nat.le_trans (by simp only [rmL]; omega) hf.2⟩ ⟨Nat.le_trans (by simp only [rmL]; omega) hw.1, Nat.le_trans (by simp only [rmL]; omega) hw.2⟩ (fun v L' f' h => by obtain ⟨h1, -⟩ := h; cases h1) (fun C L' f' h => by
        have e : C = hExc (hGbC st t s 1) := by obtain ⟨h1, -⟩ := h; cases h1; rw [gb_cd (m := 1) (t := t) hk]; rfl
        subst e
        exact kt (by rw [gb_cd (m := 1) (t := t) hk]; decide) L' f' (by
          obtain ⟨-, h2, h3, h4, h5⟩ := h
          exact ⟨rfl, h2, h3, h4, h5⟩))

end VGB
