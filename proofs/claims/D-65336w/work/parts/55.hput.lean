/-! WRITES: the picture of st becomes that of st' -/
section HPU
variable {cs : Nat → ClassId} {ad : Nat → Nat} {st st' : St} {L : List Nat} {f : Nat → va_E} {n : Nat}
theorem HF.one {r0 : Nat} {c' : va_E} (h : HF cs ad st L f) (hr0 : hLive st r0) (hl : ∀ r, hLive st' r → hLive st r) (hc0 : hC cs st' ad r0 = c') (hc : ∀ r, hLive st' r → r ≠ r0 → hC cs st' ad r = hC cs st ad r) : HF cs ad st' L (va_up f (ad r0) c') := by
  refine ⟨fun r hr => ⟨h.mem (hl r hr), ?_⟩, fun r r' hr hr' e => h.2 r r' (hl r hr) (hl r' hr') e⟩
  by_cases e : r = r0
  · subst e
    rw [hc0]; simp [va_up]
  · have hne : ad r ≠ ad r0 := fun z => e (h.2 r r0 (hl r hr) hr0 z)
    simp only [va_up, if_neg hne]
    rw [h.eq (hl r hr), hc r hr e]
theorem HF.fr {r0 : Nat} {c' : va_E} (hr0 : hLive st r0) : ∀ a, ¬ hOwn st ad a → va_up f (ad r0) c' a = f a := fun a ha => by
  have : a ≠ ad r0 := fun z => ha ⟨r0, hr0, z⟩
  simp [va_up, this]
/-- st' differs from st at the sync s alone -/
def sDiff (st st' : St) (s : Nat) : Prop := (∀ k, k ≠ 13 → k ≠ 14 → k ≠ 15 → k ≠ 21 → st'.1 k = st.1 k) ∧ (∀ i, i ≠ s → st'.1 13 i = st.1 13 i ∧ st'.1 14 i = st.1 14 i ∧ st'.1 15 i = st.1 15 i ∧ st'.1 21 i = st.1 21 i ∧ st'.2.1 20 i = st.2.1 20 i) ∧ (∀ k, k ≠ 20 → st'.2.1 k = st.2.1 k) ∧ st'.2.2 = st.2.2
theorem sDiff_I {s k : Nat} {v : Int32} (hk : k = 13 ∨ k = 14 ∨ k = 15 ∨ k = 21) : sDiff st (sI st k s v) s := by
  refine ⟨fun j h1 h2 h3 h4 => ?_, fun i hi => ?_, fun _ _ => rfl, rfl⟩
  · show va_up st.1 k _ j = _
    unfold va_up
    rw [if_neg (by omega)]
  · have key : ∀ j, (sI st k s v).1 j i = st.1 j i := by
      intro j
      show va_up st.1 k (upd (st.1 k) s v) j i = _
      unfold va_up
      split
      · rename_i e; subst e; exact pk_un hi
      · rfl
    exact ⟨key 13, key 14, key 15, key 21, rfl⟩
theorem sDiff_D {s : Nat} {v : UInt64} : sDiff st (sD st 20 s v) s := by
  refine ⟨fun _ _ _ _ _ => rfl, fun i hi => ⟨rfl, rfl, rfl, rfl, ?_⟩, fun k hk => ?_, rfl⟩
  · show vf_upd (st.2.1 20) s v i = _
    simp [vf_upd, hi]
  · show va_up st.2.1 20 _ k = _
    simp [va_up, hk]
theorem sDiff.live {s : Nat} (h : sDiff st st' s) : ∀ r, hLive st' r ↔ hLive st r := by
  intro r
  unfold hLive
  rw [h.1 12 (by decide) (by decide) (by decide) (by decide), h.1 1 (by decide) (by decide) (by decide) (by decide)]
theorem sDiff.lk {s : Nat} (h : sDiff st st' s) (i : Nat) : s_lk st' i = s_lk st i := by
  unfold s_lk
  rw [h.1 16 (by decide) (by decide) (by decide) (by decide)]
theorem sDiff.sync {s i : Nat} (h : sDiff st st' s) (hi : i ≠ s) : hSync st' ad i = hSync st ad i := by
  obtain ⟨q13, q14, q15, q21, q20⟩ := h.2.1 i hi
  have e12 := h.1 12 (by decide) (by decide) (by decide) (by decide)
  have efi : hFi st' ad i = hFi st ad i := by unfold hFi hAt; rw [h.2.2.2]
  have eow : hOw st' ad i = hOw st ad i := by unfold hOw; rw [q13]
  unfold hSync
  rw [e12, efi, eow, q14, q15, q21, q20, h.lk]
theorem sDiff.wait {s t : Nat} (h : sDiff st st' s) : hWait st' ad t = hWait st ad t := by
  have e : ∀ k, k = 1 ∨ k = 5 ∨ k = 6 ∨ k = 9 ∨ k = 10 ∨ k = 12 → st'.1 k = st.1 k := fun k hk => h.1 k (by omega) (by omega) (by omega) (by omega)
  have ew : s_wf st' t = s_wf st t := by unfold s_wf; rw [e 5 (by omega)]
  unfold hWait hWr hWb hWo hNx
  rw [ew, e 12 (by omega), e 6 (by omega), e 9 (by omega), e 10 (by omega), h.2.2.1 7 (by decide), h.2.2.1 8 (by decide), h.2.2.2]
theorem sDiff.hc {s : Nat} (h : sDiff st st' s) {r : Nat} (hr : r ≠ 18 + s) : hC cs st' ad r = hC cs st ad r := by
  have e : ∀ k, k = 1 ∨ k = 2 ∨ k = 4 ∨ k = 12 ∨ k = 17 ∨ k = 22 ∨ k = 24 ∨ k = 25 → st'.1 k = st.1 k := fun k hk => h.1 k (by omega) (by omega) (by omega) (by omega)
  unfold hC
  split
  · unfold hHall; rw [e 24 (by omega), e 25 (by omega), h.2.2.1 11 (by decide)]
  · split
    · rfl
    · split
      · unfold hSyncs hSy; rw [e 12 (by omega)]
      · split
        · rfl
        · split
          · unfold hRow; rw [e 22 (by omega)]
          · split
            · unfold hTask hPl; rw [e 1 (by omega), e 2 (by omega), e 4 (by omega), h.2.2.1 3 (by decide)]
            · split
              · exact h.sync (by omega)
              · split
                · unfold hRd; rw [e 17 (by omega)]
                · exact h.wait
theorem HF.sdiff {s : Nat} (h : HF cs ad st L f) (hd : sDiff st st' s) (hs : s < 8) (hk : ¬ st.1 12 s = -1) : HF cs ad st' L (va_up f (ad (18 + s)) (hSync st' ad s)) :=
  h.one (hl_sy hs hk) (fun r hr => (hd.live r).mp hr) (hC_sy hs) (fun _ _ hne => hd.hc hne)
/-- a task's own numbers -/
def tDiff (st st' : St) (t : Nat) : Prop := (∀ k, k ≠ 2 → k ≠ 4 → st'.1 k = st.1 k) ∧ (∀ i, i ≠ t → st'.1 2 i = st.1 2 i ∧ st'.1 4 i = st.1 4 i ∧ st'.2.1 3 i = st.2.1 3 i) ∧ (∀ k, k ≠ 3 → st'.2.1 k = st.2.1 k) ∧ st'.2.2 = st.2.2
theorem tDiff_I {t k : Nat} {v : Int32} (hk : k = 2 ∨ k = 4) : tDiff st (sI st k t v) t := by
  refine ⟨fun j h1 h2 => ?_, fun i hi => ?_, fun _ _ => rfl, rfl⟩
  · show va_up st.1 k _ j = _
    unfold va_up
    rw [if_neg (by omega)]
  · have key : ∀ j, (sI st k t v).1 j i = st.1 j i := by
      intro j
      show va_up st.1 k (upd (st.1 k) t v) j i = _
      unfold va_up
      split
      · rename_i e; subst e; exact pk_un hi
      · rfl
    exact ⟨key 2, key 4, rfl⟩
theorem tDiff_D {t : Nat} {v : UInt64} : tDiff st (sD st 3 t v) t := by
  refine ⟨fun _ _ _ => rfl, fun i hi => ⟨rfl, rfl, ?_⟩, fun k hk => ?_, rfl⟩
  · show vf_upd (st.2.1 3) t v i = _
    simp [vf_upd, hi]
  · show va_up st.2.1 3 _ k = _
    simp [va_up, hk]
theorem tDiff.hc {t : Nat} (h : tDiff st st' t) {r : Nat} (hr : r ≠ 12 + t) : hC cs st' ad r = hC cs st ad r := by
  have e : ∀ k, k ≠ 2 ∧ k ≠ 4 → st'.1 k = st.1 k := fun k hk => h.1 k hk.1 hk.2
  have hlk : ∀ i, s_lk st' i = s_lk st i := fun i => by unfold s_lk; rw [e 16 (by decide)]
  have hwf : ∀ i, s_wf st' i = s_wf st i := fun i => by unfold s_wf; rw [e 5 (by decide)]
  unfold hC
  split
  · unfold hHall; rw [e 24 (by decide), e 25 (by decide), h.2.2.1 11 (by decide)]
  · split
    · rfl
    · split
      · unfold hSyncs hSy; rw [e 12 (by decide)]
      · split
        · rfl
        · split
          · unfold hRow; rw [e 22 (by decide)]
          · split
            · obtain ⟨q2, q4, q3⟩ := h.2.1 (r - 12) (by omega)
              unfold hTask hPl; rw [e 1 (by decide), q2, q4, q3]
            · split
              · unfold hSync hFi hAt hOw
                rw [e 12 (by decide), e 13 (by decide), e 14 (by decide), e 15 (by decide), e 21 (by decide), h.2.2.1 20 (by decide), h.2.2.2, hlk]
              · split
                · unfold hRd; rw [e 17 (by decide)]
                · unfold hWait hWr hWb hWo hNx
                  rw [hwf, e 12 (by decide), e 6 (by decide), e 9 (by decide), e 10 (by decide), h.2.2.1 7 (by decide), h.2.2.1 8 (by decide), h.2.2.2]
theorem tDiff.live {t : Nat} (h : tDiff st st' t) : ∀ r, hLive st' r ↔ hLive st r := by
  intro r
  unfold hLive
  rw [h.1 12 (by decide) (by decide), h.1 1 (by decide) (by decide)]
theorem HF.tdiff {t : Nat} (h : HF cs ad st L f) (hd : tDiff st st' t) (ht : t < 6) : HF cs ad st' L (va_up f (ad (12 + t)) (hTask st' ad t)) :=
  h.one (hl_lo (by omega)) (fun r hr => (hd.live r).mp hr) (hC_tk ht) (fun _ _ hne => hd.hc hne)
/-- the hall's own numbers; a row of 'before'; a reader's count -/
theorem hc_24 {k : Nat} {v : Int32} (hk : k = 24 ∨ k = 25) {r : Nat} (hr : r ≠ 0) : hC cs (sI st k 0 v) ad r = hC cs st ad r := by
  rcases hk with rfl | rfl <;>
  · unfold hC
    rw [if_neg hr, if_neg hr]
    rfl
theorem hc_11 {v : UInt64} {r : Nat} (hr : r ≠ 0) : hC cs (sD st 11 0 v) ad r = hC cs st ad r := by
  unfold hC
  rw [if_neg hr, if_neg hr]
  rfl
theorem hc_22 {i j : Nat} {v : Int32} (hj : j < 8) {r : Nat} (hr : r ≠ 4 + i) : hC cs (sI st 22 (8 * i + j) v) ad r = hC cs st ad r := by
  unfold hC
  split
  · rfl
  · split
    · rfl
    · split
      · rfl
      · split
        · rfl
        · split
          · rename_i h0 h1 h2 h3 h12
            unfold hRow
            congr 4
            funext j'
            split
            · exact pk_un (by omega)
            · rfl
          · rfl
theorem hc_17 {s t : Nat} {v : Int32} (ht : t < 6) {r : Nat} (hr : r ≠ 26 + s) : hC cs (sI st 17 (6 * s + t) v) ad r = hC cs st ad r := by
  unfold hC
  split
  · rfl
  · split
    · rfl
    · split
      · rfl
      · split
        · rfl
        · split
          · rfl
          · split
            · rfl
            · split
              · rfl
              · split
                · unfold hRd
                  congr 4
                  funext j'
                  split
                  · exact pk_un (by omega)
                  · rfl
                · rfl
end HPU
section HPR
variable {p : Program} {l : Launch} {e : Env} {R : Room} {u : State} {m : MethodId} {args : Array Value} {below : List Frame} {meth : Method} {c : Code} {H : Heap} {locs : List Loc} {cells slots : Nat} {Q : State → Prop}
variable {cc : ByteArray} {nL pc : Nat} {ls : Array Slot} {rest : List Value} {D : va_G} {cs : Nat → ClassId} {A : Nat → Prop} {L : List Nat} {f : Nat → va_E} {own : String} {ad : Nat → Nat} {st st' : St}
/-- a field of a sync -/
theorem hp_sync {s ci k idx : Nat} {ref : String} {q : vw_C} {fs : List Value} {v : Value} (S : CallFix p m c cc nL u args lw_all own) (P : PW D cs A u L f H locs) (hF : HF cs ad st L f) (hs : s < 8) (hk : ¬ st.1 12 s = -1) (hsy : hSync st ad s = .inr (ci, fs)) (hc : vwCl[ci]? = some q) (hkq : k < q.2.2) (hlink : Cond.fieldLink own idx ref (q.2.1 k).2.1 (q.2.1 k).2.2.1 ∈ lw_all) (hsf : (q.2.1 k).1 = ref ∨ Cond.sameField ref (q.2.1 k).1 (q.2.1 k).2.1 (q.2.1 k).2.2.1 ∈ lw_all) (hfin : (q.2.1 k).2.2.2 = false) (hn : narrow (clT ci k) v = v) (hfit : fits (clT ci k) v = true) (hl : k < fs.length) (hd : sDiff st st' s) (hnew : hSync st' ad s = .inr (ci, fs.set k v)) (hdg : decode cc pc = .ok (.putfield idx, 3))
    (kk : ∀ (H1 : Heap) (locs1 : List Loc) (f' : Nat → va_E), PW D cs A u L f' H1 locs1 → HF cs ad st' L f' → (∀ a, ¬ hOwn st ad a → f' a = f a) → W p l e R u m args below meth c H1 locs1 cells slots Q (F0 m (pc + 3) ls rest)) : W p l e R u m args below meth c H locs cells slots Q (F0 m pc ls (v :: .ref (ad (18 + s)) :: rest)) := by
  refine pw_put (q := q) S P (hF.mem (hl_sy hs hk)) ((hF.sy hs hk).trans hsy) hc hkq hlink hsf hfin hn hfit hl hdg (fun H1 locs1 P1 => ?_)
  rw [← hnew] at P1
  exact kk H1 locs1 _ P1 (hF.sdiff hd hs hk) (HF.fr (hl_sy hs hk))
/-- a field of a task -/
theorem hp_task {t k idx : Nat} {v : Value} (S : CallFix p m c cc nL u args lw_all own) (P : PW D cs A u L f H locs) (hF : HF cs ad st L f) (ht : t < 6) (hkq : k < 5) (hlink : Cond.fieldLink own idx "SyncHall$Task" (TX2 k).2.1 (TX2 k).2.2.1 ∈ lw_all) (hsf : (TX2 k).1 = "SyncHall$Task") (hfin : (TX2 k).2.2.2 = false) (hn : narrow (clT 1 k) v = v) (hfit : fits (clT 1 k) v = true) (hd : tDiff st st' t) (hnew : hTask st' ad t = .inr (1, [.int (nI t), .double (st.2.1 3 t), .int (st.1 4 t), .int (st.1 2 t), va_rf (hPl st ad t)].set k v)) (hdg : decode cc pc = .ok (.putfield idx, 3))
    (kk : ∀ (H1 : Heap) (locs1 : List Loc) (f' : Nat → va_E), PW D cs A u L f' H1 locs1 → HF cs ad st' L f' → (∀ a, ¬ hOwn st ad a → f' a = f a) → W p l e R u m args below meth c H1 locs1 cells slots Q (F0 m (pc + 3) ls rest)) : W p l e R u m args below meth c H locs cells slots Q (F0 m pc ls (v :: .ref (ad (12 + t)) :: rest)) := by
  refine pw_put (q := (RX2, TX2, 5)) S P (hF.m (by omega)) (hF.tk ht) rfl hkq hlink (Or.inl hsf) hfin hn hfit hkq hdg (fun H1 locs1 P1 => ?_)
  rw [← hnew] at P1
  exact kk H1 locs1 _ P1 (hF.tdiff hd ht) (HF.fr (hl_lo (by omega)))
/-- a field of the hall -/
theorem hp_hall {k idx : Nat} {v : Value} (S : CallFix p m c cc nL u args lw_all own) (P : PW D cs A u L f H locs) (hF : HF cs ad st L f) (hkq : k < 6) (hlink : Cond.fieldLink own idx "SyncHall" (TX1 k).2.1 (TX1 k).2.2.1 ∈ lw_all) (hsf : (TX1 k).1 = "SyncHall") (hfin : (TX1 k).2.2.2 = false) (hn : narrow (clT 0 k) v = v) (hfit : fits (clT 0 k) v = true) (hlv : ∀ r, hLive st' r → hLive st r) (hd : ∀ r, r ≠ 0 → hC cs st' ad r = hC cs st ad r) (hnew : hHall st' ad = .inr (0, [.ref (ad 1), .ref (ad 2), .ref (ad 3), .int (st.1 24 0), .int (st.1 25 0), .double (st.2.1 11 0)].set k v)) (hdg : decode cc pc = .ok (.putfield idx, 3))
    (kk : ∀ (H1 : Heap) (locs1 : List Loc) (f' : Nat → va_E), PW D cs A u L f' H1 locs1 → HF cs ad st' L f' → (∀ a, ¬ hOwn st ad a → f' a = f a) → W p l e R u m args below meth c H1 locs1 cells slots Q (F0 m (pc + 3) ls rest)) : W p l e R u m args below meth c H locs cells slots Q (F0 m pc ls (v :: .ref (ad 0) :: rest)) := by
  refine pw_put (q := (RX1, TX1, 6)) S P (hF.m (by decide)) hF.hall rfl hkq hlink (Or.inl hsf) hfin hn hfit hkq hdg (fun H1 locs1 P1 => ?_)
  rw [← hnew] at P1
  exact kk H1 locs1 _ P1 (hF.one (hl_lo (by decide)) hlv rfl (fun r _ hne => hd r hne)) (HF.fr (hl_lo (by decide)))
/-- before[i][j] := v -/
theorem hp_row {i j : Nat} {v : Int32} (S : CallFix p m c cc nL u args lw_all own) (P : PW D cs A u L f H locs) (hF : HF cs ad st L f) (hi : i < 8) (hj : j < 8) (hv : vp_nar .boolean v = v) (hdg : decode cc pc = .ok (.bastore, 1))
    (kk : ∀ (H1 : Heap) (locs1 : List Loc) (f' : Nat → va_E), PW D cs A u L f' H1 locs1 → HF cs ad (sI st 22 (8 * i + j) v) L f' → (∀ a, ¬ hOwn st ad a → f' a = f a) → W p l e R u m args below meth c H1 locs1 cells slots Q (F0 m (pc + 1) ls rest)) : W p l e R u m args below meth c H locs cells slots Q (F0 m pc ls (.int v :: .int (nI j) :: .ref (ad (4 + i)) :: rest)) := by
  refine pw_zast S P (hF.m (by omega)) (hF.row hi) rfl hj (by decide) hv hdg (fun H1 locs1 P1 => ?_)
  have e : (Sum.inl (cs 1, 8, .inl (upd (fun j => if j < 8 then st.1 22 (8 * i + j) else 0) j v)) : va_E) = hRow cs (sI st 22 (8 * i + j) v) i := by
    unfold hRow
    congr 4
    funext j'
    show upd _ j v j' = if j' < 8 then upd (st.1 22) (8 * i + j) v (8 * i + j') else 0
    by_cases q : j' = j
    · subst q; rw [pk_us, if_pos hj, pk_us]
    · rw [pk_un q]
      split
      · rw [pk_un (by omega)]
      · rfl
  rw [e] at P1
  exact kk H1 locs1 _ P1 (hF.one (st' := sI st 22 (8 * i + j) v) (hl_lo (by omega)) (fun _ hr => hr) (hC_row hi) (fun r _ hne => hc_22 hj hne)) (HF.fr (hl_lo (by omega)))
/-- reads[t] := v -/
theorem hp_rd {s t : Nat} {v : Int32} (S : CallFix p m c cc nL u args lw_all own) (P : PW D cs A u L f H locs) (hF : HF cs ad st L f) (hs : s < 8) (hk : st.1 12 s = 5) (ht : t < 6) (hdg : decode cc pc = .ok (.iastore, 1))
    (kk : ∀ (H1 : Heap) (locs1 : List Loc) (f' : Nat → va_E), PW D cs A u L f' H1 locs1 → HF cs ad (sI st 17 (6 * s + t) v) L f' → (∀ a, ¬ hOwn st ad a → f' a = f a) → W p l e R u m args below meth c H1 locs1 cells slots Q (F0 m (pc + 1) ls rest)) : W p l e R u m args below meth c H locs cells slots Q (F0 m pc ls (.int v :: .int (nI t) :: .ref (ad (26 + s)) :: rest)) := by
  refine pw_iast S P (hF.mem (hl_rd hs hk)) (hF.rd hs hk) rfl ht (by decide) hdg (fun H1 locs1 P1 => ?_)
  have e : (Sum.inl (cs 0, 6, .inl (upd (fun t => if t < 6 then st.1 17 (6 * s + t) else 0) t v)) : va_E) = hRd cs (sI st 17 (6 * s + t) v) s := by
    unfold hRd
    congr 4
    funext j'
    show upd _ t v j' = if j' < 6 then upd (st.1 17) (6 * s + t) v (6 * s + j') else 0
    by_cases q : j' = t
    · subst q; rw [pk_us, if_pos ht, pk_us]
    · rw [pk_un q]
      split
      · rw [pk_un (by omega)]
      · rfl
  rw [e] at P1
  exact kk H1 locs1 _ P1 (hF.one (st' := sI st 17 (6 * s + t) v) (hl_rd hs hk) (fun _ hr => hr) (hC_rd hs) (fun r _ hne => hc_17 ht hne)) (HF.fr (hl_rd hs hk))
theorem hOw_set {s t : Nat} (ht : t < 6) : hOw (sI st 13 s (nI t)) ad s = some (ad (12 + t)) := by
  unfold hOw
  rw [show (sI st 13 s (nI t)).1 13 s = nI t from pk_us, if_neg (nI_m1 (by omega)), iN_nI ht (by decide)]
theorem hOw_clr {s : Nat} : hOw (sI st 13 s (-1)) ad s = none := by
  unfold hOw
  rw [show (sI st 13 s (-1)).1 13 s = -1 from pk_us, if_pos rfl]
/-- a contract's end without new cells: the same addresses -/
def hPostS (cs : Nat → ClassId) (ad : Nat → Nat) (st : St) (L : List Nat) (f : Nat → va_E) (o : pR) (st' : St) : pR → List Nat → (Nat → va_E) → Prop := fun r L' f' =>
  r = o ∧ L' = L ∧ HF cs ad st' L f' ∧ (∀ r, hLive st' r → hLive st r) ∧ ∀ a, ¬ hOwn st ad a → f' a = f a
theorem hPost_same {o : pR} {f' : Nat → va_E} (h : HF cs ad st' L f') (hl : ∀ r, hLive st' r → hLive st r) (hf : ∀ a, ¬ hOwn st ad a → f' a = f a) : hPostS cs ad st L f o st' o L f' := ⟨rfl, rfl, h, hl, hf⟩
theorem hPostS.to {o r : pR} {L' : List Nat} {f' : Nat → va_E} (h : hPostS cs ad st L f o st' r L' f') : hPost cs ad st L f o st' r L' f' := by
  obtain ⟨rfl, rfl, h, hl, hf⟩ := h
  exact ⟨rfl, ad, h, fun _ _ _ => rfl, fun _ h => h, fun a _ ha => ⟨hf a ha, fun ⟨r, hr, e⟩ => ha ⟨r, hl r hr, e⟩⟩⟩
end HPR
