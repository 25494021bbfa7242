/-! small facts for the class's walks; a sync of any kind -/
section HL
variable {cs : Nat → ClassId} {ad : Nat → Nat} {st : St} {L : List Nat} {f : Nat → va_E} {n : Nat}
theorem hFi_none {s : Nat} : hFi st ad s = none ↔ (st.2.2 s).isEmpty = true := by
  unfold hFi hAt
  cases st.2.2 s <;> simp
theorem hPl_none {t : Nat} : hPl st ad t = none ↔ st.1 1 t = 0 := by
  unfold hPl
  split <;> simp_all
def hKd (st : St) (s : Nat) : Prop := (st.1 12 s = 0 ∨ st.1 12 s = 1) ∨ (st.1 12 s = 2 ∨ st.1 12 s = 3) ∨ st.1 12 s = 4 ∨ st.1 12 s = 5 ∨ st.1 12 s = 6
theorem Ok.kd (h : Ok n st) {s : Nat} (hs : s < 8) (hk : ¬ st.1 12 s = -1) : hKd st s := by
  rcases h.kind hs with q | q | q | q | q | q | q | q
  · exact absurd q hk
  · exact Or.inl (Or.inl q)
  · exact Or.inl (Or.inr q)
  · exact Or.inr (Or.inl (Or.inl q))
  · exact Or.inr (Or.inl (Or.inr q))
  · exact Or.inr (Or.inr (Or.inl q))
  · exact Or.inr (Or.inr (Or.inr (Or.inl q)))
  · exact Or.inr (Or.inr (Or.inr (Or.inr q)))
theorem hKd.ne {s : Nat} (h : hKd st s) : ¬ st.1 12 s = -1 := by rcases h with (q | q) | (q | q) | q | q | q <;> rw [q] <;> decide
def hsV (st : St) (ad : Nat → Nat) (s k : Nat) : Value := match k with
  | 0 => va_rf (hFi st ad s)
  | 1 => .double (st.2.1 20 s)
  | _ => .int (st.1 21 s)
def hNext (st : St) (ad : Nat → Nat) (s : Nat) : Option Nat := if (st.2.2 s).isEmpty = true then none else some (ad (34 + s_next st s))
theorem nf_no {s : Nat} : ∀ (l : List Nat) (b : Nat), (∀ t, t ∈ l → s_better st s b t = false) → s_nextF st s b l = b := by
  intro l
  induction l with
  | nil => intro b _; rfl
  | cons a l ih =>
    intro b h
    unfold s_nextF
    rw [if_neg (by rw [h a List.mem_cons_self]; decide)]
    exact ih b (fun t ht => h t (List.mem_cons_of_mem _ ht))
/-- the first waiter, for the kinds that don't choose -/
theorem sn_first {s : Nat} (h3 : ¬ st.1 12 s = 3) (h5 : ¬ st.1 12 s = 5) : hNext st ad s = hFi st ad s := by
  unfold hNext hFi hAt s_next
  cases hr : st.2.2 s with
  | nil => rfl
  | cons a l =>
    show some (ad (34 + s_nextF st s a l)) = some (ad (34 + a))
    rw [nf_no (st := st) (s := s) l a (fun t _ => by simp [s_better, h3, h5])]
theorem nf5a {s : Nat} (h5 : st.1 12 s = 5) (b : Nat) (hb : ¬ st.1 6 b = 0) (l : List Nat) : s_nextF st s b l = b :=
  nf_no l b (fun t _ => by simp [s_better, h5, hb])
theorem nf5c {s : Nat} (h5 : st.1 12 s = 5) : ∀ (l : List Nat) (b i : Nat), st.1 6 b = 0 → i < l.length → (∀ j, j < i → ¬ st.1 6 (l.getD j 0) = 1) → st.1 6 (l.getD i 0) = 1 → s_nextF st s b l = l.getD i 0 := by
  intro l
  induction l with
  | nil => intro b i _ hi; simp at hi
  | cons a l ih =>
    intro b i hb hi hj hm
    unfold s_nextF
    cases i with
    | zero =>
      have hm : st.1 6 a = 1 := hm
      rw [if_pos (by simp [s_better, h5, hb, hm])]
      exact nf5a h5 a (by rw [hm]; decide) l
    | succ i =>
      have h0 : ¬ st.1 6 a = 1 := hj 0 (by omega)
      rw [if_neg (by simp [s_better, h5, h0])]
      exact ih b i hb (by simpa using hi) (fun j hj' => hj (j + 1) (by omega)) hm
theorem sn5_found {s i : Nat} (h5 : st.1 12 s = 5) (h01 : ∀ t, t ∈ st.2.2 s → st.1 6 t = 0 ∨ st.1 6 t = 1) (hi : i < (st.2.2 s).length) (hj : ∀ j, j < i → ¬ st.1 6 ((st.2.2 s).getD j 0) = 1) (hm : st.1 6 ((st.2.2 s).getD i 0) = 1) : s_next st s = (st.2.2 s).getD i 0 := by
  unfold s_next
  cases hr : st.2.2 s with
  | nil => rw [hr] at hi; simp at hi
  | cons a l =>
    rw [hr] at hi hj hm h01
    cases i with
    | zero =>
      have hm : st.1 6 a = 1 := hm
      exact nf5a h5 a (by rw [hm]; decide) l
    | succ i =>
      have h0 : ¬ st.1 6 a = 1 := hj 0 (by omega)
      have h00 : st.1 6 a = 0 := by
        rcases h01 a List.mem_cons_self with q | q
        · exact q
        · exact absurd q h0
      exact nf5c h5 l a i h00 (by simpa using hi) (fun j hj' => hj (j + 1) (by omega)) hm
theorem sn5_none {s : Nat} (h5 : st.1 12 s = 5) (hj : ∀ j, j < (st.2.2 s).length → ¬ st.1 6 ((st.2.2 s).getD j 0) = 1) : hNext st ad s = hFi st ad s := by
  unfold hNext hFi hAt s_next
  cases hr : st.2.2 s with
  | nil => rfl
  | cons a l =>
    rw [hr] at hj
    show some (ad (34 + s_nextF st s a l)) = some (ad (34 + a))
    rw [nf_no (st := st) (s := s) l a (fun t ht => by
      obtain ⟨i, hi, rfl⟩ := ls_has ht
      have := hj (i + 1) (by simpa using hi)
      have this : ¬ st.1 6 (l.getD i 0) = 1 := this
      simp [-List.getD_eq_getElem?_getD, s_better, h5, this])]
/-- the ranked semaphore: the walk begins at the first again -/
theorem sn3_0 {s : Nat} (h : 0 < (st.2.2 s).length) (h3 : st.1 12 s = 3) : s_next st s = s_nextF st s ((st.2.2 s).getD 0 0) ((st.2.2 s).drop 0) := by
  rw [s_next_0 h, ls_drop h]
  show _ = s_nextF st s (if s_better st s ((st.2.2 s).getD 0 0) ((st.2.2 s).getD 0 0) = true then _ else _) _
  rw [ite_self]
theorem hNext_some {s : Nat} (h : 0 < (st.2.2 s).length) : hNext st ad s = some (ad (34 + s_next st s)) := by
  unfold hNext
  rw [if_neg (by rw [ls_ie1 h]; decide)]
theorem hNext_none {s : Nat} (h : ¬ 0 < (st.2.2 s).length) : hNext st ad s = none := by
  unfold hNext
  rw [if_pos (ls_ie0 h)]
/-- who writes, by the row's place -/
theorem hWb_at (ho : Ok n st) {s i : Nat} (hs : s < 8) (hi : i < (st.2.2 s).length) (h5 : st.1 12 s = 5) : hWb st ((st.2.2 s).getD i 0) = true ↔ st.1 6 ((st.2.2 s).getD i 0) = 1 := by
  unfold hWb
  rw [(ho.rowx hs hi).2.2]
  simp [-List.getD_eq_getElem?_getD, h5]
end HL
section HSG
variable {p : Program} {l : Launch} {e : Env} {R : Room} {u : State} {m : MethodId} {args : Array Value} {below : List Frame} {meth : Method} {c : Code} {H : Heap} {locs : List Loc} {cells slots : Nat} {Q : State → Prop}
variable {cc : ByteArray} {nL pc : Nat} {ls : Array Slot} {rest : List Value} {D : va_G} {cs : Nat → ClassId} {A : Nat → Prop} {L : List Nat} {f : Nat → va_E} {own : String} {ad : Nat → Nat} {st : St}
theorem hs_get (k : Nat) {s idx : Nat} (hk3 : k < 3) (S : CallFix p m c cc nL u args lw_all own) (P : PW D cs A u L f H locs) (hF : HF cs ad st L f) (hs : s < 8) (hk : hKd st s) (hlink : Cond.fieldLink own idx "SyncHall$Sync" (TX5 k).2.1 (TX5 k).2.2.1 ∈ lw_all) (hdg : decode cc pc = .ok (.getfield idx, 3))
    (kk : W p l e R u m args below meth c H locs cells slots Q (F0 m (pc + 3) ls (hsV st ad s k :: rest))) : W p l e R u m args below meth c H locs cells slots Q (F0 m pc ls (.ref (ad (18 + s)) :: rest)) := by
  match k, hk3 with
  | 0, _ =>
    rcases hk with hk | hk | hk | hk | hk
    · exact pw_get (q := (RX5, TX5, 6)) (k := 0) S P (hF.lk hs hk).1 (hF.lk hs hk).2 rfl (by decide) hlink (Or.inl rfl) rfl hdg kk
    · exact pw_get (q := (RX6, TX6, 5)) (k := 0) S P (hF.sm hs hk).1 (hF.sm hs hk).2 rfl (by decide) hlink (Or.inl rfl) rfl hdg kk
    · exact pw_get (q := (RX7, TX7, 4)) (k := 0) S P (hF.la hs hk).1 (hF.la hs hk).2 rfl (by decide) hlink (Or.inl rfl) rfl hdg kk
    · exact pw_get (q := (RX8, TX8, 6)) (k := 0) S P (hF.sh hs hk).1 (hF.sh hs hk).2 rfl (by decide) hlink (Or.inl rfl) rfl hdg kk
    · exact pw_get (q := (RX9, TX9, 4)) (k := 0) S P (hF.cd hs hk).1 (hF.cd hs hk).2 rfl (by decide) hlink (Or.inl rfl) rfl hdg kk
  | 1, _ =>
    rcases hk with hk | hk | hk | hk | hk
    · exact pw_get (q := (RX5, TX5, 6)) (k := 1) S P (hF.lk hs hk).1 (hF.lk hs hk).2 rfl (by decide) hlink (Or.inl rfl) rfl hdg kk
    · exact pw_get (q := (RX6, TX6, 5)) (k := 1) S P (hF.sm hs hk).1 (hF.sm hs hk).2 rfl (by decide) hlink (Or.inl rfl) rfl hdg kk
    · exact pw_get (q := (RX7, TX7, 4)) (k := 1) S P (hF.la hs hk).1 (hF.la hs hk).2 rfl (by decide) hlink (Or.inl rfl) rfl hdg kk
    · exact pw_get (q := (RX8, TX8, 6)) (k := 1) S P (hF.sh hs hk).1 (hF.sh hs hk).2 rfl (by decide) hlink (Or.inl rfl) rfl hdg kk
    · exact pw_get (q := (RX9, TX9, 4)) (k := 1) S P (hF.cd hs hk).1 (hF.cd hs hk).2 rfl (by decide) hlink (Or.inl rfl) rfl hdg kk
  | 2, _ =>
    rcases hk with hk | hk | hk | hk | hk
    · exact pw_get (q := (RX5, TX5, 6)) (k := 2) S P (hF.lk hs hk).1 (hF.lk hs hk).2 rfl (by decide) hlink (Or.inl rfl) rfl hdg kk
    · exact pw_get (q := (RX6, TX6, 5)) (k := 2) S P (hF.sm hs hk).1 (hF.sm hs hk).2 rfl (by decide) hlink (Or.inl rfl) rfl hdg kk
    · exact pw_get (q := (RX7, TX7, 4)) (k := 2) S P (hF.la hs hk).1 (hF.la hs hk).2 rfl (by decide) hlink (Or.inl rfl) rfl hdg kk
    · exact pw_get (q := (RX8, TX8, 6)) (k := 2) S P (hF.sh hs hk).1 (hF.sh hs hk).2 rfl (by decide) hlink (Or.inl rfl) rfl hdg kk
    · exact pw_get (q := (RX9, TX9, 4)) (k := 2) S P (hF.cd hs hk).1 (hF.cd hs hk).2 rfl (by decide) hlink (Or.inl rfl) rfl hdg kk
end HSG
theorem ls_anyE {l : List Nat} {f : Nat → Bool} (h : l.isEmpty = true) : l.any f = false := by cases l <;> simp at h ⊢
theorem s_mq5i {st : St} {t s : Nat} {m : Int32} (h5 : st.1 12 s = 5) (h : st.1 13 s = nI t ∨ 0 < st.1 17 (6 * s + t)) : s_mustQueue st t s m = false := by
  unfold s_mustQueue
  rw [if_neg (by rw [h5]; rintro (q | q); exact absurd q (by decide); exact absurd q.1 (by decide)), if_neg (fun z => z h5), if_pos h.symm]
theorem s_mq5r {st : St} {t s : Nat} (h5 : st.1 12 s = 5) (h : ¬ (st.1 13 s = nI t ∨ 0 < st.1 17 (6 * s + t))) : s_mustQueue st t s (bI false) = (st.2.2 s).any (fun u => decide (st.1 6 u = 1)) := by
  have h1 := not_or.mp h
  rw [s_mq5 h5 h1.2 h1.1]
  congr 1
  funext u
  exact decide_eq_decide.mpr ⟨fun z => z.elim (fun z => absurd z (by decide)) id, Or.inr⟩
theorem s_mq5w {st : St} {t s : Nat} (h5 : st.1 12 s = 5) (h : ¬ (st.1 13 s = nI t ∨ 0 < st.1 17 (6 * s + t))) : s_mustQueue st t s (bI true) = !(st.2.2 s).isEmpty := by
  have h1 := not_or.mp h
  rw [s_mq5 h5 h1.2 h1.1]
  cases hl : st.2.2 s with
  | nil => rfl
  | cons a l => simp [bI]
