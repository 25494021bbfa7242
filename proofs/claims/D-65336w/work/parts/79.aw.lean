/-! await: the states between -/
def hE (st : St) (lim : UInt64) : UInt64 := if FP.dcmp lim FP.dconst0 = some .lt then cM1 else FP.dadd (st.2.1 11 0) lim
section AWT
variable {cs : Nat → ClassId} {ad : Nat → Nat} {st X Y A : St} {L : List Nat} {f : Nat → va_E} {n t s w l : Nat}
theorem hE_ne {v : UInt64} (hv : inR cM1 cK v = true) (h0 : ¬ FP.dcmp v FP.dconst0 = some .eq) : hE st v = s_end st v := by
  unfold hE
  split
  · rename_i z; exact end_lt z
  · rename_i z; exact end_ge z h0 hv
theorem ent_I {k j : Nat} {v : Int32} (h1 : k ≠ 1) (h5 : k ≠ 5) : sI (s_enter X t s) k j v = s_enter (sI X k j v) t s := by
  unfold s_enter
  rw [sI_comm (Ne.symm h1)]
  show sI (sD (sI (sI (sR X s _) 5 t _) k j v) 8 t _) 1 t 1 = _
  rw [sI_comm (Ne.symm h5)]
  rfl
def hAwY (st : St) (s : Nat) : St := sI (sI st 14 (s_lk st s) 0) 13 (s_lk st s) (-1)
def hAwX (st : St) (t s : Nat) (e : UInt64) : St := s_enter (sI (sD (sI (hAwY st s) 9 t (st.1 14 (s_lk st s))) 7 t e) 6 t 0) t s
theorem aw_x {e : UInt64} : sI (hAwX st t s e) 4 t 0 = s_enter (sI (sD (s_aw0 st t s) 7 t e) 6 t 0) t s := by
  unfold hAwX
  rw [ent_I (by decide) (by decide), sI_comm (a := 6) (b := 4) (by decide)]
  show s_enter (sI (sD (sI (sI (hAwY st s) 9 t _) 4 t 0) 7 t e) 6 t 0) t s = _
  unfold hAwY s_aw0
  rw [sI_comm (a := 13) (b := 9) (by decide), sI_comm (a := 14) (b := 9) (by decide), sI_comm (a := 14) (b := 13) (by decide)]
theorem aw_d {e : UInt64} : wDiff (hAwY st s) (hAwX st t s e) t s := (((wq.rf.I (by omega)).D (by omega)).I (by omega)).ent
theorem aw_wait {e : UInt64} (hoY : Ok n (hAwY st s)) (hs : s < 8) (hb : st.1 1 t = 0) (hk : st.1 12 s = 6) : hWait (hAwX st t s e) (va_up ad (34 + t) w) t = .inr (2, [.ref (ad (12 + t)), .ref (ad (18 + s)), .int (bI false), .double e, .double (st.2.1 11 0), .int (st.1 14 (s_lk st s)), .int 0, .null]) := by
  have hwf : s_wf (hAwX st t s e) t = s := aw_d.wf_t hs
  have hnx := (aw_d (st := st) (t := t) (s := s) (e := e)).nx_t (ad := ad) (w := w) hoY hs hb
  have h9 : (hAwX st t s e).1 9 t = st.1 14 (s_lk st s) := by
    show upd ((hAwY st s).1 9) t _ t = _
    exact pk_us
  have h7 : (hAwX st t s e).2.1 7 t = e := by
    show vf_upd _ t e t = _
    exact vf_us
  have h8 : (hAwX st t s e).2.1 8 t = st.2.1 11 0 := by
    show vf_upd _ t _ t = _
    exact vf_us
  have h12 : (hAwX st t s e).1 12 s = 6 := hk
  unfold hWait hWr hWb hWo
  rw [hwf, h12, if_pos rfl, h7, h8, h9, hnx, adw (by omega), adw (by omega)]
  rfl
theorem ent_r {k i : Nat} : (s_enter X t l).1 k i = if k = 1 ∧ i = t then 1 else if k = 5 ∧ i = t then nI l else X.1 k i := by
  show va_up (va_up X.1 5 (upd (X.1 5) t (nI l))) 1 (upd (X.1 1) t 1) k i = _
  unfold va_up upd
  by_cases h1 : k = 1
  · subst h1
    by_cases hi : i = t <;> simp [hi]
  · by_cases h5 : k = 5
    · subst h5
      by_cases hi : i = t <;> simp [hi]
    · simp [h1, h5]
theorem qpre_eq {why : Int32} {c : UInt64} (h : wq A X t) (h9 : X.1 9 t = A.1 9 t) : s_enter (sI (sD (sI X 10 t why) 7 t c) 6 t 0) t l = s_enter (sI (sD (sI A 10 t why) 7 t c) 6 t 0) t l := by
  refine Prod.ext ?_ (Prod.ext ?_ ?_)
  · funext k i
    rw [ent_r, ent_r]
    by_cases hi : i = t
    · subst hi
      by_cases h1 : k = 1
      · simp [h1]
      · by_cases h5 : k = 5
        · simp [h5]
        · simp only [h1, h5, false_and, if_false]
          by_cases h6 : k = 6
          · subst h6
            show upd _ i 0 i = upd _ i 0 i
            rw [pk_us, pk_us]
          · rw [sI_o h6, sI_o h6]
            show (sI X 10 i why).1 k i = (sI A 10 i why).1 k i
            by_cases h10 : k = 10
            · subst h10
              show upd _ i why i = upd _ i why i
              rw [pk_us, pk_us]
            · rw [sI_o h10, sI_o h10]
              by_cases hh9 : k = 9
              · subst hh9; exact h9
              · rw [h.1 k h1 h5 h6 hh9 h10]
    · simp only [hi, and_false, if_false]
      rw [sI_i hi, sI_i hi]
      show (sI X 10 t why).1 k i = (sI A 10 t why).1 k i
      rw [sI_i hi, sI_i hi]
      exact h.2.1 k i hi
  · show va_up (va_up X.2.1 7 (vf_upd (X.2.1 7) t c)) 8 (vf_upd (X.2.1 8) t (X.2.1 11 0)) = va_up (va_up A.2.1 7 (vf_upd (A.2.1 7) t c)) 8 (vf_upd (A.2.1 8) t (A.2.1 11 0))
    funext k i
    unfold va_up vf_upd
    rw [h.2.2.1 11 (by decide) (by decide)]
    by_cases h8 : k = 8
    · simp only [h8, if_true]
      by_cases hi : i = t
      · simp [hi]
      · simp only [hi, if_false]; exact h.2.2.2.1 8 i hi
    · simp only [h8, if_false]
      by_cases h7 : k = 7
      · simp only [h7, if_true]
        by_cases hi : i = t
        · simp [hi]
        · simp only [hi, if_false]; exact h.2.2.2.1 7 i hi
      · simp only [h7, if_false]
        rw [h.2.2.1 k h7 h8]
  · show va_up X.2.2 l (X.2.2 l ++ [t]) = va_up A.2.2 l (A.2.2 l ++ [t])
    rw [h.2.2.2.2]
theorem aw_queue {e : UInt64} (ho : Ok n st) (hs : s < 8) (ht : t < 6) (hb : st.1 1 t = 0) : s_queue (s_enter (sI (sD (s_aw0 st t s) 7 t e) 6 t 0) t s) t s 2 = s_queue (s_aw0 st t s) t s 2 := by
  have hn : t ∉ st.2.2 s := ho.out hs hb
  have h5 : (s_enter (sI (sD (s_aw0 st t s) 7 t e) 6 t 0) t s).1 5 t = nI s := by show upd _ t (nI s) t = _; exact pk_us
  have h5a : ¬ (s_aw0 st t s).1 5 t = nI s := ho.un5 ht hb hs
  have hlk : s_lk (s_enter (sI (sD (s_aw0 st t s) 7 t e) 6 t 0) t s) s = s_lk (s_aw0 st t s) s := rfl
  have h0 : s_queue0 (s_enter (sI (sD (s_aw0 st t s) 7 t e) 6 t 0) t s) t s 2 = s_remove (s_enter (sI (sD (s_aw0 st t s) 7 t e) 6 t 0) t s) t s := by unfold s_queue0; rw [if_pos h5, if_neg (by decide)]
  have h1 : s_queue0 (s_aw0 st t s) t s 2 = s_aw0 st t s := by unfold s_queue0; rw [if_neg h5a]
  have hq : wq (s_aw0 st t s) (s_remove (s_enter (sI (sD (s_aw0 st t s) 7 t e) 6 t 0) t s) t s) t := by
    have h2 : wq (s_aw0 st t s) (sI (sI (sD (sI (sI (sD (s_aw0 st t s) 7 t e) 6 t 0) 5 t (nI s)) 8 t ((s_aw0 st t s).2.1 11 0)) 1 t 1) 5 t (-1)) t := (((((wq.rf.D (by omega)).I (by omega)).I (by omega)).D (by omega)).I (by omega)).I (by omega)
    refine ⟨h2.1, h2.2.1, h2.2.2.1, h2.2.2.2.1, ?_⟩
    show va_up (va_up st.2.2 s (st.2.2 s ++ [t])) s ((va_up st.2.2 s (st.2.2 s ++ [t]) s).erase t) = st.2.2
    funext k
    unfold va_up
    by_cases hk : k = s
    · subst hk
      simp only [if_true]
      rw [List.erase_append_right _ hn]
      simp
    · simp [hk]
  unfold s_queue
  rw [h0, h1, hlk, qpre_eq hq rfl]
end AWT
