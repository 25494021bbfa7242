/-! SyncHall.leads, by gen_h18.py -/
set_option maxHeartbeats 8000000 in
set_option maxRecDepth 100000 in
theorem hr_leads {l : Launch} {D : va_G} {cs : Nat → ClassId} {ad : Nat → Nat} {L : List Nat} {f : Nat → va_E} {n : Nat} {st : St} (ho : Ok n st) {a b : Nat} (ha : a < 8) (hb8 : b < 8)  (hF : HF cs ad st L f) : PM l D cs yX1_leads cX1_leads 7 (some .boolean) (rmL 2 1 8) [.ref (ad 0), .int (nI a), .int (nI b)] L f (pRN L f (some (.int (bI (s_leads st a b))))) := by
  refine hm_of "SyncHall" rfl (by decide +kernel) (Nat.le_of_ble_eq_true rfl) ?_
  intro sz p e u m below meth c S P hsz hr hlk hnm htb ls hl Q hQ
  have hl : lv_has ls 7 [(0, .ref (ad 0)), (1, .int (nI a)), (2, .int (nI b))] := hl
  have hx := S.1
  have hb := S.2.1
  generalize hH0 : u.heap = H at P ⊢
  generalize ([] : List Loc) = locs at P ⊢
  have hFr : ∀ a, ¬ hOwn st ad a → f a = f a := fun _ _ => rfl
  have hF0 := hF
  refine lv_bipush (v := 8) hx hb dX1_leads_0 (by decide) ?_
  refine pw_newa (atype := .boolean) (ty := .boolean) (N' := 8) (a0 := (8, .inl (fun _ => 0))) 1 S P q95 rfl rfl (fun a b h1 h2 => ra_z h1 h2) (fun _ => rfl) (by decide) (by decide) (by decide) (Nat.le_of_ble_eq_true rfl) (Nat.le_of_ble_eq_true rfl) dX1_leads_2 (fun x H fC hxL hxm hLs hfx hfo P => ?_)
  refine lv_astore_n (lv' := [(3, .ref x), (0, .ref (ad 0)), (1, .int (nI a)), (2, .int (nI b))]) hx hb dX1_leads_4 rfl hl (by decide) rfl (fun ls hl => ?_)
  refine lv_iconst (v := 1) hx hb dX1_leads_5 (by decide) ?_
  refine lv_istore (lv' := [(4, .int 1), (3, .ref x), (0, .ref (ad 0)), (1, .int (nI a)), (2, .int (nI b))]) hx hb dX1_leads_6 hl (by decide) rfl (fun ls hl => ?_)
  refine lv_iconst (v := 0) hx hb dX1_leads_8 (by decide) ?_
  refine lv_istore (lv' := [(5, .int 0), (4, .int 1), (3, .ref x), (0, .ref (ad 0)), (1, .int (nI a)), (2, .int (nI b))]) hx hb dX1_leads_9 hl (by decide) rfl (fun ls hl => ?_)
  have loop11 : ∀ (d : Nat) (i : Nat) (f1 : Nat → va_E) (y : Nat → Int32), 8 - i < d → (f1 x = .inl (cs 1, 8, .inl y)) → (∀ a, a ≠ x → f1 a = f a) → (i ≤ 8) → (∀ j, j < i → y j = st.1 22 (8 * a + j)) → ∀ (H : Heap) (locs : List Loc), PW D cs (pA L sz) u (L ++ [x]) f1 H locs → ∀ (ls : Array Slot), lv_has ls 7 [(5, .int (nI i)), (4, .int 1), (3, .ref x), (0, .ref (ad 0)), (1, .int (nI a)), (2, .int (nI b))] → W p l e (rmL 2 1 8) u m ([.ref (ad 0), .int (nI a), .int (nI b)] : List Value).toArray below meth c H locs 1 8 Q (F0 m 11 ls []) := by
    intro d11
    induction d11 with
    | zero => intro i f1 y hd; exact absurd hd (by omega)
    | succ d11 ih11 =>
      intro i f1 y hd11 hfx hfo hi hcp H locs P ls hl
      have hF := hF0.ext (f' := f1) hLs (fun z hz => hfo z (fun q => hxL (q ▸ hz)))
      refine lv_iload hx hb dX1_leads_11 (lv_at hl 0 rfl) ?_
      refine lv_bipush (v := 8) hx hb dX1_leads_13 (by decide) ?_
      refine ni_icmp_ge (tgt := 37) (a := i) (b := 8) hx hb (by omega) (by omega) dX1_leads_15 (by decide) (fun c15 => ?_) (fun c15 => ?_)
      · have _h := True.intro
        have hI0 : ldI st a y := ld_0 ha ho.bf (fun j hj => hcp j (by omega))
        clear hcp
        have loop37 : ∀ (d : Nat) (f1 : Nat → va_E) (y : Nat → Int32) (g : Bool), (2 * (8 - ldN y 8) + (if g = true then 1 else 0)) < d → (f1 x = .inl (cs 1, 8, .inl y)) → (∀ a, a ≠ x → f1 a = f a) → (ldI st a y) → (g = false → ldC st y) → ∀ (H : Heap) (locs : List Loc), PW D cs (pA L sz) u (L ++ [x]) f1 H locs → ∀ (ls : Array Slot), lv_has ls 7 [(4, .int (bI g)), (3, .ref x), (0, .ref (ad 0)), (1, .int (nI a)), (2, .int (nI b))] → W p l e (rmL 2 1 8) u m ([.ref (ad 0), .int (nI a), .int (nI b)] : List Value).toArray below meth c H locs 1 8 Q (F0 m 37 ls []) := by
          intro d37
          induction d37 with
          | zero => intro f1 y g hd; exact absurd hd (by omega)
          | succ d37 ih37 =>
            intro f1 y g hd37 hfx hfo hI hg H locs P ls hl
            have hF := hF0.ext (f' := f1) hLs (fun z hz => hfo z (fun q => hxL (q ▸ hz)))
            refine lv_iload hx hb dX1_leads_37 (lv_at hl 0 rfl) ?_
            refine lv_if_eq (tgt := 118) (x := bI g) hx hb dX1_leads_39 (by decide) (fun c39 => ?_) (fun c39 => ?_)
            · rw [bI_eq0] at c39
              refine lv_aload_n hx hb dX1_leads_118 rfl (lv_at hl 1 rfl) ?_
              refine lv_iload_n hx hb dX1_leads_119 rfl (lv_at hl 4 rfl) ?_
              refine pw_zald (j := b) S P hxm hfx rfl (by omega) (by decide) dX1_leads_120 ?_
              refine lw_eqi (y := bI (s_leads st a b)) (ld_end hI hb8 (Or.inl (hg c39))) ?_
              exact gw_zret S P hQ hr hlk ⟨Nat.le_of_ble_eq_true rfl, Nat.le_of_ble_eq_true rfl⟩ dX1_leads_121 (by first | decide | exact bI_or _) (⟨rfl, hLs, fun z hz => hfo z (fun q => hxL (q ▸ hz))⟩)
            · rw [bI_eq0, Bool.not_eq_false] at c39
              refine lv_iconst (v := 0) hx hb dX1_leads_42 (by decide) ?_
              refine lv_istore (lv' := [(4, .int 0), (3, .ref x), (0, .ref (ad 0)), (1, .int (nI a)), (2, .int (nI b))]) hx hb dX1_leads_43 hl (by decide) rfl (fun ls hl => ?_)
              refine lv_iconst (v := 0) hx hb dX1_leads_45 (by decide) ?_
              refine lv_istore (lv' := [(5, .int 0), (4, .int 0), (3, .ref x), (0, .ref (ad 0)), (1, .int (nI a)), (2, .int (nI b))]) hx hb dX1_leads_46 hl (by decide) rfl (fun ls hl => ?_)
              have hle8 := ldN_le y 8
              obtain ⟨N0, hN0⟩ : ∃ z, z = ldN y 8 := ⟨_, rfl⟩
              have hdo : 2 * (8 - N0) + 1 < d37 + 1 := by rw [hN0]; rw [c39] at hd37; simpa using hd37
              have loop48 : ∀ (d : Nat) (i : Nat) (f1 : Nat → va_E) (y : Nat → Int32) (g : Bool), 8 - i < d → (f1 x = .inl (cs 1, 8, .inl y)) → (∀ a, a ≠ x → f1 a = f a) → (i ≤ 8) → (ldI st a y) → (N0 ≤ ldN y 8) → (g = true → N0 + 1 ≤ ldN y 8) → (g = false → ∀ i2 k2, i2 < i → k2 < 8 → ¬ y i2 = 0 → ¬ st.1 22 (8 * i2 + k2) = 0 → ¬ y k2 = 0) → ∀ (H : Heap) (locs : List Loc), PW D cs (pA L sz) u (L ++ [x]) f1 H locs → ∀ (ls : Array Slot), lv_has ls 7 [(5, .int (nI i)), (4, .int (bI g)), (3, .ref x), (0, .ref (ad 0)), (1, .int (nI a)), (2, .int (nI b))] → W p l e (rmL 2 1 8) u m ([.ref (ad 0), .int (nI a), .int (nI b)] : List Value).toArray below meth c H locs 1 8 Q (F0 m 48 ls []) := by
                intro d48
                induction d48 with
                | zero => intro i f1 y g hd; exact absurd hd (by omega)
                | succ d48 ih48 =>
                  intro i f1 y g hd48 hfx hfo hi hI hN1 hN2 hv H locs P ls hl
                  have hF := hF0.ext (f' := f1) hLs (fun z hz => hfo z (fun q => hxL (q ▸ hz)))
                  refine lv_iload hx hb dX1_leads_48 (lv_at hl 0 rfl) ?_
                  refine lv_bipush (v := 8) hx hb dX1_leads_50 (by decide) ?_
                  refine ni_icmp_ge (tgt := 115) (a := i) (b := 8) hx hb (by omega) (by omega) dX1_leads_52 (by decide) (fun c52 => ?_) (fun c52 => ?_)
                  · have hend : g = false → 8 ≤ i → ldC st y := fun z h8 i2 k2 h1 h2 h3 h4 => hv z i2 k2 (by omega) h2 h3 h4.2.2
                    have hle9 := ldN_le y 8
                    have hme : 2 * (8 - ldN y 8) + (if g = true then 1 else 0) < d37 := by
                      cases g with
                      | true => have := hN2 rfl; simp; omega
                      | false => simp; omega
                    refine lv_goto (tgt := 37) hx hb dX1_leads_115 (by decide) ?_
                    exact ih37 _ y g (by omega) hfx hfo hI (fun z => hend z (by omega))  _ _ P ls (lv_sub hl [1, 2, 3, 4, 5] rfl)
                  · have _h := True.intro
                    refine lv_iconst (v := 0) hx hb dX1_leads_55 (by decide) ?_
                    refine lv_istore (lv' := [(6, .int 0), (5, .int (nI i)), (4, .int (bI g)), (3, .ref x), (0, .ref (ad 0)), (1, .int (nI a)), (2, .int (nI b))]) hx hb dX1_leads_56 hl (by decide) rfl (fun ls hl => ?_)
                    have hv0 : g = false → ∀ i2 k2, (i2 < i ∨ (i2 = i ∧ k2 < 0)) → k2 < 8 → ¬ y i2 = 0 → ¬ st.1 22 (8 * i2 + k2) = 0 → ¬ y k2 = 0 := fun z i2 k2 h => h.elim (hv z i2 k2) (fun q => absurd q.2 (by omega))
                    have loop58 : ∀ (d : Nat) (k : Nat) (f1 : Nat → va_E) (y : Nat → Int32) (g : Bool), 8 - k < d → (f1 x = .inl (cs 1, 8, .inl y)) → (∀ a, a ≠ x → f1 a = f a) → (k ≤ 8) → (ldI st a y) → (N0 ≤ ldN y 8) → (g = true → N0 + 1 ≤ ldN y 8) → (g = false → ∀ i2 k2, (i2 < i ∨ (i2 = i ∧ k2 < k)) → k2 < 8 → ¬ y i2 = 0 → ¬ st.1 22 (8 * i2 + k2) = 0 → ¬ y k2 = 0) → ∀ (H : Heap) (locs : List Loc), PW D cs (pA L sz) u (L ++ [x]) f1 H locs → ∀ (ls : Array Slot), lv_has ls 7 [(6, .int (nI k)), (5, .int (nI i)), (4, .int (bI g)), (3, .ref x), (0, .ref (ad 0)), (1, .int (nI a)), (2, .int (nI b))] → W p l e (rmL 2 1 8) u m ([.ref (ad 0), .int (nI a), .int (nI b)] : List Value).toArray below meth c H locs 1 8 Q (F0 m 58 ls []) := by
                      intro d58
                      induction d58 with
                      | zero => intro k f1 y g hd; exact absurd hd (by omega)
                      | succ d58 ih58 =>
                        intro k f1 y g hd58 hfx hfo hk hI hN1 hN2 hv H locs P ls hl
                        have hF := hF0.ext (f' := f1) hLs (fun z hz => hfo z (fun q => hxL (q ▸ hz)))
                        refine lv_iload hx hb dX1_leads_58 (lv_at hl 0 rfl) ?_
                        refine lv_bipush (v := 8) hx hb dX1_leads_60 (by decide) ?_
                        refine ni_icmp_ge (tgt := 109) (a := k) (b := 8) hx hb (by omega) (by omega) dX1_leads_62 (by decide) (fun c62 => ?_) (fun c62 => ?_)
                        · have hv : g = false → ∀ i2 k2, (i2 < i ∨ (i2 = i ∧ 8 ≤ 8)) → k2 < 8 → ¬ y i2 = 0 → ¬ st.1 22 (8 * i2 + k2) = 0 → ¬ y k2 = 0 := fun z i2 k2 h h8 => hv z i2 k2 (h.imp id (fun q => ⟨q.1, by omega⟩)) h8
                          refine lv_iinc (v := nI (i + 1)) (lv' := [(5, .int (nI (i + 1))), (6, .int (nI k)), (4, .int (bI g)), (3, .ref x), (0, .ref (ad 0)), (1, .int (nI a)), (2, .int (nI b))]) hx hb dX1_leads_109 hl (k := 1) rfl (nI_1 _) (by decide) rfl (fun ls hl => ?_)
                          refine lv_goto (tgt := 48) hx hb dX1_leads_112 (by decide) ?_
                          exact ih48 (i + 1) _ y g (by omega) hfx hfo (by omega) hI hN1 hN2 (fun z i2 k2 h1 h2 => by
                            by_cases q : i2 = i
                            · subst q; exact hv z i2 k2 (Or.inr ⟨rfl, by omega⟩) h2
                            · exact hv z i2 k2 (Or.inl (by omega)) h2) _ _ P ls (lv_sub hl [0, 2, 3, 4, 5, 6] rfl)
                        · have _h := True.intro
                          refine lv_aload_n hx hb dX1_leads_65 rfl (lv_at hl 3 rfl) ?_
                          refine lv_iload hx hb dX1_leads_66 (lv_at hl 1 rfl) ?_
                          refine pw_zald (j := i) S P hxm hfx rfl (by omega) (by decide) dX1_leads_68 ?_
                          refine lv_if_eq (tgt := 103) (x := y i) hx hb dX1_leads_69 (by decide) (fun c69 => ?_) (fun c69 => ?_)
                          · have _h := True.intro
                            refine lv_iinc (v := nI (k + 1)) (lv' := [(6, .int (nI (k + 1))), (5, .int (nI i)), (4, .int (bI g)), (3, .ref x), (0, .ref (ad 0)), (1, .int (nI a)), (2, .int (nI b))]) hx hb dX1_leads_103 hl (k := 0) rfl (nI_1 _) (by decide) rfl (fun ls hl => ?_)
                            refine lv_goto (tgt := 58) hx hb dX1_leads_106 (by decide) ?_
                            exact ih58 (k + 1) _ y g (by omega) hfx hfo (by omega) hI hN1 hN2 (fun z i2 k2 h => by
                              rcases h with h | ⟨rfl, h⟩
                              · exact hv z i2 k2 (Or.inl h)
                              · by_cases q : k2 = k
                                · subst q; exact fun _ => fun h3 _ => absurd c69 h3
                                · exact hv z i2 k2 (Or.inr ⟨rfl, by omega⟩)) _ _ P ls (lv_sub hl [0, 1, 2, 3, 4, 5, 6] rfl)
                          · have _h := True.intro
                            refine lv_aload_n hx hb dX1_leads_72 rfl (lv_at hl 4 rfl) ?_
                            refine pw_get (q := (RX1, TX1, 6)) (k := 2) S P (hF.m (by decide)) hF.hall rfl (by decide) q98 (Or.inl rfl) rfl dX1_leads_73 ?_
                            refine lv_iload hx hb dX1_leads_76 (lv_at hl 1 rfl) ?_
                            refine pw_aald (j := i) 5 S P (hF.m (by decide)) hF.bef rfl rfl rfl (by omega) (by decide) dX1_leads_78 ?_
                            refine lw_eqv (w := .ref (ad (4 + i))) (congrArg va_rf (if_pos (by omega))) ?_
                            refine lv_iload hx hb dX1_leads_79 (lv_at hl 0 rfl) ?_
                            refine pw_zald (j := k) S P (hF.m (by omega)) (hF.row (by omega)) rfl (by omega) (by decide) dX1_leads_81 ?_
                            refine lw_eqi (y := st.1 22 (8 * i + k)) (if_pos (by omega)) ?_
                            refine lv_if_eq (tgt := 103) (x := st.1 22 (8 * i + k)) hx hb dX1_leads_82 (by decide) (fun c82 => ?_) (fun c82 => ?_)
                            · have _h := True.intro
                              refine lv_iinc (v := nI (k + 1)) (lv' := [(6, .int (nI (k + 1))), (5, .int (nI i)), (4, .int (bI g)), (3, .ref x), (0, .ref (ad 0)), (1, .int (nI a)), (2, .int (nI b))]) hx hb dX1_leads_103 hl (k := 0) rfl (nI_1 _) (by decide) rfl (fun ls hl => ?_)
                              refine lv_goto (tgt := 58) hx hb dX1_leads_106 (by decide) ?_
                              exact ih58 (k + 1) _ y g (by omega) hfx hfo (by omega) hI hN1 hN2 (fun z i2 k2 h => by
                                rcases h with h | ⟨rfl, h⟩
                                · exact hv z i2 k2 (Or.inl h)
                                · by_cases q : k2 = k
                                  · subst q; exact fun _ => fun _ h4 => absurd c82 h4
                                  · exact hv z i2 k2 (Or.inr ⟨rfl, by omega⟩)) _ _ P ls (lv_sub hl [0, 1, 2, 3, 4, 5, 6] rfl)
                            · have _h := True.intro
                              refine lv_aload_n hx hb dX1_leads_85 rfl (lv_at hl 3 rfl) ?_
                              refine lv_iload hx hb dX1_leads_86 (lv_at hl 0 rfl) ?_
                              refine pw_zald (j := k) S P hxm hfx rfl (by omega) (by decide) dX1_leads_88 ?_
                              refine lv_if_eq (tgt := 95) (x := y k) hx hb dX1_leads_89 (by decide) (fun c89 => ?_) (fun c89 => ?_)
                              · have _h := True.intro
                                refine lv_aload_n hx hb dX1_leads_95 rfl (lv_at hl 3 rfl) ?_
                                refine lv_iload hx hb dX1_leads_96 (lv_at hl 0 rfl) ?_
                                refine lv_iconst (v := 1) hx hb dX1_leads_98 (by decide) ?_
                                have hset := ld_set (y0 := y) hI (fun _ _ h => h) (fun _ _ _ h => h) (show i < 8 by omega) (show k < 8 by omega) c69 c82
                                have hgr := ldN_grow (y0 := y) (y := upd y k 1) (r := k) 8 hset.2.2.2 (by omega) c89 (by rw [pk_us]; decide)
                                refine hz_st (j := k) S P hxm hfx (by omega) (by decide) (by decide) dX1_leads_99 (fun H locs f2 P hfx2 hfo3 => ?_)
                                have hfo2 : ∀ a, a ≠ x → f2 a = f a := fun a ha => (hfo3 a ha).trans (hfo a ha)
                                refine lv_iconst (v := 1) hx hb dX1_leads_100 (by decide) ?_
                                refine lv_istore (lv' := [(4, .int 1), (6, .int (nI k)), (5, .int (nI i)), (3, .ref x), (0, .ref (ad 0)), (1, .int (nI a)), (2, .int (nI b))]) hx hb dX1_leads_101 hl (by decide) rfl (fun ls hl => ?_)
                                refine lv_iinc (v := nI (k + 1)) (lv' := [(6, .int (nI (k + 1))), (4, .int 1), (5, .int (nI i)), (3, .ref x), (0, .ref (ad 0)), (1, .int (nI a)), (2, .int (nI b))]) hx hb dX1_leads_103 hl (k := 1) rfl (nI_1 _) (by decide) rfl (fun ls hl => ?_)
                                refine lv_goto (tgt := 58) hx hb dX1_leads_106 (by decide) ?_
                                exact ih58 (k + 1) _ (upd y k 1) true (by omega) hfx2 hfo2 (by omega) hset.1 (by omega) (fun _ => by omega) (fun z => by cases z) _ _ P ls (lv_sub hl [0, 2, 1, 3, 4, 5, 6] rfl)
                              · have _h := True.intro
                                refine lv_goto (tgt := 103) hx hb dX1_leads_92 (by decide) ?_
                                refine lv_iinc (v := nI (k + 1)) (lv' := [(6, .int (nI (k + 1))), (5, .int (nI i)), (4, .int (bI g)), (3, .ref x), (0, .ref (ad 0)), (1, .int (nI a)), (2, .int (nI b))]) hx hb dX1_leads_103 hl (k := 0) rfl (nI_1 _) (by decide) rfl (fun ls hl => ?_)
                                refine lv_goto (tgt := 58) hx hb dX1_leads_106 (by decide) ?_
                                exact ih58 (k + 1) _ y g (by omega) hfx hfo (by omega) hI hN1 hN2 (fun z i2 k2 h => by
                                  rcases h with h | ⟨rfl, h⟩
                                  · exact hv z i2 k2 (Or.inl h)
                                  · by_cases q : k2 = k
                                    · subst q; exact fun _ => fun _ _ => c89
                                    · exact hv z i2 k2 (Or.inr ⟨rfl, by omega⟩)) _ _ P ls (lv_sub hl [0, 1, 2, 3, 4, 5, 6] rfl)
                    exact loop58 _ 0 _ y g (Nat.lt_succ_self _) hfx hfo (by omega) hI hN1 hN2 hv0 _ _ P ls (lv_sub hl [0, 1, 2, 3, 4, 5, 6] (rfl))
              exact loop48 _ 0 _ y false (Nat.lt_succ_self _) hfx hfo (by omega) hI (by omega) (fun z => by cases z) (fun _ i2 k2 h1 => absurd h1 (by omega)) _ _ P ls (lv_sub hl [0, 1, 2, 3, 4, 5] (rfl))
        exact loop37 _ _ y true (Nat.lt_succ_self _) hfx hfo hI0 (fun z => by cases z) _ _ P ls (lv_sub hl [1, 2, 3, 4, 5] (rfl))
      · have _h := True.intro
        refine lv_aload_n hx hb dX1_leads_18 rfl (lv_at hl 2 rfl) ?_
        refine lv_iload hx hb dX1_leads_19 (lv_at hl 0 rfl) ?_
        refine lv_aload_n hx hb dX1_leads_21 rfl (lv_at hl 3 rfl) ?_
        refine pw_get (q := (RX1, TX1, 6)) (k := 2) S P (hF.m (by decide)) hF.hall rfl (by decide) q98 (Or.inl rfl) rfl dX1_leads_22 ?_
        refine lv_iload_n hx hb dX1_leads_25 rfl (lv_at hl 4 rfl) ?_
        refine pw_aald (j := a) 5 S P (hF.m (by decide)) hF.bef rfl rfl rfl (by omega) (by decide) dX1_leads_26 ?_
        refine lw_eqv (w := .ref (ad (4 + a))) (congrArg va_rf (if_pos (by omega))) ?_
        refine lv_iload hx hb dX1_leads_27 (lv_at hl 0 rfl) ?_
        refine pw_zald (j := i) S P (hF.m (by omega)) (hF.row (by omega)) rfl (by omega) (by decide) dX1_leads_29 ?_
        refine lw_eqi (y := st.1 22 (8 * a + i)) (if_pos (by omega)) ?_
        refine hz_st (j := i) S P hxm hfx (by omega) (by decide) (ho.bf _ (by omega)) dX1_leads_30 (fun H locs f2 P hfx2 hfo3 => ?_)
        have hfo2 : ∀ a, a ≠ x → f2 a = f a := fun a ha => (hfo3 a ha).trans (hfo a ha)
        refine lv_iinc (v := nI (i + 1)) (lv' := [(5, .int (nI (i + 1))), (4, .int 1), (3, .ref x), (0, .ref (ad 0)), (1, .int (nI a)), (2, .int (nI b))]) hx hb dX1_leads_31 hl (k := 0) rfl (nI_1 _) (by decide) rfl (fun ls hl => ?_)
        refine lv_goto (tgt := 11) hx hb dX1_leads_34 (by decide) ?_
        exact ih11 (i + 1) _ (upd y i (st.1 22 (8 * a + i))) (by omega) hfx2 hfo2 (by omega) (fun j hj => by
          by_cases q : j = i
          · subst q; exact pk_us
          · rw [pk_un q]; exact hcp j (by omega)) _ _ P ls (lv_sub hl [0, 1, 2, 3, 4, 5] rfl)
  exact loop11 _ 0 _ (fun _ => 0) (Nat.lt_succ_self _) hfx hfo (by omega) (fun j hj => absurd hj (by omega)) _ _ P ls (lv_sub hl [0, 1, 2, 3, 4, 5] (rfl))
