/-! a graph that has moved on -/
def hRel (cs : Nat → ClassId) (ad : Nat → Nat) (st : St) (L : List Nat) (f : Nat → va_E) (ad1 : Nat → Nat) (st1 : St) (L1 : List Nat) (f1 : Nat → va_E) : Prop :=
  HF cs ad1 st1 L1 f1 ∧ (∀ i, i < 34 → hLive st i → ad1 i = ad i) ∧ (∀ a, a ∈ L → a ∈ L1) ∧ (∀ a, a ∈ L → ¬ hOwn st ad a → f1 a = f a ∧ ¬ hOwn st1 ad1 a) ∧ st1.1 12 = st.1 12
section HRL
variable {cs : Nat → ClassId} {ad ad1 : Nat → Nat} {st st1 : St} {L L1 : List Nat} {f f1 : Nat → va_E} {n t s : Nat}
theorem hRel.rf (h : HF cs ad st L f) : hRel cs ad st L f ad st L f := ⟨h, fun _ _ _ => rfl, fun _ h => h, fun _ _ ha => ⟨rfl, ha⟩, rfl⟩
theorem hLive_12 {i : Nat} (h : st1.1 12 = st.1 12) (hi : i < 34) (hr : hLive st i) : hLive st1 i := by
  unfold hLive at hr ⊢
  rw [h]
  rcases hr with q | q | q | q
  · exact Or.inl q
  · exact Or.inr (Or.inl q)
  · exact Or.inr (Or.inr (Or.inl q))
  · omega
theorem hRel.post {o : pR} (h : hRel cs ad st L f ad1 st1 L1 f1) : hPost cs ad st L f o st1 o L1 f1 := ⟨rfl, ad1, h.1, h.2.1, h.2.2.1, h.2.2.2.1⟩
theorem hRel.step {ad2 : Nat → Nat} {st2 : St} {L2 : List Nat} {f2 : Nat → va_E} (h : hRel cs ad st L f ad1 st1 L1 f1) (h1 : HF cs ad2 st2 L2 f2) (h2 : ∀ i, i < 34 → hLive st1 i → ad2 i = ad1 i) (h3 : ∀ a, a ∈ L1 → a ∈ L2) (h4 : ∀ a, a ∈ L1 → ¬ hOwn st1 ad1 a → f2 a = f1 a ∧ ¬ hOwn st2 ad2 a) (h5 : st2.1 12 = st1.1 12) : hRel cs ad st L f ad2 st2 L2 f2 :=
  ⟨h1, fun i hi hr => (h2 i hi (hLive_12 h.2.2.2.2 hi hr)).trans (h.2.1 i hi hr), fun a ha => h3 a (h.2.2.1 a ha), fun a ha hno => by
    obtain ⟨q1, q2⟩ := h.2.2.2.1 a ha hno
    obtain ⟨q3, q4⟩ := h4 a (h.2.2.1 a ha) q2
    exact ⟨q3.trans q1, q4⟩, h5.trans h.2.2.2.2⟩
/-- a step in place -/
theorem hRel.stay {st2 : St} {f2 : Nat → va_E} (h : hRel cs ad st L f ad1 st1 L1 f1) (h1 : HF cs ad1 st2 L1 f2) (hl : ∀ r, hLive st2 r → hLive st1 r) (h4 : ∀ a, ¬ hOwn st1 ad1 a → f2 a = f1 a) (h5 : st2.1 12 = st1.1 12) : hRel cs ad st L f ad1 st2 L1 f2 :=
  h.step h1 (fun _ _ _ => rfl) (fun _ h => h) (fun a _ ha => ⟨h4 a ha, hOwn_no hl ha⟩) h5
theorem s_giveUp_12 {why : Int32} : (s_giveUp st t s why).1 12 = st.1 12 := by
  unfold s_giveUp
  split
  · exact s_queue_I (by decide)
  · rw [s_serve_I (by decide)]; rfl
theorem io_6 (h : t < 6) : isOut (nI t) 6 = false := decide_eq_false (fun z => z.elim (nI_nn (by omega)) (fun q => q ((nI_ltI (b := 6) (by omega) (by decide)).mpr h)))
theorem io_8 (h : t < 8) : isOut (nI t) 8 = false := decide_eq_false (fun z => z.elim (nI_nn (by omega)) (fun q => q ((nI_ltI (b := 8) (by omega) (by decide)).mpr h)))
end HRL
