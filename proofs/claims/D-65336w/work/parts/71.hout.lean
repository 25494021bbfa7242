/-! the public operations' ends; the one whose time ends first -/
def hExc (k : Int32) : String := if k = 1 then "java/lang/IllegalArgumentException" else if k = 2 then "java/util/NoSuchElementException" else if k = 3 then "java/lang/IllegalStateException" else "java/lang/UnsupportedOperationException"
def hOut (r : Int32 × Int32 × St) : pR := if r.1 = 0 then .inl (some (.int r.2.1)) else .inr (hExc r.1)
def hOutV (r : Int32 × Int32 × St) : pR := if r.1 = 0 then .inl none else .inr (hExc r.1)
def hLt (st : St) (ad : Nat → Nat) (i : Nat) : Option Nat := (s_latest st i).map (fun t => ad (34 + t))
section HOU
variable {cs : Nat → ClassId} {ad : Nat → Nat} {st st' : St} {L : List Nat} {f : Nat → va_E} {n : Nat} {o : pR}
theorem hPost_th {C : String} (h : HF cs ad st L f) : hPost cs ad st L f (.inr C) st (.inr C) L f := ⟨rfl, ad, h, fun _ _ _ => rfl, fun _ h => h, fun _ _ ha => ⟨rfl, ha⟩⟩
theorem hPost_lk {v : Option Value} (h : HF cs ad st L f) : hPost cs ad st L f (.inl v) st (.inl v) L f := ⟨rfl, ad, h, fun _ _ _ => rfl, fun _ h => h, fun _ _ ha => ⟨rfl, ha⟩⟩
theorem hEnd {X r : Int32 × Int32 × St} {L' : List Nat} {f' : Nat → va_E} {o' : pR} (e : X = r) (h : hPost cs ad st L f (hOut r) r.2.2 o' L' f') : hPost cs ad st L f (hOut X) X.2.2 o' L' f' := by rw [e]; exact h
theorem hEndV {X r : Int32 × Int32 × St} {L' : List Nat} {f' : Nat → va_E} {o' : pR} (e : X = r) (h : hPost cs ad st L f (hOutV r) r.2.2 o' L' f') : hPost cs ad st L f (hOutV X) X.2.2 o' L' f' := by rw [e]; exact h
theorem hPost.trans {ad1 : Nat → Nat} {st1 : St} {L1 : List Nat} {f1 : Nat → va_E} {o1 r r2 : pR} {L2 : List Nat} {f2 : Nat → va_E} (h1 : HF cs ad1 st1 L1 f1 ∧ (∀ i, i < 34 → hLive st i → ad1 i = ad i) ∧ (∀ a, a ∈ L → a ∈ L1) ∧ ∀ a, a ∈ L → ¬ hOwn st ad a → f1 a = f a ∧ ¬ hOwn st1 ad1 a) (hl : ∀ i, i < 34 → hLive st i → hLive st1 i) (h2 : hPost cs ad1 st1 L1 f1 o st' r2 L2 f2) : hPost cs ad st L f o st' r2 L2 f2 := by
  obtain ⟨e, ad2, k1, k2, k3, k4⟩ := h2
  exact ⟨e, ad2, k1, fun i hi hr => (k2 i hi (hl i hi hr)).trans (h1.2.1 i hi hr), fun a ha => k3 a (h1.2.2.1 a ha), fun a ha hno => by
    obtain ⟨q1, q2⟩ := h1.2.2.2 a ha hno
    obtain ⟨q3, q4⟩ := k4 a (h1.2.2.1 a ha) q2
    exact ⟨q3.trans q1, q4⟩⟩
theorem sl_no {i : Nat} (h : s_over st i = false) : s_latest st (i + 1) = s_latest st i := by
  rw [s_latest, if_neg (by rw [h]; decide)]
theorem sl_none {i : Nat} (h : s_over st i = true) (hn : s_latest st i = none) : s_latest st (i + 1) = some i := by
  rw [s_latest, if_pos h, hn]
theorem sl_lt {i b : Nat} (h : s_over st i = true) (hn : s_latest st i = some b) (hc : FP.dcmp (st.2.1 7 i) (st.2.1 7 b) = some .lt) : s_latest st (i + 1) = some i := by
  rw [s_latest, if_pos h, hn]
  exact if_pos hc
theorem sl_ge {i b : Nat} (h : s_over st i = true) (hn : s_latest st i = some b) (hc : ¬ FP.dcmp (st.2.1 7 i) (st.2.1 7 b) = some .lt) : s_latest st (i + 1) = some b := by
  rw [s_latest, if_pos h, hn]
  exact if_neg hc
theorem sl_mem {i b : Nat} (h : s_latest st i = some b) : b < i ∧ s_over st b = true := s_latest_over i b h
theorem hPl_some {t : Nat} (h : ¬ st.1 1 t = 0) : hPl st ad t = some (ad (34 + t)) := by unfold hPl; rw [if_neg h]
theorem io_s {v a b : Int32} (h : b.toInt = a.toInt + 1) : ¬ v < b ↔ a < v := by
  rw [Int32.lt_iff_toInt_lt, Int32.lt_iff_toInt_lt]; omega
theorem io_t {v a b : Int32} (h : b.toInt = a.toInt + 1) (hc : v < 0 ∨ a < v) : isOut v b = true := decide_eq_true (hc.imp id (io_s h).mpr)
theorem io_f {v a b : Int32} (h : b.toInt = a.toInt + 1) (h1 : ¬ v < 0) (h2 : ¬ a < v) : isOut v b = false := decide_eq_false (fun z => z.elim h1 (fun q => h2 ((io_s h).mp q)))
theorem bnt {b : Bool} (h : b = false) : ¬ b = true := by rw [h]; decide
end HOU
