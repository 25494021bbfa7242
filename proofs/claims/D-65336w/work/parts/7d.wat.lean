/-! watch: its end; marks -/
def hPostL (cs : Nat → ClassId) (ad : Nat → Nat) (st : St) (L : List Nat) (f : Nat → va_E) (o : pR) (st' : St) : pR → List Nat → (Nat → va_E) → Prop := fun r L' f' =>
  r = o ∧ HF cs ad st' L' f' ∧ (∀ a, a ∈ L → a ∈ L') ∧ ∀ a, a ∈ L → ¬ hOwn st ad a → f' a = f a
def hWOut (st : St) (b : Bool) : pR := if b = true then .inl none else .inr "java/lang/UnsupportedOperationException"
section WAT
variable {p : Program} {l : Launch} {e : Env} {R : Room} {u : State} {m : MethodId} {args : Array Value} {below : List Frame} {meth : Method} {c : Code} {H : Heap} {locs : List Loc} {cells slots : Nat} {Q : State → Prop}
variable {cc : ByteArray} {nL pc : Nat} {ls : Array Slot} {rest : List Value} {D : va_G} {cs : Nat → ClassId} {A : Nat → Prop} {L : List Nat} {f : Nat → va_E} {own : String} {ad : Nat → Nat} {st st' : St}
theorem Ok.mkN {n t s o : Nat} (h : Ok n st) : Ok n (s_markN st t s o) := ⟨h.1, h.2.1, s_markN_01 h.2.2.1, h.2.2.2.1, h.2.2.2.2⟩
theorem pw_callL {y : MethodName} {cc' : ByteArray} {nL' : Nat} {ret' : Option FieldType} {rm : Room} {av st0 : List Value} {v : Option Value} (S : CallFix p m c cc nL u args lw_all own) (P : PW D cs A u L f H locs) (hM : PM l D cs y cc' nL' ret' rm av L f (hPostL cs ad st L f (.inl v) st')) (hq : Cond.code y cc' nL' ret' ∈ lw_all) (hini : Cond.initialized y.cls ∈ lw_all)
    (hE : xt_Ent p l e R u m args below meth c H locs cells slots (F0 m pc ls st0) rest y av.toArray) (hls : ls.size = nL) (hroom : (rest.map fun v => v.category).sum ≤ 8) (hR : rm.frames + 1 ≤ R.frames ∧ 8 + (nL' + 11) + rm.locals ≤ R.locals) (hf : cells + rm.cells ≤ R.cells ∧ slots + rm.slots ≤ R.slots)
    (kr : ∀ (H1 : Heap) (locs1 : List Loc) (L' : List Nat) (f' : Nat → va_E), PW D cs A u L' f' H1 locs1 → HF cs ad st' L' f' → (∀ a, a ∈ L → a ∈ L') → (∀ a, a ∈ L → ¬ hOwn st ad a → f' a = f a) → W p l e R u m args below meth c H1 locs1 (cells + rm.cells) (slots + rm.slots) Q (F0 m (pc + 3) ls (v.toList ++ rest))) : W p l e R u m args below meth c H locs cells slots Q (F0 m pc ls st0) := by
  refine pw_call S P hM hq hini hE hls hroom hR hf (fun v' L' f' H1 locs1 h P1 => ?_) (fun C x L' f' H1 locs1 h _ _ => ?_)
  · obtain ⟨h1, h2, h3, h4⟩ := h
    cases h1
    exact kr H1 locs1 L' f' P1 h2 h3 h4
  · obtain ⟨h1, -⟩ := h
    cases h1
theorem od_free {t s : Nat} (h : s_free st t s = true) : s_ordered st t s = (true, st) := by unfold s_ordered; rw [if_pos h]
theorem od_no {t s : Nat} (h : ¬ s_free st t s = true) (hw : s_warn st t s = false) : s_ordered st t s = (true, s_mark st t s) := by unfold s_ordered; rw [if_neg h, if_neg (by rw [hw]; decide)]
theorem od_w1 {t s : Nat} (h : ¬ s_free st t s = true) (hw : s_warn st t s = true) (hp : st.1 24 0 = 1) : s_ordered st t s = (true, s_mark (sI st 25 0 (st.1 25 0 + 1)) t s) := by unfold s_ordered; rw [if_neg h, if_pos hw, if_neg (by rw [hp]; decide)]
theorem od_w2 {n t s : Nat} (ho : Ok n st) (h : ¬ s_free st t s = true) (hw : s_warn st t s = true) (hp : ¬ st.1 24 0 = 1) (hp0 : ¬ st.1 24 0 = 0) : s_ordered st t s = (false, sI st 25 0 (st.1 25 0 + 1)) := by
  unfold s_ordered
  rw [if_neg h, if_pos hw, if_pos (by rcases ho.2.2.2.1 with q | q | q; exact absurd q hp0; exact absurd q hp; exact q)]
theorem wEnd {t s : Nat} {r : Bool × St} {L' : List Nat} {f' : Nat → va_E} {o : pR} (e : s_ordered st t s = r) (h : hPostL cs ad st L f (hWOut st r.1) r.2 o L' f') : hPostL cs ad st L f (hWOut st (s_ordered st t s).1) (s_ordered st t s).2 o L' f' := by rw [e]; exact h
end WAT
