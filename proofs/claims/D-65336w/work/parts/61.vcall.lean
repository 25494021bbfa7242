/-! CALLS of the class's methods from the class: posts without new cells; a throw that goes on -/
section VCL
variable {p : Program} {l : Launch} {e : Env} {R : Room} {u : State} {m : MethodId} {args : Array Value} {below : List Frame} {meth : Method} {c : Code} {H : Heap} {locs : List Loc} {cells slots : Nat} {Q : State → Prop}
variable {cc : ByteArray} {nL pc : Nat} {ls : Array Slot} {rest : List Value} {D : va_G} {cs : Nat → ClassId} {A : Nat → Prop} {L : List Nat} {f : Nat → va_E} {own : String} {ad : Nat → Nat} {st st' : St}
theorem pw_callS {y : MethodName} {cc' : ByteArray} {nL' : Nat} {ret' : Option FieldType} {rm : Room} {av st0 : List Value} {v : Option Value} (S : CallFix p m c cc nL u args lw_all own) (P : PW D cs A u L f H locs) (hM : PM l D cs y cc' nL' ret' rm av L f (hPostS cs ad st L f (.inl v) st')) (hq : Cond.code y cc' nL' ret' ∈ lw_all) (hini : Cond.initialized y.cls ∈ lw_all)
    (hE : xt_Ent p l e R u m args below meth c H locs cells slots (F0 m pc ls st0) rest y av.toArray) (hls : ls.size = nL) (hroom : (rest.map fun v => v.category).sum ≤ 8) (hR : rm.frames + 1 ≤ R.frames ∧ 8 + (nL' + 11) + rm.locals ≤ R.locals) (hf : cells + rm.cells ≤ R.cells ∧ slots + rm.slots ≤ R.slots)
    (kr : ∀ (H1 : Heap) (locs1 : List Loc) (f' : Nat → va_E), PW D cs A u L f' H1 locs1 → HF cs ad st' L f' → (∀ r, hLive st' r → hLive st r) → (∀ a, ¬ hOwn st ad a → f' a = f a) → W p l e R u m args below meth c H1 locs1 (cells + rm.cells) (slots + rm.slots) Q (F0 m (pc + 3) ls (v.toList ++ rest))) : W p l e R u m args below meth c H locs cells slots Q (F0 m pc ls st0) := by
  refine pw_call S P hM hq hini hE hls hroom hR hf (fun v' L' f' H1 locs1 h P1 => ?_) (fun C x L' f' H1 locs1 h _ _ => ?_)
  · obtain ⟨h1, rfl, h2, h3, h4⟩ := h
    cases h1
    exact kr H1 locs1 f' P1 h2 h3 h4
  · obtain ⟨h1, -⟩ := h
    cases h1
/-- a call that ends in a graph of st', perhaps elsewhere -/
theorem pw_callH {y : MethodName} {cc' : ByteArray} {nL' : Nat} {ret' : Option FieldType} {rm : Room} {av st0 : List Value} {v : Option Value} (S : CallFix p m c cc nL u args lw_all own) (P : PW D cs A u L f H locs) (hM : PM l D cs y cc' nL' ret' rm av L f (hPost cs ad st L f (.inl v) st')) (hq : Cond.code y cc' nL' ret' ∈ lw_all) (hini : Cond.initialized y.cls ∈ lw_all)
    (hE : xt_Ent p l e R u m args below meth c H locs cells slots (F0 m pc ls st0) rest y av.toArray) (hls : ls.size = nL) (hroom : (rest.map fun v => v.category).sum ≤ 8) (hR : rm.frames + 1 ≤ R.frames ∧ 8 + (nL' + 11) + rm.locals ≤ R.locals) (hf : cells + rm.cells ≤ R.cells ∧ slots + rm.slots ≤ R.slots)
    (kr : ∀ (H1 : Heap) (locs1 : List Loc) (L' : List Nat) (f' : Nat → va_E) (ad' : Nat → Nat), PW D cs A u L' f' H1 locs1 → HF cs ad' st' L' f' → (∀ i, i < 34 → hLive st i → ad' i = ad i) → (∀ a, a ∈ L → a ∈ L') → (∀ a, a ∈ L → ¬ hOwn st ad a → f' a = f a ∧ ¬ hOwn st' ad' a) → W p l e R u m args below meth c H1 locs1 (cells + rm.cells) (slots + rm.slots) Q (F0 m (pc + 3) ls (v.toList ++ rest))) : W p l e R u m args below meth c H locs cells slots Q (F0 m pc ls st0) := by
  refine pw_call S P hM hq hini hE hls hroom hR hf (fun v' L' f' H1 locs1 h P1 => ?_) (fun C x L' f' H1 locs1 h _ _ => ?_)
  · obtain ⟨h1, ad', h2, h3, h4, h5⟩ := h
    cases h1
    exact kr H1 locs1 L' f' ad' P1 h2 h3 h4 h5
  · obtain ⟨h1, -⟩ := h
    cases h1
/-- a call that throws, in a method without handlers: the throw goes on -/
theorem pw_callX {y : MethodName} {cc' : ByteArray} {nL' sz mc ms : Nat} {L0 : List Nat} {post0 post : pR → List Nat → (Nat → va_E) → Prop} {ret' : Option FieldType} {rm : Room} {av st0 : List Value} (S : CallFix p m c cc nL u args lw_all own) (P : PW D cs (pA L0 sz) u L f H locs) (hQ : Q = MQT below (PQ D L0 sz post) args u mc ms (pA L0 sz)) (hM : PM l D cs y cc' nL' ret' rm av L f post0) (hq : Cond.code y cc' nL' ret' ∈ lw_all) (hini : Cond.initialized y.cls ∈ lw_all)
    (hE : xt_Ent p l e R u m args below meth c H locs cells slots (F0 m pc ls st0) rest y av.toArray) (htb : c.exceptionTable.toList = []) (hlk : meth.locks = false) (hls : ls.size = nL) (hroom : (rest.map fun v => v.category).sum ≤ 8) (hR : rm.frames + 1 ≤ R.frames ∧ 8 + (nL' + 11) + rm.locals ≤ R.locals) (hf : cells + rm.cells ≤ R.cells ∧ slots + rm.slots ≤ R.slots) (hw : cells + rm.cells ≤ mc ∧ slots + rm.slots ≤ ms)
    (hn : ∀ v L' f', ¬ post0 (.inl v) L' f') (hp : ∀ C L' f', post0 (.inr C) L' f' → post (.inr C) L' f') : W p l e R u m args below meth c H locs cells slots Q (F0 m pc ls st0) := by
  subst hQ
  refine pw_call S P hM hq hini hE hls hroom hR hf (fun v' L' f' H1 locs1 h P1 => absurd h (hn _ _ _)) (fun C' x L' f' H1 locs1 h P1 ht => ?_)
  intro T hT X
  obtain ⟨t, g1, g2⟩ := pw_out (R := R) (args := args) (below := below) (pc := pc) (ls := ls) (rest := rest) (post := post) (cells := mc) (slots := ms) P1 htb hlk ht (hp _ _ _ h) T hT (stand_widen X hw.1 hw.2)
  exact ⟨t, g1, g2⟩
theorem pw_callRm {y : MethodName} {cc' : ByteArray} {nL' t s : Nat} {ret' : Option FieldType} {rm : Room} {av st0 : List Value} (S : CallFix p m c cc nL u args lw_all own) (P : PW D cs A u L f H locs) (hM : PM l D cs y cc' nL' ret' rm av L f (hPostR cs ad st L f t s)) (hq : Cond.code y cc' nL' ret' ∈ lw_all) (hini : Cond.initialized y.cls ∈ lw_all)
    (hE : xt_Ent p l e R u m args below meth c H locs cells slots (F0 m pc ls st0) rest y av.toArray) (hls : ls.size = nL) (hroom : (rest.map fun v => v.category).sum ≤ 8) (hR : rm.frames + 1 ≤ R.frames ∧ 8 + (nL' + 11) + rm.locals ≤ R.locals) (hf : cells + rm.cells ≤ R.cells ∧ slots + rm.slots ≤ R.slots)
    (kr : ∀ (H1 : Heap) (locs1 : List Loc) (f' : Nat → va_E), PW D cs A u L f' H1 locs1 → HF cs ad (sI (s_remove st t s) 1 t 0) L f' → f' (ad (34 + t)) = f (ad (34 + t)) → (∀ a, ¬ hOwn st ad a → f' a = f a) → W p l e R u m args below meth c H1 locs1 (cells + rm.cells) (slots + rm.slots) Q (F0 m (pc + 3) ls rest)) : W p l e R u m args below meth c H locs cells slots Q (F0 m pc ls st0) := by
  refine pw_call S P hM hq hini hE hls hroom hR hf (fun v' L' f' H1 locs1 h P1 => ?_) (fun C x L' f' H1 locs1 h _ _ => ?_)
  · obtain ⟨h1, rfl, h2, h3, h4⟩ := h
    cases h1
    exact kr H1 locs1 f' P1 h2 h3 h4
  · obtain ⟨h1, -⟩ := h
    cases h1
theorem pw_callA {y : MethodName} {cc' : ByteArray} {nL' t w : Nat} {ret' : Option FieldType} {rm : Room} {av st0 : List Value} (S : CallFix p m c cc nL u args lw_all own) (P : PW D cs A u L f H locs) (hM : PM l D cs y cc' nL' ret' rm av L f (hPostA cs ad st L f st' t w)) (hq : Cond.code y cc' nL' ret' ∈ lw_all) (hini : Cond.initialized y.cls ∈ lw_all)
    (hE : xt_Ent p l e R u m args below meth c H locs cells slots (F0 m pc ls st0) rest y av.toArray) (hls : ls.size = nL) (hroom : (rest.map fun v => v.category).sum ≤ 8) (hR : rm.frames + 1 ≤ R.frames ∧ 8 + (nL' + 11) + rm.locals ≤ R.locals) (hf : cells + rm.cells ≤ R.cells ∧ slots + rm.slots ≤ R.slots)
    (kr : ∀ (H1 : Heap) (locs1 : List Loc) (f' : Nat → va_E), PW D cs A u L f' H1 locs1 → HF cs (va_up ad (34 + t) w) st' L f' → (∀ a, a ≠ w → ¬ hOwn st ad a → f' a = f a ∧ ¬ hOwn st' (va_up ad (34 + t) w) a) → W p l e R u m args below meth c H1 locs1 (cells + rm.cells) (slots + rm.slots) Q (F0 m (pc + 3) ls rest)) : W p l e R u m args below meth c H locs cells slots Q (F0 m pc ls st0) := by
  refine pw_call S P hM hq hini hE hls hroom hR hf (fun v' L' f' H1 locs1 h P1 => ?_) (fun C x L' f' H1 locs1 h _ _ => ?_)
  · obtain ⟨h1, rfl, h2, h3⟩ := h
    cases h1
    exact kr H1 locs1 f' P1 h2 h3
  · obtain ⟨h1, -⟩ := h
    cases h1
theorem va_Decl_in {x : MethodName} {b : ByteArray} {k : Nat} {ret : Option FieldType} (S : CallFix p m c cc nL u args lw_all own) (hi : Cond.instanceMethod x ∈ lw_all) (hc : Cond.code x b k ret ∈ lw_all) : va_Decl u x := va_Decl.of (S.2.2.2.2 _ hi) (S.2.2.2.2 _ hc)
end VCL
