/-! new objects: their fields, their constructors -/
def pIn (L : List Nat) (f : Nat → va_E) (a : Nat) (E : va_E) : pR → List Nat → (Nat → va_E) → Prop := fun r L' f' => r = .inl none ∧ L' = L ∧ f' a = E ∧ ∀ b, b ≠ a → f' b = f b
section CTO
variable {p : Program} {l : Launch} {e : Env} {R : Room} {u : State} {m : MethodId} {args : Array Value} {below : List Frame} {meth : Method} {c : Code} {H : Heap} {locs : List Loc} {cells slots : Nat} {Q : State → Prop}
variable {cc : ByteArray} {nL pc : Nat} {ls : Array Slot} {rest : List Value} {D : va_G} {cs : Nat → ClassId} {A : Nat → Prop} {L : List Nat} {f : Nat → va_E} {own : String} {ad : Nat → Nat} {st st' : St} {a : Nat}
theorem hq_put (S : CallFix p m c cc nL u args lw_all own) (P : PW D cs A u L f H locs) (ha : a ∈ L) {ci k idx : Nat} {ref : String} {fs : List Value} {q : vw_C} {v : Value} (hf : f a = .inr (ci, fs)) (hc : vwCl[ci]? = some q) (hk : k < q.2.2) (hlink : Cond.fieldLink own idx ref (q.2.1 k).2.1 (q.2.1 k).2.2.1 ∈ lw_all) (hs : (q.2.1 k).1 = ref ∨ Cond.sameField ref (q.2.1 k).1 (q.2.1 k).2.1 (q.2.1 k).2.2.1 ∈ lw_all) (hfin : (q.2.1 k).2.2.2 = false) (hn : narrow (clT ci k) v = v) (hfit : fits (clT ci k) v = true) (hl : k < fs.length) (hdg : decode cc pc = .ok (.putfield idx, 3))
    (kk : ∀ (H1 : Heap) (locs1 : List Loc) (f' : Nat → va_E), PW D cs A u L f' H1 locs1 → f' a = .inr (ci, fs.set k v) → (∀ b, b ≠ a → f' b = f b) → W p l e R u m args below meth c H1 locs1 cells slots Q (F0 m (pc + 3) ls rest)) : W p l e R u m args below meth c H locs cells slots Q (F0 m pc ls (v :: .ref a :: rest)) :=
  pw_put S P ha hf hc hk hlink hs hfin hn hfit hl hdg (fun H1 locs1 P1 => kk H1 locs1 _ P1 (by simp [va_up]) (fun b hb => by simp [va_up, hb]))
theorem hq_putF (S : CallFix p m c cc nL u args lw_all own) (P : PW D cs A u L f H locs) (ha : a ∈ L) {ci k idx : Nat} {ref : String} {fs : List Value} {q : vw_C} {v : Value} (hf : f a = .inr (ci, fs)) (hc : vwCl[ci]? = some q) (hk : k < q.2.2) (hlink : Cond.fieldLink own idx ref (q.2.1 k).2.1 (q.2.1 k).2.2.1 ∈ lw_all) (hs : (q.2.1 k).1 = ref) (hfin : (q.2.1 k).2.2.2 = true) (hin2 : meth.name = "<init>") (hdecl : (q.2.1 k).1 = own) (hn : narrow (clT ci k) v = v) (hfit : fits (clT ci k) v = true) (hl : k < fs.length) (hdg : decode cc pc = .ok (.putfield idx, 3))
    (kk : ∀ (H1 : Heap) (locs1 : List Loc) (f' : Nat → va_E), PW D cs A u L f' H1 locs1 → f' a = .inr (ci, fs.set k v) → (∀ b, b ≠ a → f' b = f b) → W p l e R u m args below meth c H1 locs1 cells slots Q (F0 m (pc + 3) ls rest)) : W p l e R u m args below meth c H locs cells slots Q (F0 m pc ls (v :: .ref a :: rest)) :=
  pw_putF S P ha hf hc hk hlink hs hfin hin2 hdecl hn hfit hl hdg (fun H1 locs1 P1 => kk H1 locs1 _ P1 (by simp [va_up]) (fun b hb => by simp [va_up, hb]))
theorem pw_callI {y : MethodName} {cc' : ByteArray} {nL' : Nat} {ret' : Option FieldType} {rm : Room} {av st0 : List Value} {E : va_E} (S : CallFix p m c cc nL u args lw_all own) (P : PW D cs A u L f H locs) (hM : PM l D cs y cc' nL' ret' rm av L f (pIn L f a E)) (hq : Cond.code y cc' nL' ret' ∈ lw_all) (hini : Cond.initialized y.cls ∈ lw_all)
    (hE : xt_Ent p l e R u m args below meth c H locs cells slots (F0 m pc ls st0) rest y av.toArray) (hls : ls.size = nL) (hroom : (rest.map fun v => v.category).sum ≤ 8) (hR : rm.frames + 1 ≤ R.frames ∧ 8 + (nL' + 11) + rm.locals ≤ R.locals) (hf : cells + rm.cells ≤ R.cells ∧ slots + rm.slots ≤ R.slots)
    (kr : ∀ (H1 : Heap) (locs1 : List Loc) (f' : Nat → va_E), PW D cs A u L f' H1 locs1 → f' a = E → (∀ b, b ≠ a → f' b = f b) → W p l e R u m args below meth c H1 locs1 (cells + rm.cells) (slots + rm.slots) Q (F0 m (pc + 3) ls rest)) : W p l e R u m args below meth c H locs cells slots Q (F0 m pc ls st0) := by
  refine pw_call S P hM hq hini hE hls hroom hR hf (fun v' L' f' H1 locs1 h P1 => ?_) (fun C x L' f' H1 locs1 h _ _ => ?_)
  · obtain ⟨h1, rfl, h2, h3⟩ := h
    cases h1
    exact kr H1 locs1 f' P1 h2 h3
  · obtain ⟨h1, -⟩ := h
    cases h1
theorem HF.ext {L' : List Nat} {f' : Nat → va_E} (h : HF cs ad st L f) (hL : ∀ a, a ∈ L → a ∈ L') (hf : ∀ a, a ∈ L → f' a = f a) : HF cs ad st L' f' :=
  ⟨fun r hr => ⟨hL _ (h.mem hr), (hf _ (h.mem hr)).trans (h.eq hr)⟩, h.2⟩
theorem HF.nown (h : HF cs ad st L f) {x : Nat} (hx : x ∉ L) : ¬ hOwn st ad x := fun ⟨_, hr, e⟩ => hx (e ▸ h.mem hr)
/-- the world with a new cell -/
theorem hq_new (S : CallFix p m c cc nL u args lw_all own) (P : PW D cs A u L f H locs) {ci idx : Nat} {q : vw_C} {fs : List Value} (hc : vwCl[ci]? = some q) (hcl : Cond.classLink own idx q.1 ∈ lw_all) (hinst : Cond.instantiable q.1 q.2.2 ∈ lw_all) (hini : Cond.initialized q.1 ∈ lw_all) (hfs : ∀ j, j < q.2.2 → defaultValue (clT ci j) = vp_V fs j) (hcells : cells + 1 ≤ R.cells) (hslots : slots + q.2.2 ≤ R.slots) (hdg : decode cc pc = .ok (.new idx, 3))
    (kk : ∀ (x : Nat) (H1 : Heap) (f' : Nat → va_E), x ∉ L → x ∈ L ++ [x] → (∀ a, a ∈ L → a ∈ L ++ [x]) → f' x = .inr (ci, fs) → (∀ a, a ≠ x → f' a = f a) → PW D cs A u (L ++ [x]) f' H1 locs → W p l e R u m args below meth c H1 locs (cells + 1) (slots + q.2.2) Q (F0 m (pc + 3) ls (.ref x :: rest))) : W p l e R u m args below meth c H locs cells slots Q (F0 m pc ls rest) :=
  pw_new S P hc hcl hinst hini hfs hcells hslots hdg (fun x H1 hx P1 => kk x H1 _ hx (List.mem_append_right _ List.mem_cons_self) (fun _ h => List.mem_append_left _ h) (by simp [va_up]) (fun b hb => by simp [va_up, hb]) P1)
end CTO
