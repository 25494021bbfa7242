/-! a new sync -/
/-- Shared's constructor: its own array -/
def pInA (cs : Nat → ClassId) (L : List Nat) (f : Nat → va_E) (a : Nat) : pR → List Nat → (Nat → va_E) → Prop := fun r L' f' => r = .inl none ∧ ∃ y, y ∉ L ∧ L' = L ++ [y] ∧ f' a = .inr (6, [.null, .double 0, .int 0, .null, .int 0, .ref y]) ∧ f' y = .inl (cs 0, 6, .inl (fun _ => 0)) ∧ ∀ b, b ≠ a → b ≠ y → f' b = f b
/-- what a new sync of a kind holds -/
def hNew (k : Nat) (v : Int32) (b y : Nat) : va_E :=
  if k = 0 ∨ k = 1 then .inr (3, [.null, .double 0, .int 0, .int (bI (decide (k = 1))), .null, .int 0])
  else if k = 2 ∨ k = 3 then .inr (4, [.null, .double 0, .int 0, .int (bI (decide (k = 3))), .int v])
  else if k = 4 then .inr (5, [.null, .double 0, .int 0, .int v])
  else if k = 5 then .inr (6, [.null, .double 0, .int 0, .null, .int 0, .ref y])
  else .inr (7, [.null, .double 0, .int 0, .ref b])
def pMade (cs : Nat → ClassId) (L : List Nat) (f : Nat → va_E) (k : Nat) (v : Int32) (b : Nat) : pR → List Nat → (Nat → va_E) → Prop := fun r L' f' => ∃ x y, r = .inl (some (.ref x)) ∧ x ∉ L ∧ x ∈ L' ∧ (∀ a, a ∈ L → a ∈ L') ∧ (∀ a, a ∈ L → f' a = f a) ∧ f' x = hNew k v b y ∧ (k = 5 → y ∉ L ∧ y ∈ L' ∧ y ≠ x ∧ f' y = .inl (cs 0, 6, .inl (fun _ => 0)))
section NSY
variable {p : Program} {l : Launch} {e : Env} {R : Room} {u : State} {m : MethodId} {args : Array Value} {below : List Frame} {meth : Method} {c : Code} {H : Heap} {locs : List Loc} {cells slots : Nat} {Q : State → Prop}
variable {cc : ByteArray} {nL pc : Nat} {ls : Array Slot} {rest : List Value} {D : va_G} {cs : Nat → ClassId} {A : Nat → Prop} {L : List Nat} {f : Nat → va_E} {own : String} {a : Nat}
theorem pw_callIA {y : MethodName} {cc' : ByteArray} {nL' : Nat} {ret' : Option FieldType} {rm : Room} {av st0 : List Value} (S : CallFix p m c cc nL u args lw_all own) (P : PW D cs A u L f H locs) (hM : PM l D cs y cc' nL' ret' rm av L f (pInA cs L f a)) (hq : Cond.code y cc' nL' ret' ∈ lw_all) (hini : Cond.initialized y.cls ∈ lw_all)
    (hE : xt_Ent p l e R u m args below meth c H locs cells slots (F0 m pc ls st0) rest y av.toArray) (hls : ls.size = nL) (hroom : (rest.map fun v => v.category).sum ≤ 8) (hR : rm.frames + 1 ≤ R.frames ∧ 8 + (nL' + 11) + rm.locals ≤ R.locals) (hf : cells + rm.cells ≤ R.cells ∧ slots + rm.slots ≤ R.slots)
    (kr : ∀ (H1 : Heap) (locs1 : List Loc) (y : Nat) (f' : Nat → va_E), PW D cs A u (L ++ [y]) f' H1 locs1 → y ∉ L → f' a = .inr (6, [.null, .double 0, .int 0, .null, .int 0, .ref y]) → f' y = .inl (cs 0, 6, .inl (fun _ => 0)) → (∀ b, b ≠ a → b ≠ y → f' b = f b) → W p l e R u m args below meth c H1 locs1 (cells + rm.cells) (slots + rm.slots) Q (F0 m (pc + 3) ls rest)) : W p l e R u m args below meth c H locs cells slots Q (F0 m pc ls st0) := by
  refine pw_call S P hM hq hini hE hls hroom hR hf (fun v' L' f' H1 locs1 h P1 => ?_) (fun C x L' f' H1 locs1 h _ _ => ?_)
  · obtain ⟨h1, y, h2, rfl, h3, h4, h5⟩ := h
    cases h1
    exact kr H1 locs1 y f' P1 h2 h3 h4 h5
  · obtain ⟨h1, -⟩ := h
    cases h1
end NSY
