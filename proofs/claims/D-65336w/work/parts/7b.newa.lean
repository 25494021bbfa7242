/-! new arrays; a method that looks and leaves new cells behind -/
def pRN (L : List Nat) (f : Nat → va_E) (v : Option Value) : pR → List Nat → (Nat → va_E) → Prop := fun r L' f' => r = .inl v ∧ (∀ a, a ∈ L → a ∈ L') ∧ ∀ a, a ∈ L → f' a = f a
section NWA
variable {p : Program} {l : Launch} {e : Env} {R : Room} {u : State} {m : MethodId} {args : Array Value} {below : List Frame} {meth : Method} {c : Code} {H : Heap} {locs : List Loc} {cells slots : Nat} {Q : State → Prop}
variable {cc : ByteArray} {nL pc : Nat} {ls : Array Slot} {rest : List Value} {D : va_G} {cs : Nat → ClassId} {A : Nat → Prop} {L : List Nat} {f : Nat → va_E} {own : String}
theorem pw_newa {atype : ArrayType} {ty : FieldType} (t0 : Nat) {n : Int32} {N' : Nat} {a0 : vp_A} (S : CallFix p m c cc nL u args lw_all own) (P : PW D cs A u L f H locs) (hq : Cond.arrayClass (newarray.typeOf atype) ∈ lw_all) (hty : newarray.typeOf atype = ty) (ht0 : (tyL cs)[t0]? = some (cs t0, ty)) (huq : ∀ a b : ClassId, va_RA u a ty → va_RA u b ty → a = b)
    (ha : ∀ cA : ClassId, vp_cell cA a0 = arrV cA N' (fun _ => defaultValue ty)) (hn : ¬ n < 0) (hN : n.toNatClampNeg = N') (hbytes : N' * componentBytes ty ≤ 536870912) (hcells : cells + 1 ≤ R.cells) (hslots : slots + N' ≤ R.slots) (hdg : decode cc pc = .ok (.newarray atype, 2))
    (kk : ∀ (x : Nat) (H1 : Heap) (f' : Nat → va_E), x ∉ L → x ∈ L ++ [x] → (∀ a, a ∈ L → a ∈ L ++ [x]) → f' x = .inl (cs t0, a0) → (∀ a, a ≠ x → f' a = f a) → PW D cs A u (L ++ [x]) f' H1 locs → W p l e R u m args below meth c H1 locs (cells + 1) (slots + N') Q (F0 m (pc + 2) ls (.ref x :: rest))) : W p l e R u m args below meth c H locs cells slots Q (F0 m pc ls (.int n :: rest)) := by
  refine va_newa S.1 S.2.1 (S.2.2.2.2 _ hq) hty P.2.2.2.2.2.2 P.1 P.2.1 P.2.2.1 P.2.2.2.1 ha hn hN hbytes hcells hslots hdg (fun x cA H1 g0 g1 g2 g3 => ?_)
  have hx : x ∉ L := va_pl_fresh2 (X := []) g2
  have hc : cA = cs t0 := huq _ _ (g0.2 (tyL cs).length (cA, ty) (by rw [List.getElem?_append_right (Nat.le_refl _), Nat.sub_self]; rfl)).2 (P.2.2.2.2.2.2.2 t0 _ ht0).2
  subst hc
  rw [va_pl_push hx] at g1 g2
  exact kk x H1 _ hx (List.mem_append_right _ List.mem_cons_self) (fun _ h => List.mem_append_left _ h) (by simp [va_up]) (fun b hb => by simp [va_up, hb]) (P.to g1 g2 g3)
theorem ra_z {a b : ClassId} (h1 : va_RA u a .boolean) (h2 : va_RA u b .boolean) : a = b := Option.some.inj ((show u.vm.findClass _ = some a from h1).symm.trans h2)
theorem ra_i {a b : ClassId} (h1 : va_RA u a .int) (h2 : va_RA u b .int) : a = b := Option.some.inj ((show u.vm.findClass _ = some a from h1).symm.trans h2)
theorem ra_d {a b : ClassId} (h1 : va_RA u a .double) (h2 : va_RA u b .double) : a = b := Option.some.inj ((show u.vm.findClass _ = some a from h1).symm.trans h2)
theorem ra_l {a b : ClassId} (h1 : va_RA u a .long) (h2 : va_RA u b .long) : a = b := Option.some.inj ((show u.vm.findClass _ = some a from h1).symm.trans h2)
theorem pw_callRN {y : MethodName} {cc' : ByteArray} {nL' : Nat} {ret' : Option FieldType} {rm : Room} {av st0 : List Value} {v : Option Value} (S : CallFix p m c cc nL u args lw_all own) (P : PW D cs A u L f H locs) (hM : PM l D cs y cc' nL' ret' rm av L f (pRN L f v)) (hq : Cond.code y cc' nL' ret' ∈ lw_all) (hini : Cond.initialized y.cls ∈ lw_all)
    (hE : xt_Ent p l e R u m args below meth c H locs cells slots (F0 m pc ls st0) rest y av.toArray) (hls : ls.size = nL) (hroom : (rest.map fun v => v.category).sum ≤ 8) (hR : rm.frames + 1 ≤ R.frames ∧ 8 + (nL' + 11) + rm.locals ≤ R.locals) (hf : cells + rm.cells ≤ R.cells ∧ slots + rm.slots ≤ R.slots)
    (kr : ∀ (H1 : Heap) (locs1 : List Loc) (L' : List Nat) (f' : Nat → va_E), PW D cs A u L' f' H1 locs1 → (∀ a, a ∈ L → a ∈ L') → (∀ a, a ∈ L → f' a = f a) → W p l e R u m args below meth c H1 locs1 (cells + rm.cells) (slots + rm.slots) Q (F0 m (pc + 3) ls (v.toList ++ rest))) : W p l e R u m args below meth c H locs cells slots Q (F0 m pc ls st0) := by
  refine pw_call S P hM hq hini hE hls hroom hR hf (fun v' L' f' H1 locs1 h P1 => ?_) (fun C x L' f' H1 locs1 h _ _ => ?_)
  · obtain ⟨h1, h2, h3⟩ := h
    cases h1
    exact kr H1 locs1 L' f' P1 h2 h3
  · obtain ⟨h1, -⟩ := h
    cases h1
theorem hz_st {a n j : Nat} {g : Nat → Int32} {x : Int32} (S : CallFix p m c cc nL u args lw_all own) (P : PW D cs A u L f H locs) (ha : a ∈ L) (hf : f a = .inl (cs 1, n, .inl g)) (hj : j < n) (hn : n < 2 ^ 31) (hx : x = 0 ∨ x = 1) (hdg : decode cc pc = .ok (.bastore, 1))
    (kk : ∀ (H1 : Heap) (locs1 : List Loc) (f' : Nat → va_E), PW D cs A u L f' H1 locs1 → f' a = .inl (cs 1, n, .inl (upd g j x)) → (∀ b, b ≠ a → f' b = f b) → W p l e R u m args below meth c H1 locs1 cells slots Q (F0 m (pc + 1) ls rest)) : W p l e R u m args below meth c H locs cells slots Q (F0 m pc ls (.int x :: .int (nI j) :: .ref a :: rest)) :=
  pw_zast S P ha hf rfl hj hn (by rcases hx with rfl | rfl <;> decide) hdg (fun H1 locs1 P1 => kk H1 locs1 _ P1 (by simp [va_up]) (fun b hb => by simp [va_up, hb]))
end NWA
