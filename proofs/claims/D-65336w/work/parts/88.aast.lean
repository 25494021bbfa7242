/-! a sync into Sync[] -/
section AST
variable {p : Program} {l : Launch} {e : Env} {R : Room} {s : State} {m : MethodId} {args : Array Value} {below : List Frame} {meth : Method} {c : Code} {H : Heap} {locs : List Loc} {cells slots : Nat} {Q : State → Prop}
variable {cc : ByteArray} {nL pc : Nat} {ls : Array Slot} {rest : List Value} {D : va_G} {cs : Nat → ClassId} {A : Nat → Prop} {a : Nat} {L : List Nat} {f : Nat → va_E} {own : String}
theorem pw_astS {n j v ci : Nat} {vs : List Value} {r : vw_C} {g : Nat → Option Nat} (S : CallFix p m c cc nL s args lw_all own) (P : PW D cs A s L f H locs) (ha : a ∈ L) (hf : f a = .inl (cs 4, n, .inr (.inr (.inr (.inr g))))) (hv : v ∈ L) (hfv : f v = .inr (ci, vs)) (hc : vwCl[ci]? = some r) (hcast : va_Nw (.castable r.1 "SyncHall$Sync") s) (hj : j < n) (hn : n < 2 ^ 31) (hdg : decode cc pc = .ok (.aastore, 1))
    (kk : ∀ (H1 : Heap) (locs1 : List Loc), PW D cs A s L (va_up f a (.inl (cs 4, n, .inr (.inr (.inr (.inr (va_up g j (some v)))))))) H1 locs1 → W p l e R s m args below meth c H1 locs1 cells slots Q (F0 m (pc + 1) ls rest)) : W p l e R s m args below meth c H locs cells slots Q (F0 m pc ls (.ref v :: .int (nI j) :: .ref a :: rest)) := by
  obtain ⟨q0, hq0⟩ := P.get ha
  have hq0' := hq0
  rw [hf] at hq0
  obtain ⟨hin, hcl⟩ := pw_cl (i := nI j) rfl hj hn
  obtain ⟨cellV, g1, g3, g2⟩ := P.recv hv hfv hc
  obtain ⟨kA, comp, k1, k2, k3, -⟩ := (P.2.2.2.2.2.2.2 4 _ rfl).2
  obtain ⟨c0, t0, f1, f2, f3⟩ := Cond.castable_spec (va_Nw.use (A := args) rfl hcast)
  cases f1.symm.trans g2
  cases f2.symm.trans k3
  obtain ⟨kC, hkC, -⟩ := Vm.findClass_spec k3
  obtain ⟨kV, hkV, -⟩ := Vm.findClass_spec g2
  have h0 : ¬ nI j < 0 := fun q => hin (Or.inl q)
  have hlt : (nI j).toNatClampNeg < n := by rw [hcl]; exact hj
  refine W.aast S.1 S.2.1 (P.1 q0 _ hq0) (fun q h => by cases h) (fun h => by cases h) k1 k2 rfl hkC ⟨h0, by show _ < (arrV _ _ _).slots.size; rw [arrV_size]; exact hlt⟩ g1 (fun q h => by rw [h] at g3; cases g3) hkV f3 rfl rfl hdg fun H1 e z oq => ?_
  have hset := P.set (x := .inl (cs 4, n, .inr (.inr (.inr (.inr (va_up g j (some v))))))) ha hq0'
  refine kk H1 _ (P.to (by rw [← hset]; exact P.1.set P.2.1 hq0 (by
    show H1[a]? = some (vp_cell _ _)
    rw [e]
    rw [vp_cell_q, vp_cell_q, arrV_store, hcl]
    congr 2
    funext q
    by_cases hq : q = j
    · subst hq
      simp [updV, va_up, va_rf]
    · simp [updV, va_up, hq]) oq) (by rw [← hset]; exact P.2.1.set hq0) (P.2.2.1.put z oq (P.2.1.2 q0 _ hq0)))
end AST
