/-! THE FIRST STATE -/
def st0 : St := (fun k j => if k = 4 ∨ k = 5 then (if j < 6 then -1 else 0) else if k = 12 ∨ k = 13 then (if j < 8 then -1 else 0) else 0, fun _ _ => FP.dconst0, fun _ => [])
theorem st0_5 {t : Nat} (ht : t < 6) : st0.1 5 t = -1 := if_pos ht
theorem st0_4 {t : Nat} (ht : t < 6) : st0.1 4 t = -1 := if_pos ht
theorem st0_12 {s : Nat} (hs : s < 8) : st0.1 12 s = -1 := if_pos hs
theorem st0_13 {s : Nat} (hs : s < 8) : st0.1 13 s = -1 := if_pos hs
theorem ok0 : Ok 0 st0 := by
  refine ⟨fun s hs => ⟨⟨Or.inl (st0_12 hs), Or.inl (st0_13 hs), fun _ _ _ => st0_13 hs, fun q => absurd ((st0_12 hs).symm.trans q) (by decide), ⟨0, by decide, rfl, fun _ _ _ => rfl⟩, fun _ => ⟨rfl, rfl, rfl⟩⟩, fun _ => Or.inl ⟨st0_13 hs, rfl⟩, List.nodup_nil, fun t ht => ⟨0, rfl, Nat.le_refl 0, fun _ => rfl⟩, fun t ht => absurd ht (List.not_mem_nil)⟩, fun t ht => ⟨Or.inl ⟨rfl, st0_5 ht⟩, Or.inl rfl⟩, fun j hj => Or.inl rfl, Or.inl rfl, fb_0, fun _ _ => fb_0, fun _ _ => fb_0⟩
