theorem pr_noPerson {x : Int32} {z : CZ} {r : Int32 × CZ} (h : c_noPerson x z = some r) : r.2 = z := by
  unfold c_noPerson at h
  obtain ⟨q, _, h⟩ := bnd h
  split at h
  · obtain ⟨_, _, h⟩ := bnd h; cases h; rfl
  · obtain ⟨_, _, h⟩ := bnd h; cases h; rfl
theorem zl_hz {v : Int32} (h : v = 0 ∨ v = 1) : narrow .boolean (.int v) = .int v ∧ fits .boolean (.int v) = true := by
  rcases h with rfl | rfl <;> exact ⟨rfl, rfl⟩
