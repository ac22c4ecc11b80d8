/-! what only reads leaves the state alone -/
theorem pr_noteOf {a b : Int32} {z : CZ} {r : Int32 × CZ} (h : c_noteOf a b z = some r) : r.2 = z := by
  unfold c_noteOf at h; obtain ⟨_, h⟩ := gd_some h; cases h; rfl
theorem pr_d5L {i : Nat} {x : Int32} : ∀ (n : Nat) (y2 y3 : Int32) (z : CZ) (r : Int32 × CZ), c5_debtIn_L4 i x n y2 y3 z = some r → r.2 = z := by
  intro n
  induction n with
  | zero => intro y2 y3 z r h; cases h
  | succ n ih =>
    intro y2 y3 z r h
    unfold c5_debtIn_L4 at h
    obtain ⟨_, h⟩ := gd_some h
    split at h
    · cases h; rfl
    · obtain ⟨_, h⟩ := gd_some h
      obtain ⟨_, h⟩ := gd_some h
      obtain ⟨r30, h1, h⟩ := bnd h
      obtain ⟨r35, h2, h⟩ := bnd h
      have e1 := pr_noteOf h1
      unfold jn at h
      split at h
      · rw [ih _ _ _ _ h, e1]
      · obtain ⟨_, h⟩ := gd_some h
        rw [ih _ _ _ _ h, e1]
theorem pr_d5 {i : Nat} {x : Int32} {z : CZ} {r : Int32 × CZ} (h : c5_debtIn i x z = some r) : r.2 = z := pr_d5L _ _ _ _ _ h
theorem pr_pd {i : Nat} {x : Int32} {z : CZ} {r : Int32 × CZ} (h : c6_plainDebt i x z = some r) : r.2 = z := by
  unfold c6_plainDebt at h
  obtain ⟨_, h⟩ := gd_some h
  obtain ⟨_, h⟩ := gd_some h
  obtain ⟨q, h1, h⟩ := bnd h
  cases h; exact pr_d5 h1
theorem pr_d6 {i : Nat} {x : Int32} {z : CZ} {r : Int32 × CZ} (h : c6_debtIn i x z = some r) : r.2 = z := by
  unfold c6_debtIn at h
  obtain ⟨_, h⟩ := gd_some h
  obtain ⟨_, h⟩ := gd_some h
  obtain ⟨q, h1, h⟩ := bnd h
  cases h; exact (pr_pd h1 : q.2 = z)
theorem pr_d7 {i : Nat} {x : Int32} {z : CZ} {r : Int32 × CZ} (h : c7_debtIn i x z = some r) : r.2 = z := by
  unfold c7_debtIn at h
  obtain ⟨_, h⟩ := gd_some h
  obtain ⟨_, h⟩ := gd_some h
  obtain ⟨q, h1, h⟩ := bnd h
  cases h; exact (pr_pd h1 : q.2 = z)
theorem pr_pullL {x : Int32} : ∀ (n : Nat) (y2 y3 y4 : Int32) (z : CZ) (r : Int32 × CZ), c_pulling_L7 x n y2 y3 y4 z = some r → r.2 = z := by
  intro n
  induction n with
  | zero => intro y2 y3 y4 z r h; cases h
  | succ n ih =>
    intro y2 y3 y4 z r h
    unfold c_pulling_L7 at h
    split at h
    · cases h; rfl
    · obtain ⟨r24, h2, h⟩ := bnd h
      unfold jn at h
      simp only [jn] at h
      split at h
      · split at h
        · split at h
          · exact ih _ _ _ _ _ h
          · exact ih _ _ _ _ _ h
        · exact ih _ _ _ _ _ h
      · obtain ⟨_, h⟩ := gd_some h
        obtain ⟨_, h⟩ := gd_some h
        obtain ⟨_, h⟩ := gd_some h
        obtain ⟨r46, h1, h⟩ := bnd h
        have e1 : r46.2 = z := by
          split at h1
          · exact pr_d5 h1
          · split at h1
            · exact pr_d6 h1
            · exact pr_d7 h1
        split at h
        · split at h
          · rw [ih _ _ _ _ _ h, e1]
          · rw [ih _ _ _ _ _ h, e1]
        · rw [ih _ _ _ _ _ h, e1]
theorem pr_pulling {x : Int32} {z : CZ} {r : Int32 × CZ} (h : c_pulling x z = some r) : r.2 = z := pr_pullL _ _ _ _ _ _ h
theorem pr_areL : ∀ (n : Nat) (y1 y2 : Int32) (z : CZ) (r : Int32 × CZ), c_areSo_L4 n y1 y2 z = some r → r.2 = z := by
  intro n
  induction n with
  | zero => intro y1 y2 z r h; cases h
  | succ n ih =>
    intro y1 y2 z r h
    unfold c_areSo_L4 at h
    split at h
    · obtain ⟨q, _, h⟩ := bnd h
      cases h; rfl
    · obtain ⟨_, h⟩ := gd_some h
      obtain ⟨_, h⟩ := gd_some h
      obtain ⟨_, h⟩ := gd_some h
      obtain ⟨r35, h1, h⟩ := bnd h
      obtain ⟨_, h⟩ := gd_some h
      obtain ⟨_, h⟩ := gd_some h
      obtain ⟨_, h⟩ := gd_some h
      have e1 := pr_pulling h1
      simp only [jn] at h
      split at h
      · rw [ih _ _ _ _ h, e1]
      · rw [ih _ _ _ _ h, e1]
theorem pr_areSo {z : CZ} {r : Int32 × CZ} (h : c_areSo z = some r) : r.2 = z := pr_areL _ _ _ _ _ h
