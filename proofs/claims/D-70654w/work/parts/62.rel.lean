/-! THE RELATION of the two pure states, and the tests both sides make -/
def shRel (m : MZ) (k : Nat) (o : Option (Nat × Nat × (Nat → Int32))) : Prop := match o with
  | none => m.2 2 k = -9
  | some q => q.1 ≤ 2 ∧ q.2.1 ≤ 60 ∧ m.2 2 k = nI q.1 ∧ m.2 3 k = nI q.2.1 ∧ ∀ i, i < q.2.1 → m.2 4 (60 * k + i) = q.2.2 i
def Rel (c : CZ) (m : MZ) : Prop := cRng c ∧ (m.1 5 = nI (cz_np c) ∧ m.1 6 = c.1 1 ∧ m.1 7 = c.1 2 ∧ m.1 1 = c.1 0 ∧ m.1 0 = c.1 8 ∧ m.1 18 = 0 ∧ m.1 19 = 0) ∧
  (∀ i, i < cz_np c → m.2 8 i = nI (cz_k c i) ∧ m.2 9 i = cz_l c i ∧ (cz_l c i = 0 ∨ cz_l c i = 1)) ∧ (∀ k, k < 25 → m.2 10 k = c.2.1 3 k) ∧
  (m.1 26 = nI (cz_nr c) ∧ cz_nr c ≤ 8 ∧ ∀ i, i < cz_nr c → m.2 27 i = cz_rl c i ∧ m.2 28 i = cz_rp c i) ∧ ∀ k, k < 4 → shRel m k (cz_sh c k)
/-- both sides answer alike, and stay alike -/
def Same (x : Option (Int32 × CZ)) (y : Option (Int32 × MZ)) : Prop := ∃ r c m, x = some (r, c) ∧ y = some (r, m) ∧ Rel c m
theorem le64 {x y : Int32} : x.toInt64 ≤ y.toInt64 ↔ x ≤ y := by
  rw [Int64.le_iff_toInt_le, Int32.le_iff_toInt_le, Int32.toInt_toInt64, Int32.toInt_toInt64]
theorem c_in_eq (a b d : Int64) : c_in a b d = some (if b ≤ a ∧ a ≤ d then 1 else 0) := by
  unfold c_in
  have h1 := lg_cmp_lt a b
  have h2 := lg_cmp_gt a d
  by_cases q1 : a < b
  · rw [if_pos (h1.mpr q1), if_neg (fun h => absurd h.1 (Int64.not_le.mpr q1))]; rfl
  · rw [if_neg (fun h => q1 (h1.mp h))]
    by_cases q2 : d < a
    · rw [if_pos (h2.mpr q2), if_neg (fun h => absurd h.2 (Int64.not_le.mpr q2))]; rfl
    · rw [if_neg (fun h => q2 (h2.mp h)), if_pos ⟨Int64.not_lt.mp q1, Int64.not_lt.mp q2⟩]; rfl
theorem c_in32 (x a b : Int32) {A B : Int64} (hA : A = a.toInt64) (hB : B = b.toInt64) : c_in x.toInt64 A B = some (if a ≤ x ∧ x ≤ b then 1 else 0) := by
  rw [c_in_eq, hA, hB]
  simp only [le64]
theorem m_within_eq (x a b : Int32) : m_within x a b = some (if a ≤ x ∧ x ≤ b then 1 else 0) := by
  unfold m_within
  by_cases q1 : x < a
  · rw [if_pos q1, if_neg (fun h => absurd h.1 (Int32.not_le.mpr q1))]; rfl
  · rw [if_neg q1]
    by_cases q2 : b < x
    · rw [if_pos q2, if_neg (fun h => absurd h.2 (Int32.not_le.mpr q2))]; rfl
    · rw [if_neg q2, if_pos ⟨Int32.not_lt.mp q1, Int32.not_lt.mp q2⟩]; rfl
/-- is it one of n -/
def isP (x : Int32) (n : Nat) : Prop := ∃ j : Nat, j < n ∧ x = nI j
theorem isP_or (x : Int32) {n : Nat} (hn : n < 2 ^ 31) : isP x n ∨ (¬ isP x n ∧ (x < 0 ∨ nI n ≤ x)) := by
  rcases pk_ix x hn with h | h | h
  · refine Or.inr ⟨?_, Or.inl h⟩
    rintro ⟨j, hj, rfl⟩
    exact nI_pos (by omega) h
  · refine Or.inr ⟨?_, Or.inr h⟩
    rintro ⟨j, hj, rfl⟩
    exact nI_ge hj hn h
  · exact Or.inl h
theorem c_noPerson_in {c : CZ} {j : Nat} (hn : cz_np c ≤ 5) (hj : j < cz_np c) : c_noPerson (nI j) c = some (0, c) := by
  unfold c_noPerson
  rw [c_in32 (nI j) 0 (nI (cz_np c) - 1) (by decide) rfl]
  obtain ⟨k, hk⟩ : ∃ k, cz_np c = k + 1 := ⟨cz_np c - 1, by omega⟩
  rw [hk, nI_pred, if_pos ⟨nI_pos' (by omega), nI_le (by omega) (by omega)⟩]
  rfl
theorem c_noPerson_out {c : CZ} {x : Int32} (hn : cz_np c ≤ 5) (hx : x < 0 ∨ nI (cz_np c) ≤ x) : c_noPerson x c = some (1, c) := by
  unfold c_noPerson
  rw [c_in32 x 0 (nI (cz_np c) - 1) (by decide) rfl]
  have : ¬ (0 ≤ x ∧ x ≤ nI (cz_np c) - 1) := by
    rintro ⟨h1, h2⟩
    rcases hx with h | h
    · exact absurd h1 (Int32.not_le.mpr h)
    · rcases Nat.eq_zero_or_pos (cz_np c) with h0 | h0
      · rw [h0] at h2
        have h3 : (0 : Int32) ≤ -1 := Int32.le_trans h1 h2
        exact absurd h3 (by decide)
      · obtain ⟨k, hk⟩ : ∃ k, cz_np c = k + 1 := ⟨cz_np c - 1, by omega⟩
        rw [hk, nI_pred] at h2
        rw [hk] at h
        exact absurd (Int32.le_trans h h2) (nI_ge (by omega) (by omega))
  rw [if_neg this]
  rfl
theorem m_isPerson_in {m : MZ} {n j : Nat} (h5 : m.1 5 = nI n) (hn : n ≤ 5) (hj : j < n) : m_isPerson (nI j) m = some (1, m) := by
  unfold m_isPerson
  rw [if_neg (nI_pos (by omega)), if_neg (by rw [h5]; exact nI_ge hj (by omega))]
  rfl
theorem m_isPerson_out {m : MZ} {n : Nat} {x : Int32} (h5 : m.1 5 = nI n) (hx : x < 0 ∨ nI n ≤ x) : m_isPerson x m = some (0, m) := by
  unfold m_isPerson
  by_cases h : x < 0
  · rw [if_pos h]; rfl
  · rw [if_neg h, if_pos (by rw [h5]; exact hx.resolve_left h)]; rfl
/-- sets of people: 2 to the count -/
theorem sh1 : ∀ n, n ≤ 5 → (1 : Int32) <<< (nI n &&& 31) = nI (2 ^ n) := by
  intro n hn
  rcases (show n = 0 ∨ n = 1 ∨ n = 2 ∨ n = 3 ∨ n = 4 ∨ n = 5 by omega) with rfl | rfl | rfl | rfl | rfl | rfl <;> decide
theorem pow_le : ∀ n, n ≤ 5 → 1 ≤ 2 ^ n ∧ 2 ^ n ≤ 32 := by
  intro n hn
  rcases (show n = 0 ∨ n = 1 ∨ n = 2 ∨ n = 3 ∨ n = 4 ∨ n = 5 by omega) with rfl | rfl | rfl | rfl | rfl | rfl <;> decide
theorem c_isLoad_in {c : CZ} {j : Nat} (hn : cz_np c ≤ 5) (hj : j < 2 ^ cz_np c) : c_isLoad (nI j) c = some (1, c) := by
  have hp := pow_le _ hn
  unfold c_isLoad c_everyone
  simp only [Option.bind_some]
  rw [c_in32 (nI j) 0 ((1 : Int32) <<< (nI (cz_np c) &&& 31) - 1) (by decide) rfl, sh1 _ hn]
  obtain ⟨k, hk⟩ : ∃ k, 2 ^ cz_np c = k + 1 := ⟨2 ^ cz_np c - 1, by omega⟩
  rw [hk, nI_pred, if_pos ⟨nI_pos' (by omega), nI_le (by omega) (by omega)⟩]
  rfl
theorem c_isLoad_out {c : CZ} {x : Int32} (hn : cz_np c ≤ 5) (hx : x < 0 ∨ nI (2 ^ cz_np c) ≤ x) : c_isLoad x c = some (0, c) := by
  have hp := pow_le _ hn
  unfold c_isLoad c_everyone
  simp only [Option.bind_some]
  rw [c_in32 x 0 ((1 : Int32) <<< (nI (cz_np c) &&& 31) - 1) (by decide) rfl, sh1 _ hn]
  obtain ⟨k, hk⟩ : ∃ k, 2 ^ cz_np c = k + 1 := ⟨2 ^ cz_np c - 1, by omega⟩
  rw [hk] at hx ⊢
  rw [nI_pred]
  have : ¬ (0 ≤ x ∧ x ≤ nI k) := by
    rintro ⟨h1, h2⟩
    rcases hx with h | h
    · exact absurd h1 (Int32.not_le.mpr h)
    · exact absurd (Int32.le_trans h h2) (nI_ge (by omega) (by omega))
  rw [if_neg this]
  rfl
theorem m_isSet_in {m : MZ} {n j : Nat} (h5 : m.1 5 = nI n) (hn : n ≤ 5) (hj : j < 2 ^ n) : m_isSet (nI j) m = some (1, m) := by
  have hp := pow_le _ hn
  unfold m_isSet
  rw [if_neg (nI_pos (by omega)), h5, sh1 _ hn, if_neg (nI_ge hj (by omega))]
  rfl
theorem m_isSet_out {m : MZ} {n : Nat} {x : Int32} (h5 : m.1 5 = nI n) (hn : n ≤ 5) (hx : x < 0 ∨ nI (2 ^ n) ≤ x) : m_isSet x m = some (0, m) := by
  unfold m_isSet
  by_cases h : x < 0
  · rw [if_pos h]; rfl
  · rw [if_neg h, h5, sh1 _ hn, if_pos (hx.resolve_left h)]; rfl
theorem tb0 : ∀ k, k < 32 → tb 0 k = false := by
  intro k hk
  have h : ((0 : Int32) >>> (nI k &&& 31)) = 0 := by
    apply Int32.toBitVec_inj.mp
    simp
  unfold tb
  rw [h]
  decide
/-- both sides tell the same debts and the same pullers -/
theorem debt_same {c : CZ} {m : MZ} (R : Rel c m) {p : Nat} (hp : p < cz_np c) (set : Int32) : mdebt m (cz_np c) (cz_k c) set p = cdebt c set p := by
  obtain ⟨⟨h1, h2, h3, h4⟩, ⟨e5, e6, e7, e1, e0, e18, e19⟩, -, hn, -⟩ := R
  unfold mdebt cdebt
  rw [e7]
  congr 1
  have : ∀ q, q ≤ cz_np c → dsum (c.1 2) (mnote m p) set q = dsum (c.1 2) (cnote c p) set q := by
    intro q
    induction q with
    | zero => intro _; rfl
    | succ q ih =>
      intro hq
      have hm : mnote m p q = cnote c p q := by
        unfold mnote cnote
        rw [e18, e19, tb0 p (by omega), tb0 q (by omega)]
        simp only [Bool.false_eq_true, if_false]
        rw [hn _ (by omega), Nat.mul_comm 5 p]
      simp only [dsum, ih (by omega), hm]
  exact this _ (Nat.le_refl _)
theorem pl_congr {f g : Nat → Int32} {set : Int32} : ∀ n, (∀ p, p < n → f p = g p) → pl f set n = pl g set n := by
  intro n
  induction n with
  | zero => intro _; rfl
  | succ n ih =>
    intro h
    simp only [pl]
    rw [ih (fun p hp => h p (by omega)), h n (by omega)]
theorem pull_m {c : CZ} {m : MZ} (R : Rel c m) (set : Int32) : m_pullersOf set m = some ((pl (cdebt c set) set (cz_np c)).2, m) := by
  rw [m_pullersOf_eq (cz_np c) (cz_k c) set m R.1.2.2.1 R.2.1.1 (fun p hp => ⟨(R.2.2.1 p hp).1, R.1.2.2.2 p hp⟩)]
  rw [pl_congr (cz_np c) (fun p hp => debt_same R hp set)]
theorem pull_c {c : CZ} {m : MZ} (R : Rel c m) (set : Int32) : c_pulling set c = some ((pl (cdebt c set) set (cz_np c)).2, c) := c_pulling_eq set c R.1
