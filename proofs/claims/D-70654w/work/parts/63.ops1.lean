/-! OPERATIONS, pure: both sides answer alike (1) -/
theorem op_trace {c : CZ} {m : MZ} (R : Rel c m) : Same (c_trace c) (m_trace m) := ⟨_, c, m, rfl, by unfold m_trace; rw [R.2.1.2.2.2.1], R⟩
theorem op_fault {c : CZ} {m : MZ} (R : Rel c m) : Same (c_fault c) (m_fault m) := ⟨_, c, m, rfl, by unfold m_fault; rw [R.2.1.2.2.2.2.1], R⟩
theorem op_many {c : CZ} {m : MZ} (R : Rel c m) (x : Int32) : Same (c_many x c) (m_many x m) := by
  have h := R
  obtain ⟨-, ⟨e5, e6, e7, -⟩, -, -, ⟨e26, -⟩, -⟩ := h
  unfold c_many m_many
  rw [e5, e6, e7, e26]
  split
  · exact ⟨_, c, m, rfl, rfl, R⟩
  · split
    · exact ⟨_, c, m, rfl, rfl, R⟩
    · split
      · exact ⟨_, c, m, rfl, rfl, R⟩
      · split
        · exact ⟨_, c, m, rfl, rfl, R⟩
        · exact ⟨_, c, m, rfl, rfl, R⟩
theorem op_owes {c : CZ} {m : MZ} (R : Rel c m) (a b : Int32) : Same (c_owes a b c) (m_owes a b m) := by
  have hn := R.1.2.2.1
  have h5 := R.2.1.1
  unfold c_owes m_owes
  rcases isP_or a (n := cz_np c) (by omega) with ⟨i, hi, rfl⟩ | ⟨-, ha⟩
  · rw [c_noPerson_in hn hi, m_isPerson_in h5 hn hi]
    simp only [Option.bind_some, if_true, if_neg one_ne]
    rcases isP_or b (n := cz_np c) (by omega) with ⟨j, hj, rfl⟩ | ⟨-, hb⟩
    · rw [c_noPerson_in hn hj, m_isPerson_in h5 hn hj]
      simp only [Option.bind_some, if_true, if_neg one_ne]
      rw [c_noteOf_eq i j c (by omega) (by omega), i5, gd_t (inb_nI (by omega) (by decide)), nI_clamp (by omega)]
      refine ⟨_, c, m, rfl, ?_, R⟩
      rw [R.2.2.2.1 _ (by omega)]
      unfold cnote
      rw [Nat.mul_comm 5 i]
    · rw [c_noPerson_out hn hb, m_isPerson_out h5 hb]
      exact ⟨_, c, m, rfl, rfl, R⟩
  · rw [c_noPerson_out hn ha, m_isPerson_out h5 ha]
    exact ⟨_, c, m, rfl, rfl, R⟩
/-- a note of both sides, set -/
theorem Rel.note {c : CZ} {m : MZ} (R : Rel c m) {k v : Nat} (hk : k < 25) (hv : v ≤ 9) : Rel (cz_a c 3 k (nI v)) (mz_a m 10 k (nI v)) := by
  obtain ⟨⟨h1, h2, h3, h4⟩, r2, r3, r4, r5, r6⟩ := R
  refine ⟨⟨fun j hj => ?_, h2, h3, h4⟩, r2, r3, fun j hj => ?_, r5, r6⟩
  · show ∃ a : Nat, a ≤ 9 ∧ upd (c.2.1 3) k (nI v) j = nI a
    unfold upd
    split
    · exact ⟨v, hv, rfl⟩
    · exact h1 j hj
  · show upd (m.2 10) k (nI v) j = upd (c.2.1 3) k (nI v) j
    unfold upd
    split
    · rfl
    · exact r4 j hj
theorem notes_in {c : CZ} {m : MZ} (R : Rel c m) (a b : Int32) : (∃ i j : Nat, i < cz_np c ∧ j < cz_np c ∧ i ≠ j ∧ a = nI i ∧ b = nI j ∧ c_isNoNote a b c = some (0, c) ∧ m_isNote a b m = some (1, m)) ∨ (c_isNoNote a b c = some (1, c) ∧ m_isNote a b m = some (0, m)) := by
  have hn := R.1.2.2.1
  have h5 := R.2.1.1
  unfold c_isNoNote m_isNote
  rcases isP_or a (n := cz_np c) (by omega) with ⟨i, hi, rfl⟩ | ⟨-, ha⟩
  · rw [c_noPerson_in hn hi, m_isPerson_in h5 hn hi]
    simp only [Option.bind_some, if_true, if_neg one_ne]
    rcases isP_or b (n := cz_np c) (by omega) with ⟨j, hj, rfl⟩ | ⟨-, hb⟩
    · rw [c_noPerson_in hn hj, m_isPerson_in h5 hn hj]
      simp only [Option.bind_some, if_true, if_neg one_ne]
      by_cases hij : i = j
      · subst hij
        simp only [if_true]
        exact Or.inr ⟨rfl, rfl⟩
      · rw [if_neg (fun h => hij ((nI_eq (by omega) (by omega)).mp h)), if_neg (fun h => hij ((nI_eq (by omega) (by omega)).mp h))]
        exact Or.inl ⟨i, j, hi, hj, hij, rfl, rfl, rfl, rfl⟩
    · rw [c_noPerson_out hn hb, m_isPerson_out h5 hb]
      exact Or.inr ⟨rfl, rfl⟩
  · rw [c_noPerson_out hn ha, m_isPerson_out h5 ha]
    exact Or.inr ⟨rfl, rfl⟩
/-- an int between two small bounds -/
theorem btw_or (v : Int32) (lo hi : Nat) (hl : lo ≤ hi) (h : hi < 2 ^ 31 - 1) : (∃ j : Nat, lo ≤ j ∧ j ≤ hi ∧ v = nI j ∧ (nI lo ≤ v ∧ v ≤ nI hi)) ∨ ¬ (nI lo ≤ v ∧ v ≤ nI hi) := by
  by_cases q : nI lo ≤ v ∧ v ≤ nI hi
  · left
    rcases pk_ix v (n := hi + 1) (by omega) with h1 | h1 | ⟨j, hj, rfl⟩
    · exact absurd (Int32.le_trans (nI_pos' (n := lo) (by omega)) q.1) (Int32.not_le.mpr h1)
    · exact absurd (Int32.le_trans h1 q.2) (nI_ge (by omega) (by omega))
    · exact ⟨j, by have := (nI_leI (a := lo) (b := j) (by omega) (by omega)).mp q.1; omega, by omega, rfl, q⟩
  · exact Or.inr q
theorem c_in_t {x a b : Int32} {A B : Int64} (hA : A = a.toInt64) (hB : B = b.toInt64) (h : a ≤ x ∧ x ≤ b) : c_in x.toInt64 A B = some 1 := by rw [c_in32 x a b hA hB, if_pos h]
theorem c_in_f {x a b : Int32} {A B : Int64} (hA : A = a.toInt64) (hB : B = b.toInt64) (h : ¬ (a ≤ x ∧ x ≤ b)) : c_in x.toInt64 A B = some 0 := by rw [c_in32 x a b hA hB, if_neg h]
theorem m_within_t {x a b : Int32} (h : a ≤ x ∧ x ≤ b) : m_within x a b = some 1 := by rw [m_within_eq, if_pos h]
theorem m_within_f {x a b : Int32} (h : ¬ (a ≤ x ∧ x ≤ b)) : m_within x a b = some 0 := by rw [m_within_eq, if_neg h]
theorem op_lend {c : CZ} {m : MZ} (R : Rel c m) (a b v : Int32) : Same (c_lend a b v c) (m_lend a b v m) := by
  have hn := R.1.2.2.1
  unfold c_lend m_lend
  rcases notes_in R a b with ⟨i, j, hi, hj, hij, rfl, rfl, e1, e2⟩ | ⟨e1, e2⟩
  · rw [e1, e2]
    simp only [Option.bind_some, if_true, if_neg one_ne]
    rcases btw_or v 0 9 (by decide) (by decide) with ⟨w, hw0, hw, rfl, q⟩ | q
    · rw [c_in_t (a := 0) (b := 9) (by decide) (by decide) q, m_within_t (a := 0) (b := 9) q]
      simp only [Option.bind_some, if_neg one_ne]
      rw [c_noteOf_eq i j c (by omega) (by omega)]
      simp only [Option.bind_some, i5, i5', nI_clamp (show i * 5 + j < 2 ^ 31 by omega), nI_clamp (show 5 * i + j < 2 ^ 31 by omega), gd_t (inb_nI (show i * 5 + j < 25 by omega) (by decide)), gd_t (inb_nI (show 5 * i + j < 25 by omega) (by decide))]
      rw [Nat.mul_comm 5 i]
      refine ⟨_, _, _, rfl, ?_, R.note (by omega) hw⟩
      rw [R.2.2.2.1 _ (by omega)]
      rfl
    · rw [c_in_f (a := 0) (b := 9) (by decide) (by decide) q, m_within_f (a := 0) (b := 9) q]
      exact ⟨_, c, m, rfl, rfl, R⟩
  · rw [e1, e2]
    exact ⟨_, c, m, rfl, rfl, R⟩
theorem Rel.times {c : CZ} {m : MZ} (R : Rel c m) {v : Nat} (hv : v ≤ 3) : Rel (cz_f c 2 (nI v)) (mz_f m 7 (nI v)) := by
  obtain ⟨⟨h1, h2, h3, h4⟩, ⟨e5, e6, e7, e1, e0, e18, e19⟩, r3, r4, ⟨e26, r5⟩, r6⟩ := R
  exact ⟨⟨h1, ⟨v, hv, rfl⟩, h3, h4⟩, ⟨e5, e6, rfl, e1, e0, e18, e19⟩, r3, r4, ⟨e26, r5⟩, r6⟩
theorem Rel.room {c : CZ} {m : MZ} (R : Rel c m) (v : Int32) : Rel (cz_f c 1 v) (mz_f m 6 v) := by
  obtain ⟨h, ⟨e5, e6, e7, e1, e0, e18, e19⟩, r3, r4, ⟨e26, r5⟩, r6⟩ := R
  exact ⟨h, ⟨e5, rfl, e7, e1, e0, e18, e19⟩, r3, r4, ⟨e26, r5⟩, r6⟩
theorem Rel.faultv {c : CZ} {m : MZ} (R : Rel c m) (v : Int32) : Rel (cz_f c 8 v) (mz_f m 0 v) := by
  obtain ⟨h, ⟨e5, e6, e7, e1, e0, e18, e19⟩, r3, r4, ⟨e26, r5⟩, r6⟩ := R
  exact ⟨h, ⟨e5, e6, e7, e1, rfl, e18, e19⟩, r3, r4, ⟨e26, r5⟩, r6⟩
theorem Rel.tracev {c : CZ} {m : MZ} (R : Rel c m) (v : Int32) : Rel (cz_f c 0 v) (mz_f m 1 v) := by
  obtain ⟨h, ⟨e5, e6, e7, e1, e0, e18, e19⟩, r3, r4, ⟨e26, r5⟩, r6⟩ := R
  exact ⟨h, ⟨e5, e6, e7, rfl, e0, e18, e19⟩, r3, r4, ⟨e26, r5⟩, r6⟩
theorem noRiver_eq {c : CZ} (hn : cz_np c ≤ 5) : c_noRiver c = some (if cz_np c = 0 then 1 else 0, c) := by
  unfold c_noRiver
  by_cases h : cz_np c = 0
  · rw [if_pos h, if_pos (by rw [h]; rfl)]; rfl
  · rw [if_neg h, if_neg (nI_ne0 (by omega) (by omega))]; rfl
theorem op_count {c : CZ} {m : MZ} (R : Rel c m) (v : Int32) : Same (c_count v c) (m_count v m) := by
  have hn := R.1.2.2.1
  unfold c_count m_count
  rcases btw_or v 1 3 (by decide) (by decide) with ⟨w, hw0, hw, rfl, q⟩ | q
  · rw [c_in_t (a := 1) (b := 3) (by decide) (by decide) q, m_within_t (a := 1) (b := 3) q, noRiver_eq hn, R.2.1.1]
    simp only [Option.bind_some, if_neg one_ne]
    by_cases h : cz_np c = 0
    · rw [if_pos h, if_pos (show nI (cz_np c) = 0 by rw [h]; rfl)]
      exact ⟨_, c, m, rfl, rfl, R⟩
    · rw [if_neg h, if_neg (nI_ne0 (by omega) (by omega))]
      exact ⟨_, _, _, rfl, by rw [R.2.1.2.2.1], R.times hw⟩
  · rw [c_in_f (a := 1) (b := 3) (by decide) (by decide) q, m_within_f (a := 1) (b := 3) q]
    exact ⟨_, c, m, rfl, rfl, R⟩
theorem op_build {c : CZ} {m : MZ} (R : Rel c m) (v : Int32) : Same (c_build v c) (m_build v m) := by
  have hn := R.1.2.2.1
  unfold c_build m_build
  rcases btw_or v 1 3 (by decide) (by decide) with ⟨w, hw0, hw, rfl, q⟩ | q
  · rw [c_in_t (a := 1) (b := 3) (by decide) (by decide) q, m_within_t (a := 1) (b := 3) q, noRiver_eq hn, R.2.1.1]
    simp only [Option.bind_some, if_neg one_ne]
    by_cases h : cz_np c = 0
    · rw [if_pos h, if_pos (show nI (cz_np c) = 0 by rw [h]; rfl)]
      exact ⟨_, c, m, rfl, rfl, R⟩
    · rw [if_neg h, if_neg (nI_ne0 (by omega) (by omega))]
      exact ⟨_, _, _, rfl, by rw [R.2.1.2.1], R.room _⟩
  · rw [c_in_f (a := 1) (b := 3) (by decide) (by decide) q, m_within_f (a := 1) (b := 3) q]
    exact ⟨_, c, m, rfl, rfl, R⟩
theorem op_pullers {c : CZ} {m : MZ} (R : Rel c m) (x : Int32) : Same (c_pullers x c) (m_pullers x m) := by
  have hn := R.1.2.2.1
  have hp := pow_le _ hn
  unfold c_pullers m_pullers
  rw [noRiver_eq hn, R.2.1.1]
  simp only [Option.bind_some]
  by_cases h : cz_np c = 0
  · rw [if_pos h, if_pos (show nI (cz_np c) = 0 by rw [h]; rfl)]
    exact ⟨_, c, m, rfl, rfl, R⟩
  · rw [if_neg h, if_neg (nI_ne0 (by omega) (by omega))]
    simp only [if_true]
    rcases isP_or x (n := 2 ^ cz_np c) (by omega) with ⟨j, hj, rfl⟩ | ⟨-, hx⟩
    · rw [c_isLoad_in hn hj, m_isSet_in R.2.1.1 hn hj]
      simp only [Option.bind_some, if_neg one_ne]
      rw [pull_c R, pull_m R]
      exact ⟨_, c, m, rfl, rfl, R⟩
    · rw [c_isLoad_out hn hx, m_isSet_out R.2.1.1 hn hx]
      exact ⟨_, c, m, rfl, rfl, R⟩
theorem op_debt {c : CZ} {m : MZ} (R : Rel c m) (a x : Int32) : Same (c_debt a x c) (m_debt a x m) := by
  have hn := R.1.2.2.1
  have h5 := R.2.1.1
  have hp := pow_le _ hn
  unfold c_debt m_debt
  rcases isP_or a (n := cz_np c) (by omega) with ⟨i, hi, rfl⟩ | ⟨-, ha⟩
  · rw [c_noPerson_in hn hi, m_isPerson_in h5 hn hi]
    simp only [Option.bind_some, if_true, if_neg one_ne]
    rcases isP_or x (n := 2 ^ cz_np c) (by omega) with ⟨j, hj, rfl⟩ | ⟨-, hx⟩
    · rw [c_isLoad_in hn hj, m_isSet_in h5 hn hj]
      simp only [Option.bind_some, if_neg one_ne, c_isIn_eq, m_isOf_eq, nI_clamp (show i < 2 ^ 31 by omega)]
      by_cases ht : tb (nI j) i = true
      · simp only [ht, if_true, if_neg one_ne, gd_t (inb_nI hi (by omega)), gd_t (decide_eq_true hi), c_debt_eq i (nI j) c R.1 hi, Option.bind_some]
        rw [m_debtOf_eq i (cz_np c) (cz_k c i) (nI j) m hi hn h5 (R.2.2.1 i hi).1 (R.1.2.2.2 i hi)]
        refine ⟨_, c, m, rfl, ?_, R⟩
        have := debt_same R hi (nI j)
        unfold mdebt at this
        simp only [Option.bind_some, this]
      · simp only [ht, if_true]
        exact ⟨_, c, m, rfl, rfl, R⟩
    · rw [c_isLoad_out hn hx, m_isSet_out h5 hn hx]
      exact ⟨_, c, m, rfl, rfl, R⟩
  · rw [c_noPerson_out hn ha, m_isPerson_out h5 ha]
    exact ⟨_, c, m, rfl, rfl, R⟩
