/-! OPERATIONS, pure (3): all that one owes; ofPerson, tell -/
def osum (f : Nat → Int32) : Nat → Int32
  | 0 => 0
  | q + 1 => osum f q + f q
theorem c_all_L (i : Nat) (z : CZ) (hi : i < 5) (hnp : cz_np z ≤ 5) : ∀ n q, q ≤ cz_np z → cz_np z < n + q → c_allOwedBy_L4 (nI i) n (osum (cnote z i) q) (nI q) z = some (osum (cnote z i) (cz_np z), z) := by
  intro n
  induction n with
  | zero => intro q h1 h2; omega
  | succ n ih =>
    intro q h1 h2
    rw [c_allOwedBy_L4]
    rcases Nat.lt_or_ge q (cz_np z) with hq | hq
    · rw [if_neg (nI_ge hq (by omega)), c_noteOf_eq i q z hi (by omega)]
      simp only [Option.bind_some, nI_1]
      exact ih (q + 1) hq (by omega)
    · have : q = cz_np z := by omega
      subst this
      rw [if_pos (nI_le (Nat.le_refl _) (by omega))]
theorem all_c (i : Nat) (z : CZ) (hi : i < 5) (hnp : cz_np z ≤ 5) : c_allOwedBy (nI i) z = some (osum (cnote z i) (cz_np z), z) := by
  unfold c_allOwedBy
  exact c_all_L i z hi hnp FU 0 (by omega) (by show cz_np z < 400 + 0; omega)
theorem m_all_L (c : CZ) (i : Nat) (m : MZ) (hi : i < 5) (hnp : cz_np c ≤ 5) (h5 : m.1 5 = nI (cz_np c)) (hk : ∀ k, k < 25 → m.2 10 k = c.2.1 3 k) : ∀ n q, q ≤ cz_np c → cz_np c < n + q → m_allOf_L4 (nI i) n (osum (cnote c i) q) (nI q) m = some (osum (cnote c i) (cz_np c), m) := by
  intro n
  induction n with
  | zero => intro q h1 h2; omega
  | succ n ih =>
    intro q h1 h2
    rw [m_allOf_L4]
    rcases Nat.lt_or_ge q (cz_np c) with hq | hq
    · rw [if_neg (by rw [h5]; exact nI_ge hq (by omega)), i5, gd_t (inb_nI (by omega) (by decide)), nI_clamp (by omega), nI_1, hk _ (by omega)]
      have := ih (q + 1) hq (by omega)
      rw [Nat.mul_comm 5 i]
      exact this
    · have : q = cz_np c := by omega
      subst this
      rw [if_pos (by rw [h5]; exact nI_le (Nat.le_refl _) (by omega))]
theorem all_m {c : CZ} {m : MZ} (R : Rel c m) {i : Nat} (hi : i < 5) : m_allOf (nI i) m = some (osum (cnote c i) (cz_np c), m) := by
  unfold m_allOf
  exact m_all_L c i m hi R.1.2.2.1 R.2.1.1 R.2.2.2.1 FU 0 (by omega) (by have := R.1.2.2.1; show cz_np c < 400 + 0; omega)
theorem op_ofPerson {c : CZ} {m : MZ} (R : Rel c m) (a w : Int32) : Same (c_ofPerson a w c) (m_ofPerson a w m) := by
  have hn := R.1.2.2.1
  have h5 := R.2.1.1
  unfold c_ofPerson m_ofPerson
  rcases isP_or a (n := cz_np c) (by omega) with ⟨i, hi, rfl⟩ | ⟨-, ha⟩
  · rw [c_noPerson_in hn hi, m_isPerson_in h5 hn hi]
    obtain ⟨k1, k2, k3⟩ := R.2.2.1 i hi
    have hk := R.1.2.2.2 i hi
    simp only [Option.bind_some, if_true, if_neg one_ne, nI_clamp (show i < 2 ^ 31 by omega), gd_t (inb_nI hi (by omega)), gd_t (inb_nI (show i < 5 by omega) (by decide)), gd_t (decide_eq_true hi), all_c i c (by omega) hn, all_m R (show i < 5 by omega), k1, k2]
    by_cases h0 : w = 0
    · rw [if_pos h0, if_pos h0]
      refine ⟨nI (cz_k c i), c, m, ?_, rfl, R⟩
      rcases (show cz_k c i = 0 ∨ cz_k c i = 1 ∨ cz_k c i = 2 by omega) with h | h | h
      · rw [h]; rfl
      · rw [h]; rfl
      · rw [h]; rfl
    · rw [if_neg h0, if_neg h0]
      by_cases h1 : w = 1
      · rw [if_pos h1, if_pos h1]
        refine ⟨cz_l c i, c, m, ?_, rfl, R⟩
        rcases k3 with h | h
        · rw [h]; rfl
        · rw [h]; rfl
      · rw [if_neg h1, if_neg h1]
        split
        · exact ⟨_, c, m, rfl, rfl, R⟩
        · exact ⟨_, c, m, rfl, rfl, R⟩
  · rw [c_noPerson_out hn ha, m_isPerson_out h5 ha]
    exact ⟨_, c, m, rfl, rfl, R⟩
/-- tracing, on both sides -/
def ctr (c : CZ) (x : Int32) : CZ := cz_f c 0 ((31 : Int32) * c.1 0 + x)
def mtr (m : MZ) (x : Int32) : MZ := mz_f m 1 ((31 : Int32) * m.1 1 + x)
theorem Rel.tr {c : CZ} {m : MZ} (R : Rel c m) (x : Int32) : Rel (ctr c x) (mtr m x) := by
  unfold ctr mtr
  rw [R.2.1.2.2.2.1]
  exact R.tracev _
theorem tr_eq (c : CZ) (i : Nat) (x : Int32) (hi : i < cz_np c) : c5_tracedBy i x c = some (0, ctr c x) := by
  unfold c5_tracedBy
  rw [gd_t (decide_eq_true hi), gd_t (decide_eq_true hi)]
  rfl
theorem all_ctr (c : CZ) (i : Nat) (x : Int32) (hi : i < 5) (hn : cz_np c ≤ 5) : c_allOwedBy (nI i) (ctr c x) = some (osum (cnote c i) (cz_np c), ctr c x) := all_c i (ctr c x) hi hn
theorem said5 (c : CZ) (i : Nat) (hi : i < cz_np c) (hn : cz_np c ≤ 5) : c5_said i c = some (osum (cnote c i) (cz_np c), ctr c 1) := by
  unfold c5_said
  have h2 : decide (i < cz_np (ctr c 1)) = true := decide_eq_true hi
  rw [gd_t (decide_eq_true hi), tr_eq c i 1 hi]
  simp only [Option.bind_some, gd_t h2, all_ctr c i 1 (show i < 5 by omega) hn]
  simp
theorem said6 (c : CZ) (i : Nat) (hi : i < cz_np c) (hn : cz_np c ≤ 5) (hk : ¬ cz_k c i = 0) : c6_said i c = some (osum (cnote c i) (cz_np c) + 100, ctr (ctr c 2) 1) := by
  unfold c6_said
  have h2 : decide (i < cz_np (ctr c 2)) = true := decide_eq_true hi
  have h3 : decide (¬ cz_k (ctr c 2) i = 0) = true := decide_eq_true hk
  have h4 : c5_said i (ctr c 2) = some (osum (cnote c i) (cz_np c), ctr (ctr c 2) 1) := said5 (ctr c 2) i hi hn
  rw [gd_t (decide_eq_true hi), gd_t (decide_eq_true hk), tr_eq c i 2 hi]
  simp only [Option.bind_some, gd_t h2, gd_t h3, h4]
  simp
theorem said7 (c : CZ) (i : Nat) (hi : i < cz_np c) (hn : cz_np c ≤ 5) (hk : cz_k c i = 2) : c7_said i c = some (osum (cnote c i) (cz_np c) + 100 + osum (cnote c i) (cz_np c), ctr (ctr (ctr (ctr c 3) 2) 1) 1) := by
  unfold c7_said c6_plainly
  have hk0 : ¬ cz_k c i = 0 := by rw [hk]; decide
  have h2 : decide (i < cz_np (ctr c 3)) = true := decide_eq_true hi
  have h3 : decide (cz_k (ctr c 3) i = 2) = true := decide_eq_true hk
  have h4 : c6_said i (ctr c 3) = some (osum (cnote c i) (cz_np c) + 100, ctr (ctr (ctr c 3) 2) 1) := said6 (ctr c 3) i hi hn hk0
  have h5 : decide (i < cz_np (ctr (ctr (ctr c 3) 2) 1)) = true := decide_eq_true hi
  have h6 : decide (cz_k (ctr (ctr (ctr c 3) 2) 1) i = 2) = true := decide_eq_true hk
  have h7 : decide (¬ cz_k (ctr (ctr (ctr c 3) 2) 1) i = 0) = true := decide_eq_true hk0
  have h8 : c5_said i (ctr (ctr (ctr c 3) 2) 1) = some (osum (cnote c i) (cz_np c), ctr (ctr (ctr (ctr c 3) 2) 1) 1) := said5 (ctr (ctr (ctr c 3) 2) 1) i hi hn
  rw [gd_t (decide_eq_true hi), gd_t (decide_eq_true hk), tr_eq c i 3 hi]
  simp only [Option.bind_some, gd_t h2, gd_t h3, h4, gd_t h5, gd_t h6, gd_t h7, h8]
  simp
theorem op_tell {c : CZ} {m : MZ} (R : Rel c m) (a : Int32) : Same (c_tell a c) (m_tell a m) := by
  have hn := R.1.2.2.1
  have h5 := R.2.1.1
  unfold c_tell m_tell
  rcases isP_or a (n := cz_np c) (by omega) with ⟨i, hi, rfl⟩ | ⟨-, ha⟩
  · rw [c_noPerson_in hn hi, m_isPerson_in h5 hn hi]
    obtain ⟨k1, k2, k3⟩ := R.2.2.1 i hi
    have hk := R.1.2.2.2 i hi
    simp only [Option.bind_some, if_true, if_neg one_ne, nI_clamp (show i < 2 ^ 31 by omega), gd_t (inb_nI hi (by omega)), gd_t (inb_nI (show i < 5 by omega) (by decide)), gd_t (decide_eq_true hi), all_m R (show i < 5 by omega), k1]
    rcases (show cz_k c i = 0 ∨ cz_k c i = 1 ∨ cz_k c i = 2 by omega) with h | h | h
    · rw [if_pos h, said5 c i hi hn, h]
      exact ⟨_, _, _, rfl, rfl, R.tr 1⟩
    · rw [if_neg (by rw [h]; decide), if_pos h, said6 c i hi hn (by rw [h]; decide), h]
      exact ⟨_, _, _, rfl, rfl, (R.tr 2).tr 1⟩
    · rw [if_neg (by rw [h]; decide), if_neg (by rw [h]; decide), said7 c i hi hn h, h]
      refine ⟨_, _, _, rfl, ?_, (((R.tr 3).tr 2).tr 1).tr 1⟩
      have e : ∀ s : Int32, s + 100 + s = 2 * s + 100 := by intro s; grind
      rw [e]
      rfl
  · rw [c_noPerson_out hn ha, m_isPerson_out h5 ha]
    exact ⟨_, c, m, rfl, rfl, R⟩
