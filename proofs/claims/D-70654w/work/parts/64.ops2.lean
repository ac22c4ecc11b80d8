/-! OPERATIONS, pure (2): sizes of sets, fair loads, telling -/
def pcn (j : Nat) : Nat := ((List.range 5).map (fun i => j / 2 ^ i % 2)).sum
set_option maxRecDepth 100000 in
theorem bits32a : ∀ j : Fin 32, m_size (nI j.val) = some (nI (pcn j.val)) := by decide +kernel
set_option maxRecDepth 100000 in
theorem bits32b : ∀ j : Fin 32, j16_bitCount (nI j.val) = some (nI (pcn j.val)) := by decide +kernel
set_option maxRecDepth 100000 in
theorem bits32c : ∀ k : Fin 5, j16_numberOfTrailingZeros (nI (2 ^ k.val)) = some (nI k.val) := by decide +kernel
theorem bits32d : ∀ j : Fin 32, ∀ k : Fin 5, tb (nI j.val) k.val = decide (j.val / 2 ^ k.val % 2 = 1) := by decide +kernel
theorem bits32e : ∀ j : Fin 32, pcn j.val = 1 → ∃ k : Fin 5, j.val = 2 ^ k.val := by decide +kernel
theorem bits32f : ∀ a b : Fin 32, nI a.val ||| nI b.val = nI (a.val ||| b.val) := by decide +kernel
theorem bits32g : ∀ k : Fin 5, ∀ p : Fin 5, tb (nI (2 ^ k.val)) p.val = decide (p.val = k.val) := by decide +kernel
theorem size_eq {j : Nat} (h : j < 32) : m_size (nI j) = some (nI (pcn j)) := bits32a ⟨j, h⟩
theorem bitc_eq {j : Nat} (h : j < 32) : j16_bitCount (nI j) = some (nI (pcn j)) := bits32b ⟨j, h⟩
theorem pcn_le {j : Nat} (h : j < 32) : pcn j ≤ 5 := (by decide +kernel : ∀ j : Fin 32, pcn j.val ≤ 5) ⟨j, h⟩
theorem or_lt : ∀ p : Fin 5, ∀ j : Fin 32, j.val < 2 ^ p.val → j.val ||| 2 ^ p.val < 2 ^ (p.val + 1) := by decide +kernel
/-- who pulls is a set of people -/
theorem pl_set (f : Nat → Int32) (set : Int32) : ∀ n, n ≤ 5 → ∃ j : Nat, j < 2 ^ n ∧ (pl f set n).2 = nI j := by
  intro n
  induction n with
  | zero => intro _; exact ⟨0, by decide, rfl⟩
  | succ n ih =>
    intro hn
    obtain ⟨j, hj, e⟩ := ih (by omega)
    have hp := pow_le n (by omega)
    have h2 : 2 ^ (n + 1) = 2 * 2 ^ n := by rw [Nat.pow_succ]; omega
    simp only [pl]
    generalize (if tb set n = true then f n else 0) = its
    by_cases q1 : (pl f set n).1 < its
    · rw [if_pos q1]
      exact ⟨2 ^ n, by omega, sh1 n (by omega)⟩
    · rw [if_neg q1]
      by_cases q2 : its = (pl f set n).1
      · rw [if_pos q2]
        refine ⟨j ||| 2 ^ n, or_lt ⟨n, by omega⟩ ⟨j, by omega⟩ hj, ?_⟩
        simp only [e, sh1 n (show n ≤ 5 by omega)]
        have h5 : 2 ^ n < 32 := by
          have := Nat.pow_lt_pow_right (a := 2) (by decide) (show n < 5 by omega)
          omega
        exact bits32f ⟨j, by omega⟩ ⟨2 ^ n, h5⟩
      · rw [if_neg q2]
        exact ⟨j, by omega, e⟩
theorem pl_none (f : Nat → Int32) : ∀ n, n ≤ 5 → pl f 0 n = (1, 0) := by
  intro n
  induction n with
  | zero => intro _; rfl
  | succ n ih =>
    intro hn
    simp only [pl, ih (by omega), tb0 n (by omega), Bool.false_eq_true, if_false]
    rw [if_neg (by decide), if_neg (by decide)]
/-- is a load fair -/
def fairV (c : CZ) (a : Nat) : Int32 := if c.1 1 < nI (pcn a) then 0 else match (List.range 5).find? (fun k => decide ((pl (cdebt c (nI a)) (nI a) (cz_np c)).2 = nI (2 ^ k))) with
  | some k => if cz_l c k = 0 then 1 else 0
  | none => 0
theorem find_pow {k : Nat} (hk : k < 5) : (List.range 5).find? (fun i => decide (nI (2 ^ k) = nI (2 ^ i))) = some k := (by decide +kernel : ∀ k : Fin 5, (List.range 5).find? (fun i => decide (nI (2 ^ k.val) = nI (2 ^ i))) = some k.val) ⟨k, hk⟩
theorem find_not {j : Nat} (hj : j < 32) (h : pcn j ≠ 1) : (List.range 5).find? (fun i => decide (nI j = nI (2 ^ i))) = none := (by decide +kernel : ∀ j : Fin 32, pcn j.val ≠ 1 → (List.range 5).find? (fun i => decide (nI j.val = nI (2 ^ i))) = none) ⟨j, hj⟩ h
theorem fairV_pow {c : CZ} {a k : Nat} (hk : k < 5) (e : (pl (cdebt c (nI a)) (nI a) (cz_np c)).2 = nI (2 ^ k)) : fairV c a = if c.1 1 < nI (pcn a) then 0 else if cz_l c k = 0 then 1 else 0 := by
  unfold fairV
  rw [e, find_pow hk]
theorem fairV_not {c : CZ} {a j : Nat} (hj : j < 32) (h : pcn j ≠ 1) (e : (pl (cdebt c (nI a)) (nI a) (cz_np c)).2 = nI j) : fairV c a = 0 := by
  unfold fairV
  rw [e, find_not hj h]
  split <;> rfl
theorem fair_c {c : CZ} {m : MZ} (R : Rel c m) {a : Nat} (ha : a < 32) : c_isFair (nI a) c = some (fairV c a, c) := by
  have hn := R.1.2.2.1
  have hp := pow_le _ hn
  obtain ⟨j, hj, e⟩ := pl_set (cdebt c (nI a)) (nI a) (cz_np c) hn
  unfold c_isFair
  rw [pull_c R]
  simp only [Option.bind_some, bitc_eq ha, e, bitc_eq (show j < 32 by omega)]
  by_cases h1 : pcn j = 1
  · obtain ⟨⟨k, hk5⟩, hk⟩ := bits32e ⟨j, by omega⟩ h1
    have hk : j = 2 ^ k := hk
    subst hk
    rw [fairV_pow hk5 e]
    have hkn : k < cz_np c := (Nat.pow_lt_pow_iff_right (by decide)).mp hj
    have hc : j16_numberOfTrailingZeros (nI (2 ^ k)) = some (nI k) := bits32c ⟨k, hk5⟩
    simp only [hc, Option.bind_some, gd_t (inb_nI hkn (by omega)), nI_clamp (show k < 2 ^ 31 by omega), gd_t (decide_eq_true hkn), h1, show nI 1 = (1 : Int32) from rfl, if_true]
    split
    · rfl
    · split <;> rfl
  · rw [fairV_not (by omega) h1 e]
    have h2 : ¬ nI (pcn j) = (1 : Int32) := fun h => h1 ((nI_eq (b := 1) (by have := pcn_le (show j < 32 by omega); omega) (by decide)).mp h)
    simp only [if_neg h2]
    split <;> rfl
theorem m_fair_L {m : MZ} {np k : Nat} (h5 : m.1 5 = nI np) (hn : np ≤ 5) (hk : k < np) : ∀ n p, p ≤ np → np < n + p → m_isFair_L33 n (nI (2 ^ k)) (nI p) m = some (if p ≤ k then (if m.2 9 k = 1 then 0 else 1) else 1, m) := by
  intro n
  induction n with
  | zero => intro p h1 h2; omega
  | succ n ih =>
    intro p h1 h2
    rw [m_isFair_L33]
    rcases Nat.lt_or_ge p np with hp | hp
    · rw [if_neg (by rw [h5]; exact nI_ge hp (by omega)), m_isOf_eq]
      have ht : tb (nI (2 ^ k)) p = decide (p = k) := bits32g ⟨k, by omega⟩ ⟨p, by omega⟩
      have ih1 := ih (p + 1) hp (by omega)
      simp only [Option.bind_some, ht, decide_eq_true_eq, gd_t (inb_nI (show p < 5 by omega) (by decide)), nI_clamp (show p < 2 ^ 31 by omega), nI_1, ih1]
      by_cases hpk : p = k
      · subst hpk
        simp only [if_true, if_neg one_ne, Nat.le_refl, show ¬ p + 1 ≤ p by omega, if_false]
        split <;> rfl
      · simp only [hpk, if_false, if_true]
        by_cases h3 : p ≤ k
        · simp only [h3, show p + 1 ≤ k by omega, if_true]
        · simp only [h3, show ¬ p + 1 ≤ k by omega, if_false]
    · have : p = np := by omega
      subst this
      rw [if_pos (by rw [h5]; exact nI_le (Nat.le_refl _) (by omega)), if_neg (by omega)]
      rfl
theorem fair_m {c : CZ} {m : MZ} (R : Rel c m) {a : Nat} (ha : a < 32) : m_isFair (nI a) m = some (fairV c a, m) := by
  have hn := R.1.2.2.1
  have hp := pow_le _ hn
  obtain ⟨j, hj, e⟩ := pl_set (cdebt c (nI a)) (nI a) (cz_np c) hn
  unfold m_isFair
  rw [pull_m R]
  simp only [Option.bind_some, size_eq ha, e, size_eq (show j < 32 by omega), R.2.1.2.1]
  by_cases h0 : a = 0
  · subst h0
    have e0 := pl_none (cdebt c 0) (cz_np c) hn
    have e1 : (pl (cdebt c (nI 0)) (nI 0) (cz_np c)).2 = nI 0 := by
      show (pl (cdebt c 0) 0 (cz_np c)).2 = nI 0
      rw [e0]; rfl
    rw [if_pos (show nI 0 = (0 : Int32) from rfl), fairV_not (j := 0) (by omega) (by decide) e1]
    rfl
  · rw [if_neg (nI_ne0 (by omega) (by omega))]
    by_cases h1 : pcn j = 1
    · obtain ⟨⟨k, hk5⟩, hk⟩ := bits32e ⟨j, by omega⟩ h1
      have hk : j = 2 ^ k := hk
      subst hk
      rw [fairV_pow hk5 e]
      have hkn : k < cz_np c := (Nat.pow_lt_pow_iff_right (by decide)).mp hj
      simp only [h1, show nI 1 = (1 : Int32) from rfl, if_true]
      have hL := m_fair_L R.2.1.1 hn hkn FU 0 (by omega) (by show cz_np c < 400 + 0; omega)
      rw [show (nI 0) = (0 : Int32) from rfl] at hL
      rw [hL, if_pos (Nat.zero_le k), (R.2.2.1 k hkn).2.1]
      split
      · rfl
      · rcases (R.2.2.1 k hkn).2.2 with h | h
        · rw [h]; rfl
        · rw [h]; rfl
    · rw [fairV_not (by omega) h1 e]
      have h2 : ¬ nI (pcn j) = (1 : Int32) := fun h => h1 ((nI_eq (b := 1) (by have := pcn_le (show j < 32 by omega); omega) (by decide)).mp h)
      simp only [if_neg h2]
      split <;> rfl
theorem op_fair {c : CZ} {m : MZ} (R : Rel c m) (x : Int32) : Same (c_fair x c) (m_fair x m) := by
  have hn := R.1.2.2.1
  have hp := pow_le _ hn
  unfold c_fair m_fair
  rw [noRiver_eq hn, R.2.1.1]
  simp only [Option.bind_some]
  by_cases h : cz_np c = 0
  · rw [if_pos h, if_pos (show nI (cz_np c) = 0 by rw [h]; rfl)]
    exact ⟨_, c, m, rfl, rfl, R⟩
  · rw [if_neg h, if_neg (nI_ne0 (by omega) (by omega))]
    simp only [if_true]
    rcases isP_or x (n := 2 ^ cz_np c) (by omega) with ⟨j, hj, rfl⟩ | ⟨-, hx⟩
    · rw [c_isLoad_in hn hj, m_isSet_in R.2.1.1 hn hj]
      simp only [Option.bind_some, if_neg one_ne]
      rw [fair_c R (by omega), fair_m R (by omega)]
      simp only [Option.bind_some]
      split
      · exact ⟨_, c, m, rfl, rfl, R⟩
      · exact ⟨_, c, m, rfl, rfl, R⟩
    · rw [c_isLoad_out hn hx, m_isSet_out R.2.1.1 hn hx]
      exact ⟨_, c, m, rfl, rfl, R⟩
