/-! PURE LAWS, component's side 1: debts, pullers -/
/-- notes are figures, times are few -/
def cRng (z : CZ) : Prop := (∀ k, k < 25 → ∃ a : Nat, a ≤ 9 ∧ z.2.1 3 k = nI a) ∧ (∃ b : Nat, b ≤ 3 ∧ z.1 2 = nI b) ∧ cz_np z ≤ 5 ∧ ∀ i, i < cz_np z → cz_k z i ≤ 2
def cnote (z : CZ) (p q : Nat) : Int32 := z.2.1 3 (p * 5 + q)
theorem dsum_rng {t : Int32} {f : Nat → Int32} {set : Int32} (ht : ∃ b : Nat, b ≤ 3 ∧ t = nI b) : ∀ q, (∀ j, j < q → ∃ a : Nat, a ≤ 9 ∧ f j = nI a) → ∃ N : Nat, N ≤ 27 * q ∧ dsum t f set q = nI N := by
  obtain ⟨b, hb, rfl⟩ := ht
  intro q
  induction q with
  | zero => intro _; exact ⟨0, by omega, rfl⟩
  | succ q ih =>
    intro hf
    obtain ⟨N, hN, e⟩ := ih (fun j hj => hf j (by omega))
    obtain ⟨a, ha, ea⟩ := hf q (by omega)
    simp only [dsum, e, ea]
    split
    · refine ⟨N + b * a, ?_, by rw [pk_mul, nI_add]⟩
      have : b * a ≤ 3 * 9 := Nat.mul_le_mul hb ha
      omega
    · exact ⟨N + a, by omega, by rw [nI_add]⟩
theorem c_noteOf_eq (p q : Nat) (z : CZ) (hp : p < 5) (hq : q < 5) : c_noteOf (nI p) (nI q) z = some (cnote z p q, z) := by
  unfold c_noteOf cnote
  rw [i5', gd_t (inb_nI (by omega) (by decide)), nI_clamp (by omega)]
theorem c5_debt_L (i : Nat) (x : Int32) (z : CZ) (hi : i < cz_np z) (hnp : cz_np z ≤ 5) : ∀ n q, q ≤ cz_np z → cz_np z < n + q → c5_debtIn_L4 i x n (dsum (z.1 2) (cnote z i) x q) (nI q) z = some (dsum (z.1 2) (cnote z i) x (cz_np z), z) := by
  intro n
  induction n with
  | zero => intro q h1 h2; omega
  | succ n ih =>
    intro q h1 h2
    rw [c5_debtIn_L4]
    have hd : decide (i < cz_np z) = true := decide_eq_true hi
    rw [gd_t hd]
    rcases Nat.lt_or_ge q (cz_np z) with hq | hq
    · have ih1 := ih (q + 1) hq (by omega)
      rw [if_neg (nI_ge hq (by omega))]
      have hn1 : nI q + 1 = nI (q + 1) := nI_1 q
      simp only [gd_t hd, c_noteOf_eq i q z (by omega) (by omega), c_isIn_eq, Option.bind_some, jn, hn1]
      rw [← ih1]
      simp only [dsum]
      by_cases a3 : tb x q = true
      · simp only [a3, if_true, if_neg one_ne, Int32.mul_comm (cnote z i q)]
      · simp [a3]
    · have : q = cz_np z := by omega
      subst this
      rw [if_pos (nI_le (Nat.le_refl _) (by omega))]
theorem c5_debtIn_eq (i : Nat) (x : Int32) (z : CZ) (hi : i < cz_np z) (hnp : cz_np z ≤ 5) : c5_debtIn i x z = some (dsum (z.1 2) (cnote z i) x (cz_np z), z) := by
  unfold c5_debtIn
  exact c5_debt_L i x z hi hnp FU 0 (by omega) (by show cz_np z < 400 + 0; omega)
def cdebt (z : CZ) (set : Int32) (p : Nat) : Int32 := dkind (cz_k z p) (dsum (z.1 2) (cnote z p) set (cz_np z))
theorem cdebt_rng {z : CZ} (h : cRng z) {set : Int32} {p : Nat} (hp : p < cz_np z) : ∃ N : Nat, N ≤ 135 ∧ dsum (z.1 2) (cnote z p) set (cz_np z) = nI N := by
  obtain ⟨h1, h2, h3, h4⟩ := h
  obtain ⟨N, hN, e⟩ := dsum_rng (t := z.1 2) (f := cnote z p) (set := set) h2 (cz_np z) (fun j hj => h1 _ (by omega))
  exact ⟨N, by omega, e⟩
theorem c_debt_eq (p : Nat) (x : Int32) (z : CZ) (h : cRng z) (hp : p < cz_np z) : (if cz_k z p = 0 then c5_debtIn p x z else if cz_k z p = 1 then c6_debtIn p x z else c7_debtIn p x z) = some (cdebt z x p, z) := by
  have hk := h.2.2.2 p hp
  have hd : decide (p < cz_np z) = true := decide_eq_true hp
  obtain ⟨N, hN, e⟩ := cdebt_rng h (set := x) hp
  have h5 := c5_debtIn_eq p x z hp h.2.2.1
  unfold cdebt
  rw [e] at h5 ⊢
  rcases (show cz_k z p = 0 ∨ cz_k z p = 1 ∨ cz_k z p = 2 by omega) with hk | hk | hk
  · rw [if_pos hk, h5, hk]; rfl
  · have hP : c6_plainDebt p x z = some (nI N, z) := by simp [c6_plainDebt, gd, hp, hk, h5]
    have h6 : c6_debtIn p x z = some ((if (0 : Int32) < nI N - 1 then nI N - 1 else 0), z) := by simp [c6_debtIn, gd, hp, hk, hP]
    rw [if_neg (by rw [hk]; decide), if_pos hk, h6, hk]
    unfold dkind
    rw [if_pos rfl]
    rcases Nat.eq_zero_or_pos N with rfl | hN0
    · rfl
    · obtain ⟨M, rfl⟩ : ∃ M, N = M + 1 := ⟨N - 1, by omega⟩
      rw [nI_pred, if_neg (nI_nle (n := M + 1) (by omega) (by omega))]
      rcases Nat.eq_zero_or_pos M with rfl | hM
      · rfl
      · rw [if_pos (by have := nI_lt (a := 0) (b := M) hM (by omega); exact this)]
  · have hP : c6_plainDebt p x z = some (nI N, z) := by simp [c6_plainDebt, gd, hp, hk, h5]
    have h6 : c7_debtIn p x z = some (nI N / 2, z) := by simp [c7_debtIn, gd, hp, hk, hP]
    rw [if_neg (by rw [hk]; decide), if_neg (by rw [hk]; decide), h6, hk]
    rfl
theorem c_pull_L (x : Int32) (z : CZ) (h : cRng z) : ∀ n p, p ≤ cz_np z → cz_np z < n + p → c_pulling_L7 x n (pl (cdebt z x) x p).1 (pl (cdebt z x) x p).2 (nI p) z = some ((pl (cdebt z x) x (cz_np z)).2, z) := by
  have hnp := h.2.2.1
  intro n
  induction n with
  | zero => intro p h1 h2; omega
  | succ n ih =>
    intro p h1 h2
    rw [c_pulling_L7]
    rcases Nat.lt_or_ge p (cz_np z) with hp | hp
    · have ih1 := ih (p + 1) hp (by omega)
      rw [if_neg (nI_ge hp (by omega))]
      have hn1 : nI p + 1 = nI (p + 1) := nI_1 p
      have hcl : (nI p).toNatClampNeg = p := nI_clamp (by omega)
      have hin : inb (nI p) (cz_np z) = true := inb_nI hp (by omega)
      have hd : decide (p < cz_np z) = true := decide_eq_true hp
      simp only [c_isIn_eq, Option.bind_some, jn, hn1, hcl, gd_t hin, gd_t hd, c_debt_eq p x z h hp]
      rw [← ih1]
      simp only [pl]
      generalize cdebt z x p = its
      generalize hpl : pl (cdebt z x) x p = a
      obtain ⟨mo, se⟩ := a
      by_cases a3 : tb x p = true
      · simp only [a3, if_true, if_neg one_ne]
        by_cases h1 : its ≤ mo
        · have h1' : ¬ mo < its := Int32.not_lt.mpr h1
          by_cases h2 : its = mo
          · subst h2; simp
          · simp [h1, h1', h2]
        · have h1' : mo < its := Int32.not_le.mp h1
          simp [h1, h1']
      · simp only [a3, if_true, if_false]
        by_cases h1 : (0 : Int32) ≤ mo
        · have h1' : ¬ mo < 0 := Int32.not_lt.mpr h1
          by_cases h2 : (0 : Int32) = mo
          · subst h2; simp
          · simp [h1, h1', h2]
        · have h1' : mo < 0 := Int32.not_le.mp h1
          simp [h1, h1']
    · have : p = cz_np z := by omega
      subst this
      rw [if_pos (nI_le (Nat.le_refl _) (by omega))]
theorem c_pulling_eq (x : Int32) (z : CZ) (h : cRng z) : c_pulling x z = some ((pl (cdebt z x) x (cz_np z)).2, z) := by
  unfold c_pulling
  exact c_pull_L x z h FU 0 (by omega) (by have := h.2.2.1; show cz_np z < 400 + 0; omega)
