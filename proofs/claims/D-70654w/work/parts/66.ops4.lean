/-! OPERATIONS, pure (4): readings: areSo, notes, often, kinds, back, reading; hail -/
/-- who pulls -/
def pv (c : CZ) (set : Int32) : Int32 := (pl (cdebt c set) set (cz_np c)).2
def b01 (b : Bool) : Int32 := if b = true then 1 else 0
def so (c : CZ) : Nat → Bool
  | 0 => true
  | k + 1 => so c k && decide (pv c (cz_rl c k) = cz_rp c k)
theorem so_false {c : CZ} {j : Nat} (h : so c j = false) : ∀ n, j ≤ n → so c n = false := by
  intro n
  induction n with
  | zero => intro hj; rw [show j = 0 by omega] at h; exact h
  | succ n ih =>
    intro hj
    by_cases hn : j = n + 1
    · rw [← hn]; exact h
    · simp only [so, ih (by omega), Bool.false_and]
theorem b01_and (a b : Bool) : b01 a &&& b01 b = b01 (a && b) := by
  cases a <;> cases b <;> decide
theorem b01_zr (a : Bool) : zr (b01 a) = some (b01 a) := by
  cases a <;> rfl
theorem are_cL {c : CZ} {m : MZ} (R : Rel c m) : ∀ n k, k ≤ cz_nr c → cz_nr c < n + k → c_areSo_L4 n (b01 (so c k)) (nI k) c = some (b01 (so c (cz_nr c)), c) := by
  have h8 : cz_nr c ≤ 8 := R.2.2.2.2.1.2.1
  intro n
  induction n with
  | zero => intro k h1 h2; omega
  | succ n ih =>
    intro k h1 h2
    rw [c_areSo_L4]
    rcases Nat.lt_or_ge k (cz_nr c) with hk | hk
    · have ih1 := ih (k + 1) hk (by omega)
      rw [if_neg (nI_ge hk (by omega))]
      simp only [gd_t (inb_nI hk (by omega)), nI_clamp (show k < 2 ^ 31 by omega), gd_t (decide_eq_true hk), pull_c R, Option.bind_some, jn, nI_1]
      rw [← ih1]
      simp only [so]
      rw [← b01_and]
      show (if pv c (cz_rl c k) = cz_rp c k then _ else _) = _
      by_cases h : pv c (cz_rl c k) = cz_rp c k
      · rw [if_pos h]; simp only [h, decide_true]; rfl
      · rw [if_neg h]; simp only [h, decide_false]; rfl
    · have : k = cz_nr c := by omega
      subst this
      rw [if_pos (nI_le (Nat.le_refl _) (by omega)), b01_zr]
      rfl
theorem are_c {c : CZ} {m : MZ} (R : Rel c m) : c_areSo c = some (b01 (so c (cz_nr c)), c) := by
  have h8 : cz_nr c ≤ 8 := R.2.2.2.2.1.2.1
  unfold c_areSo
  exact are_cL R FU 0 (by omega) (by show cz_nr c < 400 + 0; omega)
theorem are_mL {c : CZ} {m : MZ} (R : Rel c m) : ∀ n k, k ≤ cz_nr c → cz_nr c < n + k → so c k = true → m_areSo_L2 n (nI k) m = some (b01 (so c (cz_nr c)), m) := by
  have h8 : cz_nr c ≤ 8 := R.2.2.2.2.1.2.1
  have h26 := R.2.2.2.2.1.1
  intro n
  induction n with
  | zero => intro k h1 h2; omega
  | succ n ih =>
    intro k h1 h2 hs
    rw [m_areSo_L2]
    rcases Nat.lt_or_ge k (cz_nr c) with hk | hk
    · rw [if_neg (by rw [h26]; exact nI_ge hk (by omega))]
      obtain ⟨e1, e2⟩ := R.2.2.2.2.1.2.2 k hk
      simp only [gd_t (inb_nI (show k < 8 by omega) (by omega)), nI_clamp (show k < 2 ^ 31 by omega), e1, pull_m R, Option.bind_some, e2, nI_1]
      show (if pv c (cz_rl c k) = cz_rp c k then _ else _) = _
      by_cases h : pv c (cz_rl c k) = cz_rp c k
      · rw [if_pos h]
        exact ih (k + 1) hk (by omega) (by simp [so, hs, h])
      · rw [if_neg h, so_false (j := k + 1) (by simp [so, h]) (cz_nr c) hk]
        rfl
    · have : k = cz_nr c := by omega
      subst this
      rw [if_pos (by rw [h26]; exact nI_le (Nat.le_refl _) (by omega)), hs]
      rfl
theorem are_m {c : CZ} {m : MZ} (R : Rel c m) : m_areSo m = some (b01 (so c (cz_nr c)), m) := by
  have h8 : cz_nr c ≤ 8 := R.2.2.2.2.1.2.1
  unfold m_areSo
  exact are_mL R FU 0 (by omega) (by show cz_nr c < 400 + 0; omega) rfl
theorem b01_ite {α : Type} (b : Bool) (x y : α) : (if b01 b = 0 then x else y) = if b = true then y else x := by
  cases b <;> rfl
/-- notes -/
theorem notes_L {i j w : Nat} (hij : i < 5 ∧ j < 5) (hw : w ≤ 9) : ∀ (n v : Nat) (set : Int32) (c : CZ) (m : MZ), Rel c m → v ≤ 10 → 10 < n + v →
    Same (c_notes_L24 (fun (y24_3 : Int32) (y24_4 : Int32) (z24 : CZ) => gd (inb ((nI i * (5 : Int32)) + nI j) 25) (some (y24_4, (cz_a z24 3 ((nI i * (5 : Int32)) + nI j).toNatClampNeg y24_3)))) (nI i) (nI j) n (nI w) set (nI v) c)
      (m_notes_L28 (fun (y28_3 : Int32) (y28_4 : Int32) (z28 : MZ) => gd (inb (((5 : Int32) * nI i) + nI j) 25) (some (y28_4, (mz_a z28 10 (((5 : Int32) * nI i) + nI j).toNatClampNeg y28_3)))) (nI i) (nI j) n (nI w) set (nI v) m) := by
  have hc : i * 5 + j = 5 * i + j := by omega
  have hlt : 5 * i + j < 25 := by omega
  intro n
  induction n with
  | zero => intro v set c m R h1 h2; omega
  | succ n ih =>
    intro v set c m R h1 h2
    rw [c_notes_L24, m_notes_L28]
    simp only [i5, i5', hc, nI_clamp (show 5 * i + j < 2 ^ 31 by omega), gd_t (inb_nI hlt (by decide))]
    rcases Nat.lt_or_ge 9 v with hv | hv
    · have h9 : (9 : Int32) < nI v := nI_lt (a := 9) hv (by omega)
      rw [if_pos h9, if_pos h9]
      exact ⟨_, _, _, rfl, rfl, R.note hlt hw⟩
    · have h9 : ¬ (9 : Int32) < nI v := nI_nlt (b := v) (a := 9) hv (by decide)
      rw [if_neg h9, if_neg h9]
      have R1 := R.note hlt hv
      simp only [are_c R1, are_m R1, Option.bind_some, jn, b01_ite, nI_1]
      have q := fun s => ih (v + 1) s _ _ R1 (by omega) (by omega)
      simp only [i5, i5', hc, nI_clamp (show 5 * i + j < 2 ^ 31 by omega), gd_t (inb_nI hlt (by decide))] at q
      split
      · exact q _
      · exact q _
theorem op_notes {c : CZ} {m : MZ} (R : Rel c m) (a b : Int32) : Same (c_notes a b c) (m_notes a b m) := by
  have hn := R.1.2.2.1
  unfold c_notes m_notes
  rcases notes_in R a b with ⟨i, j, hi, hj, hij, rfl, rfl, e1, e2⟩ | ⟨e1, e2⟩
  · rw [e1, e2]
    simp only [Option.bind_some, if_true, if_neg one_ne]
    rw [c_noteOf_eq i j c (by omega) (by omega)]
    simp only [Option.bind_some]
    obtain ⟨w, hw, ew⟩ := R.1.1 (i * 5 + j) (by omega)
    have e3 : cnote c i j = nI w := ew
    have e4 : m.2 10 ((5 : Int32) * nI i + nI j).toNatClampNeg = nI w := by
      rw [i5, nI_clamp (by omega), R.2.2.2.1 _ (by omega), Nat.mul_comm 5 i]; exact ew
    rw [e3, e4, gd_t (show inb ((5 : Int32) * nI i + nI j) 25 = true by rw [i5]; exact inb_nI (by omega) (by decide))]
    exact notes_L (by omega) hw FU 0 0 c m R (by decide) (by decide)
  · rw [e1, e2]
    exact ⟨_, c, m, rfl, rfl, R⟩
/-- often -/
theorem often_L {w : Nat} (hw : w ≤ 3) : ∀ (n v : Nat) (set : Int32) (c : CZ) (m : MZ), Rel c m → v ≤ 4 → 4 < n + v → Same (c_often_L19 n (nI w) set (nI v) c) (m_often_L19 n (nI w) set (nI v) m) := by
  intro n
  induction n with
  | zero => intro v set c m R h1 h2; omega
  | succ n ih =>
    intro v set c m R h1 h2
    rw [c_often_L19, m_often_L19]
    rcases Nat.lt_or_ge 3 v with hv | hv
    · have h9 : (3 : Int32) < nI v := nI_lt (a := 3) hv (by omega)
      rw [if_pos h9, if_pos h9]
      exact ⟨_, _, _, rfl, rfl, R.times hw⟩
    · have h9 : ¬ (3 : Int32) < nI v := nI_nlt (b := v) (a := 3) hv (by decide)
      rw [if_neg h9, if_neg h9]
      have R1 := R.times hv
      simp only [are_c R1, are_m R1, Option.bind_some, jn, b01_ite, nI_1]
      have q := fun s => ih (v + 1) s _ _ R1 (by omega) (by omega)
      split
      · exact q _
      · exact q _
theorem op_often {c : CZ} {m : MZ} (R : Rel c m) : Same (c_often c) (m_often m) := by
  have hn := R.1.2.2.1
  unfold c_often m_often
  rw [noRiver_eq hn, R.2.1.1]
  simp only [Option.bind_some]
  by_cases h : cz_np c = 0
  · rw [if_pos h, if_pos (show nI (cz_np c) = 0 by rw [h]; rfl)]
    exact ⟨_, c, m, rfl, rfl, R⟩
  · rw [if_neg h, if_neg (nI_ne0 (by omega) (by omega))]
    simp only [if_true]
    obtain ⟨w, hw, ew⟩ := R.1.2.1
    rw [R.2.1.2.2.1, ew]
    exact often_L hw FU 1 0 c m R (by decide) (by decide)
/-- kinds -/
theorem Rel.kind {c : CZ} {m : MZ} (R : Rel c m) {i kd : Nat} (hi : i < cz_np c) (hk : kd ≤ 2) : Rel (cz_K c i kd (cz_l c i)) (mz_a m 8 i (nI kd)) := by
  obtain ⟨⟨h1, h2, h3, h4⟩, r2, r3, r4, r5, r6⟩ := R
  refine ⟨⟨h1, h2, h3, fun x hx => ?_⟩, r2, fun x hx => ?_, r4, r5, r6⟩
  · show (if x = i then kd else cz_k c x) ≤ 2
    split
    · exact hk
    · exact h4 x hx
  · have hx : x < cz_np c := hx
    obtain ⟨g1, g2, g3⟩ := r3 x hx
    refine ⟨?_, ?_, ?_⟩
    · show upd (m.2 8) i (nI kd) x = nI (if x = i then kd else cz_k c x)
      unfold upd
      split
      · rfl
      · exact g1
    · show m.2 9 x = if x = i then cz_l c i else cz_l c x
      split
      · rename_i h; subst h; exact g2
      · exact g2
    · show (if x = i then cz_l c i else cz_l c x) = 0 ∨ (if x = i then cz_l c i else cz_l c x) = 1
      split
      · rename_i h; subst h; exact g3
      · exact g3
theorem kOf_nI {v : Nat} (h : v ≤ 2) : kOf (nI v) = v := by
  rcases (show v = 0 ∨ v = 1 ∨ v = 2 by omega) with rfl | rfl | rfl <;> decide
theorem kinds_L {i k0 : Nat} {l0 : Int32} (hk0 : k0 ≤ 2) : ∀ (n v : Nat) (set : Int32) (c : CZ) (m : MZ), Rel c m → i < cz_np c → cz_l c i = l0 → v ≤ 3 → 3 < n + v → Same (c_kinds_L29 i k0 l0 n set (nI v) c) (m_kinds_L22 (nI i) n (nI k0) set (nI v) m) := by
  intro n
  induction n with
  | zero => intro v set c m R hi hl h1 h2; omega
  | succ n ih =>
    intro v set c m R hi hl h1 h2
    have hn := R.1.2.2.1
    subst hl
    rw [c_kinds_L29, m_kinds_L22]
    simp only [gd_t (decide_eq_true hi), gd_t (inb_nI (show i < 5 by omega) (by decide)), nI_clamp (show i < 2 ^ 31 by omega)]
    rcases Nat.lt_or_ge 2 v with hv | hv
    · have h9 : (3 : Int32) ≤ nI v := nI_le (a := 3) hv (by omega)
      rw [if_pos h9, if_pos h9]
      exact ⟨_, _, _, rfl, rfl, R.kind hi hk0⟩
    · have h9 : ¬ (3 : Int32) ≤ nI v := nI_ge (a := v) (b := 3) (by omega) (by decide)
      rw [if_neg h9, if_neg h9, kOf_nI hv]
      have R1 := R.kind hi hv
      simp only [are_c R1, are_m R1, Option.bind_some, jn, b01_ite, nI_1]
      have q := fun s => ih (v + 1) s _ _ R1 hi (show (if i = i then cz_l c i else cz_l c i) = cz_l c i by simp) (by omega) (by omega)
      split
      · exact q _
      · exact q _
theorem op_kinds {c : CZ} {m : MZ} (R : Rel c m) (a : Int32) : Same (c_kinds a c) (m_kinds a m) := by
  have hn := R.1.2.2.1
  have h5 := R.2.1.1
  unfold c_kinds m_kinds
  rcases isP_or a (n := cz_np c) (by omega) with ⟨i, hi, rfl⟩ | ⟨-, ha⟩
  · rw [c_noPerson_in hn hi, m_isPerson_in h5 hn hi]
    obtain ⟨k1, k2, k3⟩ := R.2.2.1 i hi
    have hk := R.1.2.2.2 i hi
    simp only [Option.bind_some, if_true, if_neg one_ne, nI_clamp (show i < 2 ^ 31 by omega), gd_t (inb_nI hi (by omega)), gd_t (inb_nI (show i < 5 by omega) (by decide)), gd_t (decide_eq_true k3), k1]
    exact kinds_L hk FU 0 0 c m R hi rfl (by decide) (by decide)
  · rw [c_noPerson_out hn ha, m_isPerson_out h5 ha]
    exact ⟨_, c, m, rfl, rfl, R⟩
/-- hail -/
theorem op_hail {c : CZ} {m : MZ} (R : Rel c m) (a : Int32) : Same (c_hail a c) (m_hail a m) := by
  have hn := R.1.2.2.1
  have h5 := R.2.1.1
  unfold c_hail m_hail
  rcases isP_or a (n := cz_np c) (by omega) with ⟨i, hi, rfl⟩ | ⟨-, ha⟩
  · rw [c_noPerson_in hn hi, m_isPerson_in h5 hn hi]
    obtain ⟨k1, k2, k3⟩ := R.2.2.1 i hi
    have hk := R.1.2.2.2 i hi
    have hm : ∀ x : Int32, (mtr m x).2 8 i = m.2 8 i := fun _ => rfl
    simp only [Option.bind_some, if_true, if_neg one_ne, nI_clamp (show i < 2 ^ 31 by omega), gd_t (inb_nI hi (by omega)), gd_t (inb_nI (show i < 5 by omega) (by decide)), gd_t (decide_eq_true hi), jn, m_begins, k1]
    by_cases h2 : cz_k c i = 2
    · have e2 : nI (cz_k c i) = (2 : Int32) := by rw [h2]; rfl
      have e3 : c7_hailed i c = some (40, ctr c 5) := by
        unfold c7_hailed
        rw [gd_t (decide_eq_true hi), gd_t (decide_eq_true h2), tr_eq c i 5 hi]
        simp
      rw [if_pos h2, if_pos e2, e3]
      refine ⟨40, ctr c 5, mtr m 5, rfl, ?_, R.tr 5⟩
      show (if m.2 8 i = 2 then _ else _) = _
      rw [k1, if_pos e2]
      rfl
    · have e2 : ¬ nI (cz_k c i) = (2 : Int32) := fun h => h2 ((nI_eq (b := 2) (by omega) (by decide)).mp h)
      have e3 : c13_hailed i c = some (nI i, ctr c 4) := by
        unfold c13_hailed
        have hd : decide (i < cz_np (ctr c 4)) = true := decide_eq_true hi
        simp [gd, hi, tr_eq c i 4 hi, c5_number, hd, show cz_np (ctr c 4) = cz_np c from rfl]
      rw [if_neg h2, if_neg e2, e3]
      refine ⟨nI i, ctr c 4, mtr m 4, rfl, ?_, R.tr 4⟩
      show (if m.2 8 i = 2 then _ else _) = _
      rw [k1, if_neg e2]
      rfl
  · rw [c_noPerson_out hn ha, m_isPerson_out h5 ha]
    exact ⟨_, c, m, rfl, rfl, R⟩
/-- back -/
theorem Rel.back {c : CZ} {m : MZ} (R : Rel c m) {n : Nat} (h : n ≤ cz_nr c) : Rel (cz_R c n (cz_rl c) (cz_rp c)) (mz_f m 26 (nI n)) := by
  obtain ⟨r1, ⟨e5, e6, e7, e1, e0, e18, e19⟩, r3, r4, ⟨e26, h8, r5⟩, r6⟩ := R
  exact ⟨r1, ⟨e5, e6, e7, e1, e0, e18, e19⟩, r3, r4, ⟨rfl, Nat.le_trans h h8, fun i hi => r5 i (Nat.lt_of_lt_of_le hi h)⟩, r6⟩
theorem back_L {k : Nat} (hk : k ≤ 8) : ∀ (n j : Nat) (z : CZ), j ≤ k → k < n + j → k - j ≤ cz_nr z → c_back_L24 (nI k) n (nI j) z = some (nI (cz_nr z - (k - j)), cz_R z (cz_nr z - (k - j)) (cz_rl z) (cz_rp z)) := by
  intro n
  induction n with
  | zero => intro j z h1 h2; omega
  | succ n ih =>
    intro j z h1 h2 h3
    rw [c_back_L24]
    rcases Nat.lt_or_ge j k with hj | hj
    · have h0 : 0 < cz_nr z := by omega
      have e : cz_nr (cz_R z (cz_nr z - 1) (cz_rl z) (cz_rp z)) = cz_nr z - 1 := rfl
      rw [if_neg (nI_ge hj (by omega)), gd_t (decide_eq_true h0), nI_1, ih (j + 1) _ hj (by omega) (by rw [e]; omega), e, show cz_nr z - 1 - (k - (j + 1)) = cz_nr z - (k - j) by omega]
      rfl
    · have : j = k := by omega
      subst this
      rw [if_pos (nI_le (Nat.le_refl _) (by omega)), show cz_nr z - (j - j) = cz_nr z by omega]
      rfl
theorem op_back {c : CZ} {m : MZ} (R : Rel c m) (x : Int32) : Same (c_back x c) (m_back x m) := by
  have h8 : cz_nr c ≤ 8 := R.2.2.2.2.1.2.1
  have h26 := R.2.2.2.2.1.1
  unfold c_back m_back
  rw [h26]
  rcases btw_or x 0 (cz_nr c) (by omega) (by omega) with ⟨k, hk0, hk, rfl, q⟩ | q
  · rw [c_in_t (a := 0) (b := nI (cz_nr c)) (by decide) rfl q, m_within_t (a := 0) q]
    simp only [Option.bind_some, if_neg one_ne]
    have e := back_L (k := k) (by omega) FU 0 c (by omega) (by show k < 400 + 0; omega) (by omega)
    rw [show nI 0 = (0 : Int32) from rfl, Nat.sub_zero] at e
    rw [e, pk_sub hk]
    exact ⟨_, _, _, rfl, rfl, R.back (by omega)⟩
  · rw [c_in_f (a := 0) (b := nI (cz_nr c)) (by decide) rfl q, m_within_f (a := 0) q]
    exact ⟨_, c, m, rfl, rfl, R⟩
