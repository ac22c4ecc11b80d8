/-! OPERATIONS, pure (10): a river is read -/
def cA (rn : Nat) (rg : Nat → Int32) (i : Nat) : Int32 := if i < rn then rg i else -9
def fg (rn : Nat) (rg : Nat → Int32) (i lo hi : Nat) : Bool := decide (nI lo ≤ cA rn rg i - 48 ∧ cA rn rg i - 48 ≤ nI hi)
def kdO (x : Int32) : Option Nat := if x = 114 then some 0 else if x = 102 then some 1 else if x = 98 then some 2 else none
/-- the first note of one that is none -/
def nrB (rn : Nat) (rg : Nat → Int32) (p t : Nat) : Nat → Nat → Option Nat
  | 0, _ => none
  | r + 1, b => if fg rn rg (t + 3 + b) 0 (if b = p then 0 else 9) = true then nrB rn rg p t r (b + 1) else some b
def nrAt (np p : Nat) : Nat := 4 + p * (3 + np)
/-- what is wrong with the people from p on -/
def nrP (rn : Nat) (rg : Nat → Int32) (np : Nat) : Nat → Nat → Option Int32
  | 0, p => if nrAt np p < rn then some (-100 - nI (nrAt np p)) else none
  | r + 1, p => if cA rn rg (nrAt np p) = 44 then match kdO (cA rn rg (nrAt np p + 1)) with
      | none => some (-101 - nI (nrAt np p))
      | some _ => if fg rn rg (nrAt np p + 2) 0 1 = true then match nrB rn rg p (nrAt np p) np 0 with
          | some b => some (-103 - nI (nrAt np p) - nI b)
          | none => nrP rn rg np r (p + 1)
        else some (-102 - nI (nrAt np p))
    else some (-100 - nI (nrAt np p))
def nrK (rn : Nat) (rg : Nat → Int32) (np p : Nat) : Nat := match kdO (cA rn rg (nrAt np p + 1)) with
  | none => 0
  | some k => k
def nrL (rg : Nat → Int32) (np p : Nat) : Int32 := if rg (nrAt np p + 2) - 48 = 1 then 1 else 0
def nrN (rg : Nat → Int32) (np : Nat) (f : Nat → Int32) : Nat → Int32 := fun k => if k / 5 < np ∧ k % 5 < np then rg (nrAt np (k / 5) + 3 + k % 5) - 48 else f k
/-- the component behind a river that was read -/
def nrZ (rn : Nat) (rg : Nat → Int32) (np : Nat) (z : CZ) : CZ := cz_R (cz_P (cz_w (cz_f (cz_f z 1 (rg 1 - 48)) 2 (rg 2 - 48)) 3 (nrN rg np (z.2.1 3))) np (nrK rn rg np) (nrL rg np)) 0 (cz_rl z) (cz_rp z)
def nrM (rg : Nat → Int32) : Nat := (rg 3 - 48).toNatClampNeg
def c_newRiver (rn : Nat) (rg : Nat → Int32) (z : CZ) : Option (Int32 × CZ) := if cA rn rg 0 = 111 then if fg rn rg 1 1 3 = true then if fg rn rg 2 1 3 = true then if fg rn rg 3 2 5 = true then match nrP rn rg (nrM rg) (nrM rg) 0 with
    | some e => some (e, z)
    | none => some (nI (nrM rg), nrZ rn rg (nrM rg) z)
  else some (-100 - 3, z) else some (-100 - 2, z) else some (-100 - 1, z) else some (-100, z)
def c_river (x1 x2 x3 x4 : Int32) (z : CZ) : Option (Int32 × CZ) := if isSh x1 then if isSo x2 then c_look c_newRiver x1 x2 x3 x4 (cz_f z 8 0) else some (-2, cz_f z 8 0) else some (-1, cz_f z 8 0)
theorem fg_d {rn : Nat} {rg : Nat → Int32} {i lo hi : Nat} (hl : lo ≤ hi) (h9 : hi ≤ 9) (h : fg rn rg i lo hi = true) : i < rn ∧ ∃ d : Nat, lo ≤ d ∧ d ≤ hi ∧ rg i - 48 = nI d := by
  have h := of_decide_eq_true h
  unfold cA at h
  by_cases hi' : i < rn
  · rw [if_pos hi'] at h
    refine ⟨hi', ?_⟩
    rcases btw_or (rg i - 48) lo hi hl (by omega) with ⟨d, d1, d2, d3, -⟩ | q
    · exact ⟨d, d1, d2, d3⟩
    · exact absurd h q
  · rw [if_neg hi'] at h
    exact absurd (Int32.le_trans (nI_pos' (n := lo) (by omega)) h.1) (by decide)
/-- figures, told by either side -/
theorem fig_iff (x : Int32) {lo hi : Nat} (hl : lo ≤ hi) (h9 : hi ≤ 9) : ((48 : Int32) + nI lo ≤ x ∧ x ≤ (48 : Int32) + nI hi) ↔ (nI lo ≤ x - 48 ∧ x - 48 ≤ nI hi) := by
  have e48 : (48 : Int32) = nI 48 := rfl
  constructor
  · intro h
    rw [e48, nI_add, nI_add] at h
    rcases btw_or x (48 + lo) (48 + hi) (by omega) (by omega) with ⟨d, d1, d2, rfl, -⟩ | q
    · rw [e48, pk_sub (by omega)]
      exact ⟨nI_le (by omega) (by omega), nI_le (by omega) (by omega)⟩
    · exact absurd h q
  · intro h
    rcases btw_or (x - 48) lo hi hl (by omega) with ⟨d, d1, d2, e, -⟩ | q
    · have : x = nI (48 + d) := by
        have h1 : x = 48 + (x - 48) := by rw [Int32.add_comm, Int32.sub_add_cancel]
        rw [h1, e, e48, nI_add]
      rw [this, e48, nI_add, nI_add]
      exact ⟨nI_le (by omega) (by omega), nI_le (by omega) (by omega)⟩
    · exact absurd h q
section READ
variable {n first : Nat} {rg : Nat → Int32}
theorem sg_eq {m : MZ} {pos : Nat} {code : Int32} (hf : first + n ≤ 240) (hrg : ∀ i, i < n → m.2 4 (first + i) = rg i) (hp : pos ≤ n) (h11 : m.1 11 = nI (first + pos)) (hc : ¬ -9 = code) : m_isSign (nI (first + n)) code m = if cA n rg pos = code then some (1, mz_f m 11 (nI (first + pos + 1))) else some (0, m) := by
  unfold m_isSign cA
  rw [h11]
  rcases Nat.lt_or_ge pos n with h | h
  · rw [if_neg (nI_ge (by omega) (by omega)), gd_t (inb_nI (show first + pos < 240 by omega) (by decide)), nI_clamp (by omega), hrg pos h, if_pos h, nI_1]
    split
    · rfl
    · rfl
  · rw [if_pos (nI_le (by omega) (by omega)), if_neg (show ¬ pos < n by omega), if_neg hc]
    rfl
theorem dg_eq {m : MZ} {pos lo hi : Nat} {x2 x3 : Int32} (e2 : x2 = nI lo) (e3 : x3 = nI hi) (hf : first + n ≤ 240) (hrg : ∀ i, i < n → m.2 4 (first + i) = rg i) (hp : pos ≤ n) (h11 : m.1 11 = nI (first + pos)) (hl : lo ≤ hi) (h9 : hi ≤ 9) : m_digit (nI (first + n)) x2 x3 m = if fg n rg pos lo hi = true then some (rg pos - 48, mz_f m 11 (nI (first + pos + 1))) else some (-9, m) := by
  subst e2 e3
  unfold m_digit
  rw [h11]
  rcases Nat.lt_or_ge pos n with h | h
  · rw [if_neg (nI_ge (by omega) (by omega)), gd_t (inb_nI (show first + pos < 240 by omega) (by decide)), nI_clamp (by omega), hrg pos h, nI_1]
    have e11 : (mz_f m 11 (nI (first + pos + 1))).1 11 = nI (first + pos + 1) := rfl
    have e4 : ∀ x, (mz_f m 11 (nI (first + pos + 1))).2 4 x = m.2 4 x := fun _ => rfl
    rw [e11, nI_pred, e4, gd_t (inb_nI (show first + pos < 240 by omega) (by decide)), nI_clamp (show first + pos < 2 ^ 31 by omega), hrg pos h, m_within_eq]
    have hfg : fg n rg pos lo hi = decide (nI lo ≤ rg pos - 48 ∧ rg pos - 48 ≤ nI hi) := by
      unfold fg cA
      rw [if_pos h]
    rw [hfg]
    by_cases q : nI lo ≤ rg pos - 48 ∧ rg pos - 48 ≤ nI hi
    · rw [if_pos ((fig_iff _ hl h9).mpr q), if_pos (decide_eq_true q)]
      simp only [Option.bind_some, if_neg one_ne]
    · rw [if_neg (fun h => q ((fig_iff _ hl h9).mp h)), if_neg (by simp [q])]
      simp only [Option.bind_some, if_true]
  · rw [if_pos (nI_le (by omega) (by omega)), if_neg]
    intro q
    have := (fg_d hl h9 q).1
    omega
end READ
/-- what reading leaves alone -/
def MS (m m' : MZ) : Prop := (∀ j, (j < 11 ∨ 14 < j) → m'.1 j = m.1 j) ∧ ∀ j, (j < 15 ∨ 17 < j) → m'.2 j = m.2 j
theorem MS.rfl' (m : MZ) : MS m m := ⟨fun _ _ => rfl, fun _ _ => rfl⟩
theorem MS.trans' {a b c : MZ} (h : MS a b) (h' : MS b c) : MS a c := ⟨fun j hj => (h'.1 j hj).trans (h.1 j hj), fun j hj => (h'.2 j hj).trans (h.2 j hj)⟩
theorem MS.f {a b : MZ} (h : MS a b) {k : Nat} (hk : 11 ≤ k ∧ k ≤ 14) (v : Int32) : MS a (mz_f b k v) := by
  refine ⟨fun j hj => ?_, h.2⟩
  show upd b.1 k v j = _
  unfold upd
  rw [if_neg (by omega)]; exact h.1 j hj
theorem MS.a {a b : MZ} (h : MS a b) {k : Nat} (hk : 15 ≤ k ∧ k ≤ 17) (i : Nat) (v : Int32) : MS a (mz_a b k i v) := by
  refine ⟨h.1, fun j hj => ?_⟩
  show (if j = k then _ else b.2 j) = _
  rw [if_neg (by omega)]; exact h.2 j hj
theorem Rel.ms {c : CZ} {m m' : MZ} (R : Rel c m) (h : MS m m') : Rel c m' := by
  obtain ⟨r1, ⟨e5, e6, e7, e1, e0, e18, e19⟩, r3, r4, r5, r6⟩ := R
  refine ⟨r1, ⟨by rw [h.1 5 (by omega)]; exact e5, by rw [h.1 6 (by omega)]; exact e6, by rw [h.1 7 (by omega)]; exact e7, by rw [h.1 1 (by omega)]; exact e1, by rw [h.1 0 (by omega)]; exact e0, by rw [h.1 18 (by omega)]; exact e18, by rw [h.1 19 (by omega)]; exact e19⟩, ?_, ?_, ?_, ?_⟩
  · intro i hi
    rw [h.2 8 (by omega), h.2 9 (by omega)]; exact r3 i hi
  · intro i hi
    rw [h.2 10 (by omega)]; exact r4 i hi
  · rw [h.1 26 (by omega), h.2 27 (by omega), h.2 28 (by omega)]; exact r5
  · intro x hx
    exact shRel_other (r6 x hx) (by rw [h.2 2 (by omega)]) (by rw [h.2 3 (by omega)]) (fun i _ => by rw [h.2 4 (by omega)])
/-- the notes of one, read -/
theorem rp_L {n first np p t : Nat} {rg : Nat → Int32} (hf : first + n ≤ 240) (hnp : np ≤ 5) (hp : p < np) : ∀ (f q : Nat) (m : MZ), q ≤ np → np < f + q → t + 3 + q ≤ n → m.1 14 = nI np → m.1 11 = nI (first + (t + 3 + q)) → (∀ i, i < n → m.2 4 (first + i) = rg i) → (∃ b m', nrB n rg p t (np - q) q = some b ∧ m_readPerson_L112 (nI (first + n)) (nI p) f (nI q) m = some (0, m') ∧ m'.1 11 = nI (first + (t + 3 + b)) ∧ MS m m') ∨ (∃ m', nrB n rg p t (np - q) q = none ∧ t + 3 + np ≤ n ∧ m_readPerson_L112 (nI (first + n)) (nI p) f (nI q) m = some (1, m') ∧ (∀ j, j ≠ 11 → m'.1 j = m.1 j) ∧ m'.1 11 = nI (first + (t + 3 + np)) ∧ (∀ j, j ≠ 17 → m'.2 j = m.2 j) ∧ ∀ x, m'.2 17 x = if 5 * p + q ≤ x ∧ x < 5 * p + np then rg (t + 3 + (x - 5 * p)) - 48 else m.2 17 x) := by
  intro f
  induction f with
  | zero => intro q m h1 h2; omega
  | succ f ih =>
    intro q m h1 h2 h3 h14 h11 hrg
    rw [m_readPerson_L112, h14]
    rcases Nat.lt_or_ge q np with hq | hq
    · obtain ⟨r, hr⟩ : ∃ r, np - q = r + 1 := ⟨np - q - 1, by omega⟩
      rw [if_neg (nI_ge hq (by omega)), hr, nrB]
      simp only [jn, i5]
      have hx : (if nI q = nI p then (m_digit (nI (first + n)) 0 0 m).bind (fun r146 => gd (inb (nI (5 * p + q)) 25) (gd (inb (nI (5 * p + q)) 25) (if ((mz_a r146.2 17 (nI (5 * p + q)).toNatClampNeg r146.1).2 17 (nI (5 * p + q)).toNatClampNeg) = (-9 : Int32) then (zr (0 : Int32)).bind (fun r => some (r, (mz_a r146.2 17 (nI (5 * p + q)).toNatClampNeg r146.1))) else m_readPerson_L112 (nI (first + n)) (nI p) f (nI q + 1) (mz_a r146.2 17 (nI (5 * p + q)).toNatClampNeg r146.1)))) else (m_digit (nI (first + n)) 0 9 m).bind (fun r146 => gd (inb (nI (5 * p + q)) 25) (gd (inb (nI (5 * p + q)) 25) (if ((mz_a r146.2 17 (nI (5 * p + q)).toNatClampNeg r146.1).2 17 (nI (5 * p + q)).toNatClampNeg) = (-9 : Int32) then (zr (0 : Int32)).bind (fun r => some (r, (mz_a r146.2 17 (nI (5 * p + q)).toNatClampNeg r146.1))) else m_readPerson_L112 (nI (first + n)) (nI p) f (nI q + 1) (mz_a r146.2 17 (nI (5 * p + q)).toNatClampNeg r146.1))))) = (if fg n rg (t + 3 + q) 0 (if q = p then 0 else 9) = true then m_readPerson_L112 (nI (first + n)) (nI p) f (nI (q + 1)) (mz_a (mz_f m 11 (nI (first + (t + 3 + q) + 1))) 17 (5 * p + q) (rg (t + 3 + q) - 48)) else some (0, mz_a m 17 (5 * p + q) (-9))) := by
        have e9 : ∀ (z : MZ) (v : Int32), (mz_a z 17 (5 * p + q) v).2 17 (5 * p + q) = v := fun z v => by
          show upd (z.2 17) (5 * p + q) v (5 * p + q) = v
          exact if_pos rfl
        simp only [gd_t (inb_nI (show 5 * p + q < 25 by omega) (by decide)), nI_clamp (show 5 * p + q < 2 ^ 31 by omega), e9, nI_1]
        have go : ∀ (hi : Nat) (x3 : Int32), hi ≤ 9 → x3 = nI hi → (m_digit (nI (first + n)) 0 x3 m).bind (fun r146 => if r146.1 = (-9 : Int32) then (zr (0 : Int32)).bind (fun r => some (r, (mz_a r146.2 17 (5 * p + q) r146.1))) else m_readPerson_L112 (nI (first + n)) (nI p) f (nI (q + 1)) (mz_a r146.2 17 (5 * p + q) r146.1)) = (if fg n rg (t + 3 + q) 0 hi = true then m_readPerson_L112 (nI (first + n)) (nI p) f (nI (q + 1)) (mz_a (mz_f m 11 (nI (first + (t + 3 + q) + 1))) 17 (5 * p + q) (rg (t + 3 + q) - 48)) else some (0, mz_a m 17 (5 * p + q) (-9))) := by
          intro hi x3 h9 e3
          rw [dg_eq (x2 := 0) (lo := 0) (hi := hi) rfl e3 hf hrg h3 h11 (by omega) h9]
          by_cases hg : fg n rg (t + 3 + q) 0 hi = true
          · obtain ⟨-, d, -, d2, ed⟩ := fg_d (by omega) h9 hg
            rw [if_pos hg, if_pos hg]
            simp only [Option.bind_some]
            rw [ed, if_neg (ne9 (by omega))]
          · rw [if_neg hg, if_neg hg]
            rfl
        by_cases hqp : q = p
        · subst hqp
          rw [if_pos rfl, if_pos rfl]
          exact go 0 0 (by omega) rfl
        · rw [if_neg (fun h => hqp ((nI_eq (by omega) (by omega)).mp h)), if_neg hqp]
          exact go 9 9 (by omega) rfl
      rw [hx]
      have h09 : (if q = p then 0 else 9) ≤ 9 := by split <;> omega
      by_cases hg : fg n rg (t + 3 + q) 0 (if q = p then 0 else 9) = true
      · rw [if_pos hg, if_pos hg]
        have hlt := (fg_d (by omega) h09 hg).1
        have hr' : r = np - (q + 1) := by omega
        rw [hr']
        rcases ih (q + 1) (mz_a (mz_f m 11 (nI (first + (t + 3 + q) + 1))) 17 (5 * p + q) (rg (t + 3 + q) - 48)) (by omega) (by omega) (by omega) h14 (by show nI (first + (t + 3 + q) + 1) = _; rw [show first + (t + 3 + q) + 1 = first + (t + 3 + (q + 1)) by omega]) hrg with ⟨b, m', g1, g2, g3, g4⟩ | ⟨m', g1, g2, g3, g4, g5, g6, g7⟩
        · exact Or.inl ⟨b, m', g1, g2, g3, (((MS.rfl' m).f (k := 11) (by omega) _).a (k := 17) (by omega) _ _).trans' g4⟩
        · refine Or.inr ⟨m', g1, g2, g3, fun j hj => ?_, g5, fun j hj => ?_, fun x => ?_⟩
          · rw [g4 j hj]
            show upd m.1 11 _ j = _
            exact if_neg hj
          · rw [g6 j hj]
            show (if j = 17 then _ else m.2 j) = _
            rw [if_neg hj]
          · rw [g7 x]
            show (if _ then _ else upd (m.2 17) (5 * p + q) (rg (t + 3 + q) - 48) x) = _
            unfold upd
            by_cases hxq : x = 5 * p + q
            · rw [if_neg (by omega), if_pos hxq, if_pos (by omega), show t + 3 + (x - 5 * p) = t + 3 + q by omega]
            · rw [if_neg hxq]
              by_cases hc : 5 * p + (q + 1) ≤ x ∧ x < 5 * p + np
              · rw [if_pos hc, if_pos (by omega)]
              · rw [if_neg hc, if_neg (by omega)]
      · rw [if_neg hg, if_neg hg]
        exact Or.inl ⟨q, _, rfl, rfl, h11, (MS.rfl' m).a (k := 17) (by omega) _ _⟩
    · have : q = np := by omega
      subst this
      rw [if_pos (nI_le (Nat.le_refl _) (by omega)), Nat.sub_self, nrB]
      refine Or.inr ⟨m, rfl, h3, rfl, fun _ _ => rfl, h11, fun _ _ => rfl, fun x => ?_⟩
      rw [if_neg (by omega)]
/-- one, read -/
theorem rp_eq {n first np p t : Nat} {rg : Nat → Int32} (hf : first + n ≤ 240) (hnp : np ≤ 5) (hp : p < np) (m : MZ) (h3 : t + 1 ≤ n) (h14 : m.1 14 = nI np) (h11 : m.1 11 = nI (first + (t + 1))) (hrg : ∀ i, i < n → m.2 4 (first + i) = rg i) : (∃ e m', (match kdO (cA n rg (t + 1)) with
      | none => some (t + 1)
      | some _ => if fg n rg (t + 2) 0 1 = true then match nrB n rg p t np 0 with
          | some b => some (t + 3 + b)
          | none => none
        else some (t + 2)) = some e ∧ m_readPerson (nI (first + n)) (nI p) m = some (0, m') ∧ m'.1 11 = nI (first + e) ∧ MS m m') ∨ ∃ kd m', kdO (cA n rg (t + 1)) = some kd ∧ fg n rg (t + 2) 0 1 = true ∧ nrB n rg p t np 0 = none ∧ t + 3 + np ≤ n ∧ m_readPerson (nI (first + n)) (nI p) m = some (1, m') ∧ (∀ j, j ≠ 11 → m'.1 j = m.1 j) ∧ m'.1 11 = nI (first + (t + 3 + np)) ∧ (∀ j, j ≠ 15 → j ≠ 16 → j ≠ 17 → m'.2 j = m.2 j) ∧ m'.2 15 = upd (m.2 15) p (nI kd) ∧ m'.2 16 = upd (m.2 16) p (rg (t + 2) - 48) ∧ ∀ x, m'.2 17 x = if 5 * p ≤ x ∧ x < 5 * p + np then rg (t + 3 + (x - 5 * p)) - 48 else m.2 17 x := by
  have e15 : ∀ (z : MZ) (v : Int32), (mz_a z 15 p v).2 15 p = v := fun z v => by
    show upd (z.2 15) p v p = v
    exact if_pos rfl
  have e16 : ∀ (z : MZ) (v : Int32), (mz_a z 16 p v).2 16 p = v := fun z v => by
    show upd (z.2 16) p v p = v
    exact if_pos rfl
  have hread : m_readPerson (nI (first + n)) (nI p) m = (match kdO (cA n rg (t + 1)) with
      | none => some (0, mz_a m 15 p (-9))
      | some kd => (m_digit (nI (first + n)) 0 1 (mz_f (mz_a m 15 p (nI kd)) 11 (nI (first + (t + 2))))).bind (fun r92 => if r92.1 = (-9 : Int32) then some (0, mz_a r92.2 16 p r92.1) else m_readPerson_L112 (nI (first + n)) (nI p) FU 0 (mz_a r92.2 16 p r92.1))) := by
    have h11' : ∀ v, (mz_a m 15 p v).1 11 + 1 = nI (first + (t + 2)) := fun v => by
      show m.1 11 + 1 = _
      rw [h11, nI_1, show first + (t + 1) + 1 = first + (t + 2) by omega]
    unfold m_readPerson
    simp only [jn, gd_t (inb_nI (show p < 5 by omega) (by decide)), nI_clamp (show p < 2 ^ 31 by omega), e15, e16, h11']
    have zr0 : ∀ z : MZ, ((zr (0 : Int32)).bind fun r => some (r, z)) = some (0, z) := fun _ => rfl
    simp only [zr0]
    unfold kdO cA
    rw [h11]
    rcases Nat.lt_or_ge (t + 1) n with h | h
    · rw [if_neg (nI_ge (by omega) (by omega)), gd_t (inb_nI (show first + (t + 1) < 240 by omega) (by decide)), nI_clamp (by omega), hrg _ h, if_pos h]
      by_cases a1 : rg (t + 1) = 114
      · rw [if_pos a1, if_pos a1]
        rfl
      · rw [if_neg a1, if_neg a1]
        by_cases a2 : rg (t + 1) = 102
        · rw [if_pos a2, if_pos a2]
          rfl
        · rw [if_neg a2, if_neg a2]
          by_cases a3 : rg (t + 1) = 98
          · rw [if_pos a3, if_pos a3]
            rfl
          · rw [if_neg a3, if_neg a3, if_pos trivial]
    · rw [if_pos (nI_le (by omega) (by omega)), if_neg (show ¬ t + 1 < n by omega)]
      rfl
  rw [hread]
  cases hk : kdO (cA n rg (t + 1)) with
  | none =>
    exact Or.inl ⟨t + 1, _, rfl, rfl, h11, (MS.rfl' m).a (k := 15) (by omega) _ _⟩
  | some kd =>
    have hlt : t + 1 < n := by
      rcases Nat.lt_or_ge (t + 1) n with h | h
      · exact h
      · unfold cA at hk
        rw [if_neg (by omega), show kdO (-9) = none by decide] at hk
        cases hk
    simp only
    rw [dg_eq (m := mz_f (mz_a m 15 p (nI kd)) 11 (nI (first + (t + 2)))) (n := n) (first := first) (rg := rg) (pos := t + 2) (x2 := 0) (x3 := 1) (lo := 0) (hi := 1) rfl rfl hf hrg (by omega) rfl (by omega) (by omega)]
    by_cases hg : fg n rg (t + 2) 0 1 = true
    · obtain ⟨hlt2, d, -, d2, ed⟩ := fg_d (by omega) (by omega) hg
      rw [if_pos hg, if_pos hg]
      simp only [Option.bind_some]
      rw [if_neg (show ¬ rg (t + 2) - 48 = -9 by rw [ed]; exact ne9 (by omega))]
      have hL := rp_L (n := n) (first := first) (np := np) (p := p) (t := t) (rg := rg) hf hnp hp FU 0 (mz_a (mz_f (mz_f (mz_a m 15 p (nI kd)) 11 (nI (first + (t + 2)))) 11 (nI (first + (t + 2) + 1))) 16 p (rg (t + 2) - 48)) (by omega) (by show np < 400 + 0; omega) (by omega) h14 (by show nI (first + (t + 2) + 1) = _; rw [show first + (t + 2) + 1 = first + (t + 3 + 0) by omega]) hrg
      rw [Nat.sub_zero, show nI 0 = (0 : Int32) from rfl] at hL
      have hms : MS m (mz_a (mz_f (mz_f (mz_a m 15 p (nI kd)) 11 (nI (first + (t + 2)))) 11 (nI (first + (t + 2) + 1))) 16 p (rg (t + 2) - 48)) := ((((MS.rfl' m).a (k := 15) (by omega) _ _).f (k := 11) (by omega) _).f (k := 11) (by omega) _).a (k := 16) (by omega) _ _
      rcases hL with ⟨b, m', g1, g2, g3, g4⟩ | ⟨m', g1, g2, g3, g4, g5, g6, g7⟩
      · rw [g1]
        exact Or.inl ⟨t + 3 + b, m', rfl, g2, g3, hms.trans' g4⟩
      · refine Or.inr ⟨kd, m', rfl, hg, g1, g2, g3, fun j hj => ?_, g5, fun j a1 a2 a3 => ?_, ?_, ?_, fun x => ?_⟩
        · rw [g4 j hj]
          show upd (upd m.1 11 _) 11 _ j = _
          unfold upd
          rw [if_neg hj, if_neg hj]
        · rw [g6 j a3]
          show (if j = 16 then _ else if j = 15 then _ else m.2 j) = _
          rw [if_neg a2, if_neg a1]
        · rw [g6 15 (by decide)]; rfl
        · rw [g6 16 (by decide)]; rfl
        · rw [g7 x, Nat.add_zero]; rfl
    · rw [if_neg hg, if_neg hg]
      exact Or.inl ⟨t + 2, _, rfl, rfl, rfl, (((MS.rfl' m).a (k := 15) (by omega) _ _).f (k := 11) (by omega) _).a (k := 16) (by omega) _ _⟩
/-- those before p, read -/
def rdd (n : Nat) (rg : Nat → Int32) (np p : Nat) (m : MZ) : Prop := ∀ i, i < p → (∃ kd, kdO (cA n rg (nrAt np i + 1)) = some kd ∧ m.2 15 i = nI kd) ∧ fg n rg (nrAt np i + 2) 0 1 = true ∧ m.2 16 i = rg (nrAt np i + 2) - 48 ∧ ∀ q, q < np → fg n rg (nrAt np i + 3 + q) 0 (if q = i then 0 else 9) = true ∧ m.2 17 (5 * i + q) = rg (nrAt np i + 3 + q) - 48
theorem nrB_none {n : Nat} {rg : Nat → Int32} {p t : Nat} : ∀ (r b : Nat), nrB n rg p t r b = none → ∀ q, b ≤ q → q < b + r → fg n rg (t + 3 + q) 0 (if q = p then 0 else 9) = true := by
  intro r
  induction r with
  | zero => intro b _ q h1 h2; omega
  | succ r ih =>
    intro b h q h1 h2
    rw [nrB] at h
    by_cases hg : fg n rg (t + 3 + b) 0 (if b = p then 0 else 9) = true
    · rw [if_pos hg] at h
      by_cases hq : q = b
      · rw [hq]; exact hg
      · exact ih (b + 1) h q (by omega) (by omega)
    · rw [if_neg hg] at h
      cases h
theorem nrAt_s (np p : Nat) : nrAt np (p + 1) = nrAt np p + 3 + np := by
  unfold nrAt
  rw [Nat.succ_mul]
  omega
theorem rr_L {n first np : Nat} {rg : Nat → Int32} (hf : first + n ≤ 240) (hnp : np ≤ 5) (hnp1 : 1 ≤ np) : ∀ (r p f : Nat) (m : MZ), p + r = np → r < f → nrAt np p ≤ n → m.1 14 = nI np → m.1 11 = nI (first + nrAt np p) → (∀ i, i < n → m.2 4 (first + i) = rg i) → rdd n rg np p m → (∃ e m', nrP n rg np r p = some e ∧ m_readRiver_L80 (fun (z80 : MZ) => if (z80.1 11) = nI (first + n) then (zr (1 : Int32)).bind (fun r => some (r, z80)) else (zr (0 : Int32)).bind (fun r => some (r, z80))) (nI (first + n)) f (nI p) m = some (0, m') ∧ (-100 : Int32) - ((m'.1 11) - nI first) = e ∧ MS m m') ∨ (∃ m', nrP n rg np r p = none ∧ m_readRiver_L80 (fun (z80 : MZ) => if (z80.1 11) = nI (first + n) then (zr (1 : Int32)).bind (fun r => some (r, z80)) else (zr (0 : Int32)).bind (fun r => some (r, z80))) (nI (first + n)) f (nI p) m = some (1, m') ∧ (∀ j, j ≠ 11 → m'.1 j = m.1 j) ∧ MS m m' ∧ rdd n rg np np m') := by
  have pos : ∀ x : Nat, nI (first + x) - nI first = nI x := fun x => by rw [pk_sub (by omega), show first + x - first = x by omega]
  intro r
  induction r with
  | zero =>
    intro p f m hp hfu hn h14 h11 hrg hrd
    obtain ⟨f', rfl⟩ : ∃ f', f = f' + 1 := ⟨f - 1, by omega⟩
    have : p = np := by omega
    subst this
    rw [nrP, m_readRiver_L80, h14, if_pos (nI_le (Nat.le_refl _) (by omega)), h11]
    by_cases h : nrAt p p < n
    · rw [if_pos h, if_neg (fun q => by have := (nI_eq (by omega) (by omega)).mp q; omega)]
      exact Or.inl ⟨_, m, rfl, rfl, by rw [h11, pos], MS.rfl' m⟩
    · rw [if_neg h, if_pos (by rw [show nrAt p p = n by omega])]
      exact Or.inr ⟨m, rfl, rfl, fun _ _ => rfl, MS.rfl' m, hrd⟩
  | succ r ih =>
    intro p f m hp hfu hn h14 h11 hrg hrd
    obtain ⟨f', rfl⟩ : ∃ f', f = f' + 1 := ⟨f - 1, by omega⟩
    rw [nrP, m_readRiver_L80, h14, if_neg (nI_ge (show p < np by omega) (by omega)), sg_eq hf hrg hn h11 (by decide)]
    by_cases hc : cA n rg (nrAt np p) = 44
    · rw [if_pos hc, if_pos hc]
      simp only [Option.bind_some, if_neg one_ne]
      have hlt : nrAt np p < n := by
        rcases Nat.lt_or_ge (nrAt np p) n with h | h
        · exact h
        · unfold cA at hc
          rw [if_neg (by omega)] at hc
          exact absurd hc (by decide)
      rcases rp_eq (n := n) (first := first) (np := np) (p := p) (t := nrAt np p) (rg := rg) hf hnp (by omega) (mz_f m 11 (nI (first + nrAt np p + 1))) hlt h14 (by show nI (first + nrAt np p + 1) = _; rw [Nat.add_assoc]) hrg with ⟨e, m', g1, g2, g3, g4⟩ | ⟨kd, m', g1, g2, g3, g4, g5, g6, g7, g8, g9, g10, g11⟩
      · rw [g2]
        simp only [Option.bind_some, if_true]
        refine Or.inl ⟨-100 - nI e, m', ?_, rfl, by rw [g3, pos], ((MS.rfl' m).f (k := 11) (by omega) _).trans' g4⟩
        have e1 : (-101 : Int32) - nI (nrAt np p) = -100 - nI (nrAt np p + 1) := by rw [← nI_1]; grind
        have e2 : (-102 : Int32) - nI (nrAt np p) = -100 - nI (nrAt np p + 2) := by rw [← nI_add _ 2, show nI 2 = (2 : Int32) from rfl]; grind
        have e3 : ∀ b : Nat, (-103 : Int32) - nI (nrAt np p) - nI b = -100 - nI (nrAt np p + 3 + b) := fun b => by rw [← nI_add _ b, ← nI_add _ 3, show nI 3 = (3 : Int32) from rfl]; grind
        cases hk : kdO (cA n rg (nrAt np p + 1)) with
        | none => rw [hk] at g1; cases g1; simp only; rw [e1]
        | some kd =>
          rw [hk] at g1
          simp only at g1 ⊢
          by_cases hg : fg n rg (nrAt np p + 2) 0 1 = true
          · rw [if_pos hg] at g1 ⊢
            cases hb : nrB n rg p (nrAt np p) np 0 with
            | none => rw [hb] at g1; cases g1
            | some b => rw [hb] at g1; cases g1; simp only; rw [e3]
          · rw [if_neg hg] at g1 ⊢
            cases g1
            rw [e2]
      · rw [g5]
        simp only [Option.bind_some, if_neg one_ne, g1, if_pos g2, g3, nI_1]
        have hms : MS m m' := by
          refine ⟨fun j hj => ?_, fun j hj => ?_⟩
          · rw [g6 j (by omega)]
            show upd m.1 11 _ j = _
            exact if_neg (by omega)
          · exact g8 j (by omega) (by omega) (by omega)
        have hall := nrB_none np 0 g3
        rcases ih (p + 1) f' m' (by omega) (by omega) (by rw [nrAt_s]; exact g4) (by rw [g6 14 (by decide)]; exact h14) (by rw [g7, nrAt_s]) (fun i hi => by rw [g8 4 (by decide) (by decide) (by decide)]; exact hrg i hi) (fun i hi => by
          by_cases hip : i = p
          · subst hip
            refine ⟨⟨kd, g1, by rw [g9]; exact if_pos rfl⟩, g2, by rw [g10]; exact if_pos rfl, fun q hq => ⟨hall q (by omega) (by omega), ?_⟩⟩
            rw [g11, if_pos (by omega), show 5 * i + q - 5 * i = q by omega]
          · obtain ⟨⟨kd', a1, a2⟩, a3, a4, a5⟩ := hrd i (by omega)
            refine ⟨⟨kd', a1, ?_⟩, a3, ?_, fun q hq => ⟨(a5 q hq).1, ?_⟩⟩
            · rw [g9]
              show upd (m.2 15) p (nI kd) i = _
              unfold upd
              rw [if_neg hip]; exact a2
            · rw [g10]
              show upd (m.2 16) p _ i = _
              unfold upd
              rw [if_neg hip]; exact a4
            · rw [g11, if_neg (by omega)]; exact (a5 q hq).2) with ⟨e, m2, b1, b2, b3, b4⟩ | ⟨m2, b1, b2, b3, b4, b5⟩
        · exact Or.inl ⟨e, m2, b1, b2, b3, hms.trans' b4⟩
        · refine Or.inr ⟨m2, b1, b2, fun j hj => ?_, hms.trans' b4, b5⟩
          rw [b3 j hj, g6 j hj]
          show upd m.1 11 _ j = _
          exact if_neg hj
    · rw [if_neg hc, if_neg hc]
      exact Or.inl ⟨_, m, rfl, rfl, by rw [h11, pos], MS.rfl' m⟩
/-- taking what was read -/
theorem tk_in {np p : Nat} (hnp : np ≤ 5) (hp : p < np) (K : MZ → Option MZ) : ∀ (f q : Nat) (m : MZ), q ≤ np → np < f + q → m.1 5 = nI np → ∃ m', m_takeRiver_L60 K (nI p) f (nI q) m = K m' ∧ m'.1 = m.1 ∧ (∀ j, j ≠ 10 → m'.2 j = m.2 j) ∧ ∀ x, m'.2 10 x = if 5 * p + q ≤ x ∧ x < 5 * p + np then m.2 17 x else m.2 10 x := by
  intro f
  induction f with
  | zero => intro q m h1 h2; omega
  | succ f ih =>
    intro q m h1 h2 h5
    rw [m_takeRiver_L60, h5]
    rcases Nat.lt_or_ge q np with hq | hq
    · rw [if_neg (nI_ge hq (by omega)), i5, gd_t (inb_nI (show 5 * p + q < 25 by omega) (by decide)), gd_t (inb_nI (show 5 * p + q < 25 by omega) (by decide)), nI_clamp (by omega), nI_1]
      obtain ⟨m', g1, g2, g3, g4⟩ := ih (q + 1) (mz_a m 10 (5 * p + q) (m.2 17 (5 * p + q))) hq (by omega) h5
      refine ⟨m', g1, g2, fun j hj => ?_, fun x => ?_⟩
      · rw [g3 j hj]
        show (if j = 10 then _ else m.2 j) = _
        rw [if_neg hj]
      · rw [g4 x]
        show (if _ then m.2 17 x else upd (m.2 10) (5 * p + q) (m.2 17 (5 * p + q)) x) = _
        unfold upd
        by_cases hx : x = 5 * p + q
        · rw [if_neg (by omega), if_pos hx, if_pos (by omega), hx]
        · rw [if_neg hx]
          by_cases hc : 5 * p + (q + 1) ≤ x ∧ x < 5 * p + np
          · rw [if_pos hc, if_pos (by omega)]
          · rw [if_neg hc, if_neg (by omega)]
    · have : q = np := by omega
      subst this
      rw [if_pos (nI_le (Nat.le_refl _) (by omega))]
      exact ⟨m, rfl, rfl, fun _ _ => rfl, fun x => by rw [if_neg (by omega)]⟩
theorem tk_L {np : Nat} (hnp : np ≤ 5) (m0 : MZ) : ∀ (f p : Nat) (m : MZ), p ≤ np → np < f + p → m.1 5 = nI np → m.1 = m0.1 → (∀ j, j ≠ 8 → j ≠ 9 → j ≠ 10 → m.2 j = m0.2 j) → (∀ i, i < p → m.2 8 i = m0.2 15 i ∧ m.2 9 i = m0.2 16 i) → (∀ x, m.2 10 x = if x / 5 < p ∧ x % 5 < np then m0.2 17 x else m0.2 10 x) → ∃ m', m_takeRiver_L26 f (nI p) m = some m' ∧ m'.1 = upd m0.1 26 0 ∧ (∀ j, j ≠ 8 → j ≠ 9 → j ≠ 10 → m'.2 j = m0.2 j) ∧ (∀ i, i < np → m'.2 8 i = m0.2 15 i ∧ m'.2 9 i = m0.2 16 i) ∧ ∀ x, m'.2 10 x = if x / 5 < np ∧ x % 5 < np then m0.2 17 x else m0.2 10 x := by
  intro f
  induction f with
  | zero => intro p m h1 h2; omega
  | succ f ih =>
    intro p m h1 h2 h5 hm1 hm2 hm3 hm4
    rw [m_takeRiver_L26, h5]
    rcases Nat.lt_or_ge p np with hp | hp
    · simp only [if_neg (nI_ge hp (show np < 2 ^ 31 by omega)), gd_t (inb_nI (show p < 5 by omega) (by decide)), nI_clamp (show p < 2 ^ 31 by omega), nI_1]
      have e16 : (mz_a m 8 p (m.2 15 p)).2 16 p = m.2 16 p := rfl
      rw [e16]
      obtain ⟨m', g1, g2, g3, g4⟩ := tk_in hnp hp (fun (z60 : MZ) => m_takeRiver_L26 f (nI (p + 1)) z60) FU 0 (mz_a (mz_a m 8 p (m.2 15 p)) 9 p (m.2 16 p)) (by omega) (by show np < 400 + 0; omega) h5
      rw [show nI 0 = (0 : Int32) from rfl] at g1
      rw [g1]
      refine ih (p + 1) m' hp (by omega) (by rw [g2]; exact h5) (by rw [g2]; exact hm1) (fun j a1 a2 a3 => ?_) (fun i hi => ?_) (fun x => ?_)
      · rw [g3 j a3]
        show (if j = 9 then _ else if j = 8 then _ else m.2 j) = _
        rw [if_neg a2, if_neg a1]; exact hm2 j a1 a2 a3
      · rw [g3 8 (by decide), g3 9 (by decide)]
        show upd (m.2 8) p (m.2 15 p) i = _ ∧ upd (m.2 9) p (m.2 16 p) i = _
        unfold upd
        by_cases hip : i = p
        · rw [if_pos hip, if_pos hip, hm2 15 (by decide) (by decide) (by decide), hm2 16 (by decide) (by decide) (by decide), hip]
          exact ⟨rfl, rfl⟩
        · rw [if_neg hip, if_neg hip]; exact hm3 i (by omega)
      · rw [g4 x]
        show (if _ then m.2 17 x else m.2 10 x) = _
        rw [hm2 17 (by decide) (by decide) (by decide), hm4]
        by_cases hc : 5 * p + 0 ≤ x ∧ x < 5 * p + np
        · rw [if_pos hc, if_pos (by omega)]
        · rw [if_neg hc]
          by_cases hd : x / 5 < p ∧ x % 5 < np
          · rw [if_pos hd, if_pos (by omega)]
          · rw [if_neg hd, if_neg (by omega)]
    · have : p = np := by omega
      subst this
      rw [if_pos (nI_le (Nat.le_refl _) (by omega))]
      exact ⟨_, rfl, by show upd m.1 26 0 = _; rw [hm1], hm2, hm3, hm4⟩
theorem op_newRiver {c : CZ} {m : MZ} (R : Rel c m) {n first : Nat} {rg : Nat → Int32} (hf : first + n ≤ 240) (hrg : ∀ i, i < n → m.2 4 (first + i) = rg i) : Same (c_newRiver n rg c) ((m_readRiver (nI (first + n)) (mz_f m 11 (nI first))).bind (fun r67 => if r67.1 = 0 then some (((-100 : Int32) - ((r67.2.1 11) - nI first)), r67.2) else (m_takeRiver r67.2).bind (fun r85 => some ((r85.1 5), r85)))) := by
  have pos : ∀ x : Nat, nI (first + x) - nI first = nI x := fun x => by rw [pk_sub (by omega), show first + x - first = x by omega]
  have ms1 : MS m (mz_f m 11 (nI first)) := (MS.rfl' m).f (k := 11) (by omega) _
  unfold c_newRiver m_readRiver
  rw [sg_eq (m := mz_f m 11 (nI first)) (n := n) (first := first) (rg := rg) (pos := 0) hf hrg (by omega) rfl (by decide)]
  by_cases h0 : cA n rg 0 = 111
  · rw [if_pos h0, if_pos h0]
    have hlt0 : 0 < n := by
      rcases Nat.lt_or_ge 0 n with h | h
      · exact h
      · unfold cA at h0
        rw [if_neg (by omega)] at h0
        exact absurd h0 (by decide)
    simp only [Option.bind_some, if_neg one_ne]
    rw [dg_eq (m := mz_f (mz_f m 11 (nI first)) 11 (nI (first + 0 + 1))) (n := n) (first := first) (rg := rg) (pos := 1) (x2 := 1) (x3 := 3) (lo := 1) (hi := 3) rfl rfl hf hrg (by omega) rfl (by omega) (by omega)]
    have ms2 := ms1.f (k := 11) (by omega) (nI (first + 0 + 1))
    by_cases h1 : fg n rg 1 1 3 = true
    · rw [if_pos h1, if_pos h1]
      obtain ⟨hlt1, d1, a1, b1, ed1⟩ := fg_d (by omega) (by omega) h1
      have e12 : ∀ (z : MZ) (v : Int32), (mz_f z 12 v).1 12 = v := fun _ _ => rfl
      have e13 : ∀ (z : MZ) (v : Int32), (mz_f z 13 v).1 13 = v := fun _ _ => rfl
      have e14 : ∀ (z : MZ) (v : Int32), (mz_f z 14 v).1 14 = v := fun _ _ => rfl
      simp only [Option.bind_some, e12]
      rw [if_neg (show ¬ rg 1 - 48 = -9 by rw [ed1]; exact ne9 (by omega))]
      have ms3 := (ms2.f (k := 11) (by omega) (nI (first + 1 + 1))).f (k := 12) (by omega) (rg 1 - 48)
      rw [dg_eq (m := mz_f (mz_f (mz_f (mz_f m 11 (nI first)) 11 (nI (first + 0 + 1))) 11 (nI (first + 1 + 1))) 12 (rg 1 - 48)) (n := n) (first := first) (rg := rg) (pos := 2) (x2 := 1) (x3 := 3) (lo := 1) (hi := 3) rfl rfl hf hrg (by omega) rfl (by omega) (by omega)]
      by_cases h2 : fg n rg 2 1 3 = true
      · rw [if_pos h2, if_pos h2]
        obtain ⟨hlt2, d2, a2, b2, ed2⟩ := fg_d (by omega) (by omega) h2
        simp only [Option.bind_some, e13]
        rw [if_neg (show ¬ rg 2 - 48 = -9 by rw [ed2]; exact ne9 (by omega))]
        have ms4 := (ms3.f (k := 11) (by omega) (nI (first + 2 + 1))).f (k := 13) (by omega) (rg 2 - 48)
        rw [dg_eq (m := mz_f (mz_f (mz_f (mz_f (mz_f (mz_f m 11 (nI first)) 11 (nI (first + 0 + 1))) 11 (nI (first + 1 + 1))) 12 (rg 1 - 48)) 11 (nI (first + 2 + 1))) 13 (rg 2 - 48)) (n := n) (first := first) (rg := rg) (pos := 3) (x2 := 2) (x3 := 5) (lo := 2) (hi := 5) rfl rfl hf hrg (by omega) rfl (by omega) (by omega)]
        by_cases h3 : fg n rg 3 2 5 = true
        · rw [if_pos h3, if_pos h3]
          obtain ⟨hlt3, np, a3, b3, ed3⟩ := fg_d (by omega) (by omega) h3
          have hM : nrM rg = np := by unfold nrM; rw [ed3, nI_clamp (by omega)]
          simp only [Option.bind_some, e14, hM]
          rw [if_neg (show ¬ rg 3 - 48 = -9 by rw [ed3]; exact ne9 (by omega))]
          have ms5 := (ms4.f (k := 11) (by omega) (nI (first + 3 + 1))).f (k := 14) (by omega) (rg 3 - 48)
          generalize hmm : mz_f (mz_f (mz_f (mz_f (mz_f (mz_f (mz_f (mz_f m 11 (nI first)) 11 (nI (first + 0 + 1))) 11 (nI (first + 1 + 1))) 12 (rg 1 - 48)) 11 (nI (first + 2 + 1))) 13 (rg 2 - 48)) 11 (nI (first + 3 + 1))) 14 (rg 3 - 48) = mm at ms5
          have f11 : mm.1 11 = nI (first + nrAt np 0) := by rw [← hmm]; show nI (first + 3 + 1) = _; unfold nrAt; rw [Nat.zero_mul]
          have f12 : mm.1 12 = rg 1 - 48 := by rw [← hmm]; rfl
          have f13 : mm.1 13 = rg 2 - 48 := by rw [← hmm]; rfl
          have f14 : mm.1 14 = nI np := by rw [← hmm]; exact ed3
          have hrr := rr_L (n := n) (first := first) (np := np) (rg := rg) hf b3 (by omega) np 0 FU mm (by omega) (by show np < 400; omega) (by unfold nrAt; omega) f14 f11 (fun i hi => by rw [ms5.2 4 (by omega)]; exact hrg i hi) (fun i hi => absurd hi (by omega))
          rw [show nI 0 = (0 : Int32) from rfl] at hrr
          rcases hrr with ⟨e, m', g1, g2, g3, g4⟩ | ⟨m', g1, g2, g3, g4, g5⟩
          · rw [g1, g2]
            simp only [Option.bind_some, if_true]
            exact ⟨e, c, m', rfl, by rw [g3], R.ms (ms5.trans' g4)⟩
          · rw [g1, g2]
            simp only [Option.bind_some, if_neg one_ne]
            unfold m_takeRiver
            have q14 : m'.1 14 = nI np := by rw [g3 14 (by decide)]; exact f14
            have q12 : m'.1 12 = rg 1 - 48 := by rw [g3 12 (by decide)]; exact f12
            have q13 : m'.1 13 = rg 2 - 48 := by rw [g3 13 (by decide)]; exact f13
            have q12' : (mz_f m' 5 (m'.1 14)).1 12 = m'.1 12 := rfl
            have q13' : (mz_f (mz_f m' 5 (m'.1 14)) 6 (m'.1 12)).1 13 = m'.1 13 := rfl
            rw [q12', q13', q14, q12, q13]
            obtain ⟨m2, k1, k2, k3, k4, k5⟩ := tk_L b3 (mz_f (mz_f (mz_f m' 5 (nI np)) 6 (rg 1 - 48)) 7 (rg 2 - 48)) FU 0 (mz_f (mz_f (mz_f m' 5 (nI np)) 6 (rg 1 - 48)) 7 (rg 2 - 48)) (by omega) (by show np < 400 + 0; omega) rfl rfl (fun _ _ _ _ => rfl) (fun i hi => absurd hi (by omega)) (fun x => by rw [if_neg (by omega)])
            rw [show nI 0 = (0 : Int32) from rfl] at k1
            rw [k1]
            have m25 : m2.1 5 = nI np := by rw [k2]; rfl
            refine ⟨nI np, nrZ n rg np c, m2, rfl, by simp only [Option.bind_some, m25], ?_⟩
            obtain ⟨r1, ⟨e5, e6, e7, e1, e0, e18, e19⟩, r3, r4, r5, r6⟩ := R.ms (ms5.trans' g4)
            have hnote : ∀ k, k < 25 → m2.2 10 k = nrN rg np (c.2.1 3) k := by
              intro k hk
              rw [k5 k]
              show (if _ then m'.2 17 k else m'.2 10 k) = _
              unfold nrN
              by_cases hc : k / 5 < np ∧ k % 5 < np
              · rw [if_pos hc, if_pos hc]
                have := ((g5 (k / 5) hc.1).2.2.2 (k % 5) hc.2).2
                rw [show 5 * (k / 5) + k % 5 = k by omega] at this
                exact this
              · rw [if_neg hc, if_neg hc]
                exact r4 k hk
            refine ⟨⟨fun k hk => ?_, ⟨d2, by omega, ed2⟩, b3, fun i hi => ?_⟩, ⟨m25, ?_, ?_, ?_, ?_, ?_, ?_⟩, fun i hi => ?_, hnote, ⟨?_, Nat.zero_le _, fun i hi => absurd hi (by show ¬ i < 0; omega)⟩, fun x hx => ?_⟩
            · show ∃ a : Nat, a ≤ 9 ∧ nrN rg np (c.2.1 3) k = nI a
              unfold nrN
              by_cases hc : k / 5 < np ∧ k % 5 < np
              · rw [if_pos hc]
                have hg := ((g5 (k / 5) hc.1).2.2.2 (k % 5) hc.2).1
                have h09 : (if k % 5 = k / 5 then 0 else 9) ≤ 9 := by split <;> omega
                obtain ⟨-, d, -, dd, ed⟩ := fg_d (by omega) h09 hg
                exact ⟨d, by omega, ed⟩
              · rw [if_neg hc]; exact r1.1 k hk
            · show nrK n rg np i ≤ 2
              have hi : i < np := hi
              obtain ⟨⟨kd, a1, -⟩, -⟩ := g5 i hi
              unfold nrK
              rw [a1]
              unfold kdO at a1
              split at a1
              · cases a1; exact Nat.zero_le _
              · split at a1
                · cases a1; decide
                · split at a1
                  · cases a1; decide
                  · cases a1
            · rw [k2]; rfl
            · rw [k2]; rfl
            · rw [k2]; exact e1
            · rw [k2]; exact e0
            · rw [k2]; exact e18
            · rw [k2]; exact e19
            · have hi : i < np := hi
              obtain ⟨⟨kd, a1, a2⟩, hg, a4, -⟩ := g5 i hi
              obtain ⟨-, d, -, dd, ed⟩ := fg_d (by omega) (by omega) hg
              rw [(k4 i hi).1, (k4 i hi).2]
              refine ⟨?_, ?_, ?_⟩
              · show m'.2 15 i = nI (nrK n rg np i)
                unfold nrK
                rw [a1]; exact a2
              · show m'.2 16 i = nrL rg np i
                unfold nrL
                rw [a4, ed]
                rcases (show d = 0 ∨ d = 1 by omega) with rfl | rfl
                · decide
                · decide
              · show nrL rg np i = 0 ∨ nrL rg np i = 1
                unfold nrL
                split
                · exact Or.inr rfl
                · exact Or.inl rfl
            · rw [k2]; rfl
            · exact shRel_other (r6 x hx) (by rw [k3 2 (by decide) (by decide) (by decide)]; rfl) (by rw [k3 3 (by decide) (by decide) (by decide)]; rfl) (fun i _ => by rw [k3 4 (by decide) (by decide) (by decide)]; rfl)
        · rw [if_neg h3, if_neg h3]
          simp only [Option.bind_some]
          refine ⟨-100 - 3, c, _, rfl, ?_, R.ms ((ms4.f (k := 14) (by omega) (-9)))⟩
          show some ((-100 : Int32) - (nI (first + 2 + 1) - nI first), _) = _
          rw [show first + 2 + 1 = first + 3 by omega, pos]
          rfl
      · rw [if_neg h2, if_neg h2]
        simp only [Option.bind_some]
        refine ⟨-100 - 2, c, _, rfl, ?_, R.ms ((ms3.f (k := 13) (by omega) (-9)))⟩
        show some ((-100 : Int32) - (nI (first + 1 + 1) - nI first), _) = _
        rw [show first + 1 + 1 = first + 2 by omega, pos]
        rfl
    · rw [if_neg h1, if_neg h1]
      simp only [Option.bind_some]
      refine ⟨-100 - 1, c, _, rfl, ?_, R.ms ((ms2.f (k := 12) (by omega) (-9)))⟩
      show some ((-100 : Int32) - (nI (first + 0 + 1) - nI first), _) = _
      rw [show first + 0 + 1 = first + 1 by omega, pos]
      rfl
  · rw [if_neg h0, if_neg h0]
    simp only [Option.bind_some]
    refine ⟨-100, c, _, rfl, ?_, R.ms ms1⟩
    show some ((-100 : Int32) - (nI first - nI first), _) = _
    rw [Int32.sub_self]
    rfl
theorem op_river {c : CZ} {m : MZ} (R : Rel c m) (a b i n : Int32) : Same (c_river a b i n c) (m_river a b i n m) := by
  have R0 := R.faultv 0
  unfold c_river m_river
  rcases sh_case a with ⟨k, hk, rfl, h1, e1⟩ | ⟨h1, e1⟩
  · rw [if_pos h1, e1]
    simp only [Option.bind_some, if_neg one_ne]
    rcases so_case b with ⟨s, hs, rfl, h2, e2⟩ | ⟨h2, e2⟩
    · rw [if_pos h2, e2]
      simp only [Option.bind_some, if_neg one_ne]
      rcases look_case R0 hk c_newRiver (nI s) i n with ⟨f, e3, e4, hf⟩ | ⟨q, i', n', hq, rfl, rfl, hle, e3, e4⟩
      · rw [e3, e4]
        simp only [Option.bind_some, if_neg hf]
        exact ⟨_, _, _, rfl, rfl, R0.faultv f⟩
      · rw [e3, e4]
        obtain ⟨g1, g2, g3, g4, g5⟩ := sh_some R0 hk hq
        simp only [Option.bind_some, if_true, i60, nI_add]
        exact op_newRiver R0 (n := n') (first := 60 * k + i') (rg := fun x => q.2.2 (i' + x)) (by omega) (fun x hx => by rw [show 60 * k + i' + x = 60 * k + (i' + x) by omega]; exact g5 _ (by omega))
    · rw [if_neg h2, e2]
      exact ⟨_, _, _, rfl, rfl, R0⟩
  · rw [if_neg h1, e1]
    exact ⟨_, _, _, rfl, rfl, R0⟩
