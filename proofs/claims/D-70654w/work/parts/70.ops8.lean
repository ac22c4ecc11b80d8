/-! OPERATIONS, pure (8): sheets: sheet, lose, put, cell, copy; as -/
abbrev isSh (x : Int32) : Prop := 0 ≤ x ∧ x ≤ 3
abbrev isSo (x : Int32) : Prop := 0 ≤ x ∧ x ≤ 2
def cz_S (z : CZ) (k : Nat) (o : Option (Nat × Nat × (Nat → Int32))) : CZ := (z.1, z.2.1, z.2.2.1, z.2.2.2.1, fun x => if x = k then o else z.2.2.2.2 x)
def narS (s : Nat) (v : Int32) : Int32 := if s = 0 then v.toInt8.toInt32 else if s = 1 then v.toInt16.toInt32 else v
def c_sheet (x1 x2 x3 : Int32) (z : CZ) : Option (Int32 × CZ) := if isSh x1 then if isSo x2 then if x3 ≤ 60 then if x3 < 0 then some (-14, cz_f (cz_f z 8 0) 8 4) else some (1, cz_S (cz_f z 8 0) x1.toNatClampNeg (some (x2.toNatClampNeg, x3.toNatClampNeg, fun _ => 0))) else some (-2, cz_f z 8 0) else some (-2, cz_f z 8 0) else some (-1, cz_f z 8 0)
def c_lose (x1 : Int32) (z : CZ) : Option (Int32 × CZ) := if isSh x1 then match cz_sh z x1.toNatClampNeg with
    | none => some (0, cz_S z x1.toNatClampNeg none)
    | some _ => some (1, cz_S z x1.toNatClampNeg none)
  else some (-1, z)
def c_put (x1 x2 x3 : Int32) (z : CZ) : Option (Int32 × CZ) := if isSh x1 then match cz_sh z x1.toNatClampNeg with
    | none => some (-11, cz_f (cz_f z 8 0) 8 1)
    | some q => if inb x2 q.2.1 = true then some (1, cz_S (cz_f z 8 0) x1.toNatClampNeg (some (q.1, q.2.1, upd q.2.2 x2.toNatClampNeg (narS q.1 x3)))) else some (-13, cz_f (cz_f z 8 0) 8 3)
  else some (-1, cz_f z 8 0)
def c_cell (x1 x2 x3 : Int32) (z : CZ) : Option (Int64 × CZ) := if isSh x1 then if isSo x3 then match cz_sh z x1.toNatClampNeg with
    | none => some (-9223372036854775808, cz_f (cz_f z 8 0) 8 1)
    | some q => if nI q.1 = x3 then if inb x2 q.2.1 = true then some ((q.2.2 x2.toNatClampNeg).toInt64, cz_f z 8 0) else some (-9223372036854775808, cz_f (cz_f z 8 0) 8 3) else some (-9223372036854775808, cz_f (cz_f z 8 0) 8 2)
  else some (-9223372036854775808, cz_f z 8 0) else some (-9223372036854775808, cz_f z 8 0)
abbrev cpOK (i j n : Int32) (a b : Nat) : Prop := (0 ≤ i ∧ 0 ≤ j ∧ 0 ≤ n) ∧ i.toNatClampNeg + n.toNatClampNeg ≤ a ∧ j.toNatClampNeg + n.toNatClampNeg ≤ b
def c_copy (x1 x2 x3 x4 x5 : Int32) (z : CZ) : Option (Int32 × CZ) := if isSh x1 ∧ isSh x3 then match cz_sh z x1.toNatClampNeg with
    | none => some (-11, cz_f (cz_f z 8 0) 8 1)
    | some q => match cz_sh z x3.toNatClampNeg with
      | none => some (-11, cz_f (cz_f z 8 0) 8 1)
      | some r => if q.1 = r.1 then if cpOK x2 x4 x5 q.2.1 r.2.1 then some (x5, cz_S (cz_f z 8 0) x3.toNatClampNeg (some (r.1, r.2.1, va_cpy q.2.2 r.2.2 x2.toNatClampNeg x4.toNatClampNeg x5.toNatClampNeg))) else some (-13, cz_f (cz_f z 8 0) 8 3) else some (-12, cz_f (cz_f z 8 0) 8 2)
  else some (-1, cz_f z 8 0)
def c_as (x1 x2 : Int32) (z : CZ) : Option (Int32 × CZ) := (c_noPerson x1 z).bind (fun r => if r.1 = 0 then if isSo x2 then if nI (cz_k z x1.toNatClampNeg) < x2 then some (-12, cz_f (cz_f z 8 0) 8 2) else some (1, cz_f z 8 0) else some (-2, cz_f z 8 0) else some (-1, cz_f z 8 0))
theorem ne9 {a : Nat} (h : a < 2 ^ 31) : ¬ nI a = -9 := fun e => by
  have h1 : ¬ nI a < 0 := nI_pos h
  rw [e] at h1
  exact h1 (by decide)
theorem sh_case (x : Int32) : (∃ k : Nat, k < 4 ∧ x = nI k ∧ isSh x ∧ m_isSheet x = some 1) ∨ (¬ isSh x ∧ m_isSheet x = some 0) := by
  unfold m_isSheet
  rcases btw_or x 0 3 (by decide) (by decide) with ⟨k, -, hk, rfl, q⟩ | q
  · exact Or.inl ⟨k, by omega, rfl, q, by rw [m_within_t (a := 0) (b := 3) q]; rfl⟩
  · exact Or.inr ⟨q, by rw [m_within_f (a := 0) (b := 3) q]; rfl⟩
theorem so_case (x : Int32) : (∃ k : Nat, k ≤ 2 ∧ x = nI k ∧ isSo x ∧ m_isSort x = some 1) ∨ (¬ isSo x ∧ m_isSort x = some 0) := by
  unfold m_isSort
  rcases btw_or x 0 2 (by decide) (by decide) with ⟨k, -, hk, rfl, q⟩ | q
  · exact Or.inl ⟨k, hk, rfl, q, by rw [m_within_t (a := 0) (b := 2) q]; rfl⟩
  · exact Or.inr ⟨q, by rw [m_within_f (a := 0) (b := 2) q]; rfl⟩
theorem sh_some {c : CZ} {m : MZ} (R : Rel c m) {k : Nat} (hk : k < 4) {q : Nat × Nat × (Nat → Int32)} (h : cz_sh c k = some q) : q.1 ≤ 2 ∧ q.2.1 ≤ 60 ∧ m.2 2 k = nI q.1 ∧ m.2 3 k = nI q.2.1 ∧ ∀ i, i < q.2.1 → m.2 4 (60 * k + i) = q.2.2 i := by
  have := R.2.2.2.2.2 k hk
  rw [h] at this
  exact this
theorem sh_none {c : CZ} {m : MZ} (R : Rel c m) {k : Nat} (hk : k < 4) (h : cz_sh c k = none) : m.2 2 k = -9 := by
  have := R.2.2.2.2.2 k hk
  rw [h] at this
  exact this
/-- sheets of both sides, changed -/
theorem Rel.sh {c : CZ} {m m' : MZ} (R : Rel c m) {k : Nat} {o : Option (Nat × Nat × (Nat → Int32))} (h1 : m'.1 = m.1) (h2 : ∀ j, j ≠ 2 → j ≠ 3 → j ≠ 4 → m'.2 j = m.2 j) (h3 : ∀ x, x < 4 → shRel m' x (if x = k then o else cz_sh c x)) : Rel (cz_S c k o) m' := by
  obtain ⟨r1, ⟨e5, e6, e7, e1, e0, e18, e19⟩, r3, r4, r5, r6⟩ := R
  refine ⟨r1, ⟨?_, ?_, ?_, ?_, ?_, ?_, ?_⟩, ?_, ?_, ?_, h3⟩
  · rw [h1]; exact e5
  · rw [h1]; exact e6
  · rw [h1]; exact e7
  · rw [h1]; exact e1
  · rw [h1]; exact e0
  · rw [h1]; exact e18
  · rw [h1]; exact e19
  · intro i hi
    rw [h2 8 (by decide) (by decide) (by decide), h2 9 (by decide) (by decide) (by decide)]
    exact r3 i hi
  · intro i hi
    rw [h2 10 (by decide) (by decide) (by decide)]
    exact r4 i hi
  · rw [h1, h2 27 (by decide) (by decide) (by decide), h2 28 (by decide) (by decide) (by decide)]
    exact r5
/-- a sheet that is not touched -/
theorem shRel_other {m m' : MZ} {x : Nat} {o : Option (Nat × Nat × (Nat → Int32))} (h : shRel m x o) (h2 : m'.2 2 x = m.2 2 x) (h3 : m'.2 3 x = m.2 3 x) (h4 : ∀ i, i < 60 → m'.2 4 (60 * x + i) = m.2 4 (60 * x + i)) : shRel m' x o := by
  unfold shRel at h ⊢
  cases o with
  | none => show m'.2 2 x = -9; rw [h2]; exact h
  | some q =>
    obtain ⟨g1, g2, g3, g4, g5⟩ := h
    exact ⟨g1, g2, by rw [h2]; exact g3, by rw [h3]; exact g4, fun i hi => by rw [h4 i (by omega)]; exact g5 i hi⟩
theorem i60 (p q : Nat) : (60 : Int32) * nI p + nI q = nI (60 * p + q) := by
  have h : (60 : Int32) = nI 60 := rfl
  rw [h, pk_mul, nI_add]
theorem sheet_mL {k : Nat} (hk : k < 4) : ∀ (n i : Nat) (m : MZ), i ≤ 60 → 60 < n + i → ∃ m', m_sheet_L57 (nI k) n (nI i) m = some (1, m') ∧ m'.1 = m.1 ∧ (∀ j, j ≠ 4 → m'.2 j = m.2 j) ∧ ∀ x, m'.2 4 x = if 60 * k + i ≤ x ∧ x < 60 * k + 60 then 0 else m.2 4 x := by
  intro n
  induction n with
  | zero => intro i m h1 h2; omega
  | succ n ih =>
    intro i m h1 h2
    rw [m_sheet_L57, i60]
    rcases Nat.lt_or_ge i 60 with hi | hi
    · rw [if_neg (show ¬ (60 : Int32) ≤ nI i from nI_ge (b := 60) hi (by decide)), gd_t (inb_nI (by omega) (by decide)), nI_clamp (by omega), nI_1]
      obtain ⟨m', e1, e2, e3, e4⟩ := ih (i + 1) (mz_a m 4 (60 * k + i) 0) hi (by omega)
      refine ⟨m', e1, e2, fun j hj => ?_, fun x => ?_⟩
      · rw [e3 j hj]
        show (if j = 4 then _ else _) = _
        rw [if_neg hj]
      · rw [e4 x]
        show (if _ then 0 else upd (m.2 4) (60 * k + i) 0 x) = _
        unfold upd
        by_cases hx : x = 60 * k + i
        · rw [if_pos hx, if_pos (show 60 * k + i ≤ x ∧ x < 60 * k + 60 by omega)]
          split <;> rfl
        · rw [if_neg hx]
          by_cases hy : 60 * k + (i + 1) ≤ x ∧ x < 60 * k + 60
          · rw [if_pos hy, if_pos (by omega)]
          · rw [if_neg hy, if_neg (by omega)]
    · have : i = 60 := by omega
      subst this
      rw [if_pos (show (60 : Int32) ≤ nI 60 by decide)]
      exact ⟨m, rfl, rfl, fun _ _ => rfl, fun x => by rw [if_neg (by omega)]⟩
theorem op_sheet {c : CZ} {m : MZ} (R : Rel c m) (a b n : Int32) : Same (c_sheet a b n c) (m_sheet a b n m) := by
  have R0 := R.faultv 0
  unfold c_sheet m_sheet
  rcases sh_case a with ⟨k, hk, rfl, h1, e1⟩ | ⟨h1, e1⟩
  · rw [if_pos h1, e1]
    simp only [Option.bind_some, if_neg one_ne]
    rcases so_case b with ⟨s, hs, rfl, h2, e2⟩ | ⟨h2, e2⟩
    · rw [if_pos h2, e2]
      simp only [Option.bind_some, if_neg one_ne]
      by_cases h60 : n ≤ 60
      · rw [if_pos h60, if_pos h60]
        by_cases h0 : n < 0
        · rw [if_pos h0, if_neg (Int32.not_le.mpr h0)]
          exact ⟨_, _, _, rfl, rfl, R0.faultv 4⟩
        · rw [if_neg h0, if_pos (Int32.not_lt.mp h0)]
          obtain ⟨j, hj, rfl⟩ := nI_of2 (M := 60) (n := 60) (by decide) h0 h60
          simp only [nI_clamp (show k < 2 ^ 31 by omega), nI_clamp (show s < 2 ^ 31 by omega), nI_clamp (show j < 2 ^ 31 by omega), gd_t (inb_nI hk (by decide))]
          obtain ⟨m', g1, g2, g3, g4⟩ := sheet_mL hk FU 0 (mz_a (mz_a (mz_f m 0 0) 2 k (nI s)) 3 k (nI j)) (by omega) (by decide)
          rw [show nI 0 = (0 : Int32) from rfl] at g1
          refine ⟨1, _, m', rfl, g1, R0.sh g2 (fun j h2 h3 h4 => ?_) (fun x hx => ?_)⟩
          · rw [g3 j h4]
            show (if j = 3 then _ else if j = 2 then _ else _) = _
            rw [if_neg h3, if_neg h2]
          · by_cases hxk : x = k
            · rw [if_pos hxk, hxk]
              refine ⟨hs, hj, ?_, ?_, fun i hi => ?_⟩
              · rw [g3 2 (by decide)]
                show upd (m.2 2) k (nI s) k = nI s
                exact if_pos rfl
              · rw [g3 3 (by decide)]
                show upd (m.2 3) k (nI j) k = nI j
                exact if_pos rfl
              · have hi : i < j := hi
                rw [g4, if_pos (by omega)]
            · rw [if_neg hxk]
              refine shRel_other (R0.2.2.2.2.2 x hx) ?_ ?_ (fun i hi => ?_)
              · rw [g3 2 (by decide)]
                show upd (m.2 2) k (nI s) x = m.2 2 x
                exact if_neg hxk
              · rw [g3 3 (by decide)]
                show upd (m.2 3) k (nI j) x = m.2 3 x
                exact if_neg hxk
              · rw [g4, if_neg (by omega)]
                rfl
      · rw [if_neg h60, if_neg h60]
        exact ⟨_, _, _, rfl, rfl, R0⟩
    · rw [if_neg h2, e2]
      exact ⟨_, _, _, rfl, rfl, R0⟩
  · rw [if_neg h1, e1]
    exact ⟨_, _, _, rfl, rfl, R0⟩
theorem op_lose {c : CZ} {m : MZ} (R : Rel c m) (a : Int32) : Same (c_lose a c) (m_lose a m) := by
  unfold c_lose m_lose
  rcases sh_case a with ⟨k, hk, rfl, h1, e1⟩ | ⟨h1, e1⟩
  · rw [if_pos h1, e1]
    simp only [Option.bind_some, if_neg one_ne, jn, nI_clamp (show k < 2 ^ 31 by omega), gd_t (inb_nI hk (by decide))]
    have R1 : Rel (cz_S c k none) (mz_a m 2 k (-9)) := R.sh rfl (fun j h2 _ _ => by
        show (if j = 2 then _ else _) = _
        rw [if_neg h2]) (fun x hx => by
        by_cases hxk : x = k
        · rw [if_pos hxk, hxk]
          show upd (m.2 2) k (-9) k = -9
          exact if_pos rfl
        · rw [if_neg hxk]
          exact shRel_other (R.2.2.2.2.2 x hx) (by show upd (m.2 2) k (-9) x = m.2 2 x; exact if_neg hxk) rfl (fun _ _ => rfl))
    cases hq : cz_sh c k with
    | none =>
      rw [sh_none R hk hq]
      exact ⟨0, _, _, rfl, rfl, R1⟩
    | some q =>
      obtain ⟨g1, g2, g3, -⟩ := sh_some R hk hq
      rw [g3, if_neg (ne9 (by omega))]
      exact ⟨1, _, _, rfl, rfl, R1⟩
  · rw [if_neg h1, e1]
    exact ⟨_, _, _, rfl, rfl, R⟩
/-- an index of a row -/
theorem inb_or (i : Int32) {n : Nat} (hn : n ≤ 60) : (∃ j : Nat, j < n ∧ i = nI j ∧ inb i n = true ∧ m_within i 0 (nI n - 1) = some 1) ∨ (¬ inb i n = true ∧ m_within i 0 (nI n - 1) = some 0) := by
  rcases pk_ix i (n := n) (by omega) with h | h | ⟨j, hj, rfl⟩
  · refine Or.inr ⟨fun q => ?_, m_within_f (fun q => absurd q.1 (Int32.not_le.mpr h))⟩
    exact (inb_in q) (Or.inl h)
  · have hneg : ¬ i < 0 := fun q => absurd (Int32.lt_of_le_of_lt h q) (nI_pos (by omega))
    refine Or.inr ⟨fun q => ?_, m_within_f (fun q => ?_)⟩
    · obtain ⟨j, hj, rfl⟩ := vp_in_of (inb_in q) (by omega)
      exact nI_ge hj (by omega) h
    · rcases Nat.eq_zero_or_pos n with h0 | h0
      · rw [h0] at q
        exact absurd (Int32.le_trans q.1 q.2) (by decide)
      · obtain ⟨k, rfl⟩ : ∃ k, n = k + 1 := ⟨n - 1, by omega⟩
        rw [nI_pred] at q
        exact nI_ge (a := k) (b := k + 1) (by omega) (by omega) (Int32.le_trans h q.2)
  · refine Or.inl ⟨j, hj, rfl, inb_nI hj (by omega), m_within_t ⟨nI_pos' (by omega), ?_⟩⟩
    obtain ⟨k, rfl⟩ : ∃ k, n = k + 1 := ⟨n - 1, by omega⟩
    rw [nI_pred]
    exact nI_le (by omega) (by omega)
theorem op_put {c : CZ} {m : MZ} (R : Rel c m) (a i v : Int32) : Same (c_put a i v c) (m_put a i v m) := by
  have R0 := R.faultv 0
  unfold c_put m_put
  rcases sh_case a with ⟨k, hk, rfl, h1, e1⟩ | ⟨h1, e1⟩
  · rw [if_pos h1, e1]
    simp only [Option.bind_some, if_neg one_ne, jn, nI_clamp (show k < 2 ^ 31 by omega), gd_t (inb_nI hk (by decide))]
    have em : ∀ j, (mz_f m 0 0).2 j = m.2 j := fun _ => rfl
    simp only [em]
    cases hq : cz_sh c k with
    | none =>
      rw [sh_none R hk hq, if_pos rfl]
      exact ⟨_, _, _, rfl, rfl, R0.faultv 1⟩
    | some q =>
      obtain ⟨g1, g2, g3, g4, g5⟩ := sh_some R hk hq
      rw [g3, g4, if_neg (ne9 (by omega))]
      rcases inb_or i g2 with ⟨j, hj, rfl, hi, e2⟩ | ⟨hi, e2⟩
      · simp only [hi, if_true, e2, Option.bind_some, if_neg one_ne, nI_clamp (show j < 2 ^ 31 by omega), i60, gd_t (inb_nI (show 60 * k + j < 240 by omega) (by decide)), nI_clamp (show 60 * k + j < 2 ^ 31 by omega)]
        have key : ∀ w, w = narS q.1 v → Same (some (1, cz_S (cz_f c 8 0) k (some (q.1, q.2.1, upd q.2.2 j (narS q.1 v))))) (some (1, mz_a (mz_f m 0 0) 4 (60 * k + j) w)) := by
          intro w hw
          subst hw
          refine ⟨1, _, _, rfl, rfl, R0.sh rfl (fun x _ _ h4 => by
            show (if x = 4 then _ else _) = _
            rw [if_neg h4]) (fun x hx => ?_)⟩
          by_cases hxk : x = k
          · rw [if_pos hxk, hxk]
            refine ⟨g1, g2, g3, g4, fun i hi => ?_⟩
            have hi : i < q.2.1 := hi
            show upd (m.2 4) (60 * k + j) (narS q.1 v) (60 * k + i) = upd q.2.2 j (narS q.1 v) i
            unfold upd
            by_cases hij : i = j
            · rw [if_pos (by omega), if_pos hij]
            · rw [if_neg (by omega), if_neg hij]; exact g5 i hi
          · rw [if_neg hxk]
            refine shRel_other (R0.2.2.2.2.2 x hx) rfl rfl (fun i hi => ?_)
            show upd (m.2 4) (60 * k + j) (narS q.1 v) (60 * x + i) = m.2 4 (60 * x + i)
            exact if_neg (by omega)
        rcases (show q.1 = 0 ∨ q.1 = 1 ∨ q.1 = 2 by omega) with h | h | h
        · rw [if_pos (show nI q.1 = (0 : Int32) by rw [h]; rfl)]
          exact key _ (by simp [narS, h])
        · rw [if_neg (show ¬ nI q.1 = (0 : Int32) by rw [h]; decide), if_pos (show nI q.1 = (1 : Int32) by rw [h]; rfl)]
          exact key _ (by simp [narS, h])
        · rw [if_neg (show ¬ nI q.1 = (0 : Int32) by rw [h]; decide), if_neg (show ¬ nI q.1 = (1 : Int32) by rw [h]; decide)]
          exact key _ (by simp [narS, h])
      · simp only [hi, if_false, e2, Option.bind_some, if_true]
        exact ⟨_, _, _, rfl, rfl, R0.faultv 3⟩
  · rw [if_neg h1, e1]
    exact ⟨_, _, _, rfl, rfl, R0⟩
theorem op_cell {c : CZ} {m : MZ} (R : Rel c m) (a i s : Int32) : SameL (c_cell a i s c) (m_cell a i s m) := by
  have R0 := R.faultv 0
  unfold c_cell m_cell
  rcases sh_case a with ⟨k, hk, rfl, h1, e1⟩ | ⟨h1, e1⟩
  · rw [if_pos h1, e1]
    simp only [Option.bind_some, if_neg one_ne]
    rcases so_case s with ⟨t, ht, rfl, h2, e2⟩ | ⟨h2, e2⟩
    · rw [if_pos h2, e2]
      simp only [Option.bind_some, if_neg one_ne, jn, nI_clamp (show k < 2 ^ 31 by omega), gd_t (inb_nI hk (by decide))]
      have em : ∀ j, (mz_f m 0 0).2 j = m.2 j := fun _ => rfl
      simp only [em]
      cases hq : cz_sh c k with
      | none =>
        rw [sh_none R hk hq, if_pos rfl]
        exact ⟨_, _, _, rfl, rfl, R0.faultv 1⟩
      | some q =>
        obtain ⟨g1, g2, g3, g4, g5⟩ := sh_some R hk hq
        rw [g3, g4, if_neg (ne9 (by omega))]
        by_cases hqt : nI q.1 = nI t
        · simp only [hqt, if_true]
          rw [if_neg (ne9 (show t < 2 ^ 31 by omega))]
          rcases inb_or i g2 with ⟨j, hj, rfl, hi, e3⟩ | ⟨hi, e3⟩
          · simp only [hi, if_true, e3, Option.bind_some, if_neg one_ne, nI_clamp (show j < 2 ^ 31 by omega), i60, gd_t (inb_nI (show 60 * k + j < 240 by omega) (by decide)), nI_clamp (show 60 * k + j < 2 ^ 31 by omega), g5 j hj]
            exact ⟨_, _, _, rfl, rfl, R0⟩
          · simp only [hi, if_false, e3, Option.bind_some, if_true]
            exact ⟨_, _, _, rfl, rfl, R0.faultv 3⟩
        · simp only [hqt, if_false]
          exact ⟨_, _, _, rfl, rfl, R0.faultv 2⟩
    · rw [if_neg h2, e2]
      exact ⟨_, _, _, rfl, rfl, R0⟩
  · rw [if_neg h1, e1]
    exact ⟨_, _, _, rfl, rfl, R0⟩
theorem op_as {c : CZ} {m : MZ} (R : Rel c m) (a s : Int32) : Same (c_as a s c) (m_as a s m) := by
  have hn := R.1.2.2.1
  have R0 := R.faultv 0
  have h5 : (mz_f m 0 0).1 5 = nI (cz_np c) := R.2.1.1
  unfold c_as m_as
  rcases isP_or a (n := cz_np c) (by omega) with ⟨i, hi, rfl⟩ | ⟨-, ha⟩
  · rw [c_noPerson_in hn hi, m_isPerson_in h5 hn hi]
    obtain ⟨k1, k2, k3⟩ := R.2.2.1 i hi
    have hk := R.1.2.2.2 i hi
    have k1' : (mz_f m 0 0).2 8 i = nI (cz_k c i) := k1
    simp only [Option.bind_some, if_true, if_neg one_ne, nI_clamp (show i < 2 ^ 31 by omega), gd_t (inb_nI (show i < 5 by omega) (by decide)), k1']
    by_cases q : isSo s
    · rw [if_pos q, m_within_t (a := 0) (b := 2) q]
      simp only [Option.bind_some, if_neg one_ne]
      split
      · exact ⟨_, _, _, rfl, rfl, R0.faultv 2⟩
      · exact ⟨_, _, _, rfl, rfl, R0⟩
    · rw [if_neg q, m_within_f (a := 0) (b := 2) q]
      exact ⟨_, _, _, rfl, rfl, R0⟩
  · rw [c_noPerson_out hn ha, m_isPerson_out h5 ha]
    exact ⟨_, _, _, rfl, rfl, R0⟩
/-- what the model copies: cells d of those before k are done -/
theorem copy_mL {a i b j n : Nat} (ha : a < 4) (hb : b < 4) (hi : i + n ≤ 60) (hj : j + n ≤ 60) (m0 : MZ) (ahead : Bool) (hah : ahead = decide (i < j)) : ∀ (f k : Nat) (m : MZ), k ≤ n → n < f + k → m.1 = m0.1 → (∀ x, x ≠ 4 → m.2 x = m0.2 x) → (∀ x, m.2 4 x = if 60 * b + j ≤ x ∧ x < 60 * b + j + n ∧ (if ahead = true then 60 * b + j + n ≤ x + k else x < 60 * b + j + k) then m0.2 4 (60 * a + i + (x - (60 * b + j))) else m0.2 4 x) → ∃ m', m_copy_L166 (nI a) (nI i) (nI b) (nI j) (nI n) (b01 ahead) f (nI k) m = some (nI n, m') ∧ m'.1 = m0.1 ∧ (∀ x, x ≠ 4 → m'.2 x = m0.2 x) ∧ ∀ x, m'.2 4 x = if 60 * b + j ≤ x ∧ x < 60 * b + j + n then m0.2 4 (60 * a + i + (x - (60 * b + j))) else m0.2 4 x := by
  intro f
  induction f with
  | zero => intro k m h1 h2; omega
  | succ f ih =>
    intro k m h1 h2 hm1 hm2 hm4
    rw [m_copy_L166]
    rcases Nat.lt_or_ge k n with hk | hk
    · rw [if_neg (nI_ge hk (by omega))]
      simp only [jn, b01_ite, i60, nI_1]
      obtain ⟨n', rfl⟩ : ∃ n', n = n' + 1 := ⟨n - 1, by omega⟩
      cases ahead with
      | true =>
        have hij : i < j := of_decide_eq_true hah.symm
        simp only [if_true] at hm4 ⊢
        rw [nI_pred, pk_sub (show k ≤ n' by omega), nI_add, nI_add, gd_t (inb_nI (show 60 * a + i + (n' - k) < 240 by omega) (by decide)), gd_t (inb_nI (show 60 * b + j + (n' - k) < 240 by omega) (by decide)), nI_clamp (show 60 * a + i + (n' - k) < 2 ^ 31 by omega), nI_clamp (show 60 * b + j + (n' - k) < 2 ^ 31 by omega)]
        refine ih (k + 1) _ hk (by omega) hm1 (fun x hx => ?_) (fun x => ?_)
        · show (if x = 4 then _ else m.2 x) = _
          rw [if_neg hx]; exact hm2 x hx
        · simp only [if_true]
          show upd (m.2 4) (60 * b + j + (n' - k)) (m.2 4 (60 * a + i + (n' - k))) x = _
          unfold upd
          by_cases hx : x = 60 * b + j + (n' - k)
          · rw [if_pos hx, hm4, if_neg (by omega), if_pos (by omega)]
            rw [show x - (60 * b + j) = n' - k by omega]
          · rw [if_neg hx, hm4]
            by_cases hc : 60 * b + j ≤ x ∧ x < 60 * b + j + (n' + 1) ∧ 60 * b + j + (n' + 1) ≤ x + k
            · rw [if_pos hc, if_pos (by omega)]
            · rw [if_neg hc, if_neg (by omega)]
      | false =>
        have hij : ¬ i < j := of_decide_eq_false hah.symm
        simp only [Bool.false_eq_true, if_false] at hm4 ⊢
        rw [nI_add, nI_add, gd_t (inb_nI (show 60 * a + i + k < 240 by omega) (by decide)), gd_t (inb_nI (show 60 * b + j + k < 240 by omega) (by decide)), nI_clamp (show 60 * a + i + k < 2 ^ 31 by omega), nI_clamp (show 60 * b + j + k < 2 ^ 31 by omega)]
        refine ih (k + 1) _ hk (by omega) hm1 (fun x hx => ?_) (fun x => ?_)
        · show (if x = 4 then _ else m.2 x) = _
          rw [if_neg hx]; exact hm2 x hx
        · simp only [Bool.false_eq_true, if_false]
          show upd (m.2 4) (60 * b + j + k) (m.2 4 (60 * a + i + k)) x = _
          unfold upd
          by_cases hx : x = 60 * b + j + k
          · rw [if_pos hx, hm4, if_neg (by omega), if_pos (by omega)]
            rw [show x - (60 * b + j) = k by omega]
          · rw [if_neg hx, hm4]
            by_cases hc : 60 * b + j ≤ x ∧ x < 60 * b + j + (n' + 1) ∧ x < 60 * b + j + k
            · rw [if_pos hc, if_pos (by omega)]
            · rw [if_neg hc, if_neg (by omega)]
    · have : k = n := by omega
      subst this
      rw [if_pos (nI_le (Nat.le_refl _) (by omega))]
      refine ⟨m, rfl, hm1, hm2, fun x => ?_⟩
      rw [hm4]
      by_cases hc : 60 * b + j ≤ x ∧ x < 60 * b + j + k
      · rw [if_pos hc, if_pos ⟨hc.1, hc.2, by cases ahead <;> simp <;> omega⟩]
      · rw [if_neg hc, if_neg (fun h => hc ⟨h.1, h.2.1⟩)]
theorem op_copy {c : CZ} {m : MZ} (R : Rel c m) (a i b j n : Int32) : Same (c_copy a i b j n c) (m_copy a i b j n m) := by
  have R0 := R.faultv 0
  unfold c_copy m_copy
  rcases sh_case a with ⟨k, hk, rfl, h1, e1⟩ | ⟨h1, e1⟩
  · rw [e1]
    simp only [Option.bind_some, if_neg one_ne]
    rcases sh_case b with ⟨o, ho, rfl, h2, e2⟩ | ⟨h2, e2⟩
    · rw [e2, if_pos ⟨h1, h2⟩]
      have em : ∀ j, (mz_f m 0 0).2 j = m.2 j := fun _ => rfl
      simp only [Option.bind_some, if_neg one_ne, jn, nI_clamp (show k < 2 ^ 31 by omega), nI_clamp (show o < 2 ^ 31 by omega), gd_t (inb_nI hk (by decide)), gd_t (inb_nI ho (by decide)), em]
      cases hq : cz_sh c k with
      | none =>
        rw [sh_none R hk hq, if_pos rfl]
        exact ⟨_, _, _, rfl, rfl, R0.faultv 1⟩
      | some q =>
        obtain ⟨g1, g2, g3, g4, g5⟩ := sh_some R hk hq
        rw [g3, g4, if_neg (ne9 (by omega))]
        cases hr : cz_sh c o with
        | none =>
          rw [sh_none R ho hr, if_pos rfl]
          exact ⟨_, _, _, rfl, rfl, R0.faultv 1⟩
        | some r =>
          obtain ⟨f1, f2, f3, f4, f5⟩ := sh_some R ho hr
          rw [f3, f4, if_neg (ne9 (by omega))]
          by_cases hqr : q.1 = r.1
          · rw [if_pos (show nI q.1 = nI r.1 by rw [hqr])]
            simp only [hqr, if_true]
            have bad : ¬ cpOK i j n q.2.1 r.2.1 → Same (if cpOK i j n q.2.1 r.2.1 then some (n, cz_S (cz_f c 8 0) o (some (r.1, r.2.1, va_cpy q.2.2 r.2.2 i.toNatClampNeg j.toNatClampNeg n.toNatClampNeg))) else some (-13, cz_f (cz_f c 8 0) 8 3)) ((m_fails 3 (mz_f m 0 0)).bind fun r146 => some (r146.1, r146.2)) := by
              intro h
              rw [if_neg h]
              exact ⟨_, _, _, rfl, rfl, R0.faultv 3⟩
            by_cases hi : i < 0
            · rw [if_pos hi]
              exact bad (fun h => absurd h.1.1 (Int32.not_le.mpr hi))
            · rw [if_neg hi]
              by_cases hj : j < 0
              · rw [if_pos hj]
                exact bad (fun h => absurd h.1.2.1 (Int32.not_le.mpr hj))
              · rw [if_neg hj]
                by_cases hn : n < 0
                · rw [if_pos hn]
                  exact bad (fun h => absurd h.1.2.2 (Int32.not_le.mpr hn))
                · rw [if_neg hn]
                  obtain ⟨i', hi', rfl⟩ := nI_of hi
                  obtain ⟨j', hj', rfl⟩ := nI_of hj
                  obtain ⟨n', hn', rfl⟩ := nI_of hn
                  have hcl1 := nI_clamp hi'
                  have hcl2 := nI_clamp hj'
                  have hcl3 := nI_clamp hn'
                  have bad' : ¬ (i' + n' ≤ q.2.1 ∧ j' + n' ≤ r.2.1) → ¬ cpOK (nI i') (nI j') (nI n') q.2.1 r.2.1 := by
                    intro h h'
                    have := h'.2
                    rw [hcl1, hcl2, hcl3] at this
                    exact h this
                  by_cases b1 : q.2.1 < i'
                  · rw [if_pos (nI_lt b1 hi')]
                    exact bad (bad' (by omega))
                  · rw [if_neg (nI_nlt (by omega) (by omega))]
                    by_cases b2 : r.2.1 < j'
                    · rw [if_pos (nI_lt b2 hj')]
                      exact bad (bad' (by omega))
                    · rw [if_neg (nI_nlt (by omega) (by omega)), pk_sub (show i' ≤ q.2.1 by omega), pk_sub (show j' ≤ r.2.1 by omega)]
                      by_cases b3 : q.2.1 - i' < n'
                      · rw [if_pos (nI_lt b3 hn')]
                        exact bad (bad' (by omega))
                      · rw [if_neg (nI_nlt (by omega) (by omega))]
                        by_cases b4 : n' ≤ r.2.1 - j'
                        · rw [if_pos (nI_le b4 (by omega))]
                          have hok : cpOK (nI i') (nI j') (nI n') q.2.1 r.2.1 := ⟨⟨nI_pos' hi', nI_pos' hj', nI_pos' hn'⟩, by rw [hcl1, hcl3]; omega, by rw [hcl2, hcl3]; omega⟩
                          rw [if_pos hok, hcl1, hcl2, hcl3]
                          have hL : ∃ m', (if nI j' ≤ nI i' then m_copy_L166 (nI k) (nI i') (nI o) (nI j') (nI n') 0 FU 0 (mz_f m 0 0) else m_copy_L166 (nI k) (nI i') (nI o) (nI j') (nI n') 1 FU 0 (mz_f m 0 0)) = some (nI n', m') ∧ m'.1 = (mz_f m 0 0).1 ∧ (∀ x, x ≠ 4 → m'.2 x = (mz_f m 0 0).2 x) ∧ ∀ x, m'.2 4 x = if 60 * o + j' ≤ x ∧ x < 60 * o + j' + n' then (mz_f m 0 0).2 4 (60 * k + i' + (x - (60 * o + j'))) else (mz_f m 0 0).2 4 x := by
                            have := copy_mL (a := k) (i := i') (b := o) (j := j') (n := n') hk ho (by omega) (by omega) (mz_f m 0 0) (decide (i' < j')) rfl FU 0 (mz_f m 0 0) (by omega) (by show n' < 400 + 0; omega) rfl (fun _ _ => rfl) (fun x => by
                              rw [if_neg]
                              intro h
                              have h3 := h.2.2
                              split at h3 <;> omega)
                            by_cases hd : i' < j'
                            · rw [if_neg (nI_ge hd hj')]
                              rw [decide_eq_true hd] at this
                              exact this
                            · rw [if_pos (nI_le (by omega) hi')]
                              rw [decide_eq_false hd] at this
                              exact this
                          obtain ⟨m', e3, q1, q2, q4⟩ := hL
                          refine ⟨nI n', _, m', rfl, e3, R0.sh q1 (fun x _ _ h4 => q2 x h4) (fun x hx => ?_)⟩
                          by_cases hxo : x = o
                          · rw [if_pos hxo, hxo]
                            refine ⟨f1, f2, by rw [q2 2 (by decide)]; exact f3, by rw [q2 3 (by decide)]; exact f4, fun y hy => ?_⟩
                            have hy : y < r.2.1 := hy
                            rw [q4]
                            show (if _ then m.2 4 _ else m.2 4 _) = va_cpy q.2.2 r.2.2 i' j' n' y
                            by_cases hc : j' ≤ y ∧ y < j' + n'
                            · rw [if_pos (by omega), pk_cpy_in hc.1 hc.2, show 60 * k + i' + (60 * o + y - (60 * o + j')) = 60 * k + (i' + (y - j')) by omega]
                              exact g5 _ (by omega)
                            · rw [if_neg (by omega), pk_cpy_out (by omega)]
                              exact f5 y hy
                          · rw [if_neg hxo]
                            refine shRel_other (R0.2.2.2.2.2 x hx) (by rw [q2 2 (by decide)]) (by rw [q2 3 (by decide)]) (fun y hy => ?_)
                            rw [q4, if_neg (by omega)]
                        · rw [if_neg (nI_ge (by omega) hn')]
                          exact bad (bad' (by omega))
          · rw [if_neg (fun h => hqr ((nI_eq (by omega) (by omega)).mp h))]
            simp only [hqr, if_false]
            exact ⟨_, _, _, rfl, rfl, R0.faultv 2⟩
    · rw [e2, if_neg (fun h => h2 h.2)]
      exact ⟨_, _, _, rfl, rfl, R0⟩
  · rw [e1, if_neg (fun h => h1 h.1)]
    exact ⟨_, _, _, rfl, rfl, R0⟩
