/-! OPERATIONS, pure (9): looking at cells; loads -/
def c_look (F : Nat → (Nat → Int32) → CZ → Option (Int32 × CZ)) (x1 x2 x3 x4 : Int32) (z : CZ) : Option (Int32 × CZ) := match cz_sh z x1.toNatClampNeg with
  | none => some (-10 - 1, cz_f z 8 1)
  | some q => if nI q.1 = x2 then if x4 < 0 then some (-10 - 4, cz_f z 8 4) else if x4 < 61 ∧ 0 ≤ x3 ∧ x3 ≤ nI q.2.1 - x4 then F x4.toNatClampNeg (fun i => q.2.2 (x3.toNatClampNeg + i)) z else some (-10 - 3, cz_f z 8 3) else some (-10 - 2, cz_f z 8 2)
def c_loads (x1 x2 x3 x4 x5 : Int32) (z : CZ) : Option (Int32 × CZ) := if isSh x1 then if isSo x2 ∧ (0 ≤ x4 ∧ x4 ≤ 20) ∧ ((0 ≤ x5 ∧ x5 ≤ 4) ∨ (10 ≤ x5 ∧ x5 ≤ 14)) then c_look (fun rn rg z => (c_loadsBarred rn rg z).bind (fun r => if r.1 < 0 then some r else c_loadsBy rn rg x5 r.2)) x1 x2 x3 x4 (cz_f z 8 0) else some (-2, cz_f z 8 0) else some (-1, cz_f z 8 0)
theorem look_case {c : CZ} {m : MZ} (R : Rel c m) {k : Nat} (hk : k < 4) (F : Nat → (Nat → Int32) → CZ → Option (Int32 × CZ)) (x2 x3 x4 : Int32) : (∃ f : Int32, c_look F (nI k) x2 x3 x4 c = some (-10 - f, cz_f c 8 f) ∧ m_against (nI k) x2 x3 x4 m = some (f, m) ∧ ¬ f = 0) ∨ ∃ q i n, cz_sh c k = some q ∧ x3 = nI i ∧ x4 = nI n ∧ i + n ≤ q.2.1 ∧ c_look F (nI k) x2 x3 x4 c = F n (fun x => q.2.2 (i + x)) c ∧ m_against (nI k) x2 x3 x4 m = some (0, m) := by
  unfold c_look m_against
  simp only [jn, nI_clamp (show k < 2 ^ 31 by omega), gd_t (inb_nI hk (by decide))]
  cases hq : cz_sh c k with
  | none =>
    rw [sh_none R hk hq, if_pos rfl]
    exact Or.inl ⟨1, rfl, rfl, by decide⟩
  | some q =>
    obtain ⟨g1, g2, g3, g4, g5⟩ := sh_some R hk hq
    rw [g3, g4, if_neg (ne9 (by omega))]
    by_cases hs : nI q.1 = x2
    · simp only [hs, if_true]
      rw [if_neg (show ¬ x2 = -9 by rw [← hs]; exact ne9 (by omega))]
      by_cases h0 : x4 < 0
      · rw [if_pos h0, if_neg (Int32.not_le.mpr h0)]
        exact Or.inl ⟨4, rfl, rfl, by decide⟩
      · rw [if_neg h0, if_pos (Int32.not_lt.mp h0)]
        obtain ⟨n, hn, rfl⟩ := nI_of h0
        by_cases hi0 : x3 < 0
        · rw [if_pos hi0, if_neg (fun h => absurd h.2.1 (Int32.not_le.mpr hi0))]
          exact Or.inl ⟨3, rfl, rfl, by decide⟩
        · rw [if_neg hi0]
          obtain ⟨i, hi, rfl⟩ := nI_of hi0
          have bad : ¬ (i + n ≤ q.2.1) → ¬ (nI n < 61 ∧ 0 ≤ nI i ∧ nI i ≤ nI q.2.1 - nI n) := by
            rintro hb ⟨h1, h2, h3⟩
            have h61 : n < 61 := (nI_ltI (b := 61) hn (by decide)).mp h1
            by_cases hnl : n ≤ q.2.1
            · rw [pk_sub hnl] at h3
              have := (nI_leI hi (by omega)).mp h3
              omega
            · have h4 := pk_sneg (a := q.2.1) (b := n) (by omega) (by omega)
              exact absurd (Int32.lt_of_le_of_lt h3 h4) (nI_pos hi)
          by_cases hil : q.2.1 < i
          · rw [if_pos (nI_lt hil hi), if_neg (bad (by omega))]
            exact Or.inl ⟨3, rfl, rfl, by decide⟩
          · rw [if_neg (nI_nlt (by omega) (by omega)), pk_sub (show i ≤ q.2.1 by omega)]
            by_cases hl : n ≤ q.2.1 - i
            · rw [if_pos (nI_le hl (by omega)), if_pos ⟨nI_lt (b := 61) (by omega) (by decide), nI_pos' hi, by rw [pk_sub (show n ≤ q.2.1 by omega)]; exact nI_le (by omega) (by omega)⟩, nI_clamp hn, nI_clamp hi]
              exact Or.inr ⟨q, i, n, rfl, rfl, rfl, by omega, rfl, rfl⟩
            · rw [if_neg (nI_ge (by omega) hn), if_neg (bad (by omega))]
              exact Or.inl ⟨3, rfl, rfl, by decide⟩
    · simp only [hs, if_false]
      exact Or.inl ⟨2, rfl, rfl, by decide⟩
/-- are all of them loads -/
theorem bar_L {c : CZ} {m : MZ} (R : Rel c m) {n first : Nat} {rg : Nat → Int32} (hn : n ≤ 20) (hf : first + n ≤ 240) (hrg : ∀ i, i < n → m.2 4 (first + i) = rg i) (K : Int32 → MZ → Option (Int32 × MZ)) (x5 : Int32) : ∀ (f k : Nat), k ≤ n → n < f + k → (∀ i, i < k → ∃ j : Nat, j < 2 ^ cz_np c ∧ rg i = nI j) → (c_loadsBarred_L12 n rg f (nI k) c = some (-2, c) ∧ m_loads_L101 K (nI n) x5 f (nI first) (nI k) m = some (-2, m)) ∨ (c_loadsBarred_L12 n rg f (nI k) c = some (0, c) ∧ m_loads_L101 K (nI n) x5 f (nI first) (nI k) m = K (nI first) m ∧ ∀ i, i < n → ∃ j : Nat, j < 2 ^ cz_np c ∧ rg i = nI j) := by
  have hnp := R.1.2.2.1
  have hp := pow_le _ hnp
  intro f
  induction f with
  | zero => intro k h1 h2; omega
  | succ f ih =>
    intro k h1 h2 hg
    rw [c_loadsBarred_L12, m_loads_L101]
    rcases Nat.lt_or_ge k n with hk | hk
    · rw [if_neg (nI_ge hk (by omega)), if_neg (nI_ge hk (by omega)), nI_add, gd_t (inb_nI hk (by omega)), gd_t (inb_nI (show first + k < 240 by omega) (by decide)), nI_clamp (by omega), nI_clamp (by omega), hrg k hk, nI_1]
      rcases isP_or (rg k) (n := 2 ^ cz_np c) (by omega) with ⟨j, hj, e⟩ | ⟨-, hx⟩
      · rw [e, c_isLoad_in hnp hj, m_isSet_in R.2.1.1 hnp hj]
        simp only [Option.bind_some, if_neg one_ne]
        refine ih (k + 1) hk (by omega) (fun i hi => ?_)
        by_cases hik : i = k
        · rw [hik]; exact ⟨j, hj, e⟩
        · exact hg i (by omega)
      · rw [c_isLoad_out hnp hx, m_isSet_out R.2.1.1 hnp hx]
        exact Or.inl ⟨rfl, rfl⟩
    · have : k = n := by omega
      subst this
      rw [if_pos (nI_le (Nat.le_refl _) (by omega)), if_pos (nI_le (Nat.le_refl _) (by omega))]
      exact Or.inr ⟨rfl, rfl, hg⟩
/-- who pulled, told to each -/
theorem pulls_L {np : Nat} (hn : np ≤ 5) (K : MZ → Option (Int32 × MZ)) (x1 x2 y pull : Int32) (m0 : MZ) (h5 : m0.1 5 = nI np) : ∀ (f p : Nat) (m : MZ), p ≤ np → np < f + p → m.1 = m0.1 → (∀ j, j ≠ 24 → m.2 j = m0.2 j) → (∀ w, w < np → m.2 24 w = m0.2 24 w + (if w < p then b01 (tb pull w) else 0)) → ∃ m', m_goLoads_L173 K x1 x2 y f pull (nI p) m = K m' ∧ m'.1 = m0.1 ∧ (∀ j, j ≠ 24 → m'.2 j = m0.2 j) ∧ ∀ w, w < np → m'.2 24 w = m0.2 24 w + b01 (tb pull w) := by
  intro f
  induction f with
  | zero => intro p m h1 h2; omega
  | succ f ih =>
    intro p m h1 h2 hm1 hm2 hm3
    rw [m_goLoads_L173, hm1, h5]
    rcases Nat.lt_or_ge p np with hp | hp
    · rw [if_neg (nI_ge hp (by omega)), m_isOf_eq]
      simp only [jn, Option.bind_some, gd_t (inb_nI (show p < 5 by omega) (by decide)), nI_clamp (show p < 2 ^ 31 by omega), nI_1]
      have key : ∀ v, v = b01 (tb pull p) → ∃ m', m_goLoads_L173 K x1 x2 y f pull (nI (p + 1)) (mz_a m 24 p (m.2 24 p + v)) = K m' ∧ m'.1 = m0.1 ∧ (∀ j, j ≠ 24 → m'.2 j = m0.2 j) ∧ ∀ w, w < np → m'.2 24 w = m0.2 24 w + b01 (tb pull w) := by
        intro v hv
        refine ih (p + 1) _ hp (by omega) hm1 (fun j hj => ?_) (fun w hw => ?_)
        · show (if j = 24 then _ else m.2 j) = _
          rw [if_neg hj]; exact hm2 j hj
        · show upd (m.2 24) p (m.2 24 p + v) w = _
          unfold upd
          by_cases hwp : w = p
          · subst hwp
            rw [if_pos rfl, if_pos (show w < w + 1 by omega), hm3 w hw, if_neg (show ¬ w < w by omega), hv, Int32.add_zero]
          · rw [if_neg hwp, hm3 w hw]
            by_cases hlt : w < p
            · rw [if_pos hlt, if_pos (show w < p + 1 by omega)]
            · rw [if_neg hlt, if_neg (show ¬ w < p + 1 by omega)]
      by_cases ht : tb pull p = true
      · simp only [ht, if_true, if_neg one_ne]
        exact key 1 (by rw [ht]; rfl)
      · simp only [ht, if_true, if_false]
        exact key 0 (by simp [ht, b01])
    · have : p = np := by omega
      subst this
      rw [if_pos (nI_le (Nat.le_refl _) (by omega))]
      exact ⟨m, rfl, hm1, hm2, fun w hw => by rw [hm3 w hw, if_pos hw]⟩
/-- what the component makes of it in the end -/
abbrev lbK (x5 : Int32) : Int32 → Int32 → Int32 → Int32 → Int32 → Int32 → CZ → Option (Int32 × CZ) := fun (y21_3 : Int32) (y21_4 : Int32) (y21_5 : Int32) (y21_6 : Int32) (y21_7 : Int32) (y21_8 : Int32) (z21 : CZ) => if x5 = (1 : Int32) then some (y21_8, z21) else if y21_8 < 0 then jn (fun (z243 : CZ) => (c_noPerson (x5 - (10 : Int32)) z243).bind (fun r248 => if r248.1 = 0 then some (y21_7, r248.2) else some ((-9 : Int32), r248.2))) (fun (k243 : CZ → Option (Int32 × CZ)) => if x5 = (0 : Int32) then some (y21_4, z21) else if x5 = (1 : Int32) then k243 z21 else if x5 = (2 : Int32) then some (y21_3, z21) else if x5 = (3 : Int32) then some (y21_5, z21) else if x5 = (4 : Int32) then some (y21_6, z21) else k243 z21) else some (((-100 : Int32) - y21_8), z21)
abbrev lmK (x5 : Int32) : Int32 × MZ → Option (Int32 × MZ) := fun r139 => if x5 = (1 : Int32) then some (r139.1, r139.2) else if r139.1 = (-9 : Int32) then (m_tellLoads x5 r139.2).bind (fun r163 => some (r163.1, r163.2)) else some (((-100 : Int32) - r139.1), r139.2)
theorem lb_end (x5 : Int32) (n : Nat) (rg : Nat → Int32) {k : Nat} (hk : k < 2 ^ 31) (f : Nat) (a b d e g y : Int32) (c : CZ) : c_loadsBy_L21 (lbK x5) n rg x5 (f + 1) a b d e g (nI k) y c = lbK x5 a b d e g (nI k) c := by
  rw [c_loadsBy_L21]
  split
  · rfl
  · rw [if_pos (nI_pos' hk)]
/-- one load of the row -/
theorem lb_step {c : CZ} {m : MZ} (R : Rel c m) (x5 : Int32) {n : Nat} {rg : Nat → Int32} {k s : Nat} (hk : k < n) (hn : n ≤ 20) (hs : s < 2 ^ cz_np c) (e : rg k = nI s) (f : Nat) (cr fa qu dr ow : Int32) : c_loadsBy_L21 (lbK x5) n rg x5 (f + 1) cr fa qu dr ow (-9) (nI k) c = c_loadsBy_L21 (lbK x5) n rg x5 f (cr ||| nI s) (fa + (if fairV c s = 0 then 0 else 1)) (qu + (if nI (pcn ((pv c (nI s)).toBitVec.toNat)) ≤ 1 then 0 else 1)) (dr + (if pv c (nI s) = 0 then 1 else 0)) (ow + (if x5 < 10 then 0 else if ((pv c (nI s) >>> ((x5 - 10) &&& 31)) &&& 1) = 1 then 1 else 0)) (if nI s = 0 then nI k else if c.1 1 < nI (pcn s) then nI k else if nI s &&& cr = 0 then -9 else nI k) (nI (k + 1)) c := by
  have hnp := R.1.2.2.1
  have hp := pow_le _ hnp
  obtain ⟨j, hj, ej⟩ := pl_set (cdebt c (nI s)) (nI s) (cz_np c) hnp
  have ej : pv c (nI s) = nI j := ej
  rw [c_loadsBy_L21, if_neg (nI_ge hk (by omega)), if_neg (show ¬ (0 : Int32) ≤ -9 by decide)]
  have hpc : c_pulling (nI s) c = some (pv c (nI s), c) := pull_c R (nI s)
  simp only [gd_t (inb_nI hk (by omega)), nI_clamp (show k < 2 ^ 31 by omega), e, hpc, Option.bind_some, fair_c R (show s < 32 by omega), bitc_eq (show s < 32 by omega), ej, bitc_eq (show j < 32 by omega), pk_tn (show j < 2 ^ 32 by omega), jn, c_isIn, nI_1]
  by_cases h1 : fairV c s = 0 <;> by_cases h2 : nI (pcn j) ≤ 1 <;> by_cases h3 : nI j = 0 <;> by_cases h4 : x5 < 10 <;> by_cases h5 : ((nI j >>> ((x5 - 10) &&& 31)) &&& 1) = 1 <;> by_cases h6 : nI s = 0 <;> by_cases h7 : c.1 1 < nI (pcn s) <;> by_cases h8 : nI s &&& cr = 0 <;> simp [h1, h2, h3, h4, h5, h6, h7, h8, zr]

theorem lm_step {c : CZ} {m : MZ} (R : Rel c m) {n first k s : Nat} (hk : k < n) (hn : n ≤ 20) (hf : first + n ≤ 240) (hs : s < 2 ^ cz_np c) (e : m.2 4 (first + k) = nI s) (f : Nat) : ((nI s = 0 ∨ c.1 1 < nI (pcn s) ∨ ¬ nI s &&& m.1 23 = 0) ∧ m_goLoads_L42 (nI first) (nI n) (f + 1) (nI k) m = some (nI k, m)) ∨ ((¬ nI s = 0 ∧ ¬ c.1 1 < nI (pcn s) ∧ nI s &&& m.1 23 = 0) ∧ ∃ m', m_goLoads_L42 (nI first) (nI n) (f + 1) (nI k) m = m_goLoads_L42 (nI first) (nI n) f (nI (k + 1)) m' ∧ Rel c m' ∧ m'.2 4 = m.2 4 ∧ m'.1 23 = m.1 23 ||| nI s ∧ m'.1 20 = m.1 20 + (if fairV c s = 0 then 0 else 1) ∧ m'.1 21 = m.1 21 + (if nI (pcn ((pv c (nI s)).toBitVec.toNat)) ≤ 1 then 0 else 1) ∧ m'.1 22 = m.1 22 + (if pv c (nI s) = 0 then 1 else 0) ∧ ∀ w, w < cz_np c → m'.2 24 w = m.2 24 w + b01 (tb (pv c (nI s)) w)) := by
  have hnp := R.1.2.2.1
  have hp := pow_le _ hnp
  obtain ⟨j, hj, ej⟩ := pl_set (cdebt c (nI s)) (nI s) (cz_np c) hnp
  have ej : pv c (nI s) = nI j := ej
  have hpm : m_pullersOf (nI s) m = some (pv c (nI s), m) := pull_m R (nI s)
  rw [m_goLoads_L42, if_neg (nI_ge hk (by omega)), nI_add, gd_t (inb_nI (show first + k < 240 by omega) (by decide)), nI_clamp (show first + k < 2 ^ 31 by omega), e]
  by_cases h1 : nI s = 0
  · rw [if_pos h1]
    exact Or.inl ⟨Or.inl h1, rfl⟩
  · rw [if_neg h1, size_eq (show s < 32 by omega), R.2.1.2.1]
    simp only [Option.bind_some]
    by_cases h2 : c.1 1 < nI (pcn s)
    · rw [if_pos h2]
      exact Or.inl ⟨Or.inr (Or.inl h2), rfl⟩
    · rw [if_neg h2]
      by_cases h3 : nI s &&& m.1 23 = 0
      · rw [if_pos h3, hpm]
        simp only [Option.bind_some]
        have R1 : Rel c (mz_f m 23 (m.1 23 ||| nI s)) := by
          obtain ⟨r1, r2, r3, r4, r5, r6⟩ := R
          exact ⟨r1, r2, r3, r4, r5, r6⟩
        rw [fair_m R1 (show s < 32 by omega)]
        simp only [Option.bind_some, jn, ej, size_eq (show j < 32 by omega), nI_1, pk_tn (show j < 2 ^ 32 by omega)]
        refine Or.inr ⟨⟨h1, h2, h3⟩, ?_⟩
        have key : ∀ a b d : Int32, ∃ m', m_goLoads_L173 (fun (z173 : MZ) => m_goLoads_L42 (nI first) (nI n) f (nI (k + 1)) z173) (nI first) (nI n) (nI k) FU (nI j) 0 (mz_f (mz_f (mz_f (mz_f m 23 (m.1 23 ||| nI s)) 20 (m.1 20 + a)) 21 (m.1 21 + b)) 22 (m.1 22 + d)) = m_goLoads_L42 (nI first) (nI n) f (nI (k + 1)) m' ∧ Rel c m' ∧ m'.2 4 = m.2 4 ∧ m'.1 23 = m.1 23 ||| nI s ∧ m'.1 20 = m.1 20 + a ∧ m'.1 21 = m.1 21 + b ∧ m'.1 22 = m.1 22 + d ∧ ∀ w, w < cz_np c → m'.2 24 w = m.2 24 w + b01 (tb (nI j) w) := by
          intro a b d
          have h5 : (mz_f (mz_f (mz_f (mz_f m 23 (m.1 23 ||| nI s)) 20 (m.1 20 + a)) 21 (m.1 21 + b)) 22 (m.1 22 + d)).1 5 = nI (cz_np c) := R.2.1.1
          obtain ⟨m', q1, q2, q3, q4⟩ := pulls_L hnp (fun (z173 : MZ) => m_goLoads_L42 (nI first) (nI n) f (nI (k + 1)) z173) (nI first) (nI n) (nI k) (nI j) _ h5 FU 0 _ (by omega) (by show _ < 400 + 0; omega) rfl (fun _ _ => rfl) (fun w _ => by rw [if_neg (by omega), Int32.add_zero])
          refine ⟨m', q1, ?_, q3 4 (by decide), by rw [q2]; rfl, by rw [q2]; rfl, by rw [q2]; rfl, by rw [q2]; rfl, q4⟩
          obtain ⟨r1, ⟨e5, e6, e7, e1, e0, e18, e19⟩, r3, r4, r5, r6⟩ := R
          refine ⟨r1, ⟨by rw [q2]; exact e5, by rw [q2]; exact e6, by rw [q2]; exact e7, by rw [q2]; exact e1, by rw [q2]; exact e0, by rw [q2]; exact e18, by rw [q2]; exact e19⟩, ?_, ?_, ?_, ?_⟩
          · intro i hi
            rw [q3 8 (by decide), q3 9 (by decide)]; exact r3 i hi
          · intro i hi
            rw [q3 10 (by decide)]; exact r4 i hi
          · rw [q2, q3 27 (by decide), q3 28 (by decide)]; exact r5
          · intro x hx
            exact shRel_other (r6 x hx) (by rw [q3 2 (by decide)]; rfl) (by rw [q3 3 (by decide)]; rfl) (fun i _ => by rw [q3 4 (by decide)]; rfl)
        have p20 : ∀ v, (mz_f m 23 v).1 20 = m.1 20 := fun _ => rfl
        have p21 : ∀ v w, (mz_f (mz_f m 23 v) 20 w).1 21 = m.1 21 := fun _ _ => rfl
        have p22 : ∀ v w u, (mz_f (mz_f (mz_f m 23 v) 20 w) 21 u).1 22 = m.1 22 := fun _ _ _ => rfl
        simp only [p20, p21, p22]
        by_cases g1 : fairV c s = 0
        · simp only [if_pos g1]
          by_cases g2 : nI (pcn j) ≤ 1
          · simp only [if_pos g2]
            by_cases g3 : nI j = 0
            · simp only [if_pos g3]
              exact key 0 0 1
            · simp only [if_neg g3]
              exact key 0 0 0
          · simp only [if_neg g2]
            by_cases g3 : nI j = 0
            · simp only [if_pos g3]
              exact key 0 1 1
            · simp only [if_neg g3]
              exact key 0 1 0
        · simp only [if_neg g1]
          by_cases g2 : nI (pcn j) ≤ 1
          · simp only [if_pos g2]
            by_cases g3 : nI j = 0
            · simp only [if_pos g3]
              exact key 1 0 1
            · simp only [if_neg g3]
              exact key 1 0 0
          · simp only [if_neg g2]
            by_cases g3 : nI j = 0
            · simp only [if_pos g3]
              exact key 1 1 1
            · simp only [if_neg g3]
              exact key 1 1 0
      · rw [if_neg h3]
        exact Or.inl ⟨Or.inr (Or.inr h3), rfl⟩
theorem lb_tell {c : CZ} {m : MZ} (R : Rel c m) (x5 : Int32) (hx : (∃ w : Nat, w ≤ 4 ∧ x5 = nI w) ∨ ∃ w : Nat, w ≤ 4 ∧ x5 = nI (10 + w)) {cr fa qu dr ow : Int32} (h23 : m.1 23 = cr) (h20 : m.1 20 = fa) (h21 : m.1 21 = qu) (h22 : m.1 22 = dr) (how : ∀ w, w < cz_np c → x5 = nI (10 + w) → ow = m.2 24 w) : Same (lbK x5 cr fa qu dr ow (-9) c) (lmK x5 (-9, m)) := by
  have hnp := R.1.2.2.1
  unfold lbK lmK m_tellLoads
  rcases hx with ⟨w, hw, rfl⟩ | ⟨w, hw, rfl⟩
  · rcases (show w = 0 ∨ w = 1 ∨ w = 2 ∨ w = 3 ∨ w = 4 by omega) with rfl | rfl | rfl | rfl | rfl
    · exact ⟨fa, c, m, rfl, by rw [← h20]; rfl, R⟩
    · exact ⟨-9, c, m, rfl, rfl, R⟩
    · exact ⟨cr, c, m, rfl, by rw [← h23]; rfl, R⟩
    · exact ⟨qu, c, m, rfl, by rw [← h21]; rfl, R⟩
    · exact ⟨dr, c, m, rfl, by rw [← h22]; rfl, R⟩
  · have ne : ∀ v : Nat, v ≤ 4 → ¬ nI (10 + w) = nI v := fun v hv h => by
      have := (nI_eq (by omega) (by omega)).mp h
      omega
    have e10 : nI (10 + w) - (10 : Int32) = nI w := by
      have : (10 : Int32) = nI 10 := rfl
      rw [this, pk_sub (by omega), show 10 + w - 10 = w by omega]
    have n0 : ¬ nI (10 + w) = (0 : Int32) := ne 0 (by decide)
    have n1 : ¬ nI (10 + w) = (1 : Int32) := ne 1 (by decide)
    have n2 : ¬ nI (10 + w) = (2 : Int32) := ne 2 (by decide)
    have n3 : ¬ nI (10 + w) = (3 : Int32) := ne 3 (by decide)
    have n4 : ¬ nI (10 + w) = (4 : Int32) := ne 4 (by decide)
    simp only [jn, if_neg n0, if_neg n1, if_neg n2, if_neg n3, if_neg n4, if_pos (show (-9 : Int32) < 0 by decide), if_true, e10]
    rcases isP_or (nI w) (n := cz_np c) (by omega) with ⟨j, hj, ej⟩ | ⟨-, hx⟩
    · have : w = j := (nI_eq (by omega) (by omega)).mp ej
      subst this
      rw [c_noPerson_in hnp hj, m_isPerson_in R.2.1.1 hnp hj]
      simp only [Option.bind_some, if_true, if_neg one_ne, gd_t (inb_nI (show w < 5 by omega) (by decide)), nI_clamp (show w < 2 ^ 31 by omega)]
      exact ⟨ow, c, m, rfl, by rw [how w hj rfl], R⟩
    · rw [c_noPerson_out hnp hx, m_isPerson_out R.2.1.1 hx]
      exact ⟨_, c, m, rfl, rfl, R⟩
theorem lb_L {c : CZ} (x5 : Int32) (hx : (∃ w : Nat, w ≤ 4 ∧ x5 = nI w) ∨ ∃ w : Nat, w ≤ 4 ∧ x5 = nI (10 + w)) {n first : Nat} {rg : Nat → Int32} (hn : n ≤ 20) (hf : first + n ≤ 240) (hg : ∀ i, i < n → ∃ j : Nat, j < 2 ^ cz_np c ∧ rg i = nI j) : ∀ (f k : Nat) (m : MZ) (cr fa qu dr ow : Int32), Rel c m → (∀ i, i < n → m.2 4 (first + i) = rg i) → k ≤ n → n + 1 < f + k → m.1 23 = cr → m.1 20 = fa → m.1 21 = qu → m.1 22 = dr → (∀ w, w < cz_np c → x5 = nI (10 + w) → ow = m.2 24 w) → Same (c_loadsBy_L21 (lbK x5) n rg x5 f cr fa qu dr ow (-9) (nI k) c) ((m_goLoads_L42 (nI first) (nI n) f (nI k) m).bind (lmK x5)) := by
  intro f
  induction f with
  | zero => intro k m cr fa qu dr ow _ _ h1 h2; omega
  | succ f ih =>
    intro k m cr fa qu dr ow R hrg h1 h2 h23 h20 h21 h22 how
    have hnp := R.1.2.2.1
    rcases Nat.lt_or_ge k n with hk | hk
    · obtain ⟨s, hs, es⟩ := hg k hk
      rw [lb_step R x5 hk hn hs es]
      rcases lm_step R hk hn hf hs (by rw [hrg k hk, es]) f with ⟨hbad, e⟩ | ⟨⟨g1, g2, g3⟩, m', e, R', q4, q23, q20, q21, q22, q24⟩
      · rw [e]
        have hw : (if nI s = 0 then nI k else if c.1 1 < nI (pcn s) then nI k else if nI s &&& cr = 0 then -9 else nI k) = nI k := by
          rw [h23] at hbad
          by_cases b1 : nI s = 0
          · rw [if_pos b1]
          · rw [if_neg b1]
            by_cases b2 : c.1 1 < nI (pcn s)
            · rw [if_pos b2]
            · rw [if_neg b2, if_neg (hbad.resolve_left b1 |>.resolve_left b2)]
        rw [hw]
        obtain ⟨f', rfl⟩ : ∃ f', f = f' + 1 := ⟨f - 1, by omega⟩
        rw [lb_end x5 n rg (by omega)]
        unfold lbK
        simp only [Option.bind_some, lmK]
        by_cases b1 : x5 = 1
        · rw [if_pos b1, if_pos b1]
          exact ⟨_, c, m, rfl, rfl, R⟩
        · rw [if_neg b1, if_neg b1, if_neg (nI_pos (n := k) (by omega)), if_neg (ne9 (a := k) (by omega))]
          exact ⟨_, c, m, rfl, rfl, R⟩
      · rw [e, if_neg g1, if_neg g2, if_pos (show nI s &&& cr = 0 by rw [← h23]; exact g3)]
        refine ih (k + 1) m' _ _ _ _ _ R' (fun i hi => by rw [q4]; exact hrg i hi) hk (by omega) (by rw [q23, h23]) (by rw [q20, h20]) (by rw [q21, h21]) (by rw [q22, h22]) (fun w hw ew => ?_)
        rw [q24 w hw, ← how w hw ew, ew]
        have : (10 : Int32) = nI 10 := rfl
        have e10 : nI (10 + w) - (10 : Int32) = nI w := by rw [this, pk_sub (by omega), show 10 + w - 10 = w by omega]
        have hlt : ¬ nI (10 + w) < (10 : Int32) := nI_nlt (b := 10) (by omega) (by omega)
        rw [if_neg hlt, e10]
        congr 1
        unfold b01 tb
        simp only [decide_eq_true_eq]
    · have : k = n := by omega
      subst this
      rw [c_loadsBy_L21, if_pos (nI_le (Nat.le_refl _) (by omega)), m_goLoads_L42, if_pos (nI_le (Nat.le_refl _) (by omega))]
      exact lb_tell R x5 hx h23 h20 h21 h22 how
/-- the model's counts, begun -/
theorem go_L (K : MZ → Option (Int32 × MZ)) (x1 x2 : Int32) (m0 : MZ) : ∀ (f p : Nat) (m : MZ), p ≤ 5 → 5 < f + p → m.1 = m0.1 → (∀ j, j ≠ 24 → m.2 j = m0.2 j) → (∀ w, w < p → m.2 24 w = 0) → ∃ m', m_goLoads_L22 K x1 x2 f (nI p) m = K m' ∧ m'.1 = m0.1 ∧ (∀ j, j ≠ 24 → m'.2 j = m0.2 j) ∧ ∀ w, w < 5 → m'.2 24 w = 0 := by
  intro f
  induction f with
  | zero => intro p m h1 h2; omega
  | succ f ih =>
    intro p m h1 h2 hm1 hm2 hm3
    rw [m_goLoads_L22]
    rcases Nat.lt_or_ge p 5 with hp | hp
    · rw [if_neg (show ¬ (5 : Int32) ≤ nI p from nI_ge (b := 5) hp (by decide)), gd_t (inb_nI hp (by decide)), nI_clamp (by omega), nI_1]
      refine ih (p + 1) _ hp (by omega) hm1 (fun j hj => ?_) (fun w hw => ?_)
      · show (if j = 24 then _ else m.2 j) = _
        rw [if_neg hj]; exact hm2 j hj
      · show upd (m.2 24) p 0 w = 0
        unfold upd
        by_cases hwp : w = p
        · rw [if_pos hwp]
        · rw [if_neg hwp]; exact hm3 w (by omega)
    · have : p = 5 := by omega
      subst this
      rw [if_pos (show (5 : Int32) ≤ nI 5 by decide)]
      exact ⟨m, rfl, hm1, hm2, hm3⟩
theorem op_loads {c : CZ} {m : MZ} (R : Rel c m) (a b i n x5 : Int32) : Same (c_loads a b i n x5 c) (m_loads a b i n x5 m) := by
  have R0 := R.faultv 0
  unfold c_loads m_loads
  rcases sh_case a with ⟨k, hk, rfl, h1, e1⟩ | ⟨h1, e1⟩
  · rw [if_pos h1, e1]
    simp only [Option.bind_some, if_neg one_ne]
    rcases so_case b with ⟨s, hs, rfl, h2, e2⟩ | ⟨h2, e2⟩
    · rw [e2]
      simp only [Option.bind_some, if_neg one_ne]
      by_cases h3 : 0 ≤ n ∧ n ≤ 20
      · rw [m_within_t (a := 0) (b := 20) h3]
        simp only [Option.bind_some, if_neg one_ne, jn]
        have main : (∃ w : Nat, w ≤ 4 ∧ x5 = nI w) ∨ (∃ w : Nat, w ≤ 4 ∧ x5 = nI (10 + w)) → Same (c_look (fun rn rg z => (c_loadsBarred rn rg z).bind (fun r => if r.1 < 0 then some r else c_loadsBy rn rg x5 r.2)) (nI k) (nI s) i n (cz_f c 8 0)) ((m_against (nI k) (nI s) i n (mz_f m 0 0)).bind (fun r63 => if r63.1 = 0 then if (r63.2.1 5) = 0 then some ((-3 : Int32), r63.2) else m_loads_L101 (fun (y101_7 : Int32) (z101 : MZ) => (m_goLoads y101_7 n z101).bind (lmK x5)) n x5 FU (((60 : Int32) * nI k) + i) (0 : Int32) r63.2 else (m_fails r63.1 r63.2).bind (fun r76 => some (r76.1, r76.2)))) := by
          intro hx
          rcases look_case R0 hk (fun rn rg z => (c_loadsBarred rn rg z).bind (fun r => if r.1 < 0 then some r else c_loadsBy rn rg x5 r.2)) (nI s) i n with ⟨f, e3, e4, hf⟩ | ⟨q, i', n', hq, rfl, rfl, hle, e3, e4⟩
          · rw [e3, e4]
            simp only [Option.bind_some, if_neg hf]
            exact ⟨_, _, _, rfl, rfl, R0.faultv f⟩
          · rw [e3, e4]
            obtain ⟨g1, g2, g3, g4, g5⟩ := sh_some R0 hk hq
            have hnp := R0.1.2.2.1
            have hn20 : n' ≤ 20 := by
              have hlt : n' < 2 ^ 31 := by omega
              exact (nI_leI hlt (by decide)).mp (show nI n' ≤ nI 20 from h3.2)
            simp only [Option.bind_some, if_true, R0.2.1.1, i60]
            unfold c_loadsBarred
            rw [noRiver_eq hnp]
            simp only [Option.bind_some]
            by_cases h0 : cz_np (cz_f c 8 0) = 0
            · rw [if_pos h0, if_pos (show nI (cz_np (cz_f c 8 0)) = 0 by rw [h0]; rfl), if_neg one_ne]
              exact ⟨_, _, _, rfl, rfl, R0⟩
            · rw [if_neg h0, if_neg (nI_ne0 (by omega) (by omega)), if_pos rfl]
              have hB := bar_L R0 (n := n') (first := 60 * k + i') (rg := fun x => q.2.2 (i' + x)) hn20 (by omega) (fun x hx => by rw [show 60 * k + i' + x = 60 * k + (i' + x) by omega]; exact g5 _ (by omega)) (fun (y101_7 : Int32) (z101 : MZ) => (m_goLoads y101_7 (nI n') z101).bind (lmK x5)) x5 FU 0 (by omega) (by show n' < 400 + 0; omega) (fun j hj => absurd hj (by omega))
              rw [show nI 0 = (0 : Int32) from rfl] at hB
              rcases hB with ⟨b1, b2⟩ | ⟨b1, b2, hg⟩
              · rw [b1, b2]
                exact ⟨_, _, _, rfl, rfl, R0⟩
              · rw [b1, b2]
                simp only [Option.bind_some]
                rw [if_neg (show ¬ (0 : Int32) < 0 by decide)]
                unfold c_loadsBy m_goLoads
                obtain ⟨m', q1, q2, q3, q5⟩ := go_L (fun (z22 : MZ) => m_goLoads_L42 (nI (60 * k + i')) (nI n') FU (0 : Int32) z22) (nI (60 * k + i')) (nI n') (mz_f (mz_f (mz_f (mz_f (mz_f m 0 0) 20 (0 : Int32)) 21 (0 : Int32)) 22 (0 : Int32)) 23 (0 : Int32)) FU 0 _ (by omega) (by decide) rfl (fun _ _ => rfl) (fun w hw => absurd hw (by omega))
                rw [show nI 0 = (0 : Int32) from rfl] at q1
                rw [q1]
                have R1 : Rel (cz_f c 8 0) m' := by
                  obtain ⟨r1, ⟨e5, e6, e7, e1, e0, e18, e19⟩, r3, r4, r5, r6⟩ := R0
                  refine ⟨r1, ⟨by rw [q2]; exact e5, by rw [q2]; exact e6, by rw [q2]; exact e7, by rw [q2]; exact e1, by rw [q2]; exact e0, by rw [q2]; exact e18, by rw [q2]; exact e19⟩, ?_, ?_, ?_, ?_⟩
                  · intro j hj
                    rw [q3 8 (by decide), q3 9 (by decide)]; exact r3 j hj
                  · intro j hj
                    rw [q3 10 (by decide)]; exact r4 j hj
                  · rw [q2, q3 27 (by decide), q3 28 (by decide)]; exact r5
                  · intro x hx
                    exact shRel_other (r6 x hx) (by rw [q3 2 (by decide)]; rfl) (by rw [q3 3 (by decide)]; rfl) (fun j _ => by rw [q3 4 (by decide)]; rfl)
                exact lb_L x5 hx hn20 (by omega) hg FU 0 m' 0 0 0 0 0 R1 (fun x hx => by rw [q3 4 (by decide), show 60 * k + i' + x = 60 * k + (i' + x) by omega]; exact g5 _ (by omega)) (by omega) (by show n' + 1 < 400 + 0; omega) (by rw [q2]; rfl) (by rw [q2]; rfl) (by rw [q2]; rfl) (by rw [q2]; rfl) (fun w hw _ => by rw [q5 w (by omega)])
        rcases btw_or x5 0 4 (by decide) (by decide) with ⟨w, -, hw, rfl, q⟩ | q
        · rw [m_within_t (a := 0) (b := 4) q, if_pos ⟨h2, h3, Or.inl q⟩]
          simp only [Option.bind_some, if_neg one_ne]
          exact main (Or.inl ⟨w, hw, rfl⟩)
        · rw [m_within_f (a := 0) (b := 4) q]
          simp only [Option.bind_some, if_true]
          rcases btw_or x5 10 14 (by decide) (by decide) with ⟨w, hw0, hw, rfl, q'⟩ | q'
          · rw [m_within_t (a := 10) (b := 14) q', if_pos ⟨h2, h3, Or.inr q'⟩]
            simp only [Option.bind_some, if_neg one_ne]
            exact main (Or.inr ⟨w - 10, by omega, by rw [show 10 + (w - 10) = w by omega]⟩)
          · rw [m_within_f (a := 10) (b := 14) q', if_neg (fun h => h.2.2.elim q q')]
            exact ⟨_, _, _, rfl, rfl, R0⟩
      · rw [m_within_f (a := 0) (b := 20) h3, if_neg (fun h => h3 h.2.1)]
        exact ⟨_, _, _, rfl, rfl, R0⟩
    · rw [if_neg (fun h => h2 h.1), e2]
      exact ⟨_, _, _, rfl, rfl, R0⟩
  · rw [if_neg h1, e1]
    exact ⟨_, _, _, rfl, rfl, R0⟩
