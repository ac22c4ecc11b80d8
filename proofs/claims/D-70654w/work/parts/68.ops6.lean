/-! OPERATIONS, pure (6): odds, loan -/
def SameL (x : Option (Int64 × CZ)) (y : Option (Int64 × MZ)) : Prop := ∃ r c m, x = some (r, c) ∧ y = some (r, m) ∧ Rel c m
set_option maxRecDepth 100000 in
theorem gcd_all : ∀ n : Fin 6, ∀ k : Fin 33, k.val ≤ 2 ^ n.val → ((c_greatest (nI (2 ^ n.val)).toInt64 (nI k.val).toInt64).bind (fun r167 => gd (decide (¬ r167 = 0)) (some ((nI k.val).toInt64 / r167))) = m_inLeastTerms (nI k.val).toInt64 (nI (2 ^ n.val)).toInt64 0 ∧ (c_greatest (nI (2 ^ n.val)).toInt64 (nI k.val).toInt64).bind (fun r167 => gd (decide (¬ r167 = 0)) (some ((nI (2 ^ n.val)).toInt64 / r167))) = m_inLeastTerms (nI k.val).toInt64 (nI (2 ^ n.val)).toInt64 1 ∧ (m_inLeastTerms (nI k.val).toInt64 (nI (2 ^ n.val)).toInt64 0).isSome = true ∧ (m_inLeastTerms (nI k.val).toInt64 (nI (2 ^ n.val)).toInt64 1).isSome = true) := by decide +kernel
theorem odds_in (K : CZ → Option (Int64 × CZ)) (x1 x2 x3 : Int32) (c : CZ) (y4 y5 : Int32) (wet : Nat) : ∀ (n k : Nat) (z : CZ), k ≤ 25 → 25 < n + k → kst c z → (∀ j, j < k → z.2.1 3 j = if tb (nI wet) (j / 5) = true then 0 else c.2.1 3 j) → ∃ z', kst c z' ∧ (∀ j, j < 25 → z'.2.1 3 j = if tb (nI wet) (j / 5) = true then 0 else c.2.1 3 j) ∧ c_odds_L71 K x1 x2 x3 y4 y5 (nI wet) n (nI k) z = K z' := by
  intro n
  induction n with
  | zero => intro k z h1 h2; omega
  | succ n ih =>
    intro k z h1 h2 hz hj
    rw [c_odds_L71]
    rcases Nat.lt_or_ge k 25 with hk | hk
    · have h5 : (5 : Int32) = nI 5 := rfl
      have h25 : (25 : Int32) = nI 25 := rfl
      rw [h25, if_neg (nI_ge hk (by decide)), h5, pk_div (by omega) (by decide) (by decide), c_isIn_eq]
      simp only [Option.bind_some, jn, gd_t (inb_nI hk (by decide)), nI_clamp (show k < 2 ^ 31 by omega), nI_1]
      have key : ∀ v : Int32, v = (if tb (nI wet) (k / 5) = true then 0 else c.2.1 3 k) → ∃ z', kst c z' ∧ (∀ j, j < 25 → z'.2.1 3 j = if tb (nI wet) (j / 5) = true then 0 else c.2.1 3 j) ∧ c_odds_L71 K x1 x2 x3 y4 y5 (nI wet) n (nI (k + 1)) (cz_a z 3 k v) = K z' := by
        intro v hv
        refine ih (k + 1) _ hk (by omega) ⟨hz.1, hz.2.1, hz.2.2⟩ (fun j hj2 => ?_)
        show upd (z.2.1 3) k v j = _
        unfold upd
        by_cases hjk : j = k
        · rw [if_pos hjk, hv, hjk]
        · rw [if_neg hjk]; exact hj j (by omega)
      by_cases ht : tb (nI wet) (k / 5) = true
      · simp only [ht, if_true, if_neg one_ne]
        exact key 0 (by rw [if_pos ht])
      · simp only [ht, if_true, if_false]
        exact key _ (by rw [if_neg ht]; exact hz.2.2 k hk)
    · have : k = 25 := by omega
      subst this
      rw [if_pos (show (25 : Int32) ≤ nI 25 by decide)]
      exact ⟨z, hz, hj, rfl⟩
theorem odds_L {c : CZ} {m : MZ} (R : Rel c m) {p : Nat} (hp : p < cz_np c) (set x3 : Int32) (hx : x3 = 0 ∨ x3 = 1) : ∀ (n wet k : Nat) (z : CZ) (m' : MZ), k ≤ wet → wet ≤ 2 ^ cz_np c → 2 ^ cz_np c < n + wet → kst c z → m'.2 = m.2 → (∀ j, j ≠ 18 → m'.1 j = m.1 j) → m'.1 18 = nI wet →
    SameL (c_odds_L61 (fun (y61_4 : Int32) (y61_5 : Int32) (z61 : CZ) => (c_putBack z61).bind (fun r146 => jn (fun (v160_0 : Int32) (z160 : CZ) => (c_greatest (y61_4.toInt64) (y61_5.toInt64)).bind (fun r167 => gd (decide (¬ r167 = 0)) (some (((v160_0.toInt64) / r167), z160)))) (fun (k160 : Int32 → CZ → Option (Int64 × CZ)) => if x3 = 0 then k160 y61_5 r146 else k160 y61_4 r146))) (nI p) set x3 n (nI (2 ^ cz_np c)) (nI k) (nI wet) z)
      (m_odds_L53 (fun (y53_4 : Int32) (y53_5 : Int32) (z53 : MZ) => (m_inLeastTerms (y53_4.toInt64) (y53_5.toInt64) x3).bind (fun r109 => some (r109, (mz_f z53 18 (0 : Int32))))) (nI p) set x3 n (nI k) (nI (2 ^ cz_np c)) m') := by
  have hn := R.1.2.2.1
  have hpw := pow_le _ hn
  intro n
  induction n with
  | zero => intro wet k z m' _ h1 h2; omega
  | succ n ih =>
    intro wet k z m' hk h1 h2 hz hm2 hm1 h18
    rw [c_odds_L61, m_odds_L53, h18]
    rcases Nat.lt_or_ge wet (2 ^ cz_np c) with hw | hw
    · rw [if_neg (nI_ge hw (by omega)), if_neg (nI_ge hw (by omega))]
      obtain ⟨z', hz', hnt, e1⟩ := odds_in (fun (z71 : CZ) => (c_pulling set z71).bind (fun r121 => (c_isIn r121.1 (nI p)).bind (fun r125 => jn (fun (v136_0 : Int32) (z136 : CZ) => c_odds_L61 (fun (y61_4 : Int32) (y61_5 : Int32) (z61 : CZ) => (c_putBack z61).bind (fun r146 => jn (fun (v160_0 : Int32) (z160 : CZ) => (c_greatest (y61_4.toInt64) (y61_5.toInt64)).bind (fun r167 => gd (decide (¬ r167 = 0)) (some (((v160_0.toInt64) / r167), z160)))) (fun (k160 : Int32 → CZ → Option (Int64 × CZ)) => if x3 = 0 then k160 y61_5 r146 else k160 y61_4 r146))) (nI p) set x3 n (nI (2 ^ cz_np c)) (nI k + v136_0) (nI wet + 1) z136) (fun (k136 : Int32 → CZ → Option (Int64 × CZ)) => if r125 = 0 then k136 (0 : Int32) r121.2 else k136 (1 : Int32) r121.2)))) (nI p) set x3 c (nI (2 ^ cz_np c)) (nI k) wet FU 0 z (by omega) (by show 25 < 400 + 0; omega) hz (fun j hj => absurd hj (by omega))
      rw [show nI 0 = (0 : Int32) from rfl] at e1
      rw [e1]
      have hrg : cRng z' := cRng_of R.1 hz'.1 hz'.2.1 (fun k hk => by
        rw [hnt k hk]
        split
        · exact ⟨0, by decide, rfl⟩
        · exact R.1.1 k hk)
      have hnp' : cz_np z' = cz_np c := by show z'.2.2.1.1 = _; rw [hz'.2.1]
      have hkz : ∀ i, cz_k z' i = cz_k c i := fun i => by show z'.2.2.1.2.1 i = _; rw [hz'.2.1]
      have hpm : m_pullersOf set m' = some (pv z' set, m') := by
        refine pull_gen hrg ?_ ?_ ?_ ?_ set
        · rw [hnp', hm1 5 (by decide)]; exact R.2.1.1
        · rw [hm1 7 (by decide), hz'.1]; exact R.2.1.2.2.1
        · intro i hi
          rw [hnp'] at hi
          rw [hm2, hkz]; exact (R.2.2.1 i hi).1
        · intro a q hp' hq'
          rw [hnp'] at hp' hq'
          show (if tb (m'.1 18) a = true then 0 else if tb (m'.1 19) q = true then 0 else m'.2 10 (5 * a + q)) = z'.2.1 3 (a * 5 + q)
          rw [h18, hm1 19 (by decide), R.2.1.2.2.2.2.2.2, tb0 q (by omega), hnt _ (by omega), show (a * 5 + q) / 5 = a by omega, hm2, R.2.2.2.1 _ (by omega), Nat.mul_comm 5 a]
          simp
      rw [c_pulling_eq set z' hrg, hpm]
      simp only [Option.bind_some, jn, c_isIn_eq, m_isOf_eq, nI_1, h18]
      have hm' : ∀ j, j ≠ 18 → (mz_f m' 18 (nI (wet + 1))).1 j = m.1 j := fun j g => by show upd m'.1 18 _ j = _; unfold upd; rw [if_neg g]; exact hm1 j g
      show SameL (if (if tb (pv z' set) p = true then (1 : Int32) else 0) = 0 then _ else _) (if (if tb (pv z' set) p = true then (1 : Int32) else 0) = 0 then _ else _)
      by_cases ht : tb (pv z' set) p = true
      · simp only [ht, if_true, if_neg one_ne]
        exact ih (wet + 1) (k + 1) z' _ (by omega) (by omega) (by omega) hz' hm2 hm' rfl
      · simp only [ht, if_true, if_false]
        have := ih (wet + 1) k z' (mz_f m' 18 (nI (wet + 1))) (by omega) (by omega) (by omega) hz' hm2 hm' rfl
        rw [show nI k + (0 : Int32) = nI k from by simp]
        exact this
    · have : wet = 2 ^ cz_np c := by omega
      subst this
      rw [if_pos (nI_le (Nat.le_refl _) (by omega)), if_pos (nI_le (Nat.le_refl _) (by omega))]
      obtain ⟨z', e1, R'⟩ := R.back3 (m' := mz_f m' 18 0) hz hm2 (fun j g1 g2 => by
        show upd m'.1 18 0 j = m.1 j
        unfold upd
        rw [if_neg g1]; exact hm1 j g1) rfl (by
        show upd m'.1 18 0 19 = 0
        unfold upd
        rw [if_neg (by decide), hm1 19 (by decide)]; exact R.2.1.2.2.2.2.2.2)
      rw [e1]
      simp only [Option.bind_some, jn]
      obtain ⟨g0, g1, g2, g3⟩ := gcd_all ⟨cz_np c, by omega⟩ ⟨k, by omega⟩ hk
      simp only at g0 g1 g2 g3
      rcases hx with rfl | rfl
      · rw [if_pos rfl]
        obtain ⟨v, hv⟩ := Option.isSome_iff_exists.mp g2
        rw [hv] at g0
        obtain ⟨r, hr, g0⟩ := Option.bind_eq_some_iff.mp g0
        obtain ⟨g4, g0⟩ := gd_some g0
        cases g0
        rw [hr, hv]
        simp only [Option.bind_some, gd_t g4]
        exact ⟨_, z', _, rfl, rfl, R'⟩
      · rw [if_neg one_ne]
        obtain ⟨v, hv⟩ := Option.isSome_iff_exists.mp g3
        rw [hv] at g1
        obtain ⟨r, hr, g1⟩ := Option.bind_eq_some_iff.mp g1
        obtain ⟨g4, g1⟩ := gd_some g1
        cases g1
        rw [hr, hv]
        simp only [Option.bind_some, gd_t g4]
        exact ⟨_, z', _, rfl, rfl, R'⟩
theorem op_odds {c : CZ} {m : MZ} (R : Rel c m) (a x y : Int32) : SameL (c_odds a x y c) (m_odds a x y m) := by
  have hn := R.1.2.2.1
  have h5 := R.2.1.1
  have hp := pow_le _ hn
  unfold c_odds m_odds
  rcases isP_or a (n := cz_np c) (by omega) with ⟨i, hi, rfl⟩ | ⟨-, ha⟩
  · rw [c_noPerson_in hn hi, m_isPerson_in h5 hn hi]
    simp only [Option.bind_some, if_true, if_neg one_ne]
    rcases isP_or x (n := 2 ^ cz_np c) (by omega) with ⟨j, hj, rfl⟩ | ⟨-, hx⟩
    · rw [c_isLoad_in hn hj, m_isSet_in h5 hn hj]
      simp only [Option.bind_some, if_neg one_ne]
      rcases btw_or y 0 1 (by decide) (by decide) with ⟨w, hw0, hw, rfl, q⟩ | q
      · rw [c_in_t (a := 0) (b := 1) (by decide) (by decide) q, m_within_t (a := 0) (b := 1) q]
        simp only [Option.bind_some, if_neg one_ne, c_isIn_eq, m_isOf_eq]
        by_cases ht : tb (nI j) i = true
        · simp only [ht, if_true, if_neg one_ne]
          obtain ⟨e1, hk⟩ := keep_kst c
          rw [e1]
          simp only [Option.bind_some]
          have hnp : cz_np (cz_w c 6 (va_cpy (c.2.1 3) (c.2.1 6) 0 0 25)) = cz_np c := rfl
          rw [hnp, h5, sh1 _ hn]
          refine odds_L R hi (nI j) (nI w) ?_ FU 0 0 _ (mz_f m 18 0) (by omega) (by omega) (by show _ < 400 + 0; omega) hk rfl (fun j g => ?_) rfl
          · rcases (show w = 0 ∨ w = 1 by omega) with rfl | rfl
            · exact Or.inl rfl
            · exact Or.inr rfl
          · show upd m.1 18 0 j = _; unfold upd; rw [if_neg g]
        · simp only [ht, if_true]
          exact ⟨_, c, m, rfl, rfl, R⟩
      · rw [c_in_f (a := 0) (b := 1) (by decide) (by decide) q, m_within_f (a := 0) (b := 1) q]
        exact ⟨_, c, m, rfl, rfl, R⟩
    · rw [c_isLoad_out hn hx, m_isSet_out h5 hn hx]
      exact ⟨_, c, m, rfl, rfl, R⟩
  · rw [c_noPerson_out hn ha, m_isPerson_out h5 ha]
    exact ⟨_, c, m, rfl, rfl, R⟩
/-! loan -/
theorem upd_back (f : Nat → Int32) (k : Nat) (v : Int32) : upd (upd f k v) k (f k) = f := by
  funext j
  unfold upd
  by_cases h : j = k
  · rw [if_pos h, h]
  · rw [if_neg h, if_neg h]
theorem upd_upd (f : Nat → Int32) (k : Nat) (v w : Int32) : upd (upd f k v) k w = upd f k w := by
  funext j
  unfold upd
  by_cases h : j = k
  · rw [if_pos h, if_pos h]
  · rw [if_neg h, if_neg h, if_neg h]
theorem upd_own (f : Nat → Int32) (k : Nat) : upd f k (f k) = f := by
  funext j
  unfold upd
  by_cases h : j = k
  · rw [if_pos h, h]
  · rw [if_neg h]
theorem cz_a_a (z : CZ) (k : Nat) (v w : Int32) : cz_a (cz_a z 3 k v) 3 k w = cz_a z 3 k w := by
  unfold cz_a
  refine Prod.ext rfl (Prod.ext (funext fun x => ?_) rfl)
  show (if x = 3 then upd (if 3 = 3 then upd (z.2.1 3) k v else z.2.1 3) k w else if x = 3 then upd (z.2.1 3) k v else z.2.1 x) = if x = 3 then upd (z.2.1 3) k w else z.2.1 x
  by_cases h : x = 3
  · rw [if_pos h, if_pos rfl, if_pos h, upd_upd]
  · rw [if_neg h, if_neg h, if_neg h]
theorem cz_a_own (z : CZ) (k : Nat) : cz_a z 3 k (z.2.1 3 k) = z := by
  unfold cz_a
  refine Prod.ext rfl (Prod.ext (funext fun x => ?_) rfl)
  show (if x = 3 then upd (z.2.1 3) k (z.2.1 3 k) else z.2.1 x) = z.2.1 x
  by_cases h : x = 3
  · rw [if_pos h, upd_own, h]
  · rw [if_neg h]
theorem mz_a_a (z : MZ) (k : Nat) (v w : Int32) : mz_a (mz_a z 10 k v) 10 k w = mz_a z 10 k w := by
  unfold mz_a
  refine Prod.ext rfl (funext fun x => ?_)
  show (if x = 10 then upd (if 10 = 10 then upd (z.2 10) k v else z.2 10) k w else if x = 10 then upd (z.2 10) k v else z.2 x) = if x = 10 then upd (z.2 10) k w else z.2 x
  by_cases h : x = 10
  · rw [if_pos h, if_pos rfl, if_pos h, upd_upd]
  · rw [if_neg h, if_neg h, if_neg h]
theorem mz_a_own (z : MZ) (k : Nat) : mz_a z 10 k (z.2 10 k) = z := by
  unfold mz_a
  refine Prod.ext rfl (funext fun x => ?_)
  show (if x = 10 then upd (z.2 10) k (z.2 10 k) else z.2 x) = z.2 x
  by_cases h : x = 10
  · rw [if_pos h, upd_own, h]
  · rw [if_neg h]
/-- does p alone pull, the note to b being v -/
def lnP (c : CZ) (set : Int32) (p b v : Nat) : Prop := pv (cz_a c 3 (5 * p + b) (nI v)) set = (1 : Int32) <<< (nI p &&& 31)
/-- does p alone pull, the note to b raised by d -/
def lnQ (c : CZ) (set : Int32) (p : Nat) (w : Nat → Nat) (b d : Nat) : Prop := w b + d ≤ 9 ∧ lnP c set p b (w b + d)
/-- the least by which the note is to be raised -/
def lnG (c : CZ) (set : Int32) (p : Nat) (w : Nat → Nat) (b : Nat) (r : Int32) : Prop := (r = -9 ∧ ∀ d, 1 ≤ d → ¬ lnQ c set p w b d) ∨ ∃ d, r = nI d ∧ 1 ≤ d ∧ d ≤ 9 ∧ lnQ c set p w b d ∧ ∀ e, 1 ≤ e → e < d → ¬ lnQ c set p w b e
theorem pence_L {c : CZ} {m : MZ} (R : Rel c m) {p b : Nat} (set : Int32) (w : Nat → Nat) (hp : 5 * p + b < 25) (hwb : w b ≤ 9) (ew : c.2.1 3 (5 * p + b) = nI (w b)) : ∀ (n v u : Nat), w b < v → v ≤ 10 → 10 < n + v → u ≤ 9 → (∀ e, 1 ≤ e → w b + e < v → ¬ lnQ c set p w b e) → ∃ r, lnG c set p w b r ∧ c_penceTo_L26 (nI p) set n (nI (5 * p + b)) (nI (w b)) (-9) (nI v) (cz_a c 3 (5 * p + b) (nI u)) = some (r, c) := by
  intro n
  induction n with
  | zero => intro v u _ h1 h2; omega
  | succ n ih =>
    intro v u hv0 h1 h2 hu hq
    have hfin : ∀ x : Nat, cz_a (cz_a c 3 (5 * p + b) (nI x)) 3 (5 * p + b) (nI (w b)) = c := fun x => by rw [cz_a_a, ← ew, cz_a_own]
    rw [c_penceTo_L26]
    simp only [jn, nI_clamp (show 5 * p + b < 2 ^ 31 by omega), gd_t (inb_nI hp (by decide)), hfin]
    rcases Nat.lt_or_ge 9 v with hv | hv
    · rw [if_pos (show (9 : Int32) < nI v from nI_lt (a := 9) hv (by omega))]
      refine ⟨-9, Or.inl ⟨rfl, fun d hd hqd => ?_⟩, rfl⟩
      have := hqd.1
      exact hq d hd (by omega) hqd
    · rw [if_neg (show ¬ (9 : Int32) < nI v from nI_nlt (a := 9) (b := v) hv (by decide)), if_neg (show ¬ (0 : Int32) ≤ -9 by decide), cz_a_a, nI_1]
      rw [c_pulling_eq set _ (R.note hp hv).1]
      simp only [Option.bind_some]
      show ∃ r, _ ∧ (if pv (cz_a c 3 (5 * p + b) (nI v)) set = _ then _ else _) = _
      by_cases ht : pv (cz_a c 3 (5 * p + b) (nI v)) set = (1 : Int32) <<< (nI p &&& 31)
      · rw [if_pos ht]
        have hQ : lnQ c set p w b (v - w b) := ⟨by omega, by unfold lnP; rw [show w b + (v - w b) = v by omega]; exact ht⟩
        refine ⟨nI (v - w b), Or.inr ⟨v - w b, rfl, by omega, by omega, hQ, fun e h1 h2 => hq e h1 (by omega)⟩, ?_⟩
        obtain ⟨n', rfl⟩ : ∃ n', n = n' + 1 := ⟨n - 1, by omega⟩
        rw [c_penceTo_L26, pk_sub (by omega)]
        simp only [jn, nI_clamp (show 5 * p + b < 2 ^ 31 by omega), gd_t (inb_nI hp (by decide)), hfin]
        split
        · rfl
        · rw [if_pos (nI_pos' (by omega))]
      · rw [if_neg ht]
        refine ih (v + 1) v (by omega) (by omega) (by omega) hv (fun e h1 h2 => ?_)
        by_cases he : w b + e = v
        · intro hQ
          have := hQ.2
          unfold lnP at this
          rw [he] at this
          exact ht this
        · exact hq e h1 (by omega)
theorem pence_eq {c : CZ} {m : MZ} (R : Rel c m) {p b : Nat} (set : Int32) (w : Nat → Nat) (hp : 5 * p + b < 25) (hwb : w b ≤ 9) (ew : c.2.1 3 (5 * p + b) = nI (w b)) : ∃ r, lnG c set p w b r ∧ c_penceTo (nI p) (nI b) set c = some (r, c) := by
  unfold c_penceTo
  rw [i5', show p * 5 + b = 5 * p + b by omega, gd_t (inb_nI hp (by decide)), nI_clamp (by omega), ew, nI_1]
  have h := pence_L R set w hp hwb ew FU (w b + 1) (w b) (by omega) (by omega) (by show 10 < 400 + _; omega) hwb (fun e h1 h2 => by omega)
  rw [← ew, cz_a_own] at h
  rw [← ew]
  exact h
/-- best so far of those before k -/
def lnB (c : CZ) (set : Int32) (p : Nat) (w : Nat → Nat) (k : Nat) (least whom : Int32) : Prop := (least = -9 ∧ whom = -9 ∧ ∀ b, b < k → b ≠ p → ∀ d, 1 ≤ d → ¬ lnQ c set p w b d) ∨ ∃ d b, least = nI d ∧ whom = nI b ∧ 1 ≤ d ∧ d ≤ 9 ∧ b < k ∧ b ≠ p ∧ lnQ c set p w b d ∧ (∀ b', b' < k → b' ≠ p → ∀ e, 1 ≤ e → e < d → ¬ lnQ c set p w b' e) ∧ ∀ b', b' < b → b' ≠ p → ¬ lnQ c set p w b' d
theorem loan_cL {c : CZ} {m : MZ} (R : Rel c m) {p : Nat} (hpn : p < cz_np c) (set x3 : Int32) (w : Nat → Nat) (hw : ∀ b, b < 5 → w b ≤ 9 ∧ c.2.1 3 (5 * p + b) = nI (w b)) (K : Int32 → Int32 → CZ → Option (Int32 × CZ)) : ∀ (n k : Nat) (least whom : Int32), k ≤ cz_np c → cz_np c < n + k → lnB c set p w k least whom → ∃ l2 w2, lnB c set p w (cz_np c) l2 w2 ∧ c_loan_L75 K (nI p) set x3 n least whom (nI k) c = K l2 w2 c := by
  have hn := R.1.2.2.1
  intro n
  induction n with
  | zero => intro k least whom h1 h2; omega
  | succ n ih =>
    intro k least whom h1 h2 hB
    rw [c_loan_L75]
    rcases Nat.lt_or_ge k (cz_np c) with hk | hk
    · rw [if_neg (nI_ge hk (by omega))]
      simp only [jn, nI_1]
      by_cases hkp : k = p
      · subst hkp
        rw [if_pos rfl, if_pos (show (-9 : Int32) ≤ 0 by decide)]
        refine ih (k + 1) least whom hk (by omega) ?_
        rcases hB with ⟨e1, e2, hB⟩ | ⟨d, b, e1, e2, d1, d9, hbk, hbp, hQ, hle, hfi⟩
        · exact Or.inl ⟨e1, e2, fun b hb hbp => hB b (by omega) hbp⟩
        · exact Or.inr ⟨d, b, e1, e2, d1, d9, by omega, hbp, hQ, fun b' hb' hbp' => hle b' (by omega) hbp', hfi⟩
      · rw [if_neg (fun h => hkp ((nI_eq (by omega) (by omega)).mp h))]
        obtain ⟨r, hG, e⟩ := pence_eq R set w (p := p) (b := k) (by omega) (hw k (by omega)).1 (hw k (by omega)).2
        rw [e]
        simp only [Option.bind_some]
        rcases hG with ⟨rfl, hG⟩ | ⟨d, rfl, d1, d9, hQ, hlt⟩
        · rw [if_pos (show (-9 : Int32) ≤ 0 by decide)]
          refine ih (k + 1) least whom hk (by omega) ?_
          rcases hB with ⟨e1, e2, hB⟩ | ⟨d, b, e1, e2, d1, d9, hbk, hbp, hQ, hle, hfi⟩
          · refine Or.inl ⟨e1, e2, fun b hb hbp => ?_⟩
            by_cases hbk : b = k
            · rw [hbk]; exact hG
            · exact hB b (by omega) hbp
          · refine Or.inr ⟨d, b, e1, e2, d1, d9, by omega, hbp, hQ, fun b' hb' hbp' => ?_, hfi⟩
            by_cases hbk' : b' = k
            · rw [hbk']; exact fun e h1 _ => hG e h1
            · exact hle b' (by omega) hbp'
        · rw [if_neg (nI_nle d1 (by omega))]
          have take : (∀ b', b' < k → b' ≠ p → ∀ e, 1 ≤ e → e ≤ d → ¬ lnQ c set p w b' e) → lnB c set p w (k + 1) (nI d) (nI k) := by
            intro h
            refine Or.inr ⟨d, k, rfl, rfl, d1, d9, by omega, hkp, hQ, fun b' hb' hbp' e h1 h2 => ?_, fun b' hb' hbp' => h b' hb' hbp' d d1 (by omega)⟩
            by_cases hbk' : b' = k
            · rw [hbk']; exact hlt e h1 h2
            · exact h b' (by omega) hbp' e h1 (by omega)
          rcases hB with ⟨rfl, rfl, hB⟩ | ⟨d', b, rfl, rfl, d1', d9', hbk, hbp, hQ', hle, hfi⟩
          · rw [if_pos (show (-9 : Int32) < 0 by decide)]
            exact ih (k + 1) _ _ hk (by omega) (take (fun b' hb' hbp' e h1 _ => hB b' hb' hbp' e h1))
          · rw [if_neg (nI_pos (n := d') (by omega))]
            by_cases hc : d' ≤ d
            · rw [if_pos (nI_le hc (by omega))]
              refine ih (k + 1) _ _ hk (by omega) (Or.inr ⟨d', b, rfl, rfl, d1', d9', by omega, hbp, hQ', fun b' hb' hbp' e h1 h2 => ?_, hfi⟩)
              by_cases hbk' : b' = k
              · rw [hbk']; exact hlt e h1 (by omega)
              · exact hle b' (by omega) hbp' e h1 h2
            · rw [if_neg (nI_ge (by omega) (by omega))]
              exact ih (k + 1) _ _ hk (by omega) (take (fun b' hb' hbp' e h1 h2 => hle b' hb' hbp' e h1 (by omega)))
    · have : k = cz_np c := by omega
      subst this
      rw [if_pos (nI_le (Nat.le_refl _) (by omega))]
      exact ⟨least, whom, hB, rfl⟩
theorem pullsBy_eq {c : CZ} {m : MZ} (R : Rel c m) {p b d : Nat} (set : Int32) (w : Nat → Nat) (hp : 5 * p + b < 25) (hwb : w b ≤ 9) (hd : d ≤ 9) (ew : c.2.1 3 (5 * p + b) = nI (w b)) : (lnQ c set p w b d ∧ m_pullsBy (nI p) (nI b) (nI d) set m = some (1, m)) ∨ (¬ lnQ c set p w b d ∧ m_pullsBy (nI p) (nI b) (nI d) set m = some (0, m)) := by
  have em : m.2 10 (5 * p + b) = nI (w b) := by rw [R.2.2.2.1 _ hp]; exact ew
  unfold m_pullsBy
  rw [i5, gd_t (inb_nI hp (by decide)), nI_clamp (by omega), em, nI_add]
  by_cases h9 : w b + d ≤ 9
  · rw [if_pos (show nI (w b + d) ≤ (9 : Int32) from nI_le (b := 9) h9 (by decide))]
    simp only [jn, gd_t (inb_nI hp (by decide)), mz_a_a]
    have hfin : mz_a m 10 (5 * p + b) (nI (w b)) = m := by rw [← em, mz_a_own]
    rw [pull_m (R.note hp h9)]
    simp only [Option.bind_some, mz_a_a, hfin]
    show (_ ∧ (if pv (cz_a c 3 (5 * p + b) (nI (w b + d))) set = _ then _ else _) = _) ∨ (_ ∧ (if pv (cz_a c 3 (5 * p + b) (nI (w b + d))) set = _ then _ else _) = _)
    by_cases ht : pv (cz_a c 3 (5 * p + b) (nI (w b + d))) set = (1 : Int32) <<< (nI p &&& 31)
    · rw [if_pos ht]
      exact Or.inl ⟨⟨h9, ht⟩, rfl⟩
    · rw [if_neg ht]
      exact Or.inr ⟨fun h => ht h.2, rfl⟩
  · rw [if_neg (show ¬ nI (w b + d) ≤ (9 : Int32) from nI_ge (a := 9) (by omega) (by omega))]
    exact Or.inr ⟨fun h => h9 h.1, rfl⟩
theorem loan_mI {c : CZ} {m : MZ} (R : Rel c m) {p : Nat} (hpn : p < cz_np c) (set x3 : Int32) (w : Nat → Nat) (hw : ∀ b, b < 5 → w b ≤ 9 ∧ c.2.1 3 (5 * p + b) = nI (w b)) (K1 : Int32 → Int32 → MZ → Option (Int32 × MZ)) (K2 : MZ → Option (Int32 × MZ)) {d : Nat} (hd : d ≤ 9) : ∀ (n k : Nat), k ≤ cz_np c → cz_np c < n + k → (∀ b, b < k → b ≠ p → ¬ lnQ c set p w b d) → ((∀ b, b < cz_np c → b ≠ p → ¬ lnQ c set p w b d) ∧ m_loan_L76 K1 K2 (nI p) set x3 (nI d) n (nI k) m = K2 m) ∨ ∃ b, b < cz_np c ∧ b ≠ p ∧ lnQ c set p w b d ∧ (∀ b', b' < b → b' ≠ p → ¬ lnQ c set p w b' d) ∧ m_loan_L76 K1 K2 (nI p) set x3 (nI d) n (nI k) m = K1 (nI d) (nI b) m := by
  have hn := R.1.2.2.1
  have h5 := R.2.1.1
  intro n
  induction n with
  | zero => intro k h1 h2; omega
  | succ n ih =>
    intro k h1 h2 hB
    rw [m_loan_L76]
    rcases Nat.lt_or_ge k (cz_np c) with hk | hk
    · rw [if_neg (by rw [h5]; exact nI_ge hk (by omega)), nI_1]
      by_cases hkp : k = p
      · subst hkp
        rw [if_pos rfl]
        exact ih (k + 1) hk (by omega) (fun b hb hbp => hB b (by omega) hbp)
      · rw [if_neg (fun h => hkp ((nI_eq (by omega) (by omega)).mp h))]
        rcases pullsBy_eq R (p := p) (b := k) (d := d) set w (by omega) (hw k (by omega)).1 hd (hw k (by omega)).2 with ⟨hQ, e⟩ | ⟨hQ, e⟩
        · rw [e]
          simp only [Option.bind_some, if_neg one_ne]
          exact Or.inr ⟨k, hk, hkp, hQ, fun b' hb' hbp' => hB b' hb' hbp', rfl⟩
        · rw [e]
          simp only [Option.bind_some, if_true]
          refine ih (k + 1) hk (by omega) (fun b hb hbp => ?_)
          by_cases hbk : b = k
          · rw [hbk]; exact hQ
          · exact hB b (by omega) hbp
    · have : k = cz_np c := by omega
      subst this
      rw [if_pos (by rw [h5]; exact nI_le (Nat.le_refl _) (by omega))]
      exact Or.inl ⟨hB, rfl⟩
theorem loan_mL {c : CZ} {m : MZ} (R : Rel c m) {p : Nat} (hpn : p < cz_np c) (set x3 : Int32) (w : Nat → Nat) (hw : ∀ b, b < 5 → w b ≤ 9 ∧ c.2.1 3 (5 * p + b) = nI (w b)) (K1 : Int32 → Int32 → MZ → Option (Int32 × MZ)) : ∀ (n d0 : Nat), 1 ≤ d0 → d0 ≤ 10 → 10 < n + d0 → (∀ b, b < cz_np c → b ≠ p → ∀ e, 1 ≤ e → e < d0 → ¬ lnQ c set p w b e) → ((∀ b, b < cz_np c → b ≠ p → ∀ e, 1 ≤ e → ¬ lnQ c set p w b e) ∧ m_loan_L66 K1 (nI p) set x3 n (nI d0) m = some (-9, m)) ∨ ∃ d b, 1 ≤ d ∧ d ≤ 9 ∧ b < cz_np c ∧ b ≠ p ∧ lnQ c set p w b d ∧ (∀ b', b' < cz_np c → b' ≠ p → ∀ e, 1 ≤ e → e < d → ¬ lnQ c set p w b' e) ∧ (∀ b', b' < b → b' ≠ p → ¬ lnQ c set p w b' d) ∧ m_loan_L66 K1 (nI p) set x3 n (nI d0) m = K1 (nI d) (nI b) m := by
  have hn := R.1.2.2.1
  intro n
  induction n with
  | zero => intro d0 _ h1 h2; omega
  | succ n ih =>
    intro d0 h0 h1 h2 hB
    rw [m_loan_L66]
    rcases Nat.lt_or_ge 9 d0 with hd | hd
    · rw [if_pos (show (9 : Int32) < nI d0 from nI_lt (a := 9) hd (by omega))]
      refine Or.inl ⟨fun b hb hbp e he hQ => ?_, rfl⟩
      have := hQ.1
      exact hB b hb hbp e he (by omega) hQ
    · rw [if_neg (show ¬ (9 : Int32) < nI d0 from nI_nlt (a := 9) (b := d0) hd (by decide)), nI_1]
      have hI := loan_mI R hpn set x3 w hw K1 (fun z76 => m_loan_L66 K1 (nI p) set x3 n (nI (d0 + 1)) z76) hd FU 0 (by omega) (by show _ < 400 + 0; omega) (fun b hb => absurd hb (by omega))
      rw [show nI 0 = (0 : Int32) from rfl] at hI
      rcases hI with ⟨hnone, e⟩ | ⟨b, hb, hbp, hQ, hfi, e⟩
      · rw [e]
        refine ih (d0 + 1) (by omega) (by omega) (by omega) (fun b hb hbp e he1 he2 => ?_)
        by_cases hed : e = d0
        · rw [hed]; exact hnone b hb hbp
        · exact hB b hb hbp e he1 (by omega)
      · rw [e]
        exact Or.inr ⟨d0, b, h0, hd, hb, hbp, hQ, hB, hfi, rfl⟩
theorem op_loan {c : CZ} {m : MZ} (R : Rel c m) (a x y : Int32) : Same (c_loan a x y c) (m_loan a x y m) := by
  have hn := R.1.2.2.1
  have h5 := R.2.1.1
  have hp := pow_le _ hn
  unfold c_loan m_loan
  rcases isP_or a (n := cz_np c) (by omega) with ⟨i, hi, rfl⟩ | ⟨-, ha⟩
  · rw [c_noPerson_in hn hi, m_isPerson_in h5 hn hi]
    simp only [Option.bind_some, if_true, if_neg one_ne]
    rcases isP_or x (n := 2 ^ cz_np c) (by omega) with ⟨j, hj, rfl⟩ | ⟨-, hx⟩
    · rw [c_isLoad_in hn hj, m_isSet_in h5 hn hj]
      simp only [Option.bind_some, if_neg one_ne]
      rcases btw_or y 0 1 (by decide) (by decide) with ⟨v, hv0, hv, rfl, q⟩ | q
      · rw [c_in_t (a := 0) (b := 1) (by decide) (by decide) q, m_within_t (a := 0) (b := 1) q]
        simp only [Option.bind_some, if_neg one_ne, c_isIn_eq, m_isOf_eq]
        by_cases ht : tb (nI j) i = true
        · simp only [ht, if_true, if_neg one_ne, pull_c R, pull_m R, Option.bind_some]
          split
          · split
            · exact ⟨_, c, m, rfl, rfl, R⟩
            · exact ⟨_, c, m, rfl, rfl, R⟩
          · have hw : ∀ b, b < 5 → ∃ w : Nat, w ≤ 9 ∧ c.2.1 3 (5 * i + b) = nI w := fun b hb => R.1.1 _ (by omega)
            have hex : ∃ w : Nat → Nat, ∀ b, b < 5 → w b ≤ 9 ∧ c.2.1 3 (5 * i + b) = nI (w b) := by
              refine ⟨fun b => if hb : b < 5 then Classical.choose (hw b hb) else 0, fun b hb => ?_⟩
              simp only [dif_pos hb]
              exact Classical.choose_spec (hw b hb)
            obtain ⟨w, hw⟩ := hex
            obtain ⟨l2, w2, hB, e1⟩ := loan_cL R hi (nI j) (nI v) w hw (fun (y75_4 : Int32) (y75_5 : Int32) (z75 : CZ) => if nI v = 0 then some (y75_4, z75) else some (y75_5, z75)) FU 0 (-9) (-9) (by omega) (by show _ < 400 + 0; omega) (Or.inl ⟨rfl, rfl, fun b hb => absurd hb (by omega)⟩)
            rw [show nI 0 = (0 : Int32) from rfl] at e1
            rw [e1]
            rcases loan_mL R hi (nI j) (nI v) w hw (fun (y66_4 : Int32) (y66_5 : Int32) (z66 : MZ) => if nI v = 0 then some (y66_4, z66) else some (y66_5, z66)) FU 1 (by omega) (by omega) (by decide) (fun b _ _ e h1 h2 => by omega) with ⟨hnone, e2⟩ | ⟨d, b, d1, d9, hb, hbp, hQ, hle, hfi, e2⟩
            · rw [show nI 1 = (1 : Int32) from rfl] at e2
              rw [e2]
              rcases hB with ⟨rfl, rfl, -⟩ | ⟨d', b', -, -, d1', -, hb', hbp', hQ', -⟩
              · split
                · exact ⟨_, c, m, rfl, rfl, R⟩
                · exact ⟨_, c, m, rfl, rfl, R⟩
              · exact absurd hQ' (hnone b' hb' hbp' d' d1')
            · rw [show nI 1 = (1 : Int32) from rfl] at e2
              rw [e2]
              rcases hB with ⟨-, -, hB⟩ | ⟨d', b', rfl, rfl, d1', d9', hb', hbp', hQ', hle', hfi'⟩
              · exact absurd hQ (hB b hb hbp d d1)
              · have hd : d = d' := by
                  rcases Nat.lt_trichotomy d d' with h | h | h
                  · exact absurd hQ (hle' b hb hbp d d1 h)
                  · exact h
                  · exact absurd hQ' (hle b' hb' hbp' d' d1' h)
                subst hd
                have hbb : b = b' := by
                  rcases Nat.lt_trichotomy b b' with h | h | h
                  · exact absurd hQ (hfi' b h hbp)
                  · exact h
                  · exact absurd hQ' (hfi b' h hbp')
                subst hbb
                split
                · exact ⟨_, c, m, rfl, rfl, R⟩
                · exact ⟨_, c, m, rfl, rfl, R⟩
        · simp only [ht, if_true]
          exact ⟨_, c, m, rfl, rfl, R⟩
      · rw [c_in_f (a := 0) (b := 1) (by decide) (by decide) q, m_within_f (a := 0) (b := 1) q]
        exact ⟨_, c, m, rfl, rfl, R⟩
    · rw [c_isLoad_out hn hx, m_isSet_out h5 hn hx]
      exact ⟨_, c, m, rfl, rfl, R⟩
  · rw [c_noPerson_out hn ha, m_isPerson_out h5 ha]
    exact ⟨_, c, m, rfl, rfl, R⟩
