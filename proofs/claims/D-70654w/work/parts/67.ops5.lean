/-! OPERATIONS, pure (5): reading; forgave, odds -/
/-- readings.add(new Reading(..)) -/
def cz_Radd (z : CZ) (a b : Int32) : CZ := cz_R z (cz_nr z + 1) (upd (cz_rl z) (cz_nr z) a) (upd (cz_rp z) (cz_nr z) b)
def c_reading (x1 x2 : Int32) (z0 : CZ) : Option (Int32 × CZ) :=
  (c_noRiver z0).bind (fun r1 => if r1.1 = 0 then (c_isLoad x1 r1.2).bind (fun r12 => if r12.1 = 0 then some (-2, r12.2) else (c_isLoad x2 r12.2).bind (fun r20 => if r20.1 = 0 then some (-2, r20.2) else if x2 &&& (x1 ^^^ (-1 : Int32)) = 0 then if nI (cz_nr r20.2) = 8 then some (-4, r20.2) else gd (decide (cz_nr r20.2 < 8)) (some (nI (cz_nr r20.2 + 1) - 1, cz_Radd r20.2 x1 x2)) else some (-2, r20.2))) else some (-3, r1.2))
theorem sub_le {x y : Int32} (h : x &&& (y ^^^ (-1 : Int32)) = 0) : x.toBitVec.toNat ≤ y.toBitVec.toNat := by
  have e : x.toBitVec = x.toBitVec &&& y.toBitVec := by
    apply BitVec.eq_of_getLsbD_eq
    intro i hi
    have h1 : (x &&& (y ^^^ (-1 : Int32))).toBitVec.getLsbD i = (0 : Int32).toBitVec.getLsbD i := by rw [h]
    have h2 : (-1 : Int32).toBitVec = BitVec.allOnes 32 := by decide
    simp only [Int32.toBitVec_and, Int32.toBitVec_xor, h2, BitVec.getLsbD_and, BitVec.getLsbD_xor, BitVec.getLsbD_allOnes] at h1
    simp only [BitVec.getLsbD_and]
    have h3 : (0 : Int32).toBitVec.getLsbD i = false := by
      have : (0 : Int32).toBitVec = 0#32 := by decide
      rw [this]; simp
    rw [h3] at h1
    revert h1
    cases x.toBitVec.getLsbD i <;> cases y.toBitVec.getLsbD i <;> simp [hi]
  rw [e, BitVec.toNat_and]
  exact Nat.and_le_right
theorem sub_nI {x : Int32} {j : Nat} (hj : j < 2 ^ 31) (h : x &&& (nI j ^^^ (-1 : Int32)) = 0) : ∃ k : Nat, k ≤ j ∧ x = nI k := by
  have h1 := sub_le h
  rw [pk_tn (by omega)] at h1
  refine ⟨x.toBitVec.toNat, h1, ?_⟩
  apply Int32.toBitVec_inj.mp
  apply BitVec.eq_of_toNat_eq
  rw [pk_tn (by omega)]
theorem op_reading {c : CZ} {m : MZ} (R : Rel c m) (a b : Int32) : Same (c_reading a b c) (m_reading a b m) := by
  have hn := R.1.2.2.1
  have hp := pow_le _ hn
  have h8 : cz_nr c ≤ 8 := R.2.2.2.2.1.2.1
  have h26 := R.2.2.2.2.1.1
  unfold c_reading m_reading
  rw [noRiver_eq hn, R.2.1.1]
  simp only [Option.bind_some]
  by_cases h : cz_np c = 0
  · rw [if_pos h, if_pos (show nI (cz_np c) = 0 by rw [h]; rfl)]
    exact ⟨_, c, m, rfl, rfl, R⟩
  · rw [if_neg h, if_neg (nI_ne0 (by omega) (by omega))]
    simp only [if_true]
    rcases isP_or a (n := 2 ^ cz_np c) (by omega) with ⟨j, hj, rfl⟩ | ⟨-, hx⟩
    · rw [c_isLoad_in hn hj, m_isSet_in R.2.1.1 hn hj]
      simp only [Option.bind_some, if_neg one_ne]
      rcases isP_or b (n := 2 ^ cz_np c) (by omega) with ⟨k, hk, rfl⟩ | ⟨-, hx⟩
      · rw [c_isLoad_in hn hk, if_neg (nI_pos (n := k) (by omega))]
        simp only [Option.bind_some, if_neg one_ne]
        by_cases hs : nI k &&& (nI j ^^^ (-1 : Int32)) = 0
        · rw [if_pos hs, if_pos hs, h26]
          by_cases h9 : cz_nr c = 8
          · rw [if_pos (show nI (cz_nr c) = 8 by rw [h9]; rfl), if_pos (show nI (cz_nr c) = 8 by rw [h9]; rfl)]
            exact ⟨_, c, m, rfl, rfl, R⟩
          · have hne : ¬ nI (cz_nr c) = 8 := fun q => h9 ((nI_eq (b := 8) (by omega) (by decide)).mp q)
            have hlt : cz_nr c < 8 := by omega
            have e1 : (mz_a m 27 (nI (cz_nr c)).toNatClampNeg (nI j)).1 26 = nI (cz_nr c) := h26
            have e2 : (mz_a (mz_a m 27 (nI (cz_nr c)).toNatClampNeg (nI j)) 28 (nI (cz_nr c)).toNatClampNeg (nI k)).1 26 = nI (cz_nr c) := h26
            rw [if_neg hne, if_neg hne, gd_t (decide_eq_true hlt), gd_t (inb_nI hlt (by decide)), e1, gd_t (inb_nI hlt (by decide)), e2, nI_1, nI_clamp (by omega)]
            refine ⟨nI (cz_nr c + 1) - 1, cz_Radd c (nI j) (nI k), mz_f (mz_a (mz_a m 27 (cz_nr c) (nI j)) 28 (cz_nr c) (nI k)) 26 (nI (cz_nr c + 1)), rfl, rfl, ?_⟩
            obtain ⟨r1, ⟨e5, e6, e7, e1, e0, e18, e19⟩, r3, r4, ⟨e26, h8, r5⟩, r6⟩ := R
            refine ⟨r1, ⟨e5, e6, e7, e1, e0, e18, e19⟩, r3, r4, ⟨rfl, hlt, fun i hi => ?_⟩, r6⟩
            have hi : i < cz_nr c + 1 := hi
            show upd (m.2 27) (cz_nr c) (nI j) i = upd (cz_rl c) (cz_nr c) (nI j) i ∧ upd (m.2 28) (cz_nr c) (nI k) i = upd (cz_rp c) (cz_nr c) (nI k) i
            unfold upd
            by_cases hc : i = cz_nr c
            · rw [if_pos hc, if_pos hc, if_pos hc, if_pos hc]; exact ⟨rfl, rfl⟩
            · rw [if_neg hc, if_neg hc, if_neg hc, if_neg hc]; exact r5 i (by omega)
        · rw [if_neg hs, if_neg hs]
          exact ⟨_, c, m, rfl, rfl, R⟩
      · rw [c_isLoad_out hn hx]
        simp only [Option.bind_some, if_true]
        by_cases h0 : b < 0
        · rw [if_pos h0]
          exact ⟨_, c, m, rfl, rfl, R⟩
        · rw [if_neg h0]
          have hs : ¬ b &&& (nI j ^^^ (-1 : Int32)) = 0 := by
            intro hs
            obtain ⟨k, hk, rfl⟩ := sub_nI (by omega) hs
            rcases hx with hx | hx
            · exact h0 hx
            · exact nI_ge (a := k) (b := 2 ^ cz_np c) (by omega) (by omega) hx
          rw [if_neg hs]
          exact ⟨_, c, m, rfl, rfl, R⟩
    · rw [c_isLoad_out hn hx, m_isSet_out R.2.1.1 hn hx]
      exact ⟨_, c, m, rfl, rfl, R⟩
/-- pullers where the notes read alike -/
theorem pull_gen {c : CZ} {m : MZ} (hR : cRng c) (h5 : m.1 5 = nI (cz_np c)) (h7 : m.1 7 = c.1 2) (hk : ∀ i, i < cz_np c → m.2 8 i = nI (cz_k c i)) (hnt : ∀ p q, p < cz_np c → q < cz_np c → mnote m p q = cnote c p q) (set : Int32) : m_pullersOf set m = some (pv c set, m) := by
  rw [m_pullersOf_eq (cz_np c) (cz_k c) set m hR.2.2.1 h5 (fun p hp => ⟨hk p hp, hR.2.2.2 p hp⟩)]
  have hd : ∀ p, p < cz_np c → mdebt m (cz_np c) (cz_k c) set p = cdebt c set p := by
    intro p hp
    unfold mdebt cdebt
    rw [h7]
    congr 1
    have : ∀ q, q ≤ cz_np c → dsum (c.1 2) (mnote m p) set q = dsum (c.1 2) (cnote c p) set q := by
      intro q
      induction q with
      | zero => intro _; rfl
      | succ q ih =>
        intro hq
        simp only [dsum, ih (by omega), hnt p q hp (by omega)]
    exact this _ (Nat.le_refl _)
  rw [pl_congr (cz_np c) hd]
  rfl
/-- the component with other notes, the true ones kept -/
def kst (c z : CZ) : Prop := z.1 = c.1 ∧ z.2.2 = c.2.2 ∧ ∀ k, k < 25 → z.2.1 6 k = c.2.1 3 k
theorem cRng_of {c z : CZ} (h : cRng c) (h1 : z.1 = c.1) (h2 : z.2.2 = c.2.2) (h3 : ∀ k, k < 25 → ∃ a : Nat, a ≤ 9 ∧ z.2.1 3 k = nI a) : cRng z := by
  obtain ⟨g1, g2, g3, g4⟩ := h
  refine ⟨h3, by rw [h1]; exact g2, ?_, ?_⟩
  · show z.2.2.1.1 ≤ 5; rw [h2]; exact g3
  · show ∀ i, i < z.2.2.1.1 → z.2.2.1.2.1 i ≤ 2; rw [h2]; exact g4
theorem keep_kst (c : CZ) : c_keep c = some (cz_w c 6 (va_cpy (c.2.1 3) (c.2.1 6) 0 0 25)) ∧ kst c (cz_w c 6 (va_cpy (c.2.1 3) (c.2.1 6) 0 0 25)) := by
  refine ⟨rfl, rfl, rfl, fun k hk => ?_⟩
  show va_cpy (c.2.1 3) (c.2.1 6) 0 0 25 k = c.2.1 3 k
  rw [pk_cpy_in (by omega) (by omega), Nat.sub_zero, Nat.zero_add]
theorem Rel.back3 {c z : CZ} {m m' : MZ} (R : Rel c m) (hz : kst c z) (hm2 : m'.2 = m.2) (hm1 : ∀ j, j ≠ 18 → j ≠ 19 → m'.1 j = m.1 j) (h18 : m'.1 18 = 0) (h19 : m'.1 19 = 0) : ∃ z', c_putBack z = some z' ∧ Rel z' m' := by
  obtain ⟨z1, z2, z3⟩ := hz
  refine ⟨_, rfl, ?_⟩
  have hn : ∀ k, k < 25 → (cz_w z 3 (va_cpy (z.2.1 6) (z.2.1 3) 0 0 25)).2.1 3 k = c.2.1 3 k := by
    intro k hk
    show va_cpy (z.2.1 6) (z.2.1 3) 0 0 25 k = c.2.1 3 k
    rw [pk_cpy_in (by omega) (by omega), Nat.sub_zero, Nat.zero_add, ← z3 k hk]
  generalize hw : cz_w z 3 (va_cpy (z.2.1 6) (z.2.1 3) 0 0 25) = w at hn
  have w1 : w.1 = c.1 := by rw [← hw]; exact z1
  have w2 : w.2.2 = c.2.2 := by rw [← hw]; exact z2
  obtain ⟨r1, ⟨e5, e6, e7, e1, e0, e18, e19⟩, r3, r4, r5, r6⟩ := R
  have hnp : cz_np w = cz_np c := by show w.2.2.1.1 = _; rw [w2]
  refine ⟨cRng_of r1 w1 w2 (fun k hk => by rw [hn k hk]; exact r1.1 k hk), ⟨?_, ?_, ?_, ?_, ?_, h18, h19⟩, ?_, ?_, ?_, ?_⟩
  · rw [hm1 5 (by decide) (by decide), e5, hnp]
  · rw [hm1 6 (by decide) (by decide), e6, w1]
  · rw [hm1 7 (by decide) (by decide), e7, w1]
  · rw [hm1 1 (by decide) (by decide), e1, w1]
  · rw [hm1 0 (by decide) (by decide), e0, w1]
  · rw [hm2]; show ∀ i, i < w.2.2.1.1 → m.2 8 i = nI (w.2.2.1.2.1 i) ∧ m.2 9 i = w.2.2.1.2.2 i ∧ (w.2.2.1.2.2 i = 0 ∨ w.2.2.1.2.2 i = 1); rw [w2]; exact r3
  · intro k hk; rw [hm2, hn k hk]; exact r4 k hk
  · rw [hm2, hm1 26 (by decide) (by decide)]; show m.1 26 = nI w.2.2.2.1.1 ∧ w.2.2.2.1.1 ≤ 8 ∧ ∀ i, i < w.2.2.2.1.1 → m.2 27 i = w.2.2.2.1.2.1 i ∧ m.2 28 i = w.2.2.2.1.2.2 i; rw [w2]; exact r5
  · intro k hk
    have := r6 k hk
    show shRel m' k (w.2.2.2.2 k)
    rw [w2]
    unfold shRel at this ⊢
    rw [hm2]
    exact this
/-- forgave: the notes of those who forgave -/
theorem forg_in (K : CZ → Option (Int32 × CZ)) (x1 : Int32) (c : CZ) (y2 : Int32) (who : Nat) : ∀ (n k : Nat) (z : CZ), k ≤ 25 → 25 < n + k → kst c z → (∀ j, j < k → z.2.1 3 j = if tb (nI who) (j % 5) = true then 0 else c.2.1 3 j) → ∃ z', kst c z' ∧ (∀ j, j < 25 → z'.2.1 3 j = if tb (nI who) (j % 5) = true then 0 else c.2.1 3 j) ∧ c_forgave_L64 K x1 y2 (nI who) n (nI k) z = K z' := by
  intro n
  induction n with
  | zero => intro k z h1 h2; omega
  | succ n ih =>
    intro k z h1 h2 hz hj
    rw [c_forgave_L64]
    rcases Nat.lt_or_ge k 25 with hk | hk
    · have h5 : (5 : Int32) = nI 5 := rfl
      have h25 : (25 : Int32) = nI 25 := rfl
      rw [h25, if_neg (nI_ge hk (by decide)), h5, pk_rem (by omega) (by decide) (by decide), c_isIn_eq]
      simp only [Option.bind_some, jn, gd_t (inb_nI hk (by decide)), nI_clamp (show k < 2 ^ 31 by omega), nI_1]
      have key : ∀ v : Int32, v = (if tb (nI who) (k % 5) = true then 0 else c.2.1 3 k) → ∃ z', kst c z' ∧ (∀ j, j < 25 → z'.2.1 3 j = if tb (nI who) (j % 5) = true then 0 else c.2.1 3 j) ∧ c_forgave_L64 K x1 y2 (nI who) n (nI (k + 1)) (cz_a z 3 k v) = K z' := by
        intro v hv
        refine ih (k + 1) _ hk (by omega) ⟨hz.1, hz.2.1, hz.2.2⟩ (fun j hj2 => ?_)
        show upd (z.2.1 3) k v j = _
        unfold upd
        by_cases hjk : j = k
        · rw [if_pos hjk, hv, hjk]
        · rw [if_neg hjk]; exact hj j (by omega)
      by_cases ht : tb (nI who) (k % 5) = true
      · simp only [ht, if_true, if_neg one_ne]
        exact key 0 (by rw [if_pos ht])
      · simp only [ht, if_true, if_false]
        exact key _ (by rw [if_neg ht]; exact hz.2.2 k hk)
    · have : k = 25 := by omega
      subst this
      rw [if_pos (show (25 : Int32) ≤ nI 25 by decide)]
      exact ⟨z, hz, hj, rfl⟩
theorem bits32h : ∀ a b : Fin 32, b.val < a.val → ¬ nI a.val &&& (nI b.val ^^^ (-1 : Int32)) = 0 := by decide +kernel
theorem forg_tail {c : CZ} {set : Nat} (hs : set < 2 ^ cz_np c) (hn : cz_np c ≤ 5) (best : Int32) : ∀ (n who : Nat) (z : CZ), set < who → who ≤ 2 ^ cz_np c → 2 ^ cz_np c < n + who → kst c z → c_forgave_L30 (nI set) n best (nI who) z = (c_putBack z).bind (fun r => some (best, r)) := by
  have hp := pow_le _ hn
  intro n
  induction n with
  | zero => intro who z h0 h1 h2; omega
  | succ n ih =>
    intro who z h0 h1 h2 hz
    have hnp : cz_np z = cz_np c := by show z.2.2.1.1 = _; rw [hz.2.1]
    rw [c_forgave_L30, c_everyone]
    simp only [Option.bind_some]
    obtain ⟨e, he⟩ : ∃ e, 2 ^ cz_np c = e + 1 := ⟨2 ^ cz_np c - 1, by omega⟩
    rw [hnp, sh1 _ hn, he, nI_pred]
    rcases Nat.lt_or_ge e who with hw | hw
    · rw [if_pos (nI_lt hw (by omega))]
    · rw [if_neg (nI_nlt hw (by omega)), if_neg (bits32h ⟨who, by omega⟩ ⟨set, by omega⟩ h0), nI_1]
      exact ih (who + 1) z (by omega) (by omega) (by omega) hz
/-- best so far: none, or a set -/
def bst (x : Int32) : Prop := x = -9 ∨ ∃ b : Nat, b < 32 ∧ x = nI b
theorem bst_neg {x : Int32} (h : bst x) : (x < 0 ↔ x = -9) := by
  rcases h with rfl | ⟨b, hb, rfl⟩
  · decide
  · exact ⟨fun h => absurd h (nI_pos (by omega)), fun h => by
      have : ¬ nI b < 0 := nI_pos (by omega)
      rw [h] at this
      exact absurd (by decide) this⟩
theorem forg_L {c : CZ} {m : MZ} (R : Rel c m) {set : Nat} (hs : set < 2 ^ cz_np c) : ∀ (n who : Nat) (best : Int32) (z : CZ) (m' : MZ), bst best → who ≤ set + 1 → 2 ^ cz_np c < n + who → kst c z → m'.2 = m.2 → (∀ j, j ≠ 19 → m'.1 j = m.1 j) → Same (c_forgave_L30 (nI set) n best (nI who) z) (m_forgave_L26 (nI set) n best (nI who) m') := by
  have hn := R.1.2.2.1
  have hp := pow_le _ hn
  intro n
  induction n with
  | zero => intro who best z m' _ h1 h2; omega
  | succ n ih =>
    intro who best z m' hb h1 h2 hz hm2 hm1
    rcases Nat.lt_or_ge set who with hw | hw
    · rw [forg_tail hs hn best (n + 1) who z hw (by omega) (by omega) hz, m_forgave_L26, if_pos (nI_lt hw (by omega))]
      obtain ⟨z', e1, R'⟩ := R.back3 (m' := mz_f m' 19 0) hz hm2 (fun j g1 g2 => by
        show upd m'.1 19 0 j = m.1 j
        unfold upd
        rw [if_neg g2]; exact hm1 j g2) (by
        show upd m'.1 19 0 18 = 0
        unfold upd
        rw [if_neg (by decide), hm1 18 (by decide)]; exact R.2.1.2.2.2.2.2.1) rfl
      rw [e1]
      exact ⟨best, z', _, rfl, rfl, R'⟩
    · have hnp : cz_np z = cz_np c := by show z.2.2.1.1 = _; rw [hz.2.1]
      rw [c_forgave_L30, m_forgave_L26, c_everyone]
      simp only [Option.bind_some]
      obtain ⟨e, he⟩ : ∃ e, 2 ^ cz_np c = e + 1 := ⟨2 ^ cz_np c - 1, by omega⟩
      rw [hnp, sh1 _ hn, he, nI_pred, if_neg (nI_nlt (show who ≤ e by omega) (by omega)), if_neg (nI_nlt hw (by omega)), nI_1]
      by_cases hsub : nI who &&& (nI set ^^^ (-1 : Int32)) = 0
      · rw [if_pos hsub, if_pos hsub]
        simp only [jn]
        have hin : Same (c_forgave_L64 (fun (z64 : CZ) => (c_pulling (nI set) z64).bind (fun r111 => if r111.1 = 0 then c_forgave_L30 (nI set) n (nI who) (nI (who + 1)) r111.2 else c_forgave_L30 (nI set) n best (nI (who + 1)) r111.2)) (nI set) best (nI who) FU (0 : Int32) z) ((m_pullersOf (nI set) (mz_f m' 19 (nI who))).bind (fun r63 => if r63.1 = 0 then m_forgave_L26 (nI set) n (nI who) (nI (who + 1)) r63.2 else m_forgave_L26 (nI set) n best (nI (who + 1)) r63.2)) := by
          obtain ⟨z', hz', hnt, e1⟩ := forg_in (fun (z64 : CZ) => (c_pulling (nI set) z64).bind (fun r111 => if r111.1 = 0 then c_forgave_L30 (nI set) n (nI who) (nI (who + 1)) r111.2 else c_forgave_L30 (nI set) n best (nI (who + 1)) r111.2)) (nI set) c best who FU 0 z (by omega) (by show 25 < 400 + 0; omega) hz (fun j hj => absurd hj (by omega))
          rw [show nI 0 = (0 : Int32) from rfl] at e1
          rw [e1]
          have hrg : cRng z' := cRng_of R.1 hz'.1 hz'.2.1 (fun k hk => by
            rw [hnt k hk]
            split
            · exact ⟨0, by decide, rfl⟩
            · exact R.1.1 k hk)
          have hnp' : cz_np z' = cz_np c := by show z'.2.2.1.1 = _; rw [hz'.2.1]
          have hkz : ∀ i, cz_k z' i = cz_k c i := fun i => by show z'.2.2.1.2.1 i = _; rw [hz'.2.1]
          have hpm : m_pullersOf (nI set) (mz_f m' 19 (nI who)) = some (pv z' (nI set), mz_f m' 19 (nI who)) := by
            refine pull_gen hrg ?_ ?_ ?_ ?_ (nI set)
            · rw [hnp']; show m'.1 5 = _; rw [hm1 5 (by decide)]; exact R.2.1.1
            · show m'.1 7 = _; rw [hm1 7 (by decide), hz'.1]; exact R.2.1.2.2.1
            · intro i hi
              rw [hnp'] at hi
              show m'.2 8 i = _
              rw [hm2, hkz]; exact (R.2.2.1 i hi).1
            · intro p q hp' hq'
              rw [hnp'] at hp' hq'
              show (if tb (m'.1 18) p = true then 0 else if tb (nI who) q = true then 0 else m'.2 10 (5 * p + q)) = z'.2.1 3 (p * 5 + q)
              rw [hm1 18 (by decide), R.2.1.2.2.2.2.2.1, tb0 p (by omega), hnt _ (by omega), show (p * 5 + q) % 5 = q by omega, hm2, R.2.2.2.1 _ (by omega), Nat.mul_comm 5 p]
              simp
          rw [c_pulling_eq (nI set) z' hrg, hpm]
          simp only [Option.bind_some]
          show Same (if pv z' (nI set) = 0 then _ else _) (if pv z' (nI set) = 0 then _ else _)
          split
          · exact ih (who + 1) (nI who) z' _ (Or.inr ⟨who, by omega, rfl⟩) (by omega) (by omega) hz' hm2 (fun j g => by show upd m'.1 19 _ j = _; unfold upd; rw [if_neg g]; exact hm1 j g)
          · exact ih (who + 1) best z' _ hb (by omega) (by omega) hz' hm2 (fun j g => by show upd m'.1 19 _ j = _; unfold upd; rw [if_neg g]; exact hm1 j g)
        by_cases hng : best < 0
        · rw [if_pos hng, if_pos ((bst_neg hb).mp hng)]
          exact hin
        · rw [if_neg hng, if_neg (fun h => hng ((bst_neg hb).mpr h))]
          obtain ⟨b, hb32, rfl⟩ : ∃ b : Nat, b < 32 ∧ best = nI b := hb.resolve_left (fun h => hng ((bst_neg (Or.inl h)).mpr h))
          rw [bitc_eq (show who < 32 by omega), bitc_eq hb32, size_eq (show who < 32 by omega), size_eq hb32]
          simp only [Option.bind_some]
          split
          · exact ih (who + 1) _ z m' hb (by omega) (by omega) hz hm2 hm1
          · exact hin
      · rw [if_neg hsub, if_neg hsub]
        exact ih (who + 1) best z m' hb (by omega) (by omega) hz hm2 hm1
theorem op_forgave {c : CZ} {m : MZ} (R : Rel c m) (x : Int32) : Same (c_forgave x c) (m_forgave x m) := by
  have hn := R.1.2.2.1
  have hp := pow_le _ hn
  unfold c_forgave m_forgave
  rw [noRiver_eq hn, R.2.1.1]
  simp only [Option.bind_some]
  by_cases h : cz_np c = 0
  · rw [if_pos h, if_pos (show nI (cz_np c) = 0 by rw [h]; rfl)]
    exact ⟨_, c, m, rfl, rfl, R⟩
  · rw [if_neg h, if_neg (nI_ne0 (by omega) (by omega))]
    simp only [if_true]
    rcases isP_or x (n := 2 ^ cz_np c) (by omega) with ⟨j, hj, rfl⟩ | ⟨-, hx⟩
    · rw [c_isLoad_in hn hj, m_isSet_in R.2.1.1 hn hj]
      simp only [Option.bind_some, if_neg one_ne]
      obtain ⟨e1, hk⟩ := keep_kst c
      rw [e1]
      simp only [Option.bind_some]
      exact forg_L R hj FU 0 (-9) _ m (Or.inl rfl) (by omega) (by show _ < 400 + 0; omega) hk rfl (fun _ _ => rfl)
    · rw [c_isLoad_out hn hx, m_isSet_out R.2.1.1 hn hx]
      exact ⟨_, c, m, rfl, rfl, R⟩
