/-! OPERATIONS, pure (7): cross -/
def enc (o : Option Nat) : Int32 := match o with
  | none => -9
  | some t => nI t
theorem enc_neg {o : Option Nat} (h : ∀ t, o = some t → t < 1000) : (enc o < 0 ↔ o = none) ∧ (enc o = -9 ↔ o = none) := by
  cases o with
  | none => exact ⟨⟨fun _ => rfl, fun _ => by decide⟩, ⟨fun _ => rfl, fun _ => rfl⟩⟩
  | some t =>
    have ht := h t rfl
    have h1 : ¬ nI t < 0 := nI_pos (by omega)
    have h2 : ¬ nI t = -9 := fun e => h1 (by rw [e]; decide)
    exact ⟨⟨fun h => absurd h h1, fun h => by cases h⟩, ⟨fun h => absurd h h2, fun h => by cases h⟩⟩
theorem sb1 : ∀ s l : Fin 32, (nI s.val &&& (nI l.val ^^^ (-1 : Int32)) = 0) ↔ s.val &&& l.val = s.val := by decide +kernel
theorem sb2 : ∀ s l : Fin 32, nI l.val ^^^ nI s.val = nI (l.val ^^^ s.val) := by decide +kernel
theorem sb3 : ∀ s l : Fin 32, s.val &&& l.val = s.val → nI l.val &&& (nI s.val ^^^ (-1 : Int32)) = nI (l.val ^^^ s.val) := by decide +kernel
theorem sb4 : ∀ s l : Fin 32, s.val ≠ 0 → s.val &&& l.val = s.val → l.val ^^^ s.val < l.val := by decide +kernel
theorem sb5 : ∀ d l : Fin 32, d.val ≠ 0 → (nI d.val - 1) &&& nI l.val = nI ((d.val - 1) &&& l.val) := by decide +kernel
theorem sb6 : ∀ l d s : Fin 32, d.val &&& l.val = d.val → s.val &&& l.val = s.val → s.val < d.val → s.val ≤ (d.val - 1) &&& l.val := by decide +kernel
theorem sb_le {s l : Nat} (h : s &&& l = s) : s ≤ l := by rw [← h]; exact Nat.and_le_right
/-- the least that is left behind by a load of P, and one more -/
def pbest (F : Nat → Option Nat) (k : Nat) (P : Nat → Prop) (o : Option Nat) : Prop := (o = none ∧ ∀ s, P s → F (k ^^^ s) = none) ∨ ∃ t s, o = some (t + 1) ∧ P s ∧ F (k ^^^ s) = some t ∧ ∀ s', P s' → ∀ u, F (k ^^^ s') = some u → t ≤ u
theorem pb_iff {F : Nat → Option Nat} {k : Nat} {P P' : Nat → Prop} {o : Option Nat} (h : ∀ s, P' s ↔ P s) (hb : pbest F k P o) : pbest F k P' o := by
  rcases hb with ⟨h1, h2⟩ | ⟨t, s, h1, h2, h3, h4⟩
  · exact Or.inl ⟨h1, fun s hs => h2 s ((h s).mp hs)⟩
  · exact Or.inr ⟨t, s, h1, (h s).mpr h2, h3, fun s' hs' => h4 s' ((h s').mp hs')⟩
theorem pb_congr {F F' : Nat → Option Nat} {k : Nat} {P : Nat → Prop} {o : Option Nat} (h : ∀ s, P s → F' (k ^^^ s) = F (k ^^^ s)) (hb : pbest F k P o) : pbest F' k P o := by
  rcases hb with ⟨h1, h2⟩ | ⟨t, s, h1, h2, h3, h4⟩
  · exact Or.inl ⟨h1, fun s hs => by rw [h s hs]; exact h2 s hs⟩
  · exact Or.inr ⟨t, s, h1, h2, by rw [h s h2]; exact h3, fun s' hs' u hu => h4 s' hs' u (by rw [← h s' hs']; exact hu)⟩
theorem pb_none {F : Nat → Option Nat} {k d : Nat} {P P' : Nat → Prop} {o : Option Nat} (h : ∀ s, P' s ↔ P s ∨ s = d) (hd : F (k ^^^ d) = none) (hb : pbest F k P o) : pbest F k P' o := by
  rcases hb with ⟨h1, h2⟩ | ⟨t, s, h1, h2, h3, h4⟩
  · refine Or.inl ⟨h1, fun s hs => ?_⟩
    rcases (h s).mp hs with g | g
    · exact h2 s g
    · rw [g]; exact hd
  · refine Or.inr ⟨t, s, h1, (h s).mpr (Or.inl h2), h3, fun s' hs' u hu => ?_⟩
    rcases (h s').mp hs' with g | g
    · exact h4 s' g u hu
    · rw [g, hd] at hu; cases hu
theorem pb_take {F : Nat → Option Nat} {k d u : Nat} {P P' : Nat → Prop} {o : Option Nat} (h : ∀ s, P' s ↔ P s ∨ s = d) (hd : F (k ^^^ d) = some u) (hb : pbest F k P o) (hlt : ∀ t, o = some t → u + 1 < t) : pbest F k P' (some (u + 1)) := by
  refine Or.inr ⟨u, d, rfl, (h d).mpr (Or.inr rfl), hd, fun s' hs' u' hu' => ?_⟩
  rcases (h s').mp hs' with g | g
  · rcases hb with ⟨h1, h2⟩ | ⟨t, s, h1, h2, h3, h4⟩
    · rw [h2 s' g] at hu'; cases hu'
    · have := hlt _ h1
      have := h4 s' g u' hu'
      omega
  · rw [g, hd] at hu'; cases hu'; exact Nat.le_refl _
theorem pb_leave {F : Nat → Option Nat} {k d u t0 : Nat} {P P' : Nat → Prop} (h : ∀ s, P' s ↔ P s ∨ s = d) (hd : F (k ^^^ d) = some u) (hb : pbest F k P (some t0)) (hle : t0 ≤ u + 1) : pbest F k P' (some t0) := by
  rcases hb with ⟨h1, -⟩ | ⟨t, s, h1, h2, h3, h4⟩
  · cases h1
  · cases h1
    refine Or.inr ⟨t, s, rfl, (h s).mpr (Or.inl h2), h3, fun s' hs' u' hu' => ?_⟩
    rcases (h s').mp hs' with g | g
    · exact h4 s' g u' hu'
    · rw [g, hd] at hu'; cases hu'; omega
theorem pb_uniq {F : Nat → Option Nat} {k : Nat} {P : Nat → Prop} {o o' : Option Nat} (h : pbest F k P o) (h' : pbest F k P o') : o = o' := by
  rcases h with ⟨rfl, h2⟩ | ⟨t, s, rfl, h2, h3, h4⟩ <;> rcases h' with ⟨rfl, g2⟩ | ⟨t', s', rfl, g2, g3, g4⟩
  · rfl
  · rw [h2 s' g2] at g3; cases g3
  · rw [g2 s h2] at h3; cases h3
  · have := h4 s' g2 t' g3
    have := g4 s h2 t h3
    rw [show t = t' by omega]
/-- loads of who is left -/
abbrev lds (f : Nat → Int32) (k : Nat) : Nat → Prop := fun s => s ≠ 0 ∧ s &&& k = s ∧ f s ≠ 0
theorem few_cL {z : CZ} {m : MZ} (R : Rel z m) {f : Nat → Int32} (hf : ∀ s, fairV z s = f s) {F : Nat → Option Nat} {left : Nat} (hl : left < 32) (hF : ∀ k, k < left → z.2.1 5 k = enc (F k) ∧ ∀ t, F k = some t → t ≤ k) : ∀ (n d : Nat) (o : Option Nat), d &&& left = d → d < n → (∀ t, o = some t → t ≤ left) → pbest F left (fun s => lds f left s ∧ d < s) o → ∃ o', (∀ t, o' = some t → t ≤ left) ∧ pbest F left (lds f left) o' ∧ c_fewestFor_L5 (nI left) n (enc o) (nI d) z = some (enc o', z) := by
  intro n
  induction n with
  | zero => intro d o _ h; omega
  | succ n ih =>
    intro d o hd hn ho hb
    have hdl := sb_le hd
    rw [c_fewestFor_L5]
    rcases Nat.eq_zero_or_pos d with h0 | h0
    · subst h0
      rw [if_pos (show nI 0 ≤ 0 by decide)]
      exact ⟨o, ho, pb_iff (fun s => ⟨fun h => ⟨h, Nat.pos_of_ne_zero h.1⟩, fun h => h.1⟩) hb, rfl⟩
    · have hx : left ^^^ d < left := sb4 ⟨d, by omega⟩ ⟨left, hl⟩ (by show d ≠ 0; omega) hd
      obtain ⟨e1, e2⟩ := hF _ hx
      have hen := enc_neg (o := F (left ^^^ d)) (fun t ht => by have := e2 t ht; omega)
      have hnext : (nI d - 1) &&& nI left = nI ((d - 1) &&& left) := sb5 ⟨d, by omega⟩ ⟨left, hl⟩ (by show d ≠ 0; omega)
      have hsd : ((d - 1) &&& left) &&& left = (d - 1) &&& left := by rw [Nat.and_assoc, Nat.and_self]
      have hlt : (d - 1) &&& left ≤ d - 1 := Nat.and_le_left
      have hcov : ∀ s, s &&& left = s → ((d - 1) &&& left < s ↔ d < s ∨ s = d) := by
        intro s hs
        constructor
        · intro h
          rcases Nat.lt_trichotomy s d with g | g | g
          · have := sb6 ⟨left, hl⟩ ⟨d, by omega⟩ ⟨s, by omega⟩ hd hs g
            simp only at this
            omega
          · exact Or.inr g
          · exact Or.inl g
        · intro h; omega
      rw [if_neg (nI_nle h0 (by omega)), show nI left ^^^ nI d = nI (left ^^^ d) from sb2 ⟨d, by omega⟩ ⟨left, hl⟩, gd_t (inb_nI (show left ^^^ d < 32 by omega) (by decide)), nI_clamp (by omega), e1, hnext]
      simp only [jn]
      by_cases hfd : f d = 0
      · -- not a fair load
        have hskip : pbest F left (fun s => lds f left s ∧ (d - 1) &&& left < s) o := pb_iff (fun s => ⟨fun h => ⟨h.1, by
            rcases (hcov s h.1.2.1).mp h.2 with g | g
            · exact g
            · exact absurd (g ▸ hfd) h.1.2.2⟩, fun h => ⟨h.1, (hcov s h.1.2.1).mpr (Or.inl h.2)⟩⟩) hb
        have hgo := ih _ o hsd (by omega) ho hskip
        split
        · exact hgo
        · rw [fair_c R (show d < 32 by omega), hf, hfd]
          simp only [Option.bind_some, if_true]
          exact hgo
      · have hP : ∀ s, (lds f left s ∧ (d - 1) &&& left < s) ↔ (lds f left s ∧ d < s) ∨ s = d := by
          intro s
          constructor
          · intro h
            rcases (hcov s h.1.2.1).mp h.2 with g | g
            · exact Or.inl ⟨h.1, g⟩
            · exact Or.inr g
          · intro h
            rcases h with h | h
            · exact ⟨h.1, (hcov s h.1.2.1).mpr (Or.inl h.2)⟩
            · subst h; exact ⟨⟨by omega, hd, hfd⟩, (hcov s hd).mpr (Or.inr rfl)⟩
        rw [fair_c R (show d < 32 by omega), hf]
        simp only [Option.bind_some, if_neg hfd]
        cases hFd : F (left ^^^ d) with
        | none =>
          rw [if_pos (show enc none < 0 by decide)]
          exact ih _ o hsd (by omega) ho (pb_none hP hFd hb)
        | some u =>
          have hu := e2 u hFd
          rw [if_neg (show ¬ enc (some u) < 0 from nI_pos (by omega))]
          have hu1 : enc (some u) + 1 = enc (some (u + 1)) := nI_1 u
          rw [hu1]
          cases ho' : o with
          | none =>
            rw [if_pos (show enc none < 0 by decide)]
            subst ho'
            exact ih _ _ hsd (by omega) (fun t ht => by cases ht; omega) (pb_take hP hFd hb (fun t ht => by cases ht))
          | some t0 =>
            subst ho'
            have ht0 := ho t0 rfl
            rw [if_neg (show ¬ enc (some t0) < 0 from nI_pos (by omega))]
            by_cases hc : t0 ≤ u + 1
            · rw [if_pos (show enc (some t0) ≤ enc (some (u + 1)) from nI_le hc (by omega))]
              exact ih _ _ hsd (by omega) ho (pb_leave hP hFd hb hc)
            · rw [if_neg (show ¬ enc (some t0) ≤ enc (some (u + 1)) from nI_ge (by omega) (by omega))]
              exact ih _ _ hsd (by omega) (fun t ht => by cases ht; omega) (pb_take hP hFd hb (fun t ht => by cases ht; omega))
theorem few_c {z : CZ} {m : MZ} (R : Rel z m) {f : Nat → Int32} (hf : ∀ s, fairV z s = f s) {F : Nat → Option Nat} {left : Nat} (hl : left < 32) (hF : ∀ k, k < left → z.2.1 5 k = enc (F k) ∧ ∀ t, F k = some t → t ≤ k) : ∃ o', (∀ t, o' = some t → t ≤ left) ∧ pbest F left (lds f left) o' ∧ c_fewestFor (nI left) z = some (enc o', z) := by
  unfold c_fewestFor
  exact few_cL R hf hl hF FU left none (Nat.and_self _) (by show left < 400; omega) (fun t ht => by cases ht) (Or.inl ⟨rfl, fun s hs => absurd (sb_le hs.1.2.1) (by have := hs.2; omega)⟩)
theorem Rel.tabC {c : CZ} {m : MZ} (R : Rel c m) (i : Nat) (v : Int32) : Rel (cz_a c 5 i v) m := R
theorem Rel.tabM {c : CZ} {m : MZ} (R : Rel c m) (i : Nat) (v : Int32) : Rel c (mz_a m 25 i v) := by
  obtain ⟨r1, r2, r3, r4, r5, r6⟩ := R
  exact ⟨r1, r2, r3, r4, r5, r6⟩
theorem few_mL {c : CZ} {f : Nat → Int32} (hf : ∀ s, fairV c s = f s) {F : Nat → Option Nat} {left : Nat} (hl : left < 32) (hF : ∀ k, k < left → ∀ t, F k = some t → t ≤ k) (K : MZ → Option MZ) : ∀ (n d : Nat) (o : Option Nat) (m : MZ), Rel c m → (∀ k, k < left → m.2 25 k = enc (F k)) → m.2 25 left = enc o → 1 ≤ d → d ≤ left + 1 → left + 1 < n + d → (∀ t, o = some t → t ≤ left) → pbest F left (fun s => lds f left s ∧ s < d) o → ∃ o' m', (∀ t, o' = some t → t ≤ left) ∧ pbest F left (lds f left) o' ∧ Rel c m' ∧ (∀ k, k < left → m'.2 25 k = enc (F k)) ∧ m'.2 25 left = enc o' ∧ m_findFewest_L29 K (nI left) n (nI d) m = K m' := by
  intro n
  induction n with
  | zero => intro d o m _ _ _ _ h h'; omega
  | succ n ih =>
    intro d o m R hm hml hd0 hd hn ho hb
    rw [m_findFewest_L29]
    rcases Nat.lt_or_ge left d with h0 | h0
    · rw [if_pos (nI_lt h0 (by omega))]
      exact ⟨o, m, ho, pb_iff (fun s => ⟨fun h => ⟨h, by have := sb_le h.2.1; omega⟩, fun h => h.1⟩) hb, R, hm, hml, rfl⟩
    · rw [if_neg (nI_nlt h0 (by omega)), nI_1]
      have hskip : ¬ lds f left d → pbest F left (fun s => lds f left s ∧ s < d + 1) o := fun hn => pb_iff (fun s => ⟨fun h => ⟨h.1, by
        rcases Nat.lt_or_ge s d with g | g
        · exact g
        · exact absurd h.1 (by rw [show s = d by omega]; exact hn)⟩, fun h => ⟨h.1, by omega⟩⟩) hb
      by_cases hs : d &&& left = d
      · have hs' : nI d &&& (nI left ^^^ (-1 : Int32)) = 0 := (sb1 ⟨d, by omega⟩ ⟨left, hl⟩).mpr hs
        rw [if_pos hs', fair_m R (show d < 32 by omega), hf]
        simp only [Option.bind_some]
        by_cases hfd : f d = 0
        · rw [if_pos hfd]
          exact ih (d + 1) o m R hm hml (by omega) (by omega) (by omega) ho (hskip (fun h => h.2.2 hfd))
        · rw [if_neg hfd]
          have hx : left ^^^ d < left := sb4 ⟨d, by omega⟩ ⟨left, hl⟩ (by show d ≠ 0; omega) hs
          have e2 := hF _ hx
          rw [sb3 ⟨d, by omega⟩ ⟨left, hl⟩ hs, gd_t (inb_nI (show left ^^^ d < 32 by omega) (by decide)), nI_clamp (show left ^^^ d < 2 ^ 31 by omega), hm _ hx, gd_t (inb_nI hl (by decide)), nI_clamp (show left < 2 ^ 31 by omega), hml]
          simp only [jn, gd_t (inb_nI hl (by decide)), nI_clamp (show left < 2 ^ 31 by omega)]
          have hP : ∀ s, (lds f left s ∧ s < d + 1) ↔ (lds f left s ∧ s < d) ∨ s = d := by
            intro s
            constructor
            · intro h
              by_cases g : s = d
              · exact Or.inr g
              · exact Or.inl ⟨h.1, by omega⟩
            · intro h
              rcases h with h | h
              · exact ⟨h.1, by omega⟩
              · subst h; exact ⟨⟨by omega, hs, hfd⟩, by omega⟩
          have htake : ∀ u, F (left ^^^ d) = some u → pbest F left (fun s => lds f left s ∧ s < d + 1) (some (u + 1)) → ∃ o' m', (∀ t, o' = some t → t ≤ left) ∧ pbest F left (lds f left) o' ∧ Rel c m' ∧ (∀ k, k < left → m'.2 25 k = enc (F k)) ∧ m'.2 25 left = enc o' ∧ m_findFewest_L29 K (nI left) n (nI (d + 1)) (mz_a m 25 left (enc (some u) + 1)) = K m' := by
            intro u hFd hb'
            have hu := e2 u hFd
            refine ih (d + 1) (some (u + 1)) _ (R.tabM _ _) (fun k hk => ?_) ?_ (by omega) (by omega) (by omega) (fun t ht => by cases ht; omega) hb'
            · show upd (m.2 25) left _ k = _
              unfold upd
              rw [if_neg (by omega)]; exact hm k hk
            · show upd (m.2 25) left _ left = _
              unfold upd
              rw [if_pos rfl]; exact nI_1 u
          cases hFd : F (left ^^^ d) with
          | none =>
            rw [if_pos (show enc none = -9 from rfl)]
            exact ih (d + 1) o m R hm hml (by omega) (by omega) (by omega) ho (pb_none hP hFd hb)
          | some u =>
            have hu := e2 u hFd
            rw [if_neg (fun h => by
              have := (enc_neg (o := some u) (fun t ht => by cases ht; omega)).2.mp h
              cases this)]
            cases ho' : o with
            | none =>
              subst ho'
              rw [if_pos (show enc none = -9 from rfl)]
              exact htake u hFd (pb_take hP hFd hb (fun t ht => by cases ht))
            | some t0 =>
              subst ho'
              have ht0 := ho t0 rfl
              rw [if_neg (fun h => by
                have := (enc_neg (o := some t0) (fun t ht => by cases ht; omega)).2.mp h
                cases this)]
              have hu1 : enc (some u) + 1 = enc (some (u + 1)) := nI_1 u
              by_cases hc : t0 ≤ u + 1
              · rw [if_pos (show enc (some t0) ≤ enc (some u) + 1 by rw [hu1]; exact nI_le hc (by omega))]
                exact ih (d + 1) _ m R hm hml (by omega) (by omega) (by omega) ho (pb_leave hP hFd hb hc)
              · rw [if_neg (show ¬ enc (some t0) ≤ enc (some u) + 1 by rw [hu1]; exact nI_ge (by omega) (by omega))]
                exact htake u hFd (pb_take hP hFd hb (fun t ht => by cases ht; omega))
      · have hs' : ¬ nI d &&& (nI left ^^^ (-1 : Int32)) = 0 := fun h => hs ((sb1 ⟨d, by omega⟩ ⟨left, hl⟩).mp h)
        rw [if_neg hs']
        exact ih (d + 1) o m R hm hml (by omega) (by omega) (by omega) ho (hskip (fun h => hs h.2.1))
/-- the table, up to N -/
def Tab (f : Nat → Int32) (F : Nat → Option Nat) (N : Nat) (z : CZ) (m : MZ) : Prop := ∀ k, k < N → z.2.1 5 k = enc (F k) ∧ m.2 25 k = enc (F k) ∧ (∀ t, F k = some t → t ≤ k) ∧ (k = 0 → F k = some 0) ∧ (k ≠ 0 → pbest F k (lds f k) (F k))
theorem reck_L {np : Nat} (hn : np ≤ 5) {f : Nat → Int32} : ∀ (n left : Nat) (z : CZ) (m : MZ) (F : Nat → Option Nat), Rel z m → cz_np z = np → (∀ s, fairV z s = f s) → 1 ≤ left → left ≤ 2 ^ np → 2 ^ np < n + left → Tab f F left z m → ∃ z' m' F', c_reckon_L9 n (nI left) z = some z' ∧ m_findFewest_L9 n (nI left) m = some m' ∧ Rel z' m' ∧ cz_np z' = np ∧ (∀ s, fairV z' s = f s) ∧ Tab f F' (2 ^ np) z' m' := by
  have hp := pow_le _ hn
  intro n
  induction n with
  | zero => intro left z m F _ _ _ h h1 h2; omega
  | succ n ih =>
    intro left z m F R hnp hf h1 h2 h3 hT
    rw [c_reckon_L9, m_findFewest_L9, c_everyone, R.2.1.1]
    simp only [Option.bind_some, hnp, sh1 _ hn]
    obtain ⟨e, he⟩ : ∃ e, 2 ^ np = e + 1 := ⟨2 ^ np - 1, by omega⟩
    rcases Nat.lt_or_ge left (2 ^ np) with hl | hl
    · have hpe : nI (2 ^ np) - 1 = nI e := by rw [he, nI_pred]
      rw [hpe, if_neg (nI_nlt (show left ≤ e by omega) (by omega)), if_neg (nI_ge hl (by omega))]
      obtain ⟨o, ho, hb, e1⟩ := few_c R hf (F := F) (left := left) (by omega) (fun k hk => ⟨(hT k hk).1, (hT k hk).2.2.1⟩)
      rw [e1]
      simp only [Option.bind_some, gd_t (inb_nI (show left < 32 by omega) (by decide)), nI_clamp (show left < 2 ^ 31 by omega), nI_1]
      obtain ⟨o2, m2, ho2, hb2, R2, hm2, hml2, e2⟩ := few_mL (c := z) hf (F := F) (left := left) (by omega) (fun k hk => (hT k hk).2.2.1) (fun z29 => m_findFewest_L9 n (nI (left + 1)) z29) FU 1 none (mz_a m 25 left (-9)) (R.tabM _ _) (fun k hk => by
          show upd (m.2 25) left _ k = _
          unfold upd
          rw [if_neg (by omega)]; exact (hT k hk).2.1) (by
          show upd (m.2 25) left _ left = _
          unfold upd
          rw [if_pos rfl]; rfl) (by omega) (by omega) (by show _ < 400 + 1; omega) (fun t ht => by cases ht) (Or.inl ⟨rfl, fun s hs => absurd (show s = 0 by have := hs.2; omega) hs.1.1⟩)
      rw [show nI 1 = (1 : Int32) from rfl] at e2
      rw [e2]
      have hoo : o2 = o := pb_uniq hb2 hb
      subst hoo
      refine ih (left + 1) (cz_a z 5 left (enc o2)) m2 (fun k => if k = left then o2 else F k) (R2.tabC _ _) hnp hf (by omega) (by omega) (by omega) (fun k hk => ?_)
      have hcg : ∀ k', k' ≤ left → ∀ s, lds f k' s → (fun k => if k = left then o2 else F k) (k' ^^^ s) = F (k' ^^^ s) := by
        intro k' hk' s hs
        have hsk := sb_le hs.2.1
        have := sb4 ⟨s, by omega⟩ ⟨k', by omega⟩ hs.1 hs.2.1
        simp only at this
        show (if k' ^^^ s = left then _ else _) = _
        rw [if_neg (by omega)]
      by_cases hkl : k = left
      · subst hkl
        refine ⟨?_, ?_, ?_, fun h => absurd h (by omega), fun _ => ?_⟩
        · show upd (z.2.1 5) k (enc o2) k = enc (if k = k then o2 else F k)
          unfold upd
          rw [if_pos rfl, if_pos rfl]
        · show m2.2 25 k = enc (if k = k then o2 else F k)
          rw [if_pos rfl]; exact hml2
        · show ∀ t, (if k = k then o2 else F k) = some t → t ≤ k
          rw [if_pos rfl]; exact ho
        · show pbest _ k _ (if k = k then o2 else F k)
          rw [if_pos rfl]
          exact pb_congr (hcg k (Nat.le_refl _)) hb
      · have hk' : k < left := by omega
        obtain ⟨g1, g2, g3, g4, g5⟩ := hT k hk'
        refine ⟨?_, ?_, ?_, ?_, ?_⟩
        · show upd (z.2.1 5) left (enc o2) k = enc (if k = left then o2 else F k)
          unfold upd
          rw [if_neg hkl, if_neg hkl]; exact g1
        · show m2.2 25 k = enc (if k = left then o2 else F k)
          rw [if_neg hkl]; exact hm2 k hk'
        · show ∀ t, (if k = left then o2 else F k) = some t → t ≤ k
          rw [if_neg hkl]; exact g3
        · show k = 0 → (if k = left then o2 else F k) = some 0
          rw [if_neg hkl]; exact g4
        · intro h0
          show pbest _ k _ (if k = left then o2 else F k)
          rw [if_neg hkl]
          exact pb_congr (hcg k (by omega)) (g5 h0)
    · have : left = 2 ^ np := by omega
      subst this
      have hpe : nI (2 ^ np) - 1 < nI (2 ^ np) := by rw [he, nI_pred]; exact nI_lt (by omega) (by omega)
      rw [if_pos hpe, if_pos (nI_le (Nat.le_refl _) (by omega))]
      exact ⟨z, m, F, rfl, rfl, R, hnp, hf, hT⟩
theorem reck_eq {c : CZ} {m : MZ} (R : Rel c m) (h0 : 0 < cz_np c) : ∃ z' m' F f, c_reckon c = some z' ∧ m_findFewest m = some m' ∧ Rel z' m' ∧ cz_np z' = cz_np c ∧ (∀ s, fairV z' s = f s) ∧ Tab f F (2 ^ cz_np c) z' m' := by
  have hn := R.1.2.2.1
  have hp := pow_le _ hn
  have h2 : 2 ≤ 2 ^ cz_np c := by
    have := Nat.pow_le_pow_right (n := 2) (by decide) h0
    omega
  unfold c_reckon m_findFewest
  rw [gd_t (by decide), gd_t (by decide)]
  obtain ⟨z', m', F', e1, e2, R', hnp, hf, hT⟩ := reck_L hn (f := fairV c) FU 1 (cz_a c 5 0 0) (mz_a m 25 0 0) (fun k => if k = 0 then some 0 else none) ((R.tabC 0 0).tabM 0 0) rfl (fun _ => rfl) (by omega) (by omega) (by show _ < 400 + 1; omega) (fun k hk => by
    have : k = 0 := by omega
    subst this
    exact ⟨rfl, rfl, fun t ht => by simp at ht; omega, fun _ => rfl, fun h => absurd rfl h⟩)
  exact ⟨z', m', F', _, e1, e2, R', hnp, hf, hT⟩
/-- the first load -/
theorem first_L {np : Nat} (hn : np ≤ 5) {f : Nat → Int32} {F : Nat → Option Nat} {z : CZ} {m : MZ} (R : Rel z m) (hf : ∀ s, fairV z s = f s) (hT : Tab f F (2 ^ np) z m) {left t : Nat} (hl : left < 2 ^ np) (ht : F left = some (t + 1)) : ∀ (n d : Nat), 1 ≤ d → (∃ s, d ≤ s ∧ s < d + n ∧ lds f left s ∧ F (left ^^^ s) = some t) → ∃ s, lds f left s ∧ F (left ^^^ s) = some t ∧ c_firstLoad_L2 (nI left) n (nI d) z = some (nI s, z) ∧ m_firstLoad_L2 (nI left) n (nI d) m = some (nI s, m) := by
  have hp := pow_le _ hn
  intro n
  induction n with
  | zero => rintro d _ ⟨s, h1, h2, -⟩; omega
  | succ n ih =>
    rintro d hd ⟨s, h1, h2, h3, h4⟩
    have hsl := sb_le h3.2.1
    have hnext : ¬ (lds f left d ∧ F (left ^^^ d) = some t) → ∃ s, d + 1 ≤ s ∧ s < d + 1 + n ∧ lds f left s ∧ F (left ^^^ s) = some t := fun h => ⟨s, by
      rcases Nat.lt_or_ge d s with g | g
      · exact g
      · exact absurd (by rw [show d = s by omega]; exact ⟨h3, h4⟩) h, by omega, h3, h4⟩
    rw [c_firstLoad_L2, m_firstLoad_L2, nI_1]
    by_cases hs : d &&& left = d
    · have hs' : nI d &&& (nI left ^^^ (-1 : Int32)) = 0 := (sb1 ⟨d, by omega⟩ ⟨left, by omega⟩).mpr hs
      rw [if_pos hs', if_pos hs', fair_c R (show d < 32 by omega), fair_m R (show d < 32 by omega), hf]
      simp only [Option.bind_some]
      by_cases hfd : f d = 0
      · rw [if_pos hfd, if_pos hfd]
        exact ih (d + 1) (by omega) (hnext (fun h => h.1.2.2 hfd))
      · rw [if_neg hfd, if_neg hfd]
        have hx : left ^^^ d < left := sb4 ⟨d, by omega⟩ ⟨left, by omega⟩ (by show d ≠ 0; omega) hs
        obtain ⟨g1, g2, g3, -⟩ := hT (left ^^^ d) (by omega)
        obtain ⟨k1, k2, k3, -⟩ := hT left hl
        have hlt := k3 _ ht
        have e1 : nI left ^^^ nI d = nI (left ^^^ d) := sb2 ⟨d, by omega⟩ ⟨left, by omega⟩
        have e2 : nI left &&& (nI d ^^^ (-1 : Int32)) = nI (left ^^^ d) := sb3 ⟨d, by omega⟩ ⟨left, by omega⟩ hs
        rw [e1, e2, gd_t (inb_nI (show left ^^^ d < 32 by omega) (by decide)), gd_t (inb_nI (show left ^^^ d < 32 by omega) (by decide)), gd_t (inb_nI (show left < 32 by omega) (by decide)), gd_t (inb_nI (show left < 32 by omega) (by decide)), nI_clamp (show left ^^^ d < 2 ^ 31 by omega), nI_clamp (show left < 2 ^ 31 by omega), g1, g2, k1, k2, ht]
        have e3 : enc (some (t + 1)) - 1 = nI t := nI_pred t
        rw [e3]
        by_cases hq : F (left ^^^ d) = some t
        · rw [hq, if_pos (show enc (some t) = nI t from rfl), if_pos (show enc (some t) = nI t from rfl)]
          exact ⟨d, ⟨by omega, hs, hfd⟩, hq, rfl, rfl⟩
        · have hne : ¬ enc (F (left ^^^ d)) = nI t := by
            intro h
            cases hFd : F (left ^^^ d) with
            | none =>
              rw [hFd] at h
              have h5 : ¬ nI t < 0 := nI_pos (by omega)
              rw [← h] at h5
              exact h5 (by decide)
            | some u =>
              rw [hFd] at h
              have hu := g3 u hFd
              have : u = t := (nI_eq (by omega) (by omega)).mp h
              exact hq (by rw [hFd, this])
          rw [if_neg hne, if_neg hne]
          exact ih (d + 1) (by omega) (hnext (fun h => hq h.2))
    · have hs' : ¬ nI d &&& (nI left ^^^ (-1 : Int32)) = 0 := fun h => hs ((sb1 ⟨d, by omega⟩ ⟨left, by omega⟩).mp h)
      rw [if_neg hs', if_neg hs']
      exact ih (d + 1) (by omega) (hnext (fun h => hs h.1.2.1))
theorem first_eq {np : Nat} (hn : np ≤ 5) {f : Nat → Int32} {F : Nat → Option Nat} {z : CZ} {m : MZ} (R : Rel z m) (hf : ∀ s, fairV z s = f s) (hT : Tab f F (2 ^ np) z m) {left t : Nat} (hl : left < 2 ^ np) (ht : F left = some (t + 1)) : ∃ s, lds f left s ∧ F (left ^^^ s) = some t ∧ c_firstLoad (nI left) z = some (nI s, z) ∧ m_firstLoad (nI left) m = some (nI s, m) := by
  have hp := pow_le _ hn
  obtain ⟨-, -, k3, k4, k5⟩ := hT left hl
  have hne : left ≠ 0 := fun h => by rw [k4 h] at ht; cases ht
  rcases k5 hne with ⟨h1, -⟩ | ⟨t', s, h1, h2, h3, -⟩
  · rw [ht] at h1; cases h1
  · rw [ht] at h1
    cases h1
    have := sb_le h2.2.1
    exact first_L hn R hf hT hl ht FU 1 (by omega) ⟨s, Nat.pos_of_ne_zero h2.1, by show s < 1 + 400; omega, h2, h3⟩
theorem cross_L {np : Nat} (hn : np ≤ 5) {f : Nat → Int32} {F : Nat → Option Nat} {z : CZ} {m : MZ} (R : Rel z m) (hf : ∀ s, fairV z s = f s) (hT : Tab f F (2 ^ np) z m) {k : Nat} (hk : k ≤ 4) : ∀ (n j left t : Nat) (set : Int32), left < 2 ^ np → F left = some (t + 1) → j ≤ k → k - j ≤ t → k + 1 < n + j → Same (c_cross_L69 (nI k) n (nI left) (nI j) z) (m_cross_L65 (nI k) n (nI left) set (nI j) m) := by
  have hp := pow_le _ hn
  intro n
  induction n with
  | zero => intro j left t set _ _ h _ h'; omega
  | succ n ih =>
    intro j left t set hl ht hj hkt hfu
    obtain ⟨s, hs, hFs, e1, e2⟩ := first_eq hn R hf hT hl ht
    have hsl := sb_le hs.2.1
    rw [c_cross_L69, m_cross_L65, e1, e2, if_neg (nI_nlt hj (by omega))]
    simp only [Option.bind_some, nI_1]
    have hx : nI left ^^^ nI s = nI (left ^^^ s) := sb2 ⟨s, by omega⟩ ⟨left, by omega⟩
    have hx' : nI left &&& (nI s ^^^ (-1 : Int32)) = nI (left ^^^ s) := sb3 ⟨s, by omega⟩ ⟨left, by omega⟩ hs.2.1
    rcases Nat.lt_or_ge j k with h | h
    · rw [if_neg (nI_ge h (by omega)), hx, hx']
      obtain ⟨t', rfl⟩ : ∃ t', t = t' + 1 := ⟨t - 1, by omega⟩
      have := sb4 ⟨s, by omega⟩ ⟨left, by omega⟩ hs.1 hs.2.1
      simp only at this
      exact ih (j + 1) (left ^^^ s) t' _ (by omega) hFs (by omega) (by omega) (by omega)
    · have : j = k := by omega
      subst this
      rw [if_pos (nI_le (Nat.le_refl _) (by omega))]
      obtain ⟨n', rfl⟩ : ∃ n', n = n' + 1 := ⟨n - 1, by omega⟩
      rw [m_cross_L65, if_pos (nI_lt (by omega) (by omega))]
      exact ⟨_, z, m, rfl, rfl, R⟩
theorem btwm_or (v : Int32) (hi : Nat) (h : hi < 2 ^ 31 - 1) : (-1 ≤ v ∧ v ≤ nI hi ∧ (v = -1 ∨ ∃ j : Nat, j ≤ hi ∧ v = nI j)) ∨ ¬ (-1 ≤ v ∧ v ≤ nI hi) := by
  by_cases q : -1 ≤ v ∧ v ≤ nI hi
  · refine Or.inl ⟨q.1, q.2, ?_⟩
    rcases pk_ix v (n := hi + 1) (by omega) with h1 | h1 | ⟨j, hj, rfl⟩
    · left
      have a1 := Int32.le_iff_toInt_le.mp q.1
      have a2 := Int32.lt_iff_toInt_lt.mp h1
      apply Int32.toInt_inj.mp
      have b1 : (-1 : Int32).toInt = -1 := by decide
      have b2 : (0 : Int32).toInt = 0 := by decide
      rw [b1] at a1 ⊢
      rw [b2] at a2
      omega
    · exact absurd (Int32.le_trans h1 q.2) (nI_ge (by omega) (by omega))
    · exact Or.inr ⟨j, by omega, rfl⟩
  · exact Or.inr q
theorem op_cross {c : CZ} {m : MZ} (R : Rel c m) (x : Int32) : Same (c_cross x c) (m_cross x m) := by
  have hn := R.1.2.2.1
  have hp := pow_le _ hn
  unfold c_cross m_cross
  rw [noRiver_eq hn, R.2.1.1]
  simp only [Option.bind_some]
  by_cases h : cz_np c = 0
  · rw [if_pos h, if_pos (show nI (cz_np c) = 0 by rw [h]; rfl)]
    exact ⟨_, c, m, rfl, rfl, R⟩
  · rw [if_neg h, if_neg (nI_ne0 (by omega) (by omega))]
    simp only [if_true]
    rcases btwm_or x 4 (by decide) with ⟨q1, q2, hx⟩ | q
    · rw [c_in_t (a := -1) (b := 4) (by decide) (by decide) ⟨q1, q2⟩, m_within_t (a := -1) (b := 4) ⟨q1, q2⟩]
      simp only [Option.bind_some, if_neg one_ne]
      obtain ⟨z', m', F, f, e1, e2, R', hnp, hf, hT⟩ := reck_eq R (by omega)
      rw [e1, e2]
      simp only [Option.bind_some, c_everyone, R'.2.1.1, hnp, sh1 _ hn, jn]
      obtain ⟨e, he⟩ : ∃ e, 2 ^ cz_np c = e + 1 := ⟨2 ^ cz_np c - 1, by omega⟩
      have hpe : nI (2 ^ cz_np c) - 1 = nI e := by rw [he, nI_pred]
      obtain ⟨g1, g2, g3, -⟩ := hT e (by omega)
      rw [hpe, gd_t (inb_nI (show e < 32 by omega) (by decide)), gd_t (inb_nI (show e < 32 by omega) (by decide)), nI_clamp (show e < 2 ^ 31 by omega), g1, g2]
      rcases hx with rfl | ⟨k, hk, rfl⟩
      · rw [if_pos (show (-1 : Int32) < 0 by decide), if_neg (show ¬ (0 : Int32) ≤ -1 by decide), if_pos rfl]
        exact ⟨_, z', m', rfl, rfl, R'⟩
      · have hk1 : ¬ nI k = -1 := fun h => by
          have h5 : ¬ nI k < 0 := nI_pos (by omega)
          rw [h] at h5
          exact h5 (by decide)
        rw [if_neg (nI_pos (n := k) (by omega)), if_neg hk1, gd_t (inb_nI (show e < 32 by omega) (by decide)), if_pos (nI_pos' (n := k) (by omega))]
        cases hFe : F e with
        | none =>
          have hlt : ¬ nI k < enc none := fun h => absurd (Int32.lt_trans h (show enc none < 0 by decide)) (nI_pos (by omega))
          rw [if_neg hlt, if_neg hlt]
          exact ⟨_, z', m', rfl, rfl, R'⟩
        | some u =>
          have hu := g3 u hFe
          by_cases hku : k < u
          · have hlt : nI k < enc (some u) := nI_lt hku (by omega)
            rw [if_pos hlt, if_pos hlt]
            obtain ⟨t, rfl⟩ : ∃ t, u = t + 1 := ⟨u - 1, by omega⟩
            exact cross_L hn R' hf hT hk FU 0 e t 0 (by omega) hFe (by omega) (by omega) (by show _ < 400 + 0; omega)
          · have hlt : ¬ nI k < enc (some u) := nI_nlt (by omega) (by omega)
            rw [if_neg hlt, if_neg hlt]
            exact ⟨_, z', m', rfl, rfl, R'⟩
    · rw [c_in_f (a := -1) (b := 4) (by decide) (by decide) q, m_within_f (a := -1) (b := 4) q]
      exact ⟨_, c, m, rfl, rfl, R⟩
