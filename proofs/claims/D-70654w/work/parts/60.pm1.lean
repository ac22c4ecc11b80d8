/-! PURE LAWS, model's side 1: bits, debts, pullers -/
def tb (x : Int32) (k : Nat) : Bool := decide (((x >>> (nI k &&& 31)) &&& 1) = 1)
theorem m_isOf_eq (x : Int32) (k : Nat) : m_isOf x (nI k) = some (if tb x k = true then 1 else 0) := by
  unfold m_isOf tb
  by_cases h : ((x >>> (nI k &&& 31)) &&& 1) = 1
  · rw [if_pos h, if_pos (decide_eq_true h)]; rfl
  · rw [if_neg h, if_neg (by simp [h])]; rfl
theorem c_isIn_eq (x : Int32) (k : Nat) : c_isIn x (nI k) = some (if tb x k = true then 1 else 0) := m_isOf_eq x k
theorem i5 (p q : Nat) : (5 : Int32) * nI p + nI q = nI (5 * p + q) := by
  have h : (5 : Int32) = nI 5 := rfl
  rw [h, pk_mul, nI_add]
theorem i5' (p q : Nat) : nI p * (5 : Int32) + nI q = nI (p * 5 + q) := by
  have h : (5 : Int32) = nI 5 := rfl
  rw [h, pk_mul, nI_add]
theorem one_ne : ¬ (1 : Int32) = 0 := by decide
/-- the debts of one, told to the others up to q -/
def dsum (t : Int32) (f : Nat → Int32) (set : Int32) : Nat → Int32
  | 0 => 0
  | q + 1 => dsum t f set q + (if tb set q = true then t * f q else f q)
def mnote (z : MZ) (p q : Nat) : Int32 := if tb (z.1 18) p = true then 0 else if tb (z.1 19) q = true then 0 else z.2 10 (5 * p + q)
theorem m_debt_L (k : Int32 → MZ → Option (Int32 × MZ)) (p np : Nat) (set : Int32) (z : MZ) (hp : p < 5) (hnp : np ≤ 5) (h5 : z.1 5 = nI np) : ∀ n q, q ≤ np → np < n + q → m_debtOf_L5 k (nI p) set n (dsum (z.1 7) (mnote z p) set q) (nI q) z = k (dsum (z.1 7) (mnote z p) set np) z := by
  intro n
  induction n with
  | zero => intro q h1 h2; omega
  | succ n ih =>
    intro q h1 h2
    rw [m_debtOf_L5]
    rcases Nat.lt_or_ge q np with hq | hq
    · have ih1 := ih (q + 1) hq (by omega)
      rw [if_neg (by rw [h5]; exact nI_ge hq (by omega))]
      have hin : inb (nI (5 * p + q)) 25 = true := inb_nI (by omega) (by decide)
      have hcl : (nI (5 * p + q)).toNatClampNeg = 5 * p + q := nI_clamp (by omega)
      have hn1 : nI q + 1 = nI (q + 1) := nI_1 q
      simp only [m_isOf_eq, Option.bind_some, jn, i5, gd_t hin, hcl, hn1]
      rw [← ih1]
      simp only [dsum, mnote]
      by_cases a1 : tb (z.1 18) p = true <;> by_cases a2 : tb (z.1 19) q = true <;> by_cases a3 : tb set q = true <;> simp [a1, a2, a3]
    · have : q = np := by omega
      subst this
      rw [if_pos (by rw [h5]; exact nI_le (Nat.le_refl _) (by omega))]
/-- what one owes by his kind -/
def dkind (kd : Nat) (x : Int32) : Int32 := if kd = 1 then (if x ≤ 0 then 0 else x - 1) else if kd = 0 then x else x / 2
theorem m_debtOf_eq (p np kd : Nat) (set : Int32) (z : MZ) (hp : p < np) (hnp : np ≤ 5) (h5 : z.1 5 = nI np) (hk : z.2 8 p = nI kd) (hkd : kd ≤ 2) : m_debtOf (nI p) set z = some (dkind kd (dsum (z.1 7) (mnote z p) set np), z) := by
  unfold m_debtOf
  have h0 : (0 : Int32) = nI 0 := rfl
  have hin : inb (nI p) 5 = true := inb_nI (by omega) (by decide)
  have hcl : (nI p).toNatClampNeg = p := nI_clamp (by omega)
  refine (m_debt_L _ p np set z (by omega) hnp h5 FU 0 (by omega) (by show np < 400 + 0; omega)).trans ?_
  simp only [gd_t hin, hcl, hk]
  unfold dkind
  rcases (show kd = 0 ∨ kd = 1 ∨ kd = 2 by omega) with rfl | rfl | rfl
  · simp [show ¬ nI 0 = (1 : Int32) by decide, show nI 0 = (0 : Int32) by decide]
  · simp only [show nI 1 = (1 : Int32) by decide, if_true]
    split <;> simp_all
  · simp [show ¬ nI 2 = (1 : Int32) by decide, show ¬ nI 2 = (0 : Int32) by decide]

/-- who pulls: the most that is owed so far, and who owes it -/
def pl (f : Nat → Int32) (set : Int32) : Nat → Int32 × Int32
  | 0 => (1, 0)
  | p + 1 =>
    let a := pl f set p
    let its := if tb set p = true then f p else 0
    if a.1 < its then (its, 1 <<< (nI p &&& 31)) else if its = a.1 then (a.1, a.2 ||| (1 <<< (nI p &&& 31))) else a
/-- the model's debt of one in a load -/
def mdebt (z : MZ) (np : Nat) (kd : Nat → Nat) (set : Int32) (p : Nat) : Int32 := dkind (kd p) (dsum (z.1 7) (mnote z p) set np)
theorem pl_step {α : Type} (L : Int32 → Int32 → α) (mo se its sh : Int32) : (if its ≤ mo then (if its = mo then L mo (se ||| sh) else L mo (se ||| 0)) else (if its = its then L its (0 ||| sh) else L its (0 ||| 0))) = L (if mo < its then (its, sh) else if its = mo then (mo, se ||| sh) else (mo, se)).1 (if mo < its then (its, sh) else if its = mo then (mo, se ||| sh) else (mo, se)).2 := by
  by_cases h : its ≤ mo
  · have h' : ¬ mo < its := Int32.not_lt.mpr h
    by_cases h2 : its = mo
    · simp [h2]
    · simp [h, h', h2]
  · have h' : mo < its := Int32.not_le.mp h
    simp [h, h']
theorem pl_step' {α : Type} (L : Int32 → Int32 → α) (mo se its sh : Int32) : (if its ≤ mo then (if its = mo then L mo (se ||| sh) else L mo (se ||| 0)) else L its (0 ||| sh)) = L (if mo < its then (its, sh) else if its = mo then (mo, se ||| sh) else (mo, se)).1 (if mo < its then (its, sh) else if its = mo then (mo, se ||| sh) else (mo, se)).2 := by
  have h := pl_step L mo se its sh
  rw [if_pos (rfl : its = its)] at h
  exact h
theorem m_pull_L (np : Nat) (kd : Nat → Nat) (set : Int32) (z : MZ) (hnp : np ≤ 5) (h5 : z.1 5 = nI np) (hk : ∀ p, p < np → z.2 8 p = nI (kd p) ∧ kd p ≤ 2) : ∀ n p, p ≤ np → np < n + p → m_pullersOf_L7 set n (pl (mdebt z np kd set) set p).1 (pl (mdebt z np kd set) set p).2 (nI p) z = some ((pl (mdebt z np kd set) set np).2, z) := by
  intro n
  induction n with
  | zero => intro p h1 h2; omega
  | succ n ih =>
    intro p h1 h2
    rw [m_pullersOf_L7]
    rcases Nat.lt_or_ge p np with hp | hp
    · have ih1 := ih (p + 1) hp (by omega)
      rw [if_neg (by rw [h5]; exact nI_ge hp (by omega))]
      have hn1 : nI p + 1 = nI (p + 1) := nI_1 p
      have hd := m_debtOf_eq p np (kd p) set z hp hnp h5 (hk p hp).1 (hk p hp).2
      simp only [m_isOf_eq, Option.bind_some, jn, hn1, hd]
      rw [← ih1]
      simp only [pl]
      have hmd : dkind (kd p) (dsum (z.1 7) (mnote z p) set np) = mdebt z np kd set p := rfl
      rw [hmd]
      by_cases a3 : tb set p = true
      · simp only [a3, if_true, if_neg one_ne]
        exact pl_step' (fun a b => m_pullersOf_L7 set n a b (nI (p + 1)) z) _ _ _ _
      · simp only [a3, if_true, if_false]
        exact pl_step (fun a b => m_pullersOf_L7 set n a b (nI (p + 1)) z) _ _ 0 _
    · have : p = np := by omega
      subst this
      rw [if_pos (by rw [h5]; exact nI_le (Nat.le_refl _) (by omega))]
theorem m_pullersOf_eq (np : Nat) (kd : Nat → Nat) (set : Int32) (z : MZ) (hnp : np ≤ 5) (h5 : z.1 5 = nI np) (hk : ∀ p, p < np → z.2 8 p = nI (kd p) ∧ kd p ≤ 2) : m_pullersOf set z = some ((pl (mdebt z np kd set) set np).2, z) := by
  unfold m_pullersOf
  exact m_pull_L np kd set z hnp h5 hk FU 0 (by omega) (by show np < 400 + 0; omega)
