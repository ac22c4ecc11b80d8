/-! DebtFerry.newRiver([I)I: walked -/
abbrev rmX0_newRiver : Room := { frames := 9, cells := 9, slots := 60, locals := 300 }
/-- notes as far as they are taken -/
def nrNk (rg : Nat → Int32) (np a b : Nat) (f : Nat → Int32) : Nat → Int32 := fun k => if (k / 5 < a ∨ (k / 5 = a ∧ k % 5 < b)) ∧ k % 5 < np then rg (nrAt np (k / 5) + 3 + k % 5) - 48 else f k
theorem nrNk_step {rg : Nat → Int32} {np a b : Nat} {f : Nat → Int32} (hb : b < np) (hnp : np ≤ 5) : upd (nrNk rg np a b f) (a * 5 + b) (rg (nrAt np a + 3 + b) - 48) = nrNk rg np a (b + 1) f := by
  funext k
  unfold upd nrNk
  by_cases h : k = a * 5 + b
  · rw [if_pos h, if_pos (by omega), show k / 5 = a by omega, show k % 5 = b by omega]
  · rw [if_neg h]
    by_cases hc : (k / 5 < a ∨ (k / 5 = a ∧ k % 5 < b)) ∧ k % 5 < np
    · rw [if_pos hc, if_pos (by omega)]
    · rw [if_neg hc, if_neg (by omega)]
theorem nrNk_row {rg : Nat → Int32} {np a : Nat} {f : Nat → Int32} : nrNk rg np a np f = nrNk rg np (a + 1) 0 f := by
  funext k
  unfold nrNk
  by_cases hc : (k / 5 < a ∨ (k / 5 = a ∧ k % 5 < np)) ∧ k % 5 < np
  · rw [if_pos hc, if_pos (by omega)]
  · rw [if_neg hc, if_neg (by omega)]
theorem nrNk_all {rg : Nat → Int32} {np : Nat} {f : Nat → Int32} : nrNk rg np np 0 f = nrN rg np f := by
  funext k
  unfold nrNk nrN
  by_cases hc : k / 5 < np ∧ k % 5 < np
  · rw [if_pos hc, if_pos (by omega)]
  · rw [if_neg hc, if_neg (by omega)]
theorem nrNk_0 {rg : Nat → Int32} {np : Nat} {f : Nat → Int32} : nrNk rg np 0 0 f = f := by
  funext k
  unfold nrNk
  rw [if_neg (by omega)]
theorem cz_w_a (z : CZ) (f : Nat → Int32) (k : Nat) (v : Int32) : cz_a (cz_w z 3 f) 3 k v = cz_w z 3 (upd f k v) := by
  unfold cz_a cz_w
  refine Prod.ext rfl (Prod.ext (funext fun x => ?_) rfl)
  show (if x = 3 then upd (if 3 = 3 then f else z.2.1 3) k v else if x = 3 then f else z.2.1 x) = if x = 3 then upd f k v else z.2.1 x
  by_cases h : x = 3
  · rw [if_pos h, if_pos rfl, if_pos h]
  · rw [if_neg h, if_neg h, if_neg h]
theorem cz_w_own (z : CZ) : cz_w z 3 (z.2.1 3) = z := by
  unfold cz_w
  refine Prod.ext rfl (Prod.ext (funext fun x => ?_) rfl)
  show (if x = 3 then z.2.1 3 else z.2.1 x) = z.2.1 x
  by_cases h : x = 3
  · rw [if_pos h, h]
  · rw [if_neg h]
set_option maxHeartbeats 8000000 in
set_option maxRecDepth 100000 in
theorem mm_X0_newRiver (l : Launch) {D : va_G} {K : Nat → ClassId} {s0 : State} {a0 : Array Value} {B : Nat → Nat} {ad : CA} {A : Nat → Prop} (hT : ∀ w ∈ lw_tbl, w.before a0 s0 = true) {mir : Nat} (hM : mirE s0 mir) (hE : jE0 s0 (B 10)) (hAl : ∀ q, A q → s0.heap.size ≤ q) (hB : ¬ A (B 10)) {w : Nat} (rn : Nat) (rg : Nat → Int32) (hrn : rn ≤ 60) (hw : rwW K w rn rg ∈ ad.2.2) (z0 : CZ) (res : Int32 × CZ) (hF : c_newRiver rn rg z0 = some res) : Met l yX0_newRiver (ws_ yX0_newRiver cX0_newRiver 9 (some .int)) rmX0_newRiver (cIPc D K s0 B A ad z0 [.ref (B 0), .ref w]) (cIQ D K B A (some (.int res.1)) res.2) 9 60 A := by
  refine cI_start RX0 (by decide) rfl (Nat.le_of_ble_eq_true rfl) ?_
  intro p e s m args below meth c H locs ls E hr hlocks hK hX hA hP hV hS hl
  have hN := hX.1
  have hl : lv_has ls 9 [(0, .ref (B 0)), (1, .ref w)] := hl
  have hr31 : rn < 2 ^ 31 := by omega
  unfold c_newRiver at hF
  have ret : ∀ (ad : CA) (z : CZ) (cells slots pc : Nat) (H : Heap) (locs : List Loc) (ls : Array Slot) (v : Int32), cells ≤ 9 → slots ≤ 60 → some (v, z) = some res → cP D K B ad z H → cV K B A ad z → va_S A s.heap H locs → decode cX0_newRiver pc = .ok (.ireturn, 1) → W p l e rmX0_newRiver s m args below meth c H locs cells slots (MQ below (cIQ D K B A (some (.int res.1)) res.2) args s 9 60 A) (F0 m pc ls [.int v]) := by
    intro ad z cells slots pc H locs ls v h1 h2 hF hP hV hS hd
    exact W_pad (c' := 9) (s' := 60) h1 h2 (cI_iret E hr hlocks hP hV hS hF hd)
  refine lv_aload_n E.1 E.2.1 dX0_newRiver_0 rfl (lv_at hl 1 rfl) ?_
  refine lv_iconst (v := (0 : Int32)) E.1 E.2.1 dX0_newRiver_1 (by decide) ?_
  refine ck_codeAt (i := 0) E hK hP hw rfl hr31 (by decide) hl (Nat.le_of_ble_eq_true rfl) ⟨Nat.le_of_ble_eq_true rfl, Nat.le_of_ble_eq_true rfl⟩ ⟨Nat.zero_le _, Nat.zero_le _⟩ dX0_newRiver_2 ?_
  refine lv_bipush (v := (111 : Int32)) E.1 E.2.1 dX0_newRiver_5 (by decide) ?_
  refine lv_icmp_eq (tgt := 13) E.1 E.2.1 dX0_newRiver_7 (by decide) (fun h => ?_) (fun h => ?_)
  · have hF := ite_t h hF
    -- the header's figures
    have step : ∀ (k lo hi : Nat) (ls : Array Slot), 1 ≤ k → k ≤ 3 → (if k = 3 then 2 else 1) = lo → (if k = 3 then 5 else 3) = hi → (¬ fg rn rg k lo hi = true → some ((-100 : Int32) - nI k, z0) = some res) → (fg rn rg k lo hi = true → ∀ ls : Array Slot, lv_has ls 9 [(2, .int (nI (k + 1))), (0, .ref (B 0)), (1, .ref w)] → W p l e rmX0_newRiver s m args below meth c H locs 0 0 (MQ below (cIQ D K B A (some (.int res.1)) res.2) args s 9 60 A) (F0 m 15 ls [])) → lv_has ls 9 [(2, .int (nI k)), (0, .ref (B 0)), (1, .ref w)] → W p l e rmX0_newRiver s m args below meth c H locs 0 0 (MQ below (cIQ D K B A (some (.int res.1)) res.2) args s 9 60 A) (F0 m 15 ls []) := by
      intro k lo hi ls hk1 hk3 elo ehi hbad hgood hl
      refine lv_iload_n E.1 E.2.1 dX0_newRiver_15 rfl (lv_at hl 0 rfl) ?_
      refine lv_iconst (v := (4 : Int32)) E.1 E.2.1 dX0_newRiver_16 (by decide) ?_
      refine lv_icmp_ge (tgt := 59) E.1 E.2.1 dX0_newRiver_17 (by decide) (fun h => absurd h (nI_ge (b := 4) (by omega) (by decide))) (fun _ => ?_)
      refine lv_aload_n E.1 E.2.1 dX0_newRiver_20 rfl (lv_at hl 2 rfl) ?_
      refine lv_iload_n E.1 E.2.1 dX0_newRiver_21 rfl (lv_at hl 0 rfl) ?_
      refine lv_iload_n E.1 E.2.1 dX0_newRiver_22 rfl (lv_at hl 0 rfl) ?_
      refine lv_iconst (v := (3 : Int32)) E.1 E.2.1 dX0_newRiver_23 (by decide) ?_
      have J42 : W p l e rmX0_newRiver s m args below meth c H locs 0 0 (MQ below (cIQ D K B A (some (.int res.1)) res.2) args s 9 60 A) (F0 m 42 ls [.int (nI hi), .int (nI lo), .int (nI k), .ref w]) := by
        refine ck_isFig (i := k) (lo := lo) (hi := hi) E hK hP hw rfl rfl rfl hr31 (by omega) hl (Nat.le_of_ble_eq_true rfl) ⟨Nat.le_of_ble_eq_true rfl, Nat.le_of_ble_eq_true rfl⟩ ⟨Nat.zero_le _, Nat.zero_le _⟩ dX0_newRiver_42 ?_
        by_cases hg : fg rn rg k lo hi = true
        · rw [if_pos hg]
          refine lv_if_ne (tgt := 53) E.1 E.2.1 dX0_newRiver_45 (by decide) (fun _ => ?_) (fun h => absurd h one_ne)
          refine lv_iinc (v := nI k + 1) (lv' := [(2, .int (nI k + 1)), (0, .ref (B 0)), (1, .ref w)]) E.1 E.2.1 dX0_newRiver_53 hl (k := 0) rfl rfl (by decide) rfl (fun ls hl => ?_)
          refine lv_goto (tgt := 15) E.1 E.2.1 dX0_newRiver_56 (by decide) ?_
          rw [nI_1] at hl
          exact hgood hg ls hl
        · rw [if_neg hg]
          refine lv_if_ne (tgt := 53) E.1 E.2.1 dX0_newRiver_45 (by decide) (fun h => absurd rfl h) (fun _ => ?_)
          refine lv_bipush (v := (-100 : Int32)) E.1 E.2.1 dX0_newRiver_48 (by decide) ?_
          refine lv_iload_n E.1 E.2.1 dX0_newRiver_50 rfl (lv_at hl 0 rfl) ?_
          refine lv_isub E.1 E.2.1 dX0_newRiver_51 ?_
          exact ret ad z0 0 0 52 H locs ls _ (by decide) (by decide) (hbad hg) hP hV hS dX0_newRiver_52
      by_cases h3 : k = 3
      · subst h3
        simp only [if_true] at elo ehi
        subst elo ehi
        refine lv_icmp_ne (tgt := 31) E.1 E.2.1 dX0_newRiver_24 (by decide) (fun h => absurd rfl h) (fun _ => ?_)
        refine lv_iconst (v := (2 : Int32)) E.1 E.2.1 dX0_newRiver_27 (by decide) ?_
        refine lv_goto (tgt := 32) E.1 E.2.1 dX0_newRiver_28 (by decide) ?_
        refine lv_iload_n E.1 E.2.1 dX0_newRiver_32 rfl (lv_at hl 0 rfl) ?_
        refine lv_iconst (v := (3 : Int32)) E.1 E.2.1 dX0_newRiver_33 (by decide) ?_
        refine lv_icmp_ne (tgt := 41) E.1 E.2.1 dX0_newRiver_34 (by decide) (fun h => absurd rfl h) (fun _ => ?_)
        refine lv_iconst (v := (5 : Int32)) E.1 E.2.1 dX0_newRiver_37 (by decide) ?_
        refine lv_goto (tgt := 42) E.1 E.2.1 dX0_newRiver_38 (by decide) ?_
        exact J42
      · rw [if_neg h3] at elo ehi
        subst elo ehi
        have hne : ¬ nI k = (3 : Int32) := fun h => h3 ((nI_eq (b := 3) (by omega) (by decide)).mp h)
        refine lv_icmp_ne (tgt := 31) E.1 E.2.1 dX0_newRiver_24 (by decide) (fun _ => ?_) (fun h => absurd h hne)
        refine lv_iconst (v := (1 : Int32)) E.1 E.2.1 dX0_newRiver_31 (by decide) ?_
        refine lv_iload_n E.1 E.2.1 dX0_newRiver_32 rfl (lv_at hl 0 rfl) ?_
        refine lv_iconst (v := (3 : Int32)) E.1 E.2.1 dX0_newRiver_33 (by decide) ?_
        refine lv_icmp_ne (tgt := 41) E.1 E.2.1 dX0_newRiver_34 (by decide) (fun _ => ?_) (fun h => absurd h hne)
        refine lv_iconst (v := (3 : Int32)) E.1 E.2.1 dX0_newRiver_41 (by decide) ?_
        exact J42
    refine lv_iconst (v := (1 : Int32)) E.1 E.2.1 dX0_newRiver_13 (by decide) ?_
    refine lv_istore_n (lv' := [(2, .int (1 : Int32)), (0, .ref (B 0)), (1, .ref w)]) E.1 E.2.1 dX0_newRiver_14 rfl hl (by decide) rfl (fun ls hl => ?_)
    refine step 1 1 3 ls (by decide) (by decide) rfl rfl (fun h => ite_f h hF) (fun hg1 ls hl => ?_) hl
    have hF := ite_t hg1 hF
    refine step 2 1 3 ls (by decide) (by decide) rfl rfl (fun h => ite_f h hF) (fun hg2 ls hl => ?_) hl
    have hF := ite_t hg2 hF
    refine step 3 2 5 ls (by decide) (by decide) rfl rfl (fun h => ite_f h hF) (fun hg3 ls hl => ?_) hl
    have hF := ite_t hg3 hF
    obtain ⟨hlt3, np, hnp2, hnp5, enp⟩ := fg_d (by decide) (by decide) hg3
    have hlt1 := (fg_d (by decide) (by decide) hg1).1
    have hlt2 := (fg_d (by decide) (by decide) hg2).1
    have hM3 : nrM rg = np := by unfold nrM; rw [enp, nI_clamp (by omega)]
    rw [hM3] at hF
    refine lv_iload_n E.1 E.2.1 dX0_newRiver_15 rfl (lv_at hl 0 rfl) ?_
    refine lv_iconst (v := (4 : Int32)) E.1 E.2.1 dX0_newRiver_16 (by decide) ?_
    refine lv_icmp_ge (tgt := 59) E.1 E.2.1 dX0_newRiver_17 (by decide) (fun _ => ?_) (fun h => absurd (Int32.le_refl _) h)
    refine lv_aload_n E.1 E.2.1 dX0_newRiver_59 rfl (lv_at hl 2 rfl) ?_
    refine lv_iconst (v := (3 : Int32)) E.1 E.2.1 dX0_newRiver_60 (by decide) ?_
    refine ck_figAt (i := 3) E hK hP hw rfl hr31 hlt3 hl (Nat.le_of_ble_eq_true rfl) ⟨Nat.le_of_ble_eq_true rfl, Nat.le_of_ble_eq_true rfl⟩ ⟨Nat.zero_le _, Nat.zero_le _⟩ dX0_newRiver_61 ?_
    rw [enp]
    refine lv_istore_n (lv' := [(2, .int (nI np)), (0, .ref (B 0)), (1, .ref w)]) E.1 E.2.1 dX0_newRiver_64 rfl hl (by decide) rfl (fun ls hl => ?_)
    refine ck_newlist E hT hAl hA hX hK hP hV hS hl (Nat.le_of_ble_eq_true rfl) ⟨Nat.le_of_ble_eq_true rfl, Nat.le_of_ble_eq_true rfl⟩ ⟨Nat.le_of_ble_eq_true rfl, Nat.le_of_ble_eq_true rfl⟩ dX0_newRiver_65 dX0_newRiver_68 dX0_newRiver_69 dX0_newRiver_70 (fun ad1 h e1 H locs hsub hm1 hm2 hP hV hS => ?_)
    have hw1 : rwW K w rn rg ∈ ad1.2.2 := hsub _ hw
    refine lv_astore_n (lv' := [(3, .ref h), (2, .int (nI np)), (0, .ref (B 0)), (1, .ref w)]) E.1 E.2.1 dX0_newRiver_73 rfl hl (by decide) rfl (fun ls hl => ?_)
    refine lv_iconst (v := (4 : Int32)) E.1 E.2.1 dX0_newRiver_74 (by decide) ?_
    refine lv_istore (lv' := [(4, .int (4 : Int32)), (3, .ref h), (2, .int (nI np)), (0, .ref (B 0)), (1, .ref w)]) E.1 E.2.1 dX0_newRiver_75 hl (by decide) rfl (fun ls hl => ?_)
    refine lv_iconst (v := (0 : Int32)) E.1 E.2.1 dX0_newRiver_77 (by decide) ?_
    refine lv_istore (lv' := [(5, .int (0 : Int32)), (4, .int (4 : Int32)), (3, .ref h), (2, .int (nI np)), (0, .ref (B 0)), (1, .ref w)]) E.1 E.2.1 dX0_newRiver_78 hl (by decide) rfl (fun ls hl => ?_)
    -- behind the people: all is right, it is taken
    have fin : ∀ (ad : CA) (H : Heap) (locs : List Loc) (ls : Array Slot) (mc : Int32) (f : Nat → Option Nat) (x5 x4 : Int32), some (nI np, nrZ rn rg np z0) = some res → (∀ j, j < np → nrOk rn rg np j) → rwW K w rn rg ∈ ad.2.2 → (h, .inr (2, [.int mc, .ref e1, .int (nI np)])) ∈ ad.2.2 → (e1, .inl (K 3, rqs 5 f)) ∈ ad.2.2 → (∀ j, j < np → nrK rn rg np j ≤ 2 ∧ ∃ y, f j = some y ∧ (y, cRi B (nrK rn rg np j) j (nrL rg np j)) ∈ ad.2.2) → cP D K B ad z0 H → cV K B A ad z0 → va_S A s.heap H locs → lv_has ls 9 [(5, .int x5), (4, .int x4), (3, .ref h), (2, .int (nI np)), (0, .ref (B 0)), (1, .ref w)] → W p l e rmX0_newRiver s m args below meth c H locs 7 33 (MQ below (cIQ D K B A (some (.int res.1)) res.2) args s 9 60 A) (F0 m 291 ls []) := by
      intro ad H locs ls mc f x5 x4 hF hok hw hm1 hm2 hel hP hV hS hl
      have hD : ∀ z, va_D A (cW K B ad z) := fun z => cW_D hV.1 z
      refine lv_aload_n E.1 E.2.1 dX0_newRiver_291 rfl (lv_at hl 4 rfl) ?_
      refine lv_aload_n E.1 E.2.1 dX0_newRiver_292 rfl (lv_at hl 5 rfl) ?_
      refine lv_iconst (v := (1 : Int32)) E.1 E.2.1 dX0_newRiver_293 (by decide) ?_
      refine ck_figAt (i := 1) E hK hP hw rfl hr31 hlt1 hl (Nat.le_of_ble_eq_true rfl) ⟨Nat.le_of_ble_eq_true rfl, Nat.le_of_ble_eq_true rfl⟩ ⟨by decide, by decide⟩ dX0_newRiver_294 ?_
      refine ck_put E hD hK hP hS 1 rfl q126 dX0_newRiver_297 (fun H locs hP hS => ?_)
      refine lv_aload_n E.1 E.2.1 dX0_newRiver_300 rfl (lv_at hl 4 rfl) ?_
      refine lv_aload_n E.1 E.2.1 dX0_newRiver_301 rfl (lv_at hl 5 rfl) ?_
      refine lv_iconst (v := (2 : Int32)) E.1 E.2.1 dX0_newRiver_302 (by decide) ?_
      refine ck_figAt (i := 2) E hK hP hw rfl hr31 hlt2 hl (Nat.le_of_ble_eq_true rfl) ⟨Nat.le_of_ble_eq_true rfl, Nat.le_of_ble_eq_true rfl⟩ ⟨by decide, by decide⟩ dX0_newRiver_303 ?_
      refine ck_put E hD hK hP hS 2 rfl q128 dX0_newRiver_306 (fun H locs hP hS => ?_)
      refine lv_iconst (v := (0 : Int32)) E.1 E.2.1 dX0_newRiver_309 (by decide) ?_
      refine lv_istore (lv' := [(5, .int (0 : Int32)), (4, .int x4), (3, .ref h), (2, .int (nI np)), (0, .ref (B 0)), (1, .ref w)]) E.1 E.2.1 dX0_newRiver_310 hl (by decide) rfl (fun ls hl => ?_)
      have hnotes : ∀ (r a : Nat) (H : Heap) (locs : List Loc) (ls : Array Slot), a + r = np → cP D K B ad (cz_w (cz_f (cz_f z0 1 (rg 1 - 48)) 2 (rg 2 - 48)) 3 (nrNk rg np a 0 (z0.2.1 3))) H → va_S A s.heap H locs → lv_has ls 9 [(5, .int (nI a)), (4, .int x4), (3, .ref h), (2, .int (nI np)), (0, .ref (B 0)), (1, .ref w)] → W p l e rmX0_newRiver s m args below meth c H locs 7 33 (MQ below (cIQ D K B A (some (.int res.1)) res.2) args s 9 60 A) (F0 m 312 ls []) := by
        intro r
        induction r with
        | zero =>
          intro a H locs ls ha hP hS hl
          have ha : a = np := by omega
          rw [ha] at hP hl
          rw [nrNk_all] at hP
          refine lv_iload E.1 E.2.1 dX0_newRiver_312 (lv_at hl 0 rfl) ?_
          refine lv_iload_n E.1 E.2.1 dX0_newRiver_314 rfl (lv_at hl 3 rfl) ?_
          refine lv_icmp_ge (tgt := 367) E.1 E.2.1 dX0_newRiver_315 (by decide) (fun _ => ?_) (fun h => absurd (Int32.le_refl _) h)
          refine lv_aload_n E.1 E.2.1 dX0_newRiver_367 rfl (lv_at hl 4 rfl) ?_
          refine ck_get E hK hP 4 (by decide) q130 rfl (v := .ref (B 4)) rfl dX0_newRiver_368 ?_
          have hV1 : cV K B A ad (cz_w (cz_f (cz_f z0 1 (rg 1 - 48)) 2 (rg 2 - 48)) 3 (nrN rg np (z0.2.1 3))) := ⟨cW_D hV.1 _, hV.2⟩
          refine ck_clearP E hT hN hK hP hV1 hB hS q894 hl (Nat.le_of_ble_eq_true rfl) ⟨Nat.le_of_ble_eq_true rfl, Nat.le_of_ble_eq_true rfl⟩ ⟨by decide, by decide⟩ dX0_newRiver_371 (fun ad1 H locs hst hP hV1 hS => ?_)
          refine lv_aload_n E.1 E.2.1 dX0_newRiver_376 rfl (lv_at hl 4 rfl) ?_
          refine ck_get E hK hP 4 (by decide) q130 rfl (v := .ref (B 4)) rfl dX0_newRiver_377 ?_
          refine lv_aload_n E.1 E.2.1 dX0_newRiver_380 rfl (lv_at hl 2 rfl) ?_
          refine ck_addAll (n := np) (kd := nrK rn rg np) (lm := nrL rg np) E hT hM hE hAl hA hX hB hK hP hV1 hS rfl (hst _ hm1 (fun _ q => by cases q)) (hst _ hm2 (fun _ q => by
            simp only [Sum.inl.injEq, Prod.mk.injEq] at q
            exact absurd q.2.1 (by decide))) (by omega) hnp5 (fun j hj => by
            obtain ⟨k1, y, k2, k3⟩ := hel j hj
            exact ⟨k1, y, k2, hst _ k3 (fun _ q => by cases q)⟩) q903 hl (Nat.le_of_ble_eq_true rfl) ⟨Nat.le_of_ble_eq_true rfl, Nat.le_of_ble_eq_true rfl⟩ ⟨by decide, by decide⟩ dX0_newRiver_381 (fun ad1 H locs hP hV1 hS => ?_)
          refine lv_pop E.1 E.2.1 dX0_newRiver_386 rfl ?_
          refine lv_aload_n E.1 E.2.1 dX0_newRiver_387 rfl (lv_at hl 4 rfl) ?_
          refine ck_get E hK hP 7 (by decide) q134 rfl (v := .ref (B 7)) rfl dX0_newRiver_388 ?_
          refine ck_clearR E hT hN hK hP hV1 hB hS q894 hl (Nat.le_of_ble_eq_true rfl) ⟨Nat.le_of_ble_eq_true rfl, Nat.le_of_ble_eq_true rfl⟩ ⟨by decide, by decide⟩ dX0_newRiver_391 (fun ad1 H locs hP hV1 hS => ?_)
          refine lv_aload_n E.1 E.2.1 dX0_newRiver_396 rfl (lv_at hl 4 rfl) ?_
          refine ck_get E hK hP 4 (by decide) q130 rfl (v := .ref (B 4)) rfl dX0_newRiver_397 ?_
          refine ck_size E hT hN hK hP (q0 := 5) (j := 4) (n := np) rfl q168 hl (Nat.le_of_ble_eq_true rfl) ⟨Nat.le_of_ble_eq_true rfl, Nat.le_of_ble_eq_true rfl⟩ ⟨by decide, by decide⟩ dX0_newRiver_400 ?_
          exact ret ad1 _ _ _ 405 H locs ls _ (by decide) (by decide) hF hP hV1 hS dX0_newRiver_405
        | succ r ih =>
          intro a H locs ls ha hP hS hl
          refine lv_iload E.1 E.2.1 dX0_newRiver_312 (lv_at hl 0 rfl) ?_
          refine lv_iload_n E.1 E.2.1 dX0_newRiver_314 rfl (lv_at hl 3 rfl) ?_
          refine lv_icmp_ge (tgt := 367) E.1 E.2.1 dX0_newRiver_315 (by decide) (fun h => absurd h (nI_ge (by omega) (by omega))) (fun _ => ?_)
          refine lv_iconst (v := (0 : Int32)) E.1 E.2.1 dX0_newRiver_318 (by decide) ?_
          refine lv_istore (lv' := [(6, .int (0 : Int32)), (5, .int (nI a)), (4, .int x4), (3, .ref h), (2, .int (nI np)), (0, .ref (B 0)), (1, .ref w)]) E.1 E.2.1 dX0_newRiver_319 hl (by decide) rfl (fun ls hl => ?_)
          have hin : ∀ (r2 b : Nat) (H : Heap) (locs : List Loc) (ls : Array Slot), b + r2 = np → cP D K B ad (cz_w (cz_f (cz_f z0 1 (rg 1 - 48)) 2 (rg 2 - 48)) 3 (nrNk rg np a b (z0.2.1 3))) H → va_S A s.heap H locs → lv_has ls 9 [(6, .int (nI b)), (5, .int (nI a)), (4, .int x4), (3, .ref h), (2, .int (nI np)), (0, .ref (B 0)), (1, .ref w)] → W p l e rmX0_newRiver s m args below meth c H locs 7 33 (MQ below (cIQ D K B A (some (.int res.1)) res.2) args s 9 60 A) (F0 m 321 ls []) := by
            intro r2
            induction r2 with
            | zero =>
              intro b H locs ls hb hP hS hl
              have hb : b = np := by omega
              rw [hb] at hP hl
              rw [nrNk_row] at hP
              refine lv_iload E.1 E.2.1 dX0_newRiver_321 (lv_at hl 0 rfl) ?_
              refine lv_iload_n E.1 E.2.1 dX0_newRiver_323 rfl (lv_at hl 4 rfl) ?_
              refine lv_icmp_ge (tgt := 361) E.1 E.2.1 dX0_newRiver_324 (by decide) (fun _ => ?_) (fun h => absurd (Int32.le_refl _) h)
              refine lv_iinc (v := nI a + 1) (lv' := [(5, .int (nI a + 1)), (6, .int (nI np)), (4, .int x4), (3, .ref h), (2, .int (nI np)), (0, .ref (B 0)), (1, .ref w)]) E.1 E.2.1 dX0_newRiver_361 hl (k := 1) rfl rfl (by decide) rfl (fun ls hl => ?_)
              refine lv_goto (tgt := 312) E.1 E.2.1 dX0_newRiver_364 (by decide) ?_
              rw [nI_1] at hl
              exact ih (a + 1) H locs ls (by omega) hP hS (lv_sub hl [0, 2, 3, 4, 5, 6] rfl)
            | succ r2 ih2 =>
              intro b H locs ls hb hP hS hl
              refine lv_iload E.1 E.2.1 dX0_newRiver_321 (lv_at hl 0 rfl) ?_
              refine lv_iload_n E.1 E.2.1 dX0_newRiver_323 rfl (lv_at hl 4 rfl) ?_
              refine lv_icmp_ge (tgt := 361) E.1 E.2.1 dX0_newRiver_324 (by decide) (fun h => absurd h (nI_ge (by omega) (by omega))) (fun _ => ?_)
              refine lv_aload_n E.1 E.2.1 dX0_newRiver_327 rfl (lv_at hl 5 rfl) ?_
              refine ck_get E hK hP 3 (by decide) q129 rfl (v := .ref (B 3)) rfl dX0_newRiver_328 ?_
              refine lv_iload E.1 E.2.1 dX0_newRiver_331 (lv_at hl 1 rfl) ?_
              refine lv_iconst (v := (5 : Int32)) E.1 E.2.1 dX0_newRiver_333 (by decide) ?_
              refine lv_imul E.1 E.2.1 dX0_newRiver_334 ?_
              refine lv_iload E.1 E.2.1 dX0_newRiver_335 (lv_at hl 0 rfl) ?_
              refine lv_iadd E.1 E.2.1 dX0_newRiver_337 ?_
              refine lv_aload_n E.1 E.2.1 dX0_newRiver_338 rfl (lv_at hl 6 rfl) ?_
              refine lv_bipush (v := (7 : Int32)) E.1 E.2.1 dX0_newRiver_339 (by decide) ?_
              refine lv_iload E.1 E.2.1 dX0_newRiver_341 (lv_at hl 1 rfl) ?_
              refine lv_iconst (v := (3 : Int32)) E.1 E.2.1 dX0_newRiver_343 (by decide) ?_
              refine lv_iload_n E.1 E.2.1 dX0_newRiver_344 rfl (lv_at hl 4 rfl) ?_
              refine lv_iadd E.1 E.2.1 dX0_newRiver_345 ?_
              refine lv_imul E.1 E.2.1 dX0_newRiver_346 ?_
              refine lv_iadd E.1 E.2.1 dX0_newRiver_347 ?_
              refine lv_iload E.1 E.2.1 dX0_newRiver_348 (lv_at hl 0 rfl) ?_
              refine lv_iadd E.1 E.2.1 dX0_newRiver_350 ?_
              have hidx : (7 : Int32) + nI a * ((3 : Int32) + nI np) + nI b = nI (nrAt np a + 3 + b) := by
                have h3 : (3 : Int32) = nI 3 := rfl
                have h7 : (7 : Int32) = nI 7 := rfl
                rw [h3, h7, nI_add, pk_mul, nI_add, nI_add]
                congr 1
                unfold nrAt
                omega
              have hg := (hok a (by omega)).2.2 b (by omega)
              have h09 : (if b = a then 0 else 9) ≤ 9 := by split <;> omega
              have hblt := (fg_d (Nat.zero_le _) h09 hg).1
              refine ck_figAt (i := nrAt np a + 3 + b) E hK hP hw hidx hr31 hblt hl (Nat.le_of_ble_eq_true rfl) ⟨Nat.le_of_ble_eq_true rfl, Nat.le_of_ble_eq_true rfl⟩ ⟨by decide, by decide⟩ dX0_newRiver_351 ?_
              have ha5 : a * 5 + b < 25 := by omega
              rw [i5']
              refine ck_ast E hD hK hP hS (q := 1) (j := 3) (n := 25) rfl (inb_nI ha5 (by decide)) dX0_newRiver_354 (fun H locs hP hS => ?_)
              rw [nI_clamp (by omega), cz_w_a, nrNk_step (by omega) hnp5] at hP
              refine lv_iinc (v := nI b + 1) (lv' := [(6, .int (nI b + 1)), (5, .int (nI a)), (4, .int x4), (3, .ref h), (2, .int (nI np)), (0, .ref (B 0)), (1, .ref w)]) E.1 E.2.1 dX0_newRiver_355 hl (k := 0) rfl rfl (by decide) rfl (fun ls hl => ?_)
              refine lv_goto (tgt := 321) E.1 E.2.1 dX0_newRiver_358 (by decide) ?_
              rw [nI_1] at hl
              exact ih2 (b + 1) H locs ls (by omega) hP hS hl
          exact hin np 0 H locs ls (by omega) hP hS hl
      refine hnotes np 0 H locs ls (by omega) ?_ hS hl
      rw [nrNk_0]
      have hown : cz_w (cz_f (cz_f z0 1 (rg 1 - 48)) 2 (rg 2 - 48)) 3 (z0.2.1 3) = cz_f (cz_f z0 1 (rg 1 - 48)) 2 (rg 2 - 48) := cz_w_own (cz_f (cz_f z0 1 (rg 1 - 48)) 2 (rg 2 - 48))
      rw [hown]
      exact hP
    -- the people
    have L80 : ∀ (r i : Nat) (ad : CA) (H : Heap) (locs : List Loc) (ls : Array Slot) (mc : Int32) (f : Nat → Option Nat), i + r = np → (match nrP rn rg np r i with
        | some e => some (e, z0)
        | none => some (nI np, nrZ rn rg np z0)) = some res → (∀ j, j < i → nrOk rn rg np j) → rwW K w rn rg ∈ ad.2.2 → (h, .inr (2, [.int mc, .ref e1, .int (nI i)])) ∈ ad.2.2 → (e1, .inl (K 3, rqs 5 f)) ∈ ad.2.2 → (∀ j, j < i → nrK rn rg np j ≤ 2 ∧ ∃ y, f j = some y ∧ (y, cRi B (nrK rn rg np j) j (nrL rg np j)) ∈ ad.2.2) → cP D K B ad z0 H → cV K B A ad z0 → va_S A s.heap H locs → lv_has ls 9 [(5, .int (nI i)), (4, .int (nI (nrAt np i))), (3, .ref h), (2, .int (nI np)), (0, .ref (B 0)), (1, .ref w)] → W p l e rmX0_newRiver s m args below meth c H locs (2 + i) (8 + 5 * i) (MQ below (cIQ D K B A (some (.int res.1)) res.2) args s 9 60 A) (F0 m 80 ls []) := by
      intro r
      induction r with
      | zero =>
        intro i ad H locs ls mc f hir hF hok hw hm1 hm2 hel hP hV hS hl
        have hi : i = np := by omega
        subst hi
        rw [nrP] at hF
        have hat : nrAt i i ≤ 44 := by
          unfold nrAt
          have := Nat.mul_le_mul hnp5 (show 3 + i ≤ 8 by omega)
          omega
        refine lv_iload E.1 E.2.1 dX0_newRiver_80 (lv_at hl 0 rfl) ?_
        refine lv_iload_n E.1 E.2.1 dX0_newRiver_82 rfl (lv_at hl 3 rfl) ?_
        refine lv_icmp_ge (tgt := 278) E.1 E.2.1 dX0_newRiver_83 (by decide) (fun _ => ?_) (fun h => absurd (Int32.le_refl _) h)
        refine lv_iload E.1 E.2.1 dX0_newRiver_278 (lv_at hl 1 rfl) ?_
        refine lv_aload_n E.1 E.2.1 dX0_newRiver_280 rfl (lv_at hl 5 rfl) ?_
        refine ck_ralen E hK hP hw dX0_newRiver_281 ?_
        refine lv_icmp_ge (tgt := 291) E.1 E.2.1 dX0_newRiver_282 (by decide) (fun h => ?_) (fun h => ?_)
        · have hnl : ¬ nrAt i i < rn := fun q => nI_ge q hr31 h
          rw [if_neg hnl] at hF
          refine W_pad (c' := 7) (s' := 33) (by omega) (by omega) ?_
          exact fin ad H locs ls mc f _ _ hF hok hw hm1 hm2 hel hP hV hS hl
        · have hlt : nrAt i i < rn := by
            rcases Nat.lt_or_ge (nrAt i i) rn with q | q
            · exact q
            · exact absurd (nI_le q (by omega)) h
          rw [if_pos hlt] at hF
          refine lv_bipush (v := (-100 : Int32)) E.1 E.2.1 dX0_newRiver_285 (by decide) ?_
          refine lv_iload E.1 E.2.1 dX0_newRiver_287 (lv_at hl 1 rfl) ?_
          refine lv_isub E.1 E.2.1 dX0_newRiver_289 ?_
          exact ret ad z0 _ _ 290 H locs ls _ (by omega) (by omega) hF hP hV hS dX0_newRiver_290
      | succ r ih =>
        intro i ad H locs ls mc f hir hF hok hw hm1 hm2 hel hP hV hS hl
        rw [nrP] at hF
        have hat : nrAt np i + (3 + np) ≤ 44 := by
          unfold nrAt
          have := Nat.mul_le_mul (show i + 1 ≤ 5 by omega) (show 3 + np ≤ 8 by omega)
          rw [Nat.add_mul, Nat.one_mul] at this
          omega
        generalize ht : nrAt np i = t at hF hat hl
        have hcs : 2 + i ≤ rmX0_newRiver.cells ∧ 8 + 5 * i ≤ rmX0_newRiver.slots := ⟨by show 2 + i ≤ 9; omega, by show 8 + 5 * i ≤ 60; omega⟩
        refine lv_iload E.1 E.2.1 dX0_newRiver_80 (lv_at hl 0 rfl) ?_
        refine lv_iload_n E.1 E.2.1 dX0_newRiver_82 rfl (lv_at hl 3 rfl) ?_
        refine lv_icmp_ge (tgt := 278) E.1 E.2.1 dX0_newRiver_83 (by decide) (fun h => absurd h (nI_ge (by omega) (by omega))) (fun _ => ?_)
        refine lv_aload_n E.1 E.2.1 dX0_newRiver_86 rfl (lv_at hl 5 rfl) ?_
        refine lv_iload E.1 E.2.1 dX0_newRiver_87 (lv_at hl 1 rfl) ?_
        refine ck_codeAt (i := t) E hK hP hw rfl hr31 (by omega) hl (Nat.le_of_ble_eq_true rfl) ⟨Nat.le_of_ble_eq_true rfl, Nat.le_of_ble_eq_true rfl⟩ hcs dX0_newRiver_89 ?_
        refine lv_bipush (v := (44 : Int32)) E.1 E.2.1 dX0_newRiver_92 (by decide) ?_
        refine lv_icmp_eq (tgt := 103) E.1 E.2.1 dX0_newRiver_94 (by decide) (fun h44 => ?_) (fun h44 => ?_)
        · rw [if_pos h44] at hF
          refine lv_aload_n E.1 E.2.1 dX0_newRiver_103 rfl (lv_at hl 5 rfl) ?_
          refine lv_iload E.1 E.2.1 dX0_newRiver_104 (lv_at hl 1 rfl) ?_
          refine lv_iconst (v := (1 : Int32)) E.1 E.2.1 dX0_newRiver_106 (by decide) ?_
          refine lv_iadd E.1 E.2.1 dX0_newRiver_107 ?_
          refine ck_codeAt (i := t + 1) E hK hP hw (nI_1 t) hr31 (by omega) hl (Nat.le_of_ble_eq_true rfl) ⟨Nat.le_of_ble_eq_true rfl, Nat.le_of_ble_eq_true rfl⟩ hcs dX0_newRiver_108 ?_
          generalize hcd : cA rn rg (t + 1) = cd at hF
          refine lv_istore (lv' := [(6, .int cd), (5, .int (nI i)), (4, .int (nI t)), (3, .ref h), (2, .int (nI np)), (0, .ref (B 0)), (1, .ref w)]) E.1 E.2.1 dX0_newRiver_111 hl (by decide) rfl (fun ls hl => ?_)
          -- behind the kind
          have J148 : ∀ (kd : Nat), kdO cd = some kd → W p l e rmX0_newRiver s m args below meth c H locs (2 + i) (8 + 5 * i) (MQ below (cIQ D K B A (some (.int res.1)) res.2) args s 9 60 A) (F0 m 148 ls [.int (nI kd)]) := by
            intro kd hkd
            have hkd2 := kdO_le hkd
            rw [hkd] at hF
            simp only at hF
            refine lv_istore (lv' := [(7, .int (nI kd)), (6, .int cd), (5, .int (nI i)), (4, .int (nI t)), (3, .ref h), (2, .int (nI np)), (0, .ref (B 0)), (1, .ref w)]) E.1 E.2.1 dX0_newRiver_148 hl (by decide) rfl (fun ls hl => ?_)
            refine lv_iload E.1 E.2.1 dX0_newRiver_150 (lv_at hl 0 rfl) ?_
            refine lv_if_ge (tgt := 161) E.1 E.2.1 dX0_newRiver_152 (by decide) (fun _ => ?_) (fun h => absurd (nI_pos' (by omega)) h)
            refine lv_aload_n E.1 E.2.1 dX0_newRiver_161 rfl (lv_at hl 7 rfl) ?_
            refine lv_iload E.1 E.2.1 dX0_newRiver_162 (lv_at hl 3 rfl) ?_
            refine lv_iconst (v := (2 : Int32)) E.1 E.2.1 dX0_newRiver_164 (by decide) ?_
            refine lv_iadd E.1 E.2.1 dX0_newRiver_165 ?_
            refine lv_iconst (v := (0 : Int32)) E.1 E.2.1 dX0_newRiver_166 (by decide) ?_
            refine lv_iconst (v := (1 : Int32)) E.1 E.2.1 dX0_newRiver_167 (by decide) ?_
            have e2 : nI t + (2 : Int32) = nI (t + 2) := nI_add t 2
            refine ck_isFig (i := t + 2) (lo := 0) (hi := 1) E hK hP hw e2 rfl rfl hr31 (by omega) hl (Nat.le_of_ble_eq_true rfl) ⟨Nat.le_of_ble_eq_true rfl, Nat.le_of_ble_eq_true rfl⟩ hcs dX0_newRiver_168 ?_
            by_cases hg : fg rn rg (t + 2) 0 1 = true
            · rw [if_pos hg] at hF ⊢
              refine lv_if_ne (tgt := 180) E.1 E.2.1 dX0_newRiver_171 (by decide) (fun _ => ?_) (fun h => absurd h one_ne)
              refine lv_iconst (v := (0 : Int32)) E.1 E.2.1 dX0_newRiver_180 (by decide) ?_
              refine lv_istore (lv' := [(8, .int (0 : Int32)), (7, .int (nI kd)), (6, .int cd), (5, .int (nI i)), (4, .int (nI t)), (3, .ref h), (2, .int (nI np)), (0, .ref (B 0)), (1, .ref w)]) E.1 E.2.1 dX0_newRiver_181 hl (by decide) rfl (fun ls hl => ?_)
              have hin : ∀ (r2 b : Nat) (ls : Array Slot), b + r2 = np → (match nrB rn rg i t r2 b with
                  | some b => some ((-103 : Int32) - nI t - nI b, z0)
                  | none => match nrP rn rg np r (i + 1) with
                    | some e => some (e, z0)
                    | none => some (nI np, nrZ rn rg np z0)) = some res → (∀ q, q < b → fg rn rg (t + 3 + q) 0 (if q = i then 0 else 9) = true) → lv_has ls 9 [(8, .int (nI b)), (7, .int (nI kd)), (6, .int cd), (5, .int (nI i)), (4, .int (nI t)), (3, .ref h), (2, .int (nI np)), (0, .ref (B 0)), (1, .ref w)] → W p l e rmX0_newRiver s m args below meth c H locs (2 + i) (8 + 5 * i) (MQ below (cIQ D K B A (some (.int res.1)) res.2) args s 9 60 A) (F0 m 183 ls []) := by
                intro r2
                induction r2 with
                | zero =>
                  intro b ls hb hF hall hl
                  have hb : b = np := by omega
                  rw [hb] at hl hall
                  rw [nrB] at hF
                  simp only at hF
                  refine lv_iload E.1 E.2.1 dX0_newRiver_183 (lv_at hl 0 rfl) ?_
                  refine lv_iload_n E.1 E.2.1 dX0_newRiver_185 rfl (lv_at hl 6 rfl) ?_
                  refine lv_icmp_ge (tgt := 232) E.1 E.2.1 dX0_newRiver_186 (by decide) (fun _ => ?_) (fun h => absurd (Int32.le_refl _) h)
                  refine lv_aload_n E.1 E.2.1 dX0_newRiver_232 rfl (lv_at hl 5 rfl) ?_
                  refine lv_aload_n E.1 E.2.1 dX0_newRiver_233 rfl (lv_at hl 7 rfl) ?_
                  refine lv_iload E.1 E.2.1 dX0_newRiver_234 (lv_at hl 1 rfl) ?_
                  refine lv_iload E.1 E.2.1 dX0_newRiver_236 (lv_at hl 3 rfl) ?_
                  refine lv_aload_n E.1 E.2.1 dX0_newRiver_238 rfl (lv_at hl 8 rfl) ?_
                  refine lv_iload E.1 E.2.1 dX0_newRiver_239 (lv_at hl 4 rfl) ?_
                  refine lv_iconst (v := (2 : Int32)) E.1 E.2.1 dX0_newRiver_241 (by decide) ?_
                  refine lv_iadd E.1 E.2.1 dX0_newRiver_242 ?_
                  have hlt := (fg_d (by decide) (by decide) hg).1
                  refine ck_figAt (i := t + 2) E hK hP hw e2 hr31 hlt hl (Nat.le_of_ble_eq_true rfl) ⟨Nat.le_of_ble_eq_true rfl, Nat.le_of_ble_eq_true rfl⟩ hcs dX0_newRiver_243 ?_
                  refine lv_iconst (v := (1 : Int32)) E.1 E.2.1 dX0_newRiver_246 (by decide) ?_
                  have J255 : ∀ (lmv : Int32), lmv = nrL rg np i → W p l e rmX0_newRiver s m args below meth c H locs (2 + i) (8 + 5 * i) (MQ below (cIQ D K B A (some (.int res.1)) res.2) args s 9 60 A) (F0 m 255 ls [.int lmv, .int (nI i), .int (nI kd), .ref (B 0), .ref h]) := by
                    intro lmv hlm
                    have hl01 : lmv = 0 ∨ lmv = 1 := by
                      rw [hlm]
                      unfold nrL
                      split
                      · exact Or.inr rfl
                      · exact Or.inl rfl
                    refine cI_goR (va_runV (As := [.int (nI kd), .int (nI i), .int lmv]) (rest := [.ref h]) E (mm_X0_madeOf l hT z0 (nI kd) i lmv (zl_hz hl01)) (cwV 3 E.2.2.2.2 (lw_V q479 q481 qs20 q54 q482) rfl rfl rfl (by decide +kernel) ⟨Nat.le_of_ble_eq_true rfl, Nat.le_of_ble_eq_true rfl⟩) (cI_pre hAl hA hX hK hP hV hS (ck_me hK hP)) rfl rfl hl.1 rfl (lv_room (Nat.le_of_ble_eq_true rfl)) dX0_newRiver_255 ⟨by show 2 + i + 1 ≤ 9; omega, by show 8 + 5 * i + 5 ≤ 60; omega⟩) hS (fun q H locs hP hV hS => ?_)
                    rw [kOf_nI hkd2] at hP hV
                    have hsub : ∀ x ∈ ad.2.2, x ∈ (adp ad (q, cRi B kd i lmv)).2.2 := fun x hx => List.mem_append_left _ hx
                    have hq : (q, cRi B kd i lmv) ∈ (adp ad (q, cRi B kd i lmv)).2.2 := List.mem_append_right _ List.mem_cons_self
                    refine ck_ownadd E hT hN hK hP hV hS (hsub _ hm1) (hsub _ hm2) hkd2 hq (by omega) q384 hl (Nat.le_of_ble_eq_true rfl) ⟨Nat.le_of_ble_eq_true rfl, Nat.le_of_ble_eq_true rfl⟩ ⟨by show 2 + i + 1 ≤ 9; omega, by show 8 + 5 * i + 5 ≤ 60; omega⟩ dX0_newRiver_258 (fun ad1 H locs hst n1 n2 hP hV hS => ?_)
                    refine lv_pop E.1 E.2.1 dX0_newRiver_263 rfl ?_
                    refine lv_iload E.1 E.2.1 dX0_newRiver_264 (lv_at hl 4 rfl) ?_
                    refine lv_iconst (v := (3 : Int32)) E.1 E.2.1 dX0_newRiver_266 (by decide) ?_
                    refine lv_iload_n E.1 E.2.1 dX0_newRiver_267 rfl (lv_at hl 6 rfl) ?_
                    refine lv_iadd E.1 E.2.1 dX0_newRiver_268 ?_
                    refine lv_iadd E.1 E.2.1 dX0_newRiver_269 ?_
                    have e3 : nI t + ((3 : Int32) + nI np) = nI (nrAt np (i + 1)) := by
                      have h3 : (3 : Int32) = nI 3 := rfl
                      rw [h3, nI_add, nI_add, nrAt_s, ht]
                      congr 1
                      omega
                    rw [e3]
                    refine lv_istore (lv' := [(4, .int (nI (nrAt np (i + 1)))), (8, .int (nI np)), (7, .int (nI kd)), (6, .int cd), (5, .int (nI i)), (3, .ref h), (2, .int (nI np)), (0, .ref (B 0)), (1, .ref w)]) E.1 E.2.1 dX0_newRiver_270 hl (by decide) rfl (fun ls hl => ?_)
                    refine lv_iinc (v := nI i + 1) (lv' := [(5, .int (nI i + 1)), (4, .int (nI (nrAt np (i + 1)))), (8, .int (nI np)), (7, .int (nI kd)), (6, .int cd), (3, .ref h), (2, .int (nI np)), (0, .ref (B 0)), (1, .ref w)]) E.1 E.2.1 dX0_newRiver_272 hl (k := 4) rfl rfl (by decide) rfl (fun ls hl => ?_)
                    refine lv_goto (tgt := 80) E.1 E.2.1 dX0_newRiver_275 (by decide) ?_
                    rw [nI_1] at hl
                    have nf : ∀ x : Nat × va_E, (∃ g n a, x.2 = .inl (K 0, n, .inl g) ∧ x.1 = a) ∨ (∃ k i lm, x.2 = cRi B k i lm) → ¬ frg K x := by
                      intro x hx hfr
                      rcases hx with ⟨g, n, a, hx, -⟩ | ⟨k, i', lm, hx⟩
                      · rcases hfr with ⟨vs, q⟩ | ⟨f, q⟩
                        · rw [hx] at q; cases q
                        · rw [hx] at q
                          simp only [Sum.inl.injEq, Prod.mk.injEq] at q
                          cases q.2.2
                      · rcases hfr with ⟨vs, q⟩ | ⟨f, q⟩
                        · rw [hx] at q
                          simp only [Sum.inr.injEq, Prod.mk.injEq] at q
                          have := q.1
                          omega
                        · rw [hx] at q; cases q
                    refine W_pad (c' := 2 + (i + 1)) (s' := 8 + 5 * (i + 1)) (by omega) (by omega) ?_
                    have hKi : nrK rn rg np i = kd := by
                      unfold nrK
                      rw [ht, hcd, hkd]
                    refine ih (i + 1) ad1 H locs ls (mc + 1) (va_up f i (some q)) (by omega) hF (fun j hj => ?_) (hst _ (hsub _ hw) (nf _ (Or.inl ⟨rg, rn, w, rfl, rfl⟩))) n1 n2 (fun j hj => ?_) hP hV hS (lv_sub hl [0, 1, 5, 6, 7, 8] rfl)
                    · by_cases hji : j = i
                      · rw [hji]
                        refine ⟨⟨kd, hkd2, by rw [ht, hcd]; exact hkd⟩, by rw [ht]; exact hg, fun q hq => by rw [ht]; exact hall q hq⟩
                      · exact hok j (by omega)
                    · by_cases hji : j = i
                      · rw [hji, hKi]
                        refine ⟨hkd2, q, if_pos rfl, ?_⟩
                        rw [← hlm]
                        exact hst _ hq (nf _ (Or.inr ⟨_, _, _, rfl⟩))
                      · obtain ⟨k1, y, k2, k3⟩ := hel j (by omega)
                        exact ⟨k1, y, by unfold va_up; rw [if_neg hji]; exact k2, hst _ (hsub _ k3) (nf _ (Or.inr ⟨_, _, _, rfl⟩))⟩
                  refine lv_icmp_ne (tgt := 254) E.1 E.2.1 dX0_newRiver_247 (by decide) (fun h1 => ?_) (fun h1 => ?_)
                  · refine lv_iconst (v := (0 : Int32)) E.1 E.2.1 dX0_newRiver_254 (by decide) ?_
                    exact J255 0 (by unfold nrL; rw [ht, if_neg h1])
                  · refine lv_iconst (v := (1 : Int32)) E.1 E.2.1 dX0_newRiver_250 (by decide) ?_
                    refine lv_goto (tgt := 255) E.1 E.2.1 dX0_newRiver_251 (by decide) ?_
                    exact J255 1 (by unfold nrL; rw [ht, if_pos h1])
                | succ r2 ih2 =>
                  intro b ls hb hF hall hl
                  rw [nrB] at hF
                  refine lv_iload E.1 E.2.1 dX0_newRiver_183 (lv_at hl 0 rfl) ?_
                  refine lv_iload_n E.1 E.2.1 dX0_newRiver_185 rfl (lv_at hl 6 rfl) ?_
                  refine lv_icmp_ge (tgt := 232) E.1 E.2.1 dX0_newRiver_186 (by decide) (fun h => absurd h (nI_ge (by omega) (by omega))) (fun _ => ?_)
                  refine lv_aload_n E.1 E.2.1 dX0_newRiver_189 rfl (lv_at hl 8 rfl) ?_
                  refine lv_iload E.1 E.2.1 dX0_newRiver_190 (lv_at hl 4 rfl) ?_
                  refine lv_iconst (v := (3 : Int32)) E.1 E.2.1 dX0_newRiver_192 (by decide) ?_
                  refine lv_iadd E.1 E.2.1 dX0_newRiver_193 ?_
                  refine lv_iload E.1 E.2.1 dX0_newRiver_194 (lv_at hl 0 rfl) ?_
                  refine lv_iadd E.1 E.2.1 dX0_newRiver_196 ?_
                  refine lv_iconst (v := (0 : Int32)) E.1 E.2.1 dX0_newRiver_197 (by decide) ?_
                  refine lv_iload E.1 E.2.1 dX0_newRiver_198 (lv_at hl 0 rfl) ?_
                  refine lv_iload E.1 E.2.1 dX0_newRiver_200 (lv_at hl 3 rfl) ?_
                  have e3 : nI t + (3 : Int32) + nI b = nI (t + 3 + b) := by
                    have h3 : (3 : Int32) = nI 3 := rfl
                    rw [h3, nI_add, nI_add]
                  rw [e3]
                  have J211 : ∀ (hi : Nat), hi = (if b = i then 0 else 9) → W p l e rmX0_newRiver s m args below meth c H locs (2 + i) (8 + 5 * i) (MQ below (cIQ D K B A (some (.int res.1)) res.2) args s 9 60 A) (F0 m 211 ls [.int (nI hi), .int 0, .int (nI (t + 3 + b)), .ref w]) := by
                    intro hi ehi
                    refine ck_isFig (i := t + 3 + b) (lo := 0) (hi := hi) E hK hP hw rfl rfl rfl hr31 (by omega) hl (Nat.le_of_ble_eq_true rfl) ⟨Nat.le_of_ble_eq_true rfl, Nat.le_of_ble_eq_true rfl⟩ hcs dX0_newRiver_211 ?_
                    by_cases hgb : fg rn rg (t + 3 + b) 0 hi = true
                    · rw [if_pos hgb]
                      rw [ehi] at hgb
                      rw [if_pos hgb] at hF
                      refine lv_if_ne (tgt := 226) E.1 E.2.1 dX0_newRiver_214 (by decide) (fun _ => ?_) (fun h => absurd h one_ne)
                      refine lv_iinc (v := nI b + 1) (lv' := [(8, .int (nI b + 1)), (7, .int (nI kd)), (6, .int cd), (5, .int (nI i)), (4, .int (nI t)), (3, .ref h), (2, .int (nI np)), (0, .ref (B 0)), (1, .ref w)]) E.1 E.2.1 dX0_newRiver_226 hl (k := 0) rfl rfl (by decide) rfl (fun ls hl => ?_)
                      refine lv_goto (tgt := 183) E.1 E.2.1 dX0_newRiver_229 (by decide) ?_
                      rw [nI_1] at hl
                      refine ih2 (b + 1) ls (by omega) hF (fun q hq => ?_) hl
                      by_cases hqb : q = b
                      · rw [hqb]; exact hgb
                      · exact hall q (by omega)
                    · rw [if_neg hgb]
                      rw [ehi] at hgb
                      rw [if_neg hgb] at hF
                      refine lv_if_ne (tgt := 226) E.1 E.2.1 dX0_newRiver_214 (by decide) (fun h => absurd rfl h) (fun _ => ?_)
                      refine lv_bipush (v := (-103 : Int32)) E.1 E.2.1 dX0_newRiver_217 (by decide) ?_
                      refine lv_iload E.1 E.2.1 dX0_newRiver_219 (lv_at hl 4 rfl) ?_
                      refine lv_isub E.1 E.2.1 dX0_newRiver_221 ?_
                      refine lv_iload E.1 E.2.1 dX0_newRiver_222 (lv_at hl 0 rfl) ?_
                      refine lv_isub E.1 E.2.1 dX0_newRiver_224 ?_
                      exact ret ad z0 _ _ 225 H locs ls _ (by omega) (by omega) hF hP hV hS dX0_newRiver_225
                  by_cases hbi : b = i
                  · refine lv_icmp_ne (tgt := 209) E.1 E.2.1 dX0_newRiver_202 (by decide) (fun h => absurd (by rw [hbi]) h) (fun _ => ?_)
                    refine lv_iconst (v := (0 : Int32)) E.1 E.2.1 dX0_newRiver_205 (by decide) ?_
                    refine lv_goto (tgt := 211) E.1 E.2.1 dX0_newRiver_206 (by decide) ?_
                    exact J211 0 (by rw [if_pos hbi])
                  · refine lv_icmp_ne (tgt := 209) E.1 E.2.1 dX0_newRiver_202 (by decide) (fun _ => ?_) (fun h => absurd ((nI_eq (by omega) (by omega)).mp h) hbi)
                    refine lv_bipush (v := (9 : Int32)) E.1 E.2.1 dX0_newRiver_209 (by decide) ?_
                    exact J211 9 (by rw [if_neg hbi])
              refine hin np 0 ls (by omega) ?_ (fun q hq => absurd hq (by omega)) hl
              cases hb : nrB rn rg i t np 0 with
              | none => rw [hb] at hF; exact hF
              | some b => rw [hb] at hF; exact hF
            · rw [if_neg hg] at hF ⊢
              refine lv_if_ne (tgt := 180) E.1 E.2.1 dX0_newRiver_171 (by decide) (fun h => absurd rfl h) (fun _ => ?_)
              refine lv_bipush (v := (-102 : Int32)) E.1 E.2.1 dX0_newRiver_174 (by decide) ?_
              refine lv_iload E.1 E.2.1 dX0_newRiver_176 (lv_at hl 3 rfl) ?_
              refine lv_isub E.1 E.2.1 dX0_newRiver_178 ?_
              exact ret ad z0 _ _ 179 H locs ls _ (by omega) (by omega) hF hP hV hS dX0_newRiver_179
          refine lv_iload E.1 E.2.1 dX0_newRiver_113 (lv_at hl 0 rfl) ?_
          refine lv_bipush (v := (114 : Int32)) E.1 E.2.1 dX0_newRiver_115 (by decide) ?_
          refine lv_icmp_ne (tgt := 124) E.1 E.2.1 dX0_newRiver_117 (by decide) (fun k1 => ?_) (fun k1 => ?_)
          · refine lv_iload E.1 E.2.1 dX0_newRiver_124 (lv_at hl 0 rfl) ?_
            refine lv_bipush (v := (102 : Int32)) E.1 E.2.1 dX0_newRiver_126 (by decide) ?_
            refine lv_icmp_ne (tgt := 135) E.1 E.2.1 dX0_newRiver_128 (by decide) (fun k2 => ?_) (fun k2 => ?_)
            · refine lv_iload E.1 E.2.1 dX0_newRiver_135 (lv_at hl 0 rfl) ?_
              refine lv_bipush (v := (98 : Int32)) E.1 E.2.1 dX0_newRiver_137 (by decide) ?_
              refine lv_icmp_ne (tgt := 146) E.1 E.2.1 dX0_newRiver_139 (by decide) (fun k3 => ?_) (fun k3 => ?_)
              · refine lv_bipush (v := (-9 : Int32)) E.1 E.2.1 dX0_newRiver_146 (by decide) ?_
                have hkn : kdO cd = none := by unfold kdO; rw [if_neg k1, if_neg k2, if_neg k3]
                rw [hkn] at hF
                refine lv_istore (lv' := [(7, .int (-9 : Int32)), (6, .int cd), (5, .int (nI i)), (4, .int (nI t)), (3, .ref h), (2, .int (nI np)), (0, .ref (B 0)), (1, .ref w)]) E.1 E.2.1 dX0_newRiver_148 hl (by decide) rfl (fun ls hl => ?_)
                refine lv_iload E.1 E.2.1 dX0_newRiver_150 (lv_at hl 0 rfl) ?_
                refine lv_if_ge (tgt := 161) E.1 E.2.1 dX0_newRiver_152 (by decide) (fun h => absurd h (by decide)) (fun _ => ?_)
                refine lv_bipush (v := (-101 : Int32)) E.1 E.2.1 dX0_newRiver_155 (by decide) ?_
                refine lv_iload E.1 E.2.1 dX0_newRiver_157 (lv_at hl 3 rfl) ?_
                refine lv_isub E.1 E.2.1 dX0_newRiver_159 ?_
                exact ret ad z0 _ _ 160 H locs ls _ (by omega) (by omega) hF hP hV hS dX0_newRiver_160
              · refine lv_iconst (v := (2 : Int32)) E.1 E.2.1 dX0_newRiver_142 (by decide) ?_
                refine lv_goto (tgt := 148) E.1 E.2.1 dX0_newRiver_143 (by decide) ?_
                exact J148 2 (by unfold kdO; rw [if_neg k1, if_neg k2, if_pos k3])
            · refine lv_iconst (v := (1 : Int32)) E.1 E.2.1 dX0_newRiver_131 (by decide) ?_
              refine lv_goto (tgt := 148) E.1 E.2.1 dX0_newRiver_132 (by decide) ?_
              exact J148 1 (by unfold kdO; rw [if_neg k1, if_pos k2])
          · refine lv_iconst (v := (0 : Int32)) E.1 E.2.1 dX0_newRiver_120 (by decide) ?_
            refine lv_goto (tgt := 148) E.1 E.2.1 dX0_newRiver_121 (by decide) ?_
            exact J148 0 (by unfold kdO; rw [if_pos k1])
        · rw [if_neg h44] at hF
          refine lv_bipush (v := (-100 : Int32)) E.1 E.2.1 dX0_newRiver_97 (by decide) ?_
          refine lv_iload E.1 E.2.1 dX0_newRiver_99 (lv_at hl 1 rfl) ?_
          refine lv_isub E.1 E.2.1 dX0_newRiver_101 ?_
          exact ret ad z0 _ _ 102 H locs ls _ (by omega) (by omega) hF hP hV hS dX0_newRiver_102
    refine L80 np 0 ad1 H locs ls 0 (fun _ => none) (by omega) hF (fun j hj => absurd hj (by omega)) hw1 hm1 hm2 (fun j hj => absurd hj (by omega)) hP hV hS ?_
    have e4 : nrAt np 0 = 4 := by unfold nrAt; omega
    rw [e4]
    exact hl
  · have hF := ite_f h hF
    refine lv_bipush (v := (-100 : Int32)) E.1 E.2.1 dX0_newRiver_10 (by decide) ?_
    exact ret ad z0 0 0 12 H locs ls _ (by decide) (by decide) hF hP hV hS dX0_newRiver_12
