/-! DebtFerry.kinds(I)I: walked -/
abbrev rmX0_kinds : Room := { frames := 12, cells := 3, slots := 15, locals := 400 }
theorem cz_K_np (z : CZ) (i kd : Nat) (lm : Int32) : cz_np (cz_K z i kd lm) = cz_np z := rfl
set_option maxHeartbeats 4000000 in
set_option maxRecDepth 100000 in
theorem mm_X0_kinds (l : Launch) {D : va_G} {K : Nat → ClassId} {s0 : State} {a0 : Array Value} {B : Nat → Nat} {ad : CA} {A : Nat → Prop} (hT : ∀ w ∈ lw_tbl, w.before a0 s0 = true) (hAl : ∀ q, A q → s0.heap.size ≤ q) (hB : ¬ A (B 10)) (x1 : Int32) (z0 : CZ) (res : Int32 × CZ) (hF : c_kinds x1 z0 = some res) : Met l yX0_kinds (ws_ yX0_kinds cX0_kinds 5 (some .int)) rmX0_kinds (cIPc D K s0 B A ad z0 [.ref (B 0), .int x1]) (cIQ D K B A (some (.int res.1)) res.2) 3 15 A := by
  refine cI_start RX0 (by decide) rfl (Nat.le_of_ble_eq_true rfl) ?_
  intro p e s m args below meth c H locs ls E hr hlocks hK hX hA hP hV hS hl
  have hN := hX.1
  have hD : ∀ z, va_D A (cW K B ad z) := fun z => cW_D hV.1 z
  have hl : lv_has ls 5 [(0, .ref (B 0)), (1, .int x1)] := hl
  unfold c_kinds at hF
  refine lv_aload_n E.1 E.2.1 dX0_kinds_0 rfl (lv_at hl 0 rfl) ?_
  refine lv_iload_n E.1 E.2.1 dX0_kinds_1 rfl (lv_at hl 1 rfl) ?_
  obtain ⟨r2, hq2, hG⟩ := bnd hF
  clear hF
  refine cx_go (va_runV (As := [.int x1]) (rest := []) E (mm_X0_noPerson l hT hD x1 z0 _ hq2) (cwV 1 E.2.2.2.2 (lw_V q163 q165 qs0 q54 q166) rfl rfl rfl (by decide +kernel) ⟨Nat.le_of_ble_eq_true rfl, Nat.le_of_ble_eq_true rfl⟩) (ck_pre hK hN hP (ck_me hK hP)) rfl rfl hl.1 rfl (lv_room (Nat.le_of_ble_eq_true rfl)) dX0_kinds_2 ⟨Nat.zero_le _, Nat.zero_le _⟩) hS (fun H locs hP hS => ?_)
  rw [pr_noPerson hq2] at hP hG
  refine lv_if_eq (tgt := 10) E.1 E.2.1 dX0_kinds_5 (by decide) (fun h => ?_) (fun h => ?_)
  · have hF := ite_t h hG
    refine lv_aload_n E.1 E.2.1 dX0_kinds_10 rfl (lv_at hl 0 rfl) ?_
    refine ck_get E hK hP 4 (by decide) q130 rfl (v := .ref (B 4)) rfl dX0_kinds_11 ?_
    refine lv_iload_n E.1 E.2.1 dX0_kinds_14 rfl (lv_at hl 1 rfl) ?_
    obtain ⟨h15, hF⟩ := gd_some hF
    obtain ⟨hl01, hF⟩ := gd_some hF
    have hl01 := of_decide_eq_true hl01
    refine ck_lget E hT hN hK hP (q0 := 5) (j := 4) (n := cz_np z0) (o := 100) rfl hP.2.1.1 hP.2.2.1 h15 q181 hl (Nat.le_of_ble_eq_true rfl) ⟨Nat.le_of_ble_eq_true rfl, Nat.le_of_ble_eq_true rfl⟩ ⟨Nat.zero_le _, Nat.zero_le _⟩ dX0_kinds_15 ?_
    obtain ⟨i, hi, rfl⟩ := vp_in_of (inb_in h15) (by have := hP.2.1.1; omega)
    have hi5 : i < 2 ^ 31 := by have := hP.2.1.1; omega
    have hcl : (nI i).toNatClampNeg = i := nI_clamp hi5
    rw [hcl] at hF hl01 ⊢
    refine ck_castR E hT hN hK hP hi q199 dX0_kinds_20 ?_
    obtain ⟨hk0, hw0⟩ := hP.2.2.2.2.1 i hi
    generalize cz_k z0 i = k0 at hF hk0 hw0
    generalize cz_l z0 i = l0 at hF hl01 hw0
    generalize ad.2.1 (100 + i) = wr at hw0 ⊢
    refine lv_astore_n (lv' := [(2, .ref wr), (0, .ref (B 0)), (1, .int (nI i))]) E.1 E.2.1 dX0_kinds_23 rfl hl (by decide) rfl (fun ls hl => ?_)
    refine lv_iconst (v := (0 : Int32)) E.1 E.2.1 dX0_kinds_24 (by decide) ?_
    refine lv_istore_n (lv' := [(3, .int (0 : Int32)), (2, .ref wr), (0, .ref (B 0)), (1, .int (nI i))]) E.1 E.2.1 dX0_kinds_25 rfl hl (by decide) rfl (fun ls hl => ?_)
    refine lv_iconst (v := (0 : Int32)) E.1 E.2.1 dX0_kinds_26 (by decide) ?_
    refine lv_istore (lv' := [(4, .int (0 : Int32)), (3, .int (0 : Int32)), (2, .ref wr), (0, .ref (B 0)), (1, .int (nI i))]) E.1 E.2.1 dX0_kinds_27 hl (by decide) rfl (fun ls hl => ?_)
    have L29 : ∀ (n : Nat) (y3 : Int32) (v : Nat) (z : CZ) (ad : CA) (H : Heap) (locs : List Loc) (ls : Array Slot), c_kinds_L29 i k0 l0 n y3 (nI v) z = some res → v ≤ 3 → (wr, cRi B k0 i l0) ∈ ad.2.2 → cP D K B ad z H → cV K B A ad z → va_S A s.heap H locs → lv_has ls 5 [(4, .int (nI v)), (3, .int y3), (2, .ref wr), (0, .ref (B 0)), (1, .int (nI i))] → W p l e rmX0_kinds s m args below meth c H locs v (5 * v) (MQ below (cIQ D K B A (some (.int res.1)) res.2) args s 3 15 A) (F0 m 29 ls []) := by
      intro n
      induction n with
      | zero => intro y3 v z ad H locs ls hF; cases hF
      | succ n ih =>
        intro y3 v z ad H locs ls hF hv hw hP hV hS hl
        unfold c_kinds_L29 at hF
        obtain ⟨hiz, hF⟩ := gd_some hF
        have hiz := of_decide_eq_true hiz
        refine lv_iload E.1 E.2.1 dX0_kinds_29 (lv_at hl 0 rfl) ?_
        refine lv_iconst (v := (3 : Int32)) E.1 E.2.1 dX0_kinds_31 (by decide) ?_
        refine lv_icmp_ge (tgt := 81) E.1 E.2.1 dX0_kinds_32 (by decide) (fun h => ?_) (fun h => ?_)
        · have hF := ite_t h hF
          refine lv_aload_n E.1 E.2.1 dX0_kinds_81 rfl (lv_at hl 3 rfl) ?_
          refine ck_get E hK hP 4 (by decide) q130 rfl (v := .ref (B 4)) rfl dX0_kinds_82 ?_
          refine lv_iload_n E.1 E.2.1 dX0_kinds_85 rfl (lv_at hl 4 rfl) ?_
          refine lv_aload_n E.1 E.2.1 dX0_kinds_86 rfl (lv_at hl 2 rfl) ?_
          refine ck_lset E hT hN hK hP hV hB hS hiz hk0 hw q531 hl (Nat.le_of_ble_eq_true rfl) ⟨Nat.le_of_ble_eq_true rfl, Nat.le_of_ble_eq_true rfl⟩ ⟨by show v ≤ 3; omega, by show 5 * v ≤ 15; omega⟩ dX0_kinds_87 (fun ad1 H locs hst hP hV hS => ?_)
          refine lv_pop E.1 E.2.1 dX0_kinds_92 rfl ?_
          refine lv_iload_n E.1 E.2.1 dX0_kinds_93 rfl (lv_at hl 1 rfl) ?_
          refine W_pad (c' := 3) (s' := 15) (by omega) (by omega) ?_
          exact cI_iret E hr hlocks hP hV hS hF dX0_kinds_94
        · have hF := ite_f h hF
          have hv3 : v < 3 := by
            rcases Nat.lt_or_ge v 3 with g | g
            · exact g
            · exact absurd (show (3 : Int32) ≤ nI v from nI_le (a := 3) g (by omega)) h
          refine lv_aload_n E.1 E.2.1 dX0_kinds_35 rfl (lv_at hl 3 rfl) ?_
          refine ck_get E hK hP 4 (by decide) q130 rfl (v := .ref (B 4)) rfl dX0_kinds_36 ?_
          refine lv_iload_n E.1 E.2.1 dX0_kinds_39 rfl (lv_at hl 4 rfl) ?_
          refine lv_aload_n E.1 E.2.1 dX0_kinds_40 rfl (lv_at hl 3 rfl) ?_
          refine lv_iload E.1 E.2.1 dX0_kinds_41 (lv_at hl 0 rfl) ?_
          refine lv_iload_n E.1 E.2.1 dX0_kinds_43 rfl (lv_at hl 4 rfl) ?_
          refine lv_aload_n E.1 E.2.1 dX0_kinds_44 rfl (lv_at hl 2 rfl) ?_
          refine ck_lameM E hK hP hk0 hw q495 dX0_kinds_45 ?_
          refine cI_goR (va_runV (As := [.int (nI v), .int (nI i), .int l0]) (rest := [.int (nI i), .ref (B 4)]) E (mm_X0_madeOf l hT z (nI v) i l0 (zl_hz hl01)) (cwV 3 E.2.2.2.2 (lw_V q479 q481 qs20 q54 q482) rfl rfl rfl (by decide +kernel) ⟨Nat.le_of_ble_eq_true rfl, Nat.le_of_ble_eq_true rfl⟩) (cI_pre hAl hA hX hK hP hV hS (ck_me hK hP)) rfl rfl hl.1 rfl (lv_room (Nat.le_of_ble_eq_true rfl)) dX0_kinds_48 ⟨by show v + 1 ≤ 3; omega, by show 5 * v + 5 ≤ 15; omega⟩) hS (fun q H locs hP hV hS => ?_)
          have hkv : kOf (nI v) ≤ 2 := by unfold kOf; split; decide; split <;> decide
          have hq : (q, cRi B (kOf (nI v)) i l0) ∈ (adp ad (q, cRi B (kOf (nI v)) i l0)).2.2 := List.mem_append_right _ List.mem_cons_self
          have hw1 : (wr, cRi B k0 i l0) ∈ (adp ad (q, cRi B (kOf (nI v)) i l0)).2.2 := List.mem_append_left _ hw
          refine ck_lset E hT hN hK hP hV hB hS hiz hkv hq q531 hl (Nat.le_of_ble_eq_true rfl) ⟨Nat.le_of_ble_eq_true rfl, Nat.le_of_ble_eq_true rfl⟩ ⟨by show v + 1 ≤ 3; omega, by show 5 * v + 5 ≤ 15; omega⟩ dX0_kinds_51 (fun ad1 H locs hst hP hV hS => ?_)
          have hw2 : (wr, cRi B k0 i l0) ∈ ad1.2.2 := hst _ hw1 (fun _ _ _ h => by cases h)
          refine lv_pop E.1 E.2.1 dX0_kinds_56 rfl ?_
          refine lv_iload_n E.1 E.2.1 dX0_kinds_57 rfl (lv_at hl 1 rfl) ?_
          refine lv_aload_n E.1 E.2.1 dX0_kinds_58 rfl (lv_at hl 3 rfl) ?_
          obtain ⟨r59, hq59, hG⟩ := bnd hF
          clear hF
          have hD : ∀ z, va_D A (cW K B ad1 z) := fun z => cW_D hV.1 z
          refine cx_go (va_runV (As := []) (rest := [.int y3]) E (mm_X0_areSo l hT hD _ _ hq59) (cwV 0 E.2.2.2.2 (lw_V q471 q473 qs19 q54 q474) rfl rfl rfl (by decide +kernel) ⟨Nat.le_of_ble_eq_true rfl, Nat.le_of_ble_eq_true rfl⟩) (ck_pre hK hN hP (ck_me hK hP)) rfl rfl hl.1 rfl (lv_room (Nat.le_of_ble_eq_true rfl)) dX0_kinds_59 ⟨by show v + 1 ≤ 3; omega, by show 5 * v + 5 ≤ 15; omega⟩) hS (fun H locs hP hS => ?_)
          rw [pr_areSo hq59] at hP hG
          have fin : ∀ (sv : Int32) (ls : Array Slot), c_kinds_L29 i k0 l0 n (y3 ||| sv) (nI v + 1) (cz_K z i (kOf (nI v)) l0) = some res → lv_has ls 5 [(4, .int (nI v)), (3, .int y3), (2, .ref wr), (0, .ref (B 0)), (1, .int (nI i))] → W p l e rmX0_kinds s m args below meth c H locs (v + 1) (5 * v + 5) (MQ below (cIQ D K B A (some (.int res.1)) res.2) args s 3 15 A) (F0 m 73 ls [.int sv, .int y3]) := by
            intro sv ls hF hl
            refine lv_ior E.1 E.2.1 dX0_kinds_73 ?_
            refine lv_istore_n (lv' := [(3, .int (y3 ||| sv)), (4, .int (nI v)), (2, .ref wr), (0, .ref (B 0)), (1, .int (nI i))]) E.1 E.2.1 dX0_kinds_74 rfl hl (by decide) rfl (fun ls hl => ?_)
            refine lv_iinc (v := nI v + 1) (lv' := [(4, .int (nI v + 1)), (3, .int (y3 ||| sv)), (2, .ref wr), (0, .ref (B 0)), (1, .int (nI i))]) E.1 E.2.1 dX0_kinds_75 hl (k := 1) rfl rfl (by decide) rfl (fun ls hl => ?_)
            refine lv_goto (tgt := 29) E.1 E.2.1 dX0_kinds_78 (by decide) ?_
            rw [nI_1] at hF hl
            exact ih (y3 ||| sv) (v + 1) _ ad1 H locs ls hF (by omega) hw2 hP hV hS hl
          refine lv_if_eq (tgt := 72) E.1 E.2.1 dX0_kinds_62 (by decide) (fun h => ?_) (fun h => ?_)
          · have h : r59.1 = 0 := h
            simp only [h, if_true] at hG
            refine lv_iconst (v := (0 : Int32)) E.1 E.2.1 dX0_kinds_72 (by decide) ?_
            exact fin 0 ls hG hl
          · have h : ¬ r59.1 = 0 := h
            simp only [h, if_false] at hG
            refine lv_iconst (v := (1 : Int32)) E.1 E.2.1 dX0_kinds_65 (by decide) ?_
            refine lv_iload E.1 E.2.1 dX0_kinds_66 (lv_at hl 0 rfl) ?_
            refine lv_ishl E.1 E.2.1 dX0_kinds_68 ?_
            refine lv_goto (tgt := 73) E.1 E.2.1 dX0_kinds_69 (by decide) ?_
            exact fin _ ls hG hl
    exact L29 FU 0 0 z0 ad H locs ls hF (by omega) hw0 hP hV hS hl
  · have hF := ite_f h hG
    refine lv_iconst (v := (-1 : Int32)) E.1 E.2.1 dX0_kinds_8 (by decide) ?_
    refine W_pad (c' := 3) (s' := 15) (by decide) (by decide) ?_
    exact cI_iret E hr hlocks hP hV hS hF dX0_kinds_9
