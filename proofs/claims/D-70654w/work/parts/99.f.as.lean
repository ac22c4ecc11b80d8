/-! DebtFerry.as -/
abbrev rmX0_as : Room := { frames := 20, cells := 13, slots := 1810, locals := 10700 }
set_option maxHeartbeats 1000000 in
theorem mm_X0_as (l : Launch) {D : va_G} {K : Nat → ClassId} {s0 : State} {a0 : Array Value} {B : Nat → Nat} {ad : CA} {A : Nat → Prop} (G : cG l s0 a0) (hAl : ∀ q, A q → s0.heap.size ≤ q) (x1 x2 : Int32) (z0 : CZ) (hnp : cz_np z0 ≤ 5) (res : Int32 × CZ) (hF : c_as x1 x2 z0 = some res) : Met l yX0_as (ws_ yX0_as cX0_as 3 (some .int)) rmX0_as (cIPc D K s0 B A ad z0 [.ref (B 0), .int x1, .int x2]) (cIQ D K B A (some (.int res.1)) res.2) 13 1810 A := by
  refine cI_start RX0 (by decide) rfl (Nat.le_of_ble_eq_true rfl) ?_
  intro p e s m args below meth c H locs ls E hr hlocks hK hX hA hP hV hS hl
  have hl : lv_has ls 3 [(0, .ref (B 0)), (1, .int x1), (2, .int x2)] := hl
  have hN := hX.1
  have hT := G.1
  have hD : ∀ z, va_D A (cW K B ad z) := fun z => cW_D hV.1 z
  unfold c_as at hF
  refine lv_aload_n E.1 E.2.1 dX0_as_0 rfl (lv_at hl 0 rfl) ?_
  refine lv_iload_n E.1 E.2.1 dX0_as_1 rfl (lv_at hl 1 rfl) ?_
  rcases isP_or x1 (n := cz_np z0) (by omega) with ⟨i, hi, rfl⟩ | ⟨-, hx⟩
  · rw [c_noPerson_in hnp hi] at hF
    refine cx_go (va_runV (As := [.int (nI i)]) (rest := []) E (mm_X0_noPerson l hT hD (nI i) z0 _ (c_noPerson_in hnp hi)) (cwV 1 E.2.2.2.2 (lw_V q163 q165 qs0 q54 q166) rfl rfl rfl (by decide +kernel) ⟨by decide, by decide⟩) (ck_pre hK hN hP (ck_me hK hP)) rfl rfl hl.1 rfl (lv_room (Nat.le_of_ble_eq_true rfl)) dX0_as_2 ⟨Nat.zero_le _, Nat.zero_le _⟩) hS (fun H locs hP hS => ?_)
    refine lv_if_eq (tgt := 14) E.1 E.2.1 dX0_as_5 (by decide) (fun _ => ?_) (fun h => absurd rfl h)
    simp only [Option.bind_some, if_true, nI_clamp (show i < 2 ^ 31 by omega)] at hF
    refine lv_iload_n E.1 E.2.1 dX0_as_14 rfl (lv_at hl 2 rfl) ?_
    refine lv_i2l E.1 E.2.1 dX0_as_15 rfl ?_
    refine lv_lconst (v := (0 : Int64)) E.1 E.2.1 dX0_as_16 (by decide) ?_
    refine lv_ldc2 (v := (2 : Int64)) E.1 E.2.1 E.2.2.2.1 (E.2.2.2.2 _ q649) dX0_as_17 ?_
    refine ck_inSo E hl (Nat.le_of_ble_eq_true rfl) ⟨by decide, by decide⟩ ⟨by decide, by decide⟩ dX0_as_20 ?_
    by_cases hso : isSo x2
    · rw [if_pos hso]
      rw [if_pos hso] at hF
      obtain ⟨kx, hkx, rfl⟩ := so_nI hso
      refine lv_if_eq (tgt := 54) E.1 E.2.1 dX0_as_23 (by decide) (fun h => absurd h (by decide)) (fun _ => ?_)
      refine va_new E.1 E.2.1 E.2.2.2.2 in_X12 tyX12 tyX12_ok E.2.2.2.1 (E.2.2.2.2 _ q1072) (E.2.2.2.2 _ q1073) (E.2.2.2.2 _ q86) hK hP.1 hV.1 hS hA (ci := 11) (C := RX12) (T := TX12) (N := 4) rfl (fs := [.null, .null, .int 0, .null]) (by decide +kernel) (by decide) (by decide) dX0_as_26 (fun q H hP1 hD1 hS => ?_)
      have hPn : cP D K B (adp ad (q, .inr (11, [.null, .null, .int 0, .null]))) z0 H := ⟨hP1, cDy_push hP.2⟩
      refine lv_dup E.1 E.2.1 dX0_as_29 rfl ?_
      refine lv_aload_n E.1 E.2.1 dX0_as_30 rfl (lv_at hl 0 rfl) ?_
      refine lv_aload_n E.1 E.2.1 dX0_as_31 rfl (lv_at hl 0 rfl) ?_
      refine ck_get E hK hPn 4 (by decide) q130 rfl (v := .ref (B 4)) rfl dX0_as_32 ?_
      refine lv_iload_n E.1 E.2.1 dX0_as_35 rfl (lv_at hl 1 rfl) ?_
      refine ck_lget E hT hN hK hPn (q0 := 5) (j := 4) (n := cz_np z0) (o := 100) rfl hPn.2.1.1 hPn.2.2.1 (inb_nI hi (by omega)) q181 hl (Nat.le_of_ble_eq_true rfl) ⟨by decide, by decide⟩ ⟨by decide, by decide⟩ dX0_as_36 ?_
      rw [nI_clamp (show i < 2 ^ 31 by omega)]
      refine ck_castR E hT hN hK hPn hi q199 dX0_as_41 ?_
      refine lv_iload_n E.1 E.2.1 dX0_as_44 rfl (lv_at hl 2 rfl) ?_
      refine ck_ctor (va_runI (As := [.ref (B 0), .ref (ad.2.1 (100 + i)), .int (nI kx)]) (rest := [.ref q]) E (nm_X12_11 l hT D K q .null .null (.int 0) .null (B 0) (ad.2.1 (100 + i)) (nI kx)) (cwI 3 E.2.2.2.2 (lw_meth q1076) rfl rfl rfl (E.2.2.2.2 _ q86) (E.2.2.2.2 _ q1074) (E.2.2.2.2 _ q1075) rfl (by decide +kernel) ⟨by decide, by decide⟩) (n_preS hK hN (vP_of hP1 (fun x hx => List.mem_append_right _ hx))) rfl rfl hl.1 rfl (lv_room (Nat.le_of_ble_eq_true rfl)) dX0_as_45 ⟨by decide, by decide⟩) hP1 hD1 hS (fun H locs hP1 hD1 hS => ?_)
      have hPa : cP D K B (adp ad (q, .inr (11, acT B (ad.2.1 (100 + i)) (nI kx)))) z0 H := ⟨hP1, cDy_push hP.2⟩
      have hVa : cV K B A (adp ad (q, .inr (11, acT B (ad.2.1 (100 + i)) (nI kx)))) z0 := ⟨hD1, hV.2⟩
      have hqa : (q, Sum.inr (11, acT B (ad.2.1 (100 + i)) (nI kx))) ∈ (adp ad (q, .inr (11, acT B (ad.2.1 (100 + i)) (nI kx)))).2.2 := List.mem_append_right _ List.mem_cons_self
      have hrd := hPa.2.2.2.2.1 i hi
      have hTr : Met l yX2_tried (wsW_ yX2_tried cX2_tried 2 (some .int) hhX2) rmTried (cIPc D K s0 B A (adp ad (q, .inr (11, acT B (ad.2.1 (100 + i)) (nI kx)))) z0 [.ref q]) (cIQ D K B A (some (.int res.1)) res.2) 12 1800 A := by
        by_cases hlt : cz_k z0 i < kx
        · rw [if_pos (nI_lt hlt (by omega))] at hF
          have hF := Option.some.inj hF
          subst hF
          exact tried_thr l (f := 2) (hp := 23) hT hAl ac_T hqa rfl (taking_thr l G (z := cz_f z0 8 0) hqa hkx hlt hrd.2) (fun s args cX hts hN h => tr_cce G hts hN h) (fun s hN => hs_cls (cN_C hT hN q742)) (Or.inr (Or.inl ⟨rfl, rfl⟩)) q922 q923 q86 q924 ⟨rfl, rfl, by decide, by decide, by decide, by decide⟩ ⟨by decide, by decide⟩ ⟨by decide, by decide⟩
        · rw [if_neg (nI_nlt (by omega) (by have := hrd.1; omega))] at hF
          have hF := Option.some.inj hF
          subst hF
          exact tried_ret l hT hAl ac_T hqa rfl (taking_ret l hT (z := cz_f z0 8 0) hqa hrd.1 (by omega) (by omega) hrd.2) q922 q923 q86 q924 ⟨rfl, rfl, by decide, by decide, by decide, by decide⟩ ⟨by decide, by decide⟩
      refine cI_go (va_runUW (C := RX12) (owner := RX2) (x := ⟨"DebtFerry$Taking", "tried", "()I"⟩) (As := []) (rest := []) E hTr (va_cwUW 0 E.2.2.2.2 (lw_UW q1089 q1090 q1091 q804 q59 q805) rfl rfl rfl (va_Nw.warmD hN (va_Nw.of rfl (hT _ q801))) (by decide +kernel) ⟨by decide, by decide⟩) (cI_pre hAl hA hX hK hPa hVa hS (act_recv ac_T hK hPa hqa)) rfl rfl hl.1 rfl (lv_room (Nat.le_of_ble_eq_true rfl)) dX0_as_48 ⟨by decide, by decide⟩) hS (fun H locs ad1 hP hV hS => ?_)
      refine lv_goto (tgt := 60) E.1 E.2.1 dX0_as_51 (by decide) ?_
      refine W_pad (c' := 13) (s' := 1810) (by decide) (by decide) ?_
      exact cI_iret E hr hlocks hP hV hS rfl dX0_as_60
    · rw [if_neg hso]
      rw [if_neg hso] at hF
      refine lv_if_eq (tgt := 54) E.1 E.2.1 dX0_as_23 (by decide) (fun _ => ?_) (fun h => absurd rfl h)
      refine lv_aload_n E.1 E.2.1 dX0_as_54 rfl (lv_at hl 0 rfl) ?_
      refine lv_bipush (v := (-2 : Int32)) E.1 E.2.1 dX0_as_55 (by decide) ?_
      refine ck_refused E hT hN hD hK hP hS hl (Nat.le_of_ble_eq_true rfl) ⟨by decide, by decide⟩ ⟨by decide, by decide⟩ dX0_as_57 (fun H locs hP hS => ?_)
      refine W_pad (c' := 13) (s' := 1810) (by decide) (by decide) ?_
      exact cI_iret E hr hlocks hP ⟨hD _, hV.2⟩ hS hF dX0_as_60
  · rw [c_noPerson_out hnp hx] at hF
    refine cx_go (va_runV (As := [.int x1]) (rest := []) E (mm_X0_noPerson l hT hD x1 z0 _ (c_noPerson_out hnp hx)) (cwV 1 E.2.2.2.2 (lw_V q163 q165 qs0 q54 q166) rfl rfl rfl (by decide +kernel) ⟨by decide, by decide⟩) (ck_pre hK hN hP (ck_me hK hP)) rfl rfl hl.1 rfl (lv_room (Nat.le_of_ble_eq_true rfl)) dX0_as_2 ⟨Nat.zero_le _, Nat.zero_le _⟩) hS (fun H locs hP hS => ?_)
    refine lv_if_eq (tgt := 14) E.1 E.2.1 dX0_as_5 (by decide) (fun h => absurd h (show ¬ (1 : Int32) = 0 by decide)) (fun _ => ?_)
    refine lv_aload_n E.1 E.2.1 dX0_as_8 rfl (lv_at hl 0 rfl) ?_
    refine lv_iconst (v := (-1 : Int32)) E.1 E.2.1 dX0_as_9 (by decide) ?_
    refine ck_refused E hT hN hD hK hP hS hl (Nat.le_of_ble_eq_true rfl) ⟨by decide, by decide⟩ ⟨by decide, by decide⟩ dX0_as_10 (fun H locs hP hS => ?_)
    refine W_pad (c' := 13) (s' := 1810) (by decide) (by decide) ?_
    exact cI_iret E hr hlocks hP ⟨hD _, hV.2⟩ hS (by simpa using hF) dX0_as_13
