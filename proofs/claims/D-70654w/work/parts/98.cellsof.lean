/-! cellsOf -/
/-- a new int row, told; nothing else of the component's changed -/
abbrev cIQc (D : va_G) (K : Nat → ClassId) (B : Nat → Nat) (A : Nat → Prop) (ad : CA) (z : CZ) (n : Nat) (g : Nat → Int32) : Array Value → State → Outcome → State → Prop := fun _ st o t => (∃ (q : Nat) (ad' : CA), o = .returned (some (.ref q)) ∧ (ad'.1 = ad.1 ∧ ad'.2.1 = ad.2.1) ∧ (∀ x ∈ ad.2.2, x ∈ ad'.2.2) ∧ rwW K q n g ∈ ad'.2.2 ∧ cP D K B ad' z t.heap ∧ cV K B A ad' z) ∧ va_F A st t
theorem adp_at {ad : CA} {x : Nat × va_E} {K : Nat → ClassId} {B : Nat → Nat} {z : CZ} : (cW K B (adp ad x) z)[ad.2.2.length + 7]? = some x := by
  show (ad.2.2 ++ [x])[ad.2.2.length]? = some x
  simp
theorem adp_set {ad : CA} {x y : Nat × va_E} {K : Nat → ClassId} {B : Nat → Nat} {z : CZ} : (cW K B (adp ad x) z).set (ad.2.2.length + 7) y = cW K B (adp ad y) z := by
  show _ :: _ :: _ :: _ :: _ :: _ :: _ :: (ad.2.2 ++ [x]).set ad.2.2.length y = _ :: _ :: _ :: _ :: _ :: _ :: _ :: (ad.2.2 ++ [y])
  rw [List.set_append_right _ _ (Nat.le_refl _)]
  simp
theorem mem_cW {ad : CA} {x : Nat × va_E} {K : Nat → ClassId} {B : Nat → Nat} {z : CZ} (h : x ∈ ad.2.2) : x ∈ cW K B ad z := by
  obtain ⟨i, hi⟩ := cW_dy (K := K) (B := B) (z := z) h
  exact List.mem_of_getElem? hi
abbrev rmX0_cellsOf : Room := { frames := 3, cells := 2, slots := 120, locals := 60 }
set_option maxHeartbeats 2000000 in
theorem mm_X0_cellsOf (l : Launch) {D : va_G} {K : Nat → ClassId} {s0 : State} {a0 : Array Value} {B : Nat → Nat} {ad : CA} {A : Nat → Prop} (G : cG l s0 a0) (hAl : ∀ q, A q → s0.heap.size ≤ q) (z : CZ) {w kd sz i n : Nat} {g : Nat → Int32} (hk : kd ≤ 2) (hsz : sz ≤ 60) (hw : (w, rwE K kd sz g) ∈ ad.2.2) (hin : i + n ≤ sz) : Met l yX0_cellsOf (ws_ yX0_cellsOf cX0_cellsOf 8 (some (.array .int))) rmX0_cellsOf (cIPc D K s0 B A ad z [.ref w, .int (nI kd), .int (nI i), .int (nI n)]) (cIQc D K B A ad z n (fun x => g (i + x))) 2 120 A := by
  refine cI_start RX0 (by decide) rfl (Nat.le_of_ble_eq_true rfl) ?_
  intro p e s m args below meth c H locs ls E hr hlocks hK hX hA hP hV hS hl
  have hl : lv_has ls 8 [(0, .ref w), (1, .int (nI kd)), (2, .int (nI i)), (3, .int (nI n))] := hl
  have row : ∀ {ad1 : CA} {H : Heap}, (∀ x ∈ ad.2.2, x ∈ ad1.2.2) → cP D K B ad1 z H → va_P D vCl [(w, rwE K kd sz g)] H := fun hs hP => vP_of hP.1 (fun x hx => by
    rw [List.mem_singleton] at hx
    rw [hx]; exact mem_cW (hs _ hw))
  refine lv_aload_n E.1 E.2.1 dX0_cellsOf_0 rfl (lv_at hl 0 rfl) ?_
  refine lv_iload_n E.1 E.2.1 dX0_cellsOf_1 rfl (lv_at hl 1 rfl) ?_
  refine px_go (va_runS (As := [.ref w, .int (nI kd)]) (rest := []) E (cf_sizeOf l G D K w hk sz g) (va_cwS 2 E.2.2.2.2 (lw_S q839 q840 q54 q841) rfl rfl rfl (by decide +kernel) ⟨by decide, by decide⟩) (x_preS hAl hX hK (row (fun _ h => h) hP) hS) rfl rfl hl.1 rfl (lv_room (Nat.le_of_ble_eq_true rfl)) dX0_cellsOf_2 ⟨by decide, by decide⟩) ?_
  refine lv_istore (lv' := [(4, .int (nI sz)), (0, .ref w), (1, .int (nI kd)), (2, .int (nI i)), (3, .int (nI n))]) E.1 E.2.1 dX0_cellsOf_5 hl (by decide) rfl (fun ls hl => ?_)
  refine lv_iload_n E.1 E.2.1 dX0_cellsOf_7 rfl (lv_at hl 4 rfl) ?_
  refine lv_bipush (v := (61 : Int32)) E.1 E.2.1 dX0_cellsOf_8 (by decide) ?_
  refine va_mmin E.1 E.2.1 (E.2.2.1.trans hl.1.symm) E.2.2.2.1 (E.2.2.2.2 _ q842) (E.2.2.2.2 _ q444) (E.2.2.2.2 _ q73) (E.2.2.2.2 _ q445) (Nat.le_of_ble_eq_true rfl) (Nat.le_of_ble_eq_true rfl) (Nat.zero_le _) (Nat.zero_le _) dX0_cellsOf_10 ?_
  rw [if_neg (show ¬ (61 : Int32) < nI n from nI_nlt (a := 61) (b := n) (by omega) (by decide))]
  refine va_newa (atype := .byte) (ty := .byte) (a0 := (n, .inl (fun _ => 0))) E.1 E.2.1 (E.2.2.2.2 _ q637) rfl hK hP.1 hV.1 hS hA (fun cA => rfl) (nI_pos (by omega)) (nI_clamp (by omega)) (by show n * 1 ≤ _; omega) (by decide) (by show 0 + n ≤ 120; omega) dX0_cellsOf_13 (fun qb cA H hK1 hP1 hD1 hS => ?_)
  have ec : cA = K 1 := Option.some.inj (((hK1.2 5 (cA, .byte) rfl).2 : s.vm.findClass _ = _).symm.trans (hK.2 1 (K 1, .byte) rfl).2)
  subst ec
  have hPb : cP D K B (adp ad (qb, .inl (K 1, n, .inl (fun _ => 0)))) z H := ⟨hP1, cDy_push hP.2⟩
  have hVb : cV K B A (adp ad (qb, .inl (K 1, n, .inl (fun _ => 0)))) z := ⟨hD1, hV.2⟩
  clear hP1 hD1 hK1
  refine lv_astore (lv' := [(5, .ref qb), (4, .int (nI sz)), (0, .ref w), (1, .int (nI kd)), (2, .int (nI i)), (3, .int (nI n))]) E.1 E.2.1 dX0_cellsOf_15 hl (by decide) rfl (fun ls hl => ?_)
  refine lv_iload_n E.1 E.2.1 dX0_cellsOf_17 rfl (lv_at hl 5 rfl) ?_
  refine lv_bipush (v := (61 : Int32)) E.1 E.2.1 dX0_cellsOf_18 (by decide) ?_
  refine lv_icmp_ge (tgt := 39) E.1 E.2.1 dX0_cellsOf_20 (by decide) (fun h => absurd h (nI_ge (a := n) (b := 61) (by omega) (by decide))) (fun _ => ?_)
  refine lv_iload_n E.1 E.2.1 dX0_cellsOf_23 rfl (lv_at hl 4 rfl) ?_
  refine lv_if_lt (tgt := 39) E.1 E.2.1 dX0_cellsOf_24 (by decide) (fun h => absurd h (nI_pos (by omega))) (fun _ => ?_)
  refine lv_iload_n E.1 E.2.1 dX0_cellsOf_27 rfl (lv_at hl 4 rfl) ?_
  refine lv_iload E.1 E.2.1 dX0_cellsOf_28 (lv_at hl 1 rfl) ?_
  refine lv_iload_n E.1 E.2.1 dX0_cellsOf_30 rfl (lv_at hl 5 rfl) ?_
  refine lv_isub E.1 E.2.1 dX0_cellsOf_31 ?_
  rw [pk_sub (show n ≤ sz by omega)]
  refine lv_icmp_gt (tgt := 39) E.1 E.2.1 dX0_cellsOf_32 (by decide) (fun h => absurd h (nI_nlt (by omega) (by omega))) (fun _ => ?_)
  refine lv_iconst (v := (1 : Int32)) E.1 E.2.1 dX0_cellsOf_35 (by decide) ?_
  refine lv_goto (tgt := 40) E.1 E.2.1 dX0_cellsOf_36 (by decide) ?_
  refine px_go0 (va_runS (As := [.int 1]) (rest := []) E (ct_need1 l) (va_cwS 1 E.2.2.2.2 (lw_S q843 q844 q54 q845) rfl rfl rfl (by decide +kernel) ⟨by decide, by decide⟩) ⟨fun a U g mk q => q, fun U hU hW => ⟨rfl, trivial⟩⟩ rfl rfl hl.1 rfl (lv_room (Nat.le_of_ble_eq_true rfl)) dX0_cellsOf_40 ⟨by show 0 + 1 + 0 ≤ 2; decide, by show 0 + n + 0 ≤ 120; omega⟩) ?_
  refine lv_aload E.1 E.2.1 dX0_cellsOf_43 (lv_at hl 0 rfl) ?_
  refine va_alen (v := nI n) E.1 E.2.1 hK hPb.1 (ad.2.2.length + 7) 1 adp_at rfl rfl dX0_cellsOf_45 ?_
  refine va_newa (atype := .int) (ty := .int) (a0 := (n, .inl (fun _ => 0))) E.1 E.2.1 (E.2.2.2.2 _ q121) rfl hK hPb.1 hVb.1 hS hA (fun cA => rfl) (nI_pos (by omega)) (nI_clamp (by omega)) (by show n * 4 ≤ _; omega) (by decide) (by show 0 + n + n ≤ 120; omega) dX0_cellsOf_46 (fun qi cA H hK1 hP1 hD1 hS => ?_)
  have ec : cA = K 0 := Option.some.inj (((hK1.2 5 (cA, .int) rfl).2 : s.vm.findClass _ = _).symm.trans (hK.2 0 (K 0, .int) rfl).2)
  subst ec
  have hPi : cP D K B (adp (adp ad (qb, .inl (K 1, n, .inl (fun _ => 0)))) (rwW K qi n (fun _ => 0))) z H := ⟨hP1, cDy_push hPb.2⟩
  have hVi : cV K B A (adp (adp ad (qb, .inl (K 1, n, .inl (fun _ => 0)))) (rwW K qi n (fun _ => 0))) z := ⟨hD1, hV.2⟩
  clear hP1 hD1 hK1
  refine lv_astore (lv' := [(6, .ref qi), (5, .ref qb), (4, .int (nI sz)), (0, .ref w), (1, .int (nI kd)), (2, .int (nI i)), (3, .int (nI n))]) E.1 E.2.1 dX0_cellsOf_48 hl (by decide) rfl (fun ls hl => ?_)
  refine lv_iconst (v := (0 : Int32)) E.1 E.2.1 dX0_cellsOf_50 (by decide) ?_
  refine lv_istore (lv' := [(7, .int (nI 0)), (6, .ref qi), (5, .ref qb), (4, .int (nI sz)), (0, .ref w), (1, .int (nI kd)), (2, .int (nI i)), (3, .int (nI n))]) E.1 E.2.1 dX0_cellsOf_51 hl (by decide) rfl (fun ls hl => ?_)
  refine W_pad (c' := 2) (s' := 120) (by decide) (by omega) ?_
  have L53 : ∀ (fu k : Nat) (f : Nat → Int32) (H : Heap) (locs : List Loc) (ls : Array Slot), fu + k = n → (∀ x, x < k → f x = g (i + x)) → cP D K B (adp (adp ad (qb, .inl (K 1, n, .inl (fun _ => 0)))) (rwW K qi n f)) z H → cV K B A (adp (adp ad (qb, .inl (K 1, n, .inl (fun _ => 0)))) (rwW K qi n f)) z → va_S A s.heap H locs → lv_has ls 8 [(7, .int (nI k)), (6, .ref qi), (5, .ref qb), (4, .int (nI sz)), (0, .ref w), (1, .int (nI kd)), (2, .int (nI i)), (3, .int (nI n))] → W p l e rmX0_cellsOf s m args below meth c H locs 2 120 (MQ below (cIQc D K B A ad z n (fun x => g (i + x))) args s 2 120 A) (F0 m 53 ls []) := by
    intro fu
    induction fu with
    | zero =>
      intro k f H locs ls hkn hf hP hV hS hl
      have hkn : k = n := by omega
      subst hkn
      refine lv_iload E.1 E.2.1 dX0_cellsOf_53 (lv_at hl 0 rfl) ?_
      refine lv_aload E.1 E.2.1 dX0_cellsOf_55 (lv_at hl 1 rfl) ?_
      refine va_alen (v := nI k) E.1 E.2.1 hK hP.1 ((adp ad (qb, .inl (K 1, k, .inl (fun _ => 0)))).2.2.length + 7) 0 adp_at rfl rfl dX0_cellsOf_57 ?_
      refine lv_icmp_ge (tgt := 81) E.1 E.2.1 dX0_cellsOf_58 (by decide) (fun _ => ?_) (fun h => absurd (Int32.le_refl _) h)
      refine lv_aload E.1 E.2.1 dX0_cellsOf_81 (lv_at hl 1 rfl) ?_
      have hP2 : va_P D vCl (cW K B (adp (adp ad (qb, .inl (K 1, k, .inl (fun _ => 0)))) (rwW K qi k (fun x => g (i + x)))) z) H := by
        rw [← adp_set (x := rwW K qi k f)]
        refine hP.1.set hV.1 adp_at ?_ (fun _ _ => rfl)
        exact at_extI hf (hP.1 _ _ adp_at)
      refine W.aret E.1 E.2.1 hr (Or.inr ⟨_, rfl⟩) (Or.inr ⟨_, rfl⟩) (fun t ht _ => ⟨⟨qi, adp (adp ad (qb, .inl (K 1, k, .inl (fun _ => 0)))) (rwW K qi k (fun x => g (i + x))), rfl, ⟨rfl, rfl⟩, fun x hx => List.mem_append_left _ (List.mem_append_left _ hx), List.mem_append_right _ List.mem_cons_self, ?_, ?_, hV.2⟩, hS.F ht⟩) hS.2.2 dX0_cellsOf_83 hlocks
      · rw [ht]
        exact ⟨hP2, cDy_push (cDy_push (show cDy K B ad z from ‹cP D K B ad z _›.2))⟩
      · rw [← adp_set (x := rwW K qi k f)]
        exact hV.1.set adp_at
    | succ fu ih =>
      intro k f H locs ls hkn hf hP hV hS hl
      refine lv_iload E.1 E.2.1 dX0_cellsOf_53 (lv_at hl 0 rfl) ?_
      refine lv_aload E.1 E.2.1 dX0_cellsOf_55 (lv_at hl 1 rfl) ?_
      refine va_alen (v := nI n) E.1 E.2.1 hK hP.1 ((adp ad (qb, .inl (K 1, n, .inl (fun _ => 0)))).2.2.length + 7) 0 adp_at rfl rfl dX0_cellsOf_57 ?_
      refine lv_icmp_ge (tgt := 81) E.1 E.2.1 dX0_cellsOf_58 (by decide) (fun h => absurd h (nI_ge (by omega) (by omega))) (fun _ => ?_)
      refine lv_aload E.1 E.2.1 dX0_cellsOf_61 (lv_at hl 1 rfl) ?_
      refine lv_iload E.1 E.2.1 dX0_cellsOf_63 (lv_at hl 0 rfl) ?_
      refine lv_aload_n E.1 E.2.1 dX0_cellsOf_65 rfl (lv_at hl 4 rfl) ?_
      refine lv_iload_n E.1 E.2.1 dX0_cellsOf_66 rfl (lv_at hl 5 rfl) ?_
      refine lv_iload_n E.1 E.2.1 dX0_cellsOf_67 rfl (lv_at hl 6 rfl) ?_
      refine lv_iload E.1 E.2.1 dX0_cellsOf_68 (lv_at hl 0 rfl) ?_
      refine lv_iadd E.1 E.2.1 dX0_cellsOf_70 ?_
      rw [nI_add]
      refine px_go (va_runS (As := [.ref w, .int (nI kd), .int (nI (i + k))]) (rest := [.int (nI k), .ref qi]) E (cf_cellOf l G D K w hk sz g (nI (i + k)) (inb_nI (by omega) (by omega))) (va_cwS 3 E.2.2.2.2 (lw_S q748 q749 q54 q750) rfl rfl rfl (by decide +kernel) ⟨by decide, by decide⟩) (x_preS hAl hX hK (row (fun x hx => List.mem_append_left _ (List.mem_append_left _ hx)) hP) hS) rfl rfl hl.1 rfl (lv_room (Nat.le_of_ble_eq_true rfl)) dX0_cellsOf_71 ⟨by decide, by decide⟩) ?_
      rw [nI_clamp (show i + k < 2 ^ 31 by omega)]
      refine va_iast E.1 E.2.1 hK hP.1 hV.1 hS ((adp ad (qb, .inl (K 1, n, .inl (fun _ => 0)))).2.2.length + 7) 0 adp_at rfl (vp_in_nI (by omega) (by omega)) dX0_cellsOf_74 (fun H locs hP1 hD1 hS => ?_)
      rw [nI_clamp (show k < 2 ^ 31 by omega), adp_set] at hP1 hD1
      refine lv_iinc (v := nI k + 1) (lv' := [(7, .int (nI k + 1)), (6, .ref qi), (5, .ref qb), (4, .int (nI sz)), (0, .ref w), (1, .int (nI kd)), (2, .int (nI i)), (3, .int (nI n))]) E.1 E.2.1 dX0_cellsOf_75 hl (k := 0) rfl rfl (by decide) rfl (fun ls hl => ?_)
      rw [nI_1] at hl
      refine lv_goto (tgt := 53) E.1 E.2.1 dX0_cellsOf_78 (by decide) ?_
      refine ih (k + 1) (upd f k (g (i + k))) H locs ls (by omega) (fun x hx => ?_) ⟨hP1, cDy_push (cDy_push (show cDy K B ad z from ‹cP D K B ad z _›.2))⟩ ⟨hD1, hV.2⟩ hS hl
      unfold upd
      by_cases hxk : x = k
      · rw [if_pos hxk, hxk]
      · rw [if_neg hxk]; exact hf x (by omega)
  exact L53 n 0 (fun _ => 0) H locs ls rfl (fun x hx => absurd hx (Nat.not_lt_zero x)) hPi hVi hS hl
/-! cellsOf: what it throws -/
abbrev rmXC : Room := { frames := 10, cells := 4, slots := 1680, locals := 10340 }
set_option maxHeartbeats 1000000 in
theorem cx_cellsOf_null (l : Launch) {s0 : State} {a0 : Array Value} (G : cG l s0 a0) (D : va_G) (K : Nat → ClassId) {kd : Nat} (hk : kd ≤ 2) (i n : Int32) : MetT l yX0_cellsOf (ws_ yX0_cellsOf cX0_cellsOf 8 (some (.array .int))) rmXC (xPc D K s0 [] [.null, .int (nI kd), .int i, .int n]) "java/lang/NullPointerException" 4 1680 := by
  refine tx_start RX0 (by decide) rfl (Nat.le_of_ble_eq_true rfl) ?_
  intro p e s m args below meth c ls E hr hlocks hxt hC hl
  obtain ⟨hP, hK, hX⟩ := hC
  have hl : lv_has ls 8 [(0, .null), (1, .int (nI kd)), (2, .int i), (3, .int n)] := hl
  refine lv_aload_nN E.1 E.2.1 dX0_cellsOf_0 rfl (lv_at hl 0 rfl) ?_
  refine lv_iload_n E.1 E.2.1 dX0_cellsOf_1 rfl (lv_at hl 1 rfl) ?_
  exact tx_passG (rest := []) (runT_S (As := [.null, .int (nI kd)]) (rest := []) E (cf_sizeOf_null l G D K hk) (va_cwS 2 E.2.2.2.2 (lw_S q839 q840 q54 q841) rfl rfl rfl (by decide +kernel) ⟨by decide, by decide⟩) ⟨x_blind, fun U hU hW => ⟨rfl, by rw [hU]; exact hP, va_K.moved hW.alike hK, State.WarmedH.trans hX.1 hW, by rw [hU]; exact hX.2⟩⟩ rfl rfl hl.1 rfl (lv_room (Nat.le_of_ble_eq_true rfl)) dX0_cellsOf_2 ⟨by decide, by decide⟩) hxt hlocks (by decide) (by decide)
set_option maxHeartbeats 1000000 in
theorem cx_cellsOf_cast (l : Launch) {s0 : State} {a0 : Array Value} (G : cG l s0 a0) (D : va_G) (K : Nat → ClassId) (w : Nat) {kd kd' : Nat} (hk : kd ≤ 2) (hk' : kd' ≤ 2) (hne : kd ≠ kd') (sz : Nat) (g : Nat → Int32) (i n : Int32) : MetT l yX0_cellsOf (ws_ yX0_cellsOf cX0_cellsOf 8 (some (.array .int))) rmXC (xPc D K s0 [(w, rwE K kd sz g)] [.ref w, .int (nI kd'), .int i, .int n]) "java/lang/ClassCastException" 4 1680 := by
  refine tx_start RX0 (by decide) rfl (Nat.le_of_ble_eq_true rfl) ?_
  intro p e s m args below meth c ls E hr hlocks hxt hC hl
  obtain ⟨hP, hK, hX⟩ := hC
  have hl : lv_has ls 8 [(0, .ref w), (1, .int (nI kd')), (2, .int i), (3, .int n)] := hl
  refine lv_aload_n E.1 E.2.1 dX0_cellsOf_0 rfl (lv_at hl 0 rfl) ?_
  refine lv_iload_n E.1 E.2.1 dX0_cellsOf_1 rfl (lv_at hl 1 rfl) ?_
  exact tx_passG (rest := []) (runT_S (As := [.ref w, .int (nI kd')]) (rest := []) E (cf_sizeOf_cast l G D K w hk hk' hne sz g) (va_cwS 2 E.2.2.2.2 (lw_S q839 q840 q54 q841) rfl rfl rfl (by decide +kernel) ⟨by decide, by decide⟩) ⟨x_blind, fun U hU hW => ⟨rfl, by rw [hU]; exact hP, va_K.moved hW.alike hK, State.WarmedH.trans hX.1 hW, by rw [hU]; exact hX.2⟩⟩ rfl rfl hl.1 rfl (lv_room (Nat.le_of_ble_eq_true rfl)) dX0_cellsOf_2 ⟨by decide, by decide⟩) hxt hlocks (by decide) (by decide)
set_option maxHeartbeats 1000000 in
theorem cx_cellsOf_neg (l : Launch) {s0 : State} {a0 : Array Value} (G : cG l s0 a0) (D : va_G) (K : Nat → ClassId) (w : Nat) {kd : Nat} (hk : kd ≤ 2) (sz : Nat) (g : Nat → Int32) (i n : Int32) (hn : n < 0) : MetT l yX0_cellsOf (ws_ yX0_cellsOf cX0_cellsOf 8 (some (.array .int))) rmXC (xPc D K s0 [(w, rwE K kd sz g)] [.ref w, .int (nI kd), .int i, .int n]) "java/lang/NegativeArraySizeException" 4 1680 := by
  refine tx_start RX0 (by decide) rfl (Nat.le_of_ble_eq_true rfl) ?_
  intro p e s m args below meth c ls E hr hlocks hxt hC hl
  obtain ⟨hP, hK, hX⟩ := hC
  have hl : lv_has ls 8 [(0, .ref w), (1, .int (nI kd)), (2, .int i), (3, .int n)] := hl
  refine lv_aload_n E.1 E.2.1 dX0_cellsOf_0 rfl (lv_at hl 0 rfl) ?_
  refine lv_iload_n E.1 E.2.1 dX0_cellsOf_1 rfl (lv_at hl 1 rfl) ?_
  refine px_go (va_runS (As := [.ref w, .int (nI kd)]) (rest := []) E (cf_sizeOf l G D K w hk sz g) (va_cwS 2 E.2.2.2.2 (lw_S q839 q840 q54 q841) rfl rfl rfl (by decide +kernel) ⟨by decide, by decide⟩) ⟨x_blind, fun U hU hW => ⟨rfl, by rw [hU]; exact hP, va_K.moved hW.alike hK, State.WarmedH.trans hX.1 hW, by rw [hU]; exact hX.2⟩⟩ rfl rfl hl.1 rfl (lv_room (Nat.le_of_ble_eq_true rfl)) dX0_cellsOf_2 ⟨by decide, by decide⟩) ?_
  refine lv_istore (lv' := [(4, .int (nI sz)), (0, .ref w), (1, .int (nI kd)), (2, .int i), (3, .int n)]) E.1 E.2.1 dX0_cellsOf_5 hl (by decide) rfl (fun ls hl => ?_)
  refine lv_iload_n E.1 E.2.1 dX0_cellsOf_7 rfl (lv_at hl 4 rfl) ?_
  refine lv_bipush (v := (61 : Int32)) E.1 E.2.1 dX0_cellsOf_8 (by decide) ?_
  refine va_mmin E.1 E.2.1 (E.2.2.1.trans hl.1.symm) E.2.2.2.1 (E.2.2.2.2 _ q842) (E.2.2.2.2 _ q444) (E.2.2.2.2 _ q73) (E.2.2.2.2 _ q445) (by decide) (by decide) (Nat.zero_le _) (Nat.zero_le _) dX0_cellsOf_10 ?_
  rw [if_neg (fun h : (61 : Int32) < n => absurd (Int32.lt_trans h hn) (by decide))]
  exact tx_neg (rest := []) hn G.2.2.2 E (xa_nas G.1 E.2.2.2.2 hX.1 hX.2 (cG_x G hX.1 hX.2)) hxt hlocks hl (Nat.le_of_ble_eq_true rfl) ⟨by decide, by decide⟩ ⟨by decide, by decide⟩ ⟨by decide, by decide⟩ dX0_cellsOf_13
set_option maxHeartbeats 1000000 in
theorem cx_cellsOf_out (l : Launch) {s0 : State} {a0 : Array Value} (G : cG l s0 a0) (D : va_G) (K : Nat → ClassId) (w : Nat) {kd : Nat} (hk : kd ≤ 2) (sz : Nat) (g : Nat → Int32) (i n : Int32) (hn : ¬ n < 0) (hb : ¬ (n < 61 ∧ 0 ≤ i ∧ i ≤ nI sz - n)) : MetT l yX0_cellsOf (ws_ yX0_cellsOf cX0_cellsOf 8 (some (.array .int))) rmXC (xPc D K s0 [(w, rwE K kd sz g)] [.ref w, .int (nI kd), .int i, .int n]) "java/lang/IndexOutOfBoundsException" 4 1680 := by
  refine tx_start RX0 (by decide) rfl (Nat.le_of_ble_eq_true rfl) ?_
  intro p e s m args below meth c ls E hr hlocks hxt hC hl
  obtain ⟨hP, hK, hX⟩ := hC
  have hl : lv_has ls 8 [(0, .ref w), (1, .int (nI kd)), (2, .int i), (3, .int n)] := hl
  refine lv_aload_n E.1 E.2.1 dX0_cellsOf_0 rfl (lv_at hl 0 rfl) ?_
  refine lv_iload_n E.1 E.2.1 dX0_cellsOf_1 rfl (lv_at hl 1 rfl) ?_
  refine px_go (va_runS (As := [.ref w, .int (nI kd)]) (rest := []) E (cf_sizeOf l G D K w hk sz g) (va_cwS 2 E.2.2.2.2 (lw_S q839 q840 q54 q841) rfl rfl rfl (by decide +kernel) ⟨by decide, by decide⟩) ⟨x_blind, fun U hU hW => ⟨rfl, by rw [hU]; exact hP, va_K.moved hW.alike hK, State.WarmedH.trans hX.1 hW, by rw [hU]; exact hX.2⟩⟩ rfl rfl hl.1 rfl (lv_room (Nat.le_of_ble_eq_true rfl)) dX0_cellsOf_2 ⟨by decide, by decide⟩) ?_
  refine lv_istore (lv' := [(4, .int (nI sz)), (0, .ref w), (1, .int (nI kd)), (2, .int i), (3, .int n)]) E.1 E.2.1 dX0_cellsOf_5 hl (by decide) rfl (fun ls hl => ?_)
  refine lv_iload_n E.1 E.2.1 dX0_cellsOf_7 rfl (lv_at hl 4 rfl) ?_
  refine lv_bipush (v := (61 : Int32)) E.1 E.2.1 dX0_cellsOf_8 (by decide) ?_
  refine va_mmin E.1 E.2.1 (E.2.2.1.trans hl.1.symm) E.2.2.2.1 (E.2.2.2.2 _ q842) (E.2.2.2.2 _ q444) (E.2.2.2.2 _ q73) (E.2.2.2.2 _ q445) (by decide) (by decide) (Nat.zero_le _) (Nat.zero_le _) dX0_cellsOf_10 ?_
  obtain ⟨N, hN, eN⟩ : ∃ N : Nat, N ≤ 61 ∧ (if (61 : Int32) < n then 61 else n) = nI N := by
    by_cases h : (61 : Int32) < n
    · exact ⟨61, Nat.le_refl _, if_pos h⟩
    · obtain ⟨N, hN, rfl⟩ := nI_of2 (M := 61) (n := 61) (by decide) hn (Int32.not_lt.mp h)
      exact ⟨N, hN, if_neg h⟩
  rw [eN]
  have hA : ∀ q, s.heap.size ≤ q → (fun q => s.heap.size ≤ q) q := fun q h => h
  refine va_newa (A := fun q => s.heap.size ≤ q) (ws := []) (H0 := s.heap) (atype := .byte) (ty := .byte) (a0 := (N, .inl (fun _ => 0))) E.1 E.2.1 (E.2.2.2.2 _ q637) rfl hK (fun k q hq => by cases hq) ⟨fun i j p q (hi : ([] : va_W)[i]? = some p) => (by cases hi), fun k q (hq : ([] : va_W)[k]? = some q) => (by cases hq)⟩ va_S.rf hA (fun cA => rfl) (nI_pos (by omega)) (nI_clamp (by omega)) (by show N * 1 ≤ _; omega) (by decide) (by show 0 + N ≤ 1680; omega) dX0_cellsOf_13 (fun qb cA H hK1 hP1 hD1 hS => ?_)
  refine lv_astore (lv' := [(5, .ref qb), (4, .int (nI sz)), (0, .ref w), (1, .int (nI kd)), (2, .int i), (3, .int n)]) E.1 E.2.1 dX0_cellsOf_15 hl (by decide) rfl (fun ls hl => ?_)
  have bad : W p l e rmXC s m args below meth c H [] (0 + 1) (0 + N) (MQT below "java/lang/IndexOutOfBoundsException" s 4 1680) (F0 m 39 ls []) := by
    refine lv_iconst (v := (0 : Int32)) E.1 E.2.1 dX0_cellsOf_39 (by decide) ?_
    exact tx_passG (rest := []) (runT_S (As := [.int 0]) (rest := []) E (ct_need0 l G D K) (va_cwS 1 E.2.2.2.2 (lw_S q843 q844 q54 q845) rfl rfl rfl (by decide +kernel) ⟨by decide, by decide⟩) (x_preS (A := fun q => s.heap.size ≤ q) (fun q h => Nat.le_trans hX.2.1 h) hX hK (ws := []) (fun k q hq => by cases hq) hS) rfl rfl hl.1 rfl (lv_room (Nat.le_of_ble_eq_true rfl)) dX0_cellsOf_40 ⟨by decide, by show 0 + N + 1610 ≤ 1680; omega⟩) hxt hlocks (by decide) (by omega)
  refine lv_iload_n E.1 E.2.1 dX0_cellsOf_17 rfl (lv_at hl 5 rfl) ?_
  refine lv_bipush (v := (61 : Int32)) E.1 E.2.1 dX0_cellsOf_18 (by decide) ?_
  refine lv_icmp_ge (tgt := 39) E.1 E.2.1 dX0_cellsOf_20 (by decide) (fun _ => bad) (fun h1 => ?_)
  refine lv_iload_n E.1 E.2.1 dX0_cellsOf_23 rfl (lv_at hl 4 rfl) ?_
  refine lv_if_lt (tgt := 39) E.1 E.2.1 dX0_cellsOf_24 (by decide) (fun _ => bad) (fun h2 => ?_)
  refine lv_iload_n E.1 E.2.1 dX0_cellsOf_27 rfl (lv_at hl 4 rfl) ?_
  refine lv_iload E.1 E.2.1 dX0_cellsOf_28 (lv_at hl 1 rfl) ?_
  refine lv_iload_n E.1 E.2.1 dX0_cellsOf_30 rfl (lv_at hl 5 rfl) ?_
  refine lv_isub E.1 E.2.1 dX0_cellsOf_31 ?_
  refine lv_icmp_gt (tgt := 39) E.1 E.2.1 dX0_cellsOf_32 (by decide) (fun _ => bad) (fun h3 => ?_)
  exact absurd ⟨Int32.not_le.mp h1, Int32.not_lt.mp h2, Int32.not_lt.mp h3⟩ hb
