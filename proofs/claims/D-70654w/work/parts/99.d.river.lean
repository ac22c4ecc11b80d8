/-! looked, river, loads -/
theorem lw_UW {own : String} {idx : Nat} {C owner : String} {x y : MethodName} {b : ByteArray} {L : Nat} {r : Option FieldType} {hh : List (Nat × Nat × Nat × Nat)} (h1 : Cond.methodLink own idx x ∈ lw_all) (h2 : Cond.sameMethod x.cls owner x.name x.desc ∈ lw_all) (h3 : Cond.selects C x y ∈ lw_all) (h4 : Cond.instanceMethod y ∈ lw_all) (h5 : Cond.initialized y.cls ∈ lw_all) (h6 : Cond.codeWith y b L r hh ∈ lw_all) : GoodIn lw_all (va_wsU own idx C owner x y (wsW_ y b L r hh)) := by
  refine lw_app ?_ (lw_methW h6)
  intro w hw
  simp only [List.mem_cons, List.not_mem_nil, or_false] at hw
  rcases hw with e | e | e | e | e
  · rw [e]; exact h1
  · rw [e]; exact h2
  · rw [e]; exact h3
  · rw [e]; exact h4
  · rw [e]; exact h5
abbrev rmLooked : Room := { frames := 18, cells := 12, slots := 1800, locals := 10650 }
set_option maxHeartbeats 1000000 in
theorem mm_X0_looked (l : Launch) {D : va_G} {K : Nat → ClassId} {s0 : State} {a0 : Array Value} {B : Nat → Nat} {ad : CA} {A : Nat → Prop} (hT : ∀ w ∈ lw_tbl, w.before a0 s0 = true) (hAl : ∀ q, A q → s0.heap.size ≤ q) {C : String} {ci N qa : Nat} {T : u_T} {fs : List Value} (lk : lkOk C ci N T) (hqa : (qa, .inr (ci, fs)) ∈ ad.2.2) {z : CZ} {res : Int32 × CZ} {x1 x2 b : Int32} (hf : fs[0]? = some (.int x1) ∧ fs[1]? = some (.int x2)) (hsel : Cond.selects C ⟨"DebtFerry$Looking", "tried", "()I"⟩ yX2_tried ∈ lw_all)
    (h1 : ¬ isSh x1 → res = (-1, cz_f z 8 0)) (h2 : isSh x1 → ¬ (isSo x2 ∧ ¬ b = 0) → res = (-2, cz_f z 8 0)) (h3 : cDy K B ad z → isSh x1 → isSo x2 → ¬ b = 0 → Met l yX2_tried (wsW_ yX2_tried cX2_tried 2 (some .int) hhX2) rmTried (cIPc D K s0 B A ad z [.ref qa]) (cIQ D K B A (some (.int res.1)) res.2) 12 1800 A) :
    Met l yX0_looked (ws_ yX0_looked cX0_looked 3 (some .int)) rmLooked (cIPc D K s0 B A ad z [.ref (B 0), .ref qa, .int b]) (cIQ D K B A (some (.int res.1)) res.2) 12 1800 A := by
  refine cI_start RX0 (by decide) rfl (Nat.le_of_ble_eq_true rfl) ?_
  intro p e s m args below meth c H locs ls E hr hlocks hK hX hA hP hV hS hl
  have hl : lv_has ls 3 [(0, .ref (B 0)), (1, .ref qa), (2, .int b)] := hl
  have hN := hX.1
  have hD : ∀ z, va_D A (cW K B ad z) := fun z => cW_D hV.1 z
  have lk' := lk
  obtain ⟨-, -, -, t0, t1, -⟩ := lk'
  refine lv_aload_n E.1 E.2.1 dX0_looked_0 rfl (lv_at hl 1 rfl) ?_
  refine ck_lk E lk hK hP hqa 0 (by decide) hf.1 t0 q773 dX0_looked_1 ?_
  refine ck_noSheet E hl (Nat.le_of_ble_eq_true rfl) ⟨by decide, by decide⟩ ⟨Nat.zero_le _, Nat.zero_le _⟩ dX0_looked_4 ?_
  by_cases hs : isSh x1
  · rw [if_pos hs]
    refine lv_if_eq (tgt := 16) E.1 E.2.1 dX0_looked_7 (by decide) (fun _ => ?_) (fun h => absurd rfl h)
    refine lv_aload_n E.1 E.2.1 dX0_looked_16 rfl (lv_at hl 1 rfl) ?_
    refine ck_lk E lk hK hP hqa 1 (by decide) hf.2 t1 q775 dX0_looked_17 ?_
    refine lv_i2l E.1 E.2.1 dX0_looked_20 rfl ?_
    refine lv_lconst (v := (0 : Int64)) E.1 E.2.1 dX0_looked_21 (by decide) ?_
    refine lv_ldc2 (v := (2 : Int64)) E.1 E.2.1 E.2.2.2.1 (E.2.2.2.2 _ q649) dX0_looked_22 ?_
    refine ck_inSo E hl (Nat.le_of_ble_eq_true rfl) ⟨by decide, by decide⟩ ⟨Nat.zero_le _, Nat.zero_le _⟩ dX0_looked_25 ?_
    have bad : ¬ (isSo x2 ∧ ¬ b = 0) → W p l e rmLooked s m args below meth c H locs 0 0 (MQ below (cIQ D K B A (some (.int res.1)) res.2) args s 12 1800 A) (F0 m 42 ls []) := by
      intro hb
      have e := h2 hs hb
      refine lv_aload_n E.1 E.2.1 dX0_looked_42 rfl (lv_at hl 0 rfl) ?_
      refine lv_bipush (v := (-2 : Int32)) E.1 E.2.1 dX0_looked_43 (by decide) ?_
      refine ck_refused E hT hN hD hK hP hS hl (Nat.le_of_ble_eq_true rfl) ⟨by decide, by decide⟩ ⟨Nat.zero_le _, Nat.zero_le _⟩ dX0_looked_45 (fun H locs hP hS => ?_)
      refine W_pad (c' := 12) (s' := 1800) (by decide) (by decide) ?_
      exact cI_iret E hr hlocks hP ⟨hD _, hV.2⟩ hS (by rw [e]) dX0_looked_48
    by_cases hso : isSo x2
    · rw [if_pos hso]
      refine lv_if_eq (tgt := 42) E.1 E.2.1 dX0_looked_28 (by decide) (fun h => absurd h (by decide)) (fun _ => ?_)
      refine lv_iload_n E.1 E.2.1 dX0_looked_31 rfl (lv_at hl 2 rfl) ?_
      refine lv_if_eq (tgt := 42) E.1 E.2.1 dX0_looked_32 (by decide) (fun h => bad (fun q => q.2 h)) (fun hb => ?_)
      refine lv_aload_n E.1 E.2.1 dX0_looked_35 rfl (lv_at hl 1 rfl) ?_
      refine cI_go (va_runUW (C := C) (owner := RX2) (x := ⟨"DebtFerry$Looking", "tried", "()I"⟩) (As := []) (rest := []) E (h3 hP.2 hs hso hb) (va_cwUW 0 E.2.2.2.2 (lw_UW q799 q800 hsel q804 q59 q805) rfl rfl rfl (va_Nw.warmD hN (va_Nw.of rfl (hT _ q801))) (by decide +kernel) ⟨by decide, by decide⟩) (cI_pre hAl hA hX hK hP hV hS (lk_recv lk hK hP hqa)) rfl rfl hl.1 rfl (lv_room (Nat.le_of_ble_eq_true rfl)) dX0_looked_36 ⟨by decide, by decide⟩) hS (fun H locs ad1 hP hV hS => ?_)
      refine lv_goto (tgt := 48) E.1 E.2.1 dX0_looked_39 (by decide) ?_
      exact cI_iret E hr hlocks hP hV hS rfl dX0_looked_48
    · rw [if_neg hso]
      refine lv_if_eq (tgt := 42) E.1 E.2.1 dX0_looked_28 (by decide) (fun _ => bad (fun q => hso q.1)) (fun h => absurd rfl h)
  · rw [if_neg hs]
    have e := h1 hs
    refine lv_if_eq (tgt := 16) E.1 E.2.1 dX0_looked_7 (by decide) (fun h => absurd h (by decide)) (fun _ => ?_)
    refine lv_aload_n E.1 E.2.1 dX0_looked_10 rfl (lv_at hl 0 rfl) ?_
    refine lv_iconst (v := (-1 : Int32)) E.1 E.2.1 dX0_looked_11 (by decide) ?_
    refine ck_refused E hT hN hD hK hP hS hl (Nat.le_of_ble_eq_true rfl) ⟨by decide, by decide⟩ ⟨Nat.zero_le _, Nat.zero_le _⟩ dX0_looked_12 (fun H locs hP hS => ?_)
    refine W_pad (c' := 12) (s' := 1800) (by decide) (by decide) ?_
    exact cI_iret E hr hlocks hP ⟨hD _, hV.2⟩ hS (by rw [e]) dX0_looked_15
abbrev rmX0_river : Room := { frames := 20, cells := 13, slots := 1810, locals := 10700 }
set_option maxHeartbeats 1000000 in
theorem mm_X0_river (l : Launch) {D : va_G} {K : Nat → ClassId} {s0 : State} {a0 : Array Value} {B : Nat → Nat} {ad : CA} {A : Nat → Prop} (G : cG l s0 a0) {mir : Nat} (hM : mirE s0 mir) (hE : jE0 s0 (B 10)) (hAl : ∀ q, A q → s0.heap.size ≤ q) (hB : ¬ A (B 10)) (x1 x2 x3 x4 : Int32) (z0 : CZ) (res : Int32 × CZ) (hF : c_river x1 x2 x3 x4 z0 = some res) : Met l yX0_river (ws_ yX0_river cX0_river 5 (some .int)) rmX0_river (cIPc D K s0 B A ad z0 [.ref (B 0), .int x1, .int x2, .int x3, .int x4]) (cIQ D K B A (some (.int res.1)) res.2) 13 1810 A := by
  refine cI_start RX0 (by decide) rfl (Nat.le_of_ble_eq_true rfl) ?_
  intro p e s m args below meth c H locs ls E hr hlocks hK hX hA hP hV hS hl
  have hl : lv_has ls 5 [(0, .ref (B 0)), (1, .int x1), (2, .int x2), (3, .int x3), (4, .int x4)] := hl
  have hN := hX.1
  have hT := G.1
  unfold c_river at hF
  refine lv_aload_n E.1 E.2.1 dX0_river_0 rfl (lv_at hl 0 rfl) ?_
  refine va_new E.1 E.2.1 E.2.2.2.2 in_X4 tyX4 tyX4_ok E.2.2.2.1 (E.2.2.2.2 _ q759) (E.2.2.2.2 _ q760) (E.2.2.2.2 _ q61) hK hP.1 hV.1 hS hA (ci := 8) (C := RX4) (T := TX4) (N := 7) rfl (fs := [.int 0, .int 0, .int 0, .int 0, .null, .null, .null]) (by decide +kernel) (by decide) (by decide) dX0_river_1 (fun q H hP1 hD1 hS => ?_)
  refine lv_dup E.1 E.2.1 dX0_river_4 rfl ?_
  refine lv_aload_n E.1 E.2.1 dX0_river_5 rfl (lv_at hl 0 rfl) ?_
  refine lv_iload_n E.1 E.2.1 dX0_river_6 rfl (lv_at hl 1 rfl) ?_
  refine lv_iload_n E.1 E.2.1 dX0_river_7 rfl (lv_at hl 2 rfl) ?_
  refine lv_iload_n E.1 E.2.1 dX0_river_8 rfl (lv_at hl 3 rfl) ?_
  refine lv_iload E.1 E.2.1 dX0_river_9 (lv_at hl 4 rfl) ?_
  refine ck_ctor (va_runI (As := [.ref (B 0), .int x1, .int x2, .int x3, .int x4]) (rest := [.ref q, .ref (B 0)]) E (nm_X4_8 l hT D K q (.int 0) (.int 0) (.int 0) (.int 0) .null .null .null (B 0) x1 x2 x3 x4) (cwI 5 E.2.2.2.2 (lw_meth q763) rfl rfl rfl (E.2.2.2.2 _ q61) (E.2.2.2.2 _ q761) (E.2.2.2.2 _ q762) rfl (by decide +kernel) ⟨by decide, by decide⟩) (n_preS hK hN (vP_of hP1 (fun x hx => List.mem_append_right _ hx))) rfl rfl hl.1 rfl (lv_room (Nat.le_of_ble_eq_true rfl)) dX0_river_11 ⟨by decide, by decide⟩) hP1 hD1 hS (fun H locs hP1 hD1 hS => ?_)
  have hPa : cP D K B (adp ad (q, .inr (8, acM B x1 x2 x3 x4))) z0 H := ⟨hP1, cDy_push hP.2⟩
  have hVa : cV K B A (adp ad (q, .inr (8, acM B x1 x2 x3 x4))) z0 := ⟨hD1, hV.2⟩
  have hqa : (q, Sum.inr (8, acM B x1 x2 x3 x4)) ∈ (adp ad (q, .inr (8, acM B x1 x2 x3 x4))).2.2 := List.mem_append_right _ List.mem_cons_self
  refine lv_iconst (v := (1 : Int32)) E.1 E.2.1 dX0_river_14 (by decide) ?_
  have hLk := mm_X0_looked l (D := D) (K := K) (B := B) (A := A) (z := z0) (res := res) (b := 1) hT hAl lk_M hqa ⟨rfl, rfl⟩ q803 (fun h => by rw [if_neg h] at hF; exact (Option.some.inj hF).symm) (fun h h' => by rw [if_pos h, if_neg (fun q => h' ⟨q, by decide⟩)] at hF; exact (Option.some.inj hF).symm) (fun hcp h h' _ => by
    rw [if_pos h, if_pos h'] at hF
    exact look_tried l G hAl lk_M ac_M hqa h h' ⟨rfl, rfl, rfl, rfl, rfl⟩ rfl hcp c_newRiver hF (fun n rg ad' w hn hF' m1 m2 => mm_X4_lookAt l hT hM hE hAl hB m1 n rg hn m2 _ res hF') q872 q873 q61 q874 q921 (rmD := { frames := 12, cells := 11, slots := 180, locals := 400 }) ⟨rfl, rfl, by decide, by decide, rfl, rfl⟩ ⟨by decide, by decide⟩ ⟨by decide, by decide, by decide, by decide⟩)
  refine cI_go (va_runV (As := [.ref q, .int 1]) (rest := []) E hLk (cwV 2 E.2.2.2.2 (lw_V q795 q797 qs27 q54 q798) rfl rfl rfl (by decide +kernel) ⟨by decide, by decide⟩) (cI_pre hAl hA hX hK hPa hVa hS (ck_me hK hPa)) rfl rfl hl.1 rfl (lv_room (Nat.le_of_ble_eq_true rfl)) dX0_river_15 ⟨by decide, by decide⟩) hS (fun H locs ad1 hP hV hS => ?_)
  refine W_pad (c' := 13) (s' := 1810) (by decide) (by decide) ?_
  exact cI_iret E hr hlocks hP hV hS rfl dX0_river_18
set_option maxHeartbeats 1000000 in
theorem mm_X0_loads (l : Launch) {D : va_G} {K : Nat → ClassId} {s0 : State} {a0 : Array Value} {B : Nat → Nat} {ad : CA} {A : Nat → Prop} (G : cG l s0 a0) (hAl : ∀ q, A q → s0.heap.size ≤ q) (x1 x2 x3 x4 x5 : Int32) (z0 : CZ) (res : Int32 × CZ) (hF : c_loads x1 x2 x3 x4 x5 z0 = some res) : Met l yX0_loads (ws_ yX0_loads cX0_loads 6 (some .int)) rmX0_river (cIPc D K s0 B A ad z0 [.ref (B 0), .int x1, .int x2, .int x3, .int x4, .int x5]) (cIQ D K B A (some (.int res.1)) res.2) 13 1810 A := by
  refine cI_start RX0 (by decide) rfl (Nat.le_of_ble_eq_true rfl) ?_
  intro p e s m args below meth c H locs ls E hr hlocks hK hX hA hP hV hS hl
  have hl : lv_has ls 6 [(0, .ref (B 0)), (1, .int x1), (2, .int x2), (3, .int x3), (4, .int x4), (5, .int x5)] := hl
  have hN := hX.1
  have hT := G.1
  unfold c_loads at hF
  refine lv_aload_n E.1 E.2.1 dX0_loads_0 rfl (lv_at hl 0 rfl) ?_
  refine va_new E.1 E.2.1 E.2.2.2.2 in_X8 tyX8 tyX8_ok E.2.2.2.1 (E.2.2.2.2 _ q932) (E.2.2.2.2 _ q933) (E.2.2.2.2 _ q82) hK hP.1 hV.1 hS hA (ci := 9) (C := RX8) (T := TX8) (N := 8) rfl (fs := [.int 0, .int 0, .int 0, .int 0, .null, .null, .int 0, .null]) (by decide +kernel) (by decide) (by decide) dX0_loads_1 (fun q H hP1 hD1 hS => ?_)
  refine lv_dup E.1 E.2.1 dX0_loads_4 rfl ?_
  refine lv_aload_n E.1 E.2.1 dX0_loads_5 rfl (lv_at hl 0 rfl) ?_
  refine lv_iload_n E.1 E.2.1 dX0_loads_6 rfl (lv_at hl 1 rfl) ?_
  refine lv_iload_n E.1 E.2.1 dX0_loads_7 rfl (lv_at hl 2 rfl) ?_
  refine lv_iload_n E.1 E.2.1 dX0_loads_8 rfl (lv_at hl 3 rfl) ?_
  refine lv_iload E.1 E.2.1 dX0_loads_9 (lv_at hl 4 rfl) ?_
  refine lv_iload E.1 E.2.1 dX0_loads_11 (lv_at hl 5 rfl) ?_
  refine ck_ctor (va_runI (As := [.ref (B 0), .int x1, .int x2, .int x3, .int x4, .int x5]) (rest := [.ref q, .ref (B 0)]) E (nm_X8_9 l hT D K q (.int 0) (.int 0) (.int 0) (.int 0) .null .null (.int 0) .null (B 0) x1 x2 x3 x4 x5) (cwI 6 E.2.2.2.2 (lw_meth q936) rfl rfl rfl (E.2.2.2.2 _ q82) (E.2.2.2.2 _ q934) (E.2.2.2.2 _ q935) rfl (by decide +kernel) ⟨by decide, by decide⟩) (n_preS hK hN (vP_of hP1 (fun x hx => List.mem_append_right _ hx))) rfl rfl hl.1 rfl (lv_room (Nat.le_of_ble_eq_true rfl)) dX0_loads_13 ⟨by decide, by decide⟩) hP1 hD1 hS (fun H locs hP1 hD1 hS => ?_)
  have hPa : cP D K B (adp ad (q, .inr (9, acL B x1 x2 x3 x4 x5))) z0 H := ⟨hP1, cDy_push hP.2⟩
  have hVa : cV K B A (adp ad (q, .inr (9, acL B x1 x2 x3 x4 x5))) z0 := ⟨hD1, hV.2⟩
  have hqa : (q, Sum.inr (9, acL B x1 x2 x3 x4 x5)) ∈ (adp ad (q, .inr (9, acL B x1 x2 x3 x4 x5))).2.2 := List.mem_append_right _ List.mem_cons_self
  have fin : ∀ (b : Int32), (isSh x1 → ¬ (isSo x2 ∧ ¬ b = 0) → res = (-2, cz_f z0 8 0)) → (¬ b = 0 → (0 ≤ x4 ∧ x4 ≤ 20) ∧ ((0 ≤ x5 ∧ x5 ≤ 4) ∨ (10 ≤ x5 ∧ x5 ≤ 14))) → W p l e rmX0_river s m args below meth c H locs (0 + 1 + 0) (0 + 8 + 0) (MQ below (cIQ D K B A (some (.int res.1)) res.2) args s 13 1810 A) (F0 m 62 ls [.int b, .ref q, .ref (B 0)]) := by
    intro b hb1 hb2
    have hLk := mm_X0_looked l (D := D) (K := K) (B := B) (A := A) (z := z0) (res := res) (b := b) hT hAl lk_L hqa ⟨rfl, rfl⟩ q802 (fun h => by rw [if_neg h] at hF; exact (Option.some.inj hF).symm) hb1 (fun hcp h h' hb => by
      rw [if_pos h, if_pos ⟨h', hb2 hb⟩] at hF
      exact look_tried l G hAl lk_L ac_L hqa h h' ⟨rfl, rfl, rfl, rfl, rfl⟩ rfl hcp (c_loadAt x5) hF (fun n rg ad' w hn hF' m1 m2 => mm_X8_lookAt l hT m1 n rg m2 _ res hF') q861 q862 q82 q863 q832 (rmD := { frames := 12, cells := 2, slots := 120, locals := 400 }) ⟨rfl, rfl, by decide, by decide, rfl, rfl⟩ ⟨by decide, by decide⟩ ⟨by decide, by decide, by decide, by decide⟩)
    refine cI_go (va_runV (As := [.ref q, .int b]) (rest := []) E hLk (cwV 2 E.2.2.2.2 (lw_V q795 q797 qs27 q54 q798) rfl rfl rfl (by decide +kernel) ⟨by decide, by decide⟩) (cI_pre hAl hA hX hK hPa hVa hS (ck_me hK hPa)) rfl rfl hl.1 rfl (lv_room (Nat.le_of_ble_eq_true rfl)) dX0_loads_62 ⟨by decide, by decide⟩) hS (fun H locs ad1 hP hV hS => ?_)
    refine W_pad (c' := 13) (s' := 1810) (by decide) (by decide) ?_
    exact cI_iret E hr hlocks hP hV hS rfl dX0_loads_65
  have no : ¬ ((0 ≤ x4 ∧ x4 ≤ 20) ∧ ((0 ≤ x5 ∧ x5 ≤ 4) ∨ (10 ≤ x5 ∧ x5 ≤ 14))) → W p l e rmX0_river s m args below meth c H locs (0 + 1 + 0) (0 + 8 + 0) (MQ below (cIQ D K B A (some (.int res.1)) res.2) args s 13 1810 A) (F0 m 61 ls [.ref q, .ref (B 0)]) := by
    intro hn
    refine lv_iconst (v := (0 : Int32)) E.1 E.2.1 dX0_loads_61 (by decide) ?_
    refine fin 0 (fun h _ => ?_) (fun h => absurd rfl h)
    rw [if_pos h, if_neg (fun q => hn q.2)] at hF
    exact (Option.some.inj hF).symm
  have yes : (0 ≤ x4 ∧ x4 ≤ 20) ∧ ((0 ≤ x5 ∧ x5 ≤ 4) ∨ (10 ≤ x5 ∧ x5 ≤ 14)) → W p l e rmX0_river s m args below meth c H locs (0 + 1 + 0) (0 + 8 + 0) (MQ below (cIQ D K B A (some (.int res.1)) res.2) args s 13 1810 A) (F0 m 57 ls [.ref q, .ref (B 0)]) := by
    intro hy
    refine lv_iconst (v := (1 : Int32)) E.1 E.2.1 dX0_loads_57 (by decide) ?_
    refine lv_goto (tgt := 62) E.1 E.2.1 dX0_loads_58 (by decide) ?_
    refine fin 1 (fun h h' => ?_) (fun _ => hy)
    rw [if_pos h, if_neg (fun q => h' ⟨q.1, by decide⟩)] at hF
    exact (Option.some.inj hF).symm
  refine lv_iload E.1 E.2.1 dX0_loads_16 (lv_at hl 4 rfl) ?_
  refine lv_i2l E.1 E.2.1 dX0_loads_18 rfl ?_
  refine lv_lconst (v := (0 : Int64)) E.1 E.2.1 dX0_loads_19 (by decide) ?_
  refine lv_ldc2 (v := (20 : Int64)) E.1 E.2.1 E.2.2.2.1 (E.2.2.2.2 _ q951) dX0_loads_20 ?_
  refine px_call (As := [.long x4.toInt64, .long 0, .long 20]) (rest := [.ref q, .ref (B 0)]) E (mm_X0_in l _ _ _ _ (c_in32 x4 0 20 (A := 0) (B := 20) rfl rfl)) (va_cwS 3 E.2.2.2.2 (lw_S q177 q178 q54 q179) rfl rfl rfl (by decide +kernel) ⟨by decide, by decide⟩) hl rfl rfl (Nat.le_of_ble_eq_true rfl) ⟨by decide, by decide⟩ dX0_loads_23 ?_
  by_cases h4 : 0 ≤ x4 ∧ x4 ≤ 20
  · rw [if_pos h4]
    refine lv_if_eq (tgt := 61) E.1 E.2.1 dX0_loads_26 (by decide) (fun h => absurd h (by decide)) (fun _ => ?_)
    refine lv_iload E.1 E.2.1 dX0_loads_29 (lv_at hl 5 rfl) ?_
    refine lv_i2l E.1 E.2.1 dX0_loads_31 rfl ?_
    refine lv_lconst (v := (0 : Int64)) E.1 E.2.1 dX0_loads_32 (by decide) ?_
    refine lv_ldc2 (v := (4 : Int64)) E.1 E.2.1 E.2.2.2.1 (E.2.2.2.2 _ q328) dX0_loads_33 ?_
    refine px_call (As := [.long x5.toInt64, .long 0, .long 4]) (rest := [.ref q, .ref (B 0)]) E (mm_X0_in l _ _ _ _ (c_in32 x5 0 4 (A := 0) (B := 4) rfl rfl)) (va_cwS 3 E.2.2.2.2 (lw_S q177 q178 q54 q179) rfl rfl rfl (by decide +kernel) ⟨by decide, by decide⟩) hl rfl rfl (Nat.le_of_ble_eq_true rfl) ⟨by decide, by decide⟩ dX0_loads_36 ?_
    by_cases h5 : 0 ≤ x5 ∧ x5 ≤ 4
    · rw [if_pos h5]
      refine lv_if_ne (tgt := 57) E.1 E.2.1 dX0_loads_39 (by decide) (fun _ => yes ⟨h4, Or.inl h5⟩) (fun h => absurd h (by decide))
    · rw [if_neg h5]
      refine lv_if_ne (tgt := 57) E.1 E.2.1 dX0_loads_39 (by decide) (fun h => absurd rfl h) (fun _ => ?_)
      refine lv_iload E.1 E.2.1 dX0_loads_42 (lv_at hl 5 rfl) ?_
      refine lv_i2l E.1 E.2.1 dX0_loads_44 rfl ?_
      refine lv_ldc2 (v := (10 : Int64)) E.1 E.2.1 E.2.2.2.1 (E.2.2.2.2 _ q952) dX0_loads_45 ?_
      refine lv_ldc2 (v := (14 : Int64)) E.1 E.2.1 E.2.2.2.1 (E.2.2.2.2 _ q953) dX0_loads_48 ?_
      refine px_call (As := [.long x5.toInt64, .long 10, .long 14]) (rest := [.ref q, .ref (B 0)]) E (mm_X0_in l _ _ _ _ (c_in32 x5 10 14 (A := 10) (B := 14) rfl rfl)) (va_cwS 3 E.2.2.2.2 (lw_S q177 q178 q54 q179) rfl rfl rfl (by decide +kernel) ⟨by decide, by decide⟩) hl rfl rfl (Nat.le_of_ble_eq_true rfl) ⟨by decide, by decide⟩ dX0_loads_51 ?_
      by_cases h6 : 10 ≤ x5 ∧ x5 ≤ 14
      · rw [if_pos h6]
        refine lv_if_eq (tgt := 61) E.1 E.2.1 dX0_loads_54 (by decide) (fun h => absurd h (by decide)) (fun _ => yes ⟨h4, Or.inr h6⟩)
      · rw [if_neg h6]
        refine lv_if_eq (tgt := 61) E.1 E.2.1 dX0_loads_54 (by decide) (fun _ => no (fun q => q.2.elim h5 h6)) (fun h => absurd rfl h)
  · rw [if_neg h4]
    refine lv_if_eq (tgt := 61) E.1 E.2.1 dX0_loads_26 (by decide) (fun _ => no (fun q => h4 q.1)) (fun h => absurd rfl h)
