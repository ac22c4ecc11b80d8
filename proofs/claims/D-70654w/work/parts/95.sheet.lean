/-! DebtFerry.sheet, DebtFerry.lose -/
theorem cIH_start {l : Launch} {D : va_G} {K : Nat → ClassId} {s0 : State} {B : Nat → Nat} {A : Nat → Prop} {ad : CA} {z : CZ} {cc : ByteArray} {nL : Nat} {y : MethodName} {ret : Option FieldType} {rm : Room} {av : List Value} {Qc : Array Value → State → Outcome → State → Prop} {mc ms : Nat} {free : Addr → Prop} {hh : List (Nat × Nat × Nat × Nat)} (own : String) (hy : plainName y.cls = true) (ho : y.cls = own) (hn : (lg_sl av).length ≤ nL)
    (body : ∀ (p : Program) (e : Env) (s : State) (m : MethodId) (args : Array Value) (below : List Frame) (meth : Method) (c : Code) (H : Heap) (locs : List Loc) (ls : Array Slot), CallFix p m c cc nL s args lw_all own → meth.sig.returnType = ret → meth.locks = false → c.exceptionTable.toList.map (fun h => (h.startPc, h.endPc, h.handlerPc, h.catchType)) = hh → va_K D vCl (cT K) s → xE s0 s → (∀ q, s.heap.size ≤ q → A q) → cP D K B ad z H → cV K B A ad z → va_S A s.heap H locs → lv_has ls nL (lv_args 0 av) → W p l e rm s m args below meth c H locs 0 0 (MQ below Qc args s mc ms free) (F0 m 0 ls [])) : Met l y (wsW_ y cc nL ret hh) rm (cIPc D K s0 B A ad z av) Qc mc ms free :=
  hh_start own hy ho hn (fun p e s m args below meth c ls E hr hlocks htab hC hl => body p e s m args below meth c _ _ ls E hr hlocks htab hC.2.1 hC.2.2.1 hC.2.2.2.2 hC.1 hC.2.2.2.1 (va_S.rf (A := A)) hl)
abbrev rmX0_lose : Room := { frames := 4, cells := 0, slots := 0, locals := 80 }
set_option maxHeartbeats 1000000 in
theorem mm_X0_lose (l : Launch) {D : va_G} {K : Nat → ClassId} {s0 : State} {B : Nat → Nat} {ad : CA} {A : Nat → Prop} (x1 : Int32) (z0 : CZ) (res : Int32 × CZ) (hF : c_lose x1 z0 = some res) : Met l yX0_lose (ws_ yX0_lose cX0_lose 3 (some .int)) rmX0_lose (cIPc D K s0 B A ad z0 [.ref (B 0), .int x1]) (cIQ D K B A (some (.int res.1)) res.2) 0 0 A := by
  refine cI_start RX0 (by decide) rfl (Nat.le_of_ble_eq_true rfl) ?_
  intro p e s m args below meth c H locs ls E hr hlocks hK hX hA hP hV hS hl
  have hl : lv_has ls 3 [(0, .ref (B 0)), (1, .int x1)] := hl
  unfold c_lose at hF
  refine lv_iload_n E.1 E.2.1 dX0_lose_0 rfl (lv_at hl 1 rfl) ?_
  refine ck_noSheet E hl (Nat.le_of_ble_eq_true rfl) ⟨Nat.le_of_ble_eq_true rfl, Nat.le_of_ble_eq_true rfl⟩ ⟨Nat.zero_le _, Nat.zero_le _⟩ dX0_lose_1 ?_
  by_cases h : isSh x1
  · rw [if_pos h]
    rw [if_pos h] at hF
    obtain ⟨k, hk, rfl⟩ := sh_nI h
    rw [nI_clamp (show k < 2 ^ 31 by omega)] at hF
    refine lv_if_eq (tgt := 9) E.1 E.2.1 dX0_lose_4 (by decide) (fun _ => ?_) (fun h => absurd rfl h)
    refine lv_aload_n E.1 E.2.1 dX0_lose_9 rfl (lv_at hl 0 rfl) ?_
    refine ck_get E hK hP 9 (by decide) q137 rfl (v := .ref (B 9)) rfl dX0_lose_10 ?_
    refine lv_iload_n E.1 E.2.1 dX0_lose_13 rfl (lv_at hl 1 rfl) ?_
    have fin : ∀ (v : Int32) (ls : Array Slot), some (v, cz_S z0 k none) = some res → lv_has ls 3 [(0, .ref (B 0)), (1, .int (nI k))] → W p l e rmX0_lose s m args below meth c H locs 0 0 (MQ below (cIQ D K B A (some (.int res.1)) res.2) args s 0 0 A) (F0 m 23 ls [.int v]) := by
      intro v ls hF hl
      refine lv_istore_n (lv' := [(2, .int v), (0, .ref (B 0)), (1, .int (nI k))]) E.1 E.2.1 dX0_lose_23 rfl hl (by decide) rfl (fun ls hl => ?_)
      refine lv_aload_n E.1 E.2.1 dX0_lose_24 rfl (lv_at hl 1 rfl) ?_
      refine ck_get E hK hP 9 (by decide) q137 rfl (v := .ref (B 9)) rfl dX0_lose_25 ?_
      refine lv_iload_n E.1 E.2.1 dX0_lose_28 rfl (lv_at hl 2 rfl) ?_
      refine lv_null E.1 E.2.1 dX0_lose_29 ?_
      refine va_astqN (f := fun k => (cz_sh z0 k).map (fun _ => ad.2.1 (300 + k))) E.1 E.2.1 hK hP.1 hV.1 hS 4 4 rfl rfl (vp_in_nI hk (by decide)) dX0_lose_30 (fun H locs hP1 hD1 hS => ?_)
      refine lv_iload_n E.1 E.2.1 dX0_lose_31 rfl (lv_at hl 0 rfl) ?_
      rw [nI_clamp (show k < 2 ^ 31 by omega)] at hP1 hD1
      have hw : cW K B ad (cz_S z0 k none) = (cW K B ad z0).set 4 (B 9, .inl (K 4, rqs 4 (va_up (fun k => (cz_sh z0 k).map (fun _ => ad.2.1 (300 + k))) k none))) := sh_W (ad := ad) (ad' := ad) rfl rfl rfl (fun x => by
        rw [cz_S_at]
        unfold va_up
        by_cases hx : x = k
        · rw [if_pos hx, if_pos hx]; rfl
        · rw [if_neg hx, if_neg hx])
      refine cI_iret (ad := ad) (z := cz_S z0 k none) E hr hlocks ⟨by rw [hw]; exact hP1, sh_Dy hP.2 (fun x hx _ => hx) (fun _ _ => rfl) (fun x hx _ q hq => ⟨rfl, rfl, (hP.2.2.2.2.2.2 x hx q hq).2.2.2⟩) (fun q hq => by cases hq)⟩ ⟨by rw [hw]; exact hD1, hV.2.1, fun x x' hx hx' hne h1 h2 => ?_⟩ hS hF dX0_lose_32
      refine hV.2.2 x x' hx hx' hne (fun h => h1 ?_) (fun h => h2 ?_)
      · rw [cz_S_at]
        by_cases hxk : x = k
        · rw [if_pos hxk]
        · rw [if_neg hxk]; exact h
      · rw [cz_S_at]
        by_cases hxk : x' = k
        · rw [if_pos hxk]
        · rw [if_neg hxk]; exact h
    cases hz : cz_sh z0 k with
    | none =>
      rw [hz] at hF
      refine ck_shl E hK hP hk (v := .null) (by rw [hz]; rfl) dX0_lose_14 ?_
      refine lv_ifnonnullN E.1 E.2.1 dX0_lose_15 ?_
      refine lv_iconst (v := (0 : Int32)) E.1 E.2.1 dX0_lose_18 (by decide) ?_
      refine lv_goto (tgt := 23) E.1 E.2.1 dX0_lose_19 (by decide) ?_
      exact fin 0 ls hF hl
    | some q =>
      rw [hz] at hF
      refine ck_shl E hK hP hk (v := .ref (ad.2.1 (300 + k))) (by rw [hz]; rfl) dX0_lose_14 ?_
      refine lv_ifnonnull (tgt := 22) E.1 E.2.1 dX0_lose_15 (by decide) ?_
      refine lv_iconst (v := (1 : Int32)) E.1 E.2.1 dX0_lose_22 (by decide) ?_
      exact fin 1 ls hF hl
  · rw [if_neg h]
    rw [if_neg h] at hF
    refine lv_if_eq (tgt := 9) E.1 E.2.1 dX0_lose_4 (by decide) (fun h => absurd h (by decide)) (fun _ => ?_)
    refine lv_iconst (v := (-1 : Int32)) E.1 E.2.1 dX0_lose_7 (by decide) ?_
    exact cI_iret E hr hlocks hP hV hS hF dX0_lose_8
abbrev rmX0_sheet : Room := { frames := 10, cells := 4, slots := 1611, locals := 10340 }
abbrev hhX0_sheet : List (Nat × Nat × Nat × Nat) := [(43, 62, 63, 246)]
set_option maxHeartbeats 1000000 in
theorem mm_X0_sheet (l : Launch) {D : va_G} {K : Nat → ClassId} {s0 : State} {a0 : Array Value} {B : Nat → Nat} {ad : CA} {A : Nat → Prop} (G : cG l s0 a0) (hAl : ∀ q, A q → s0.heap.size ≤ q) (x1 x2 x3 : Int32) (z0 : CZ) (res : Int32 × CZ) (hF : c_sheet x1 x2 x3 z0 = some res) : Met l yX0_sheet (wsW_ yX0_sheet cX0_sheet 5 (some .int) hhX0_sheet) rmX0_sheet (cIPc D K s0 B A ad z0 [.ref (B 0), .int x1, .int x2, .int x3]) (cIQ D K B A (some (.int res.1)) res.2) 4 1611 A := by
  refine cIH_start RX0 (by decide) rfl (Nat.le_of_ble_eq_true rfl) ?_
  intro p e s m args below meth c H locs ls E hr hlocks htab hK hX hA hP hV hS hl
  have hN := hX.1
  have hT := G.1
  have hD : ∀ z, va_D A (cW K B ad z) := fun z => cW_D hV.1 z
  have hl : lv_has ls 5 [(0, .ref (B 0)), (1, .int x1), (2, .int x2), (3, .int x3)] := hl
  unfold c_sheet at hF
  refine lv_iload_n E.1 E.2.1 dX0_sheet_0 rfl (lv_at hl 1 rfl) ?_
  refine ck_noSheet E hl (Nat.le_of_ble_eq_true rfl) ⟨by decide, by decide⟩ ⟨Nat.zero_le _, Nat.zero_le _⟩ dX0_sheet_1 ?_
  by_cases h : isSh x1
  · rw [if_pos h]
    rw [if_pos h] at hF
    obtain ⟨k, hk, rfl⟩ := sh_nI h
    refine lv_if_eq (tgt := 13) E.1 E.2.1 dX0_sheet_4 (by decide) (fun _ => ?_) (fun h => absurd rfl h)
    refine lv_iload_n E.1 E.2.1 dX0_sheet_13 rfl (lv_at hl 2 rfl) ?_
    refine lv_i2l E.1 E.2.1 dX0_sheet_14 rfl ?_
    refine lv_lconst (v := (0 : Int64)) E.1 E.2.1 dX0_sheet_15 (by decide) ?_
    refine lv_ldc2 (v := (2 : Int64)) E.1 E.2.1 E.2.2.2.1 (E.2.2.2.2 _ q649) dX0_sheet_16 ?_
    refine ck_inSo E hl (Nat.le_of_ble_eq_true rfl) ⟨by decide, by decide⟩ ⟨Nat.zero_le _, Nat.zero_le _⟩ dX0_sheet_19 ?_
    have bad : some ((-2 : Int32), cz_f z0 8 0) = some res → W p l e rmX0_sheet s m args below meth c H locs 0 0 (MQ below (cIQ D K B A (some (.int res.1)) res.2) args s 4 1611 A) (F0 m 31 ls []) := by
      intro hF
      refine lv_aload_n E.1 E.2.1 dX0_sheet_31 rfl (lv_at hl 0 rfl) ?_
      refine lv_bipush (v := (-2 : Int32)) E.1 E.2.1 dX0_sheet_32 (by decide) ?_
      refine ck_refused E hT hN hD hK hP hS hl (Nat.le_of_ble_eq_true rfl) ⟨by decide, by decide⟩ ⟨Nat.zero_le _, Nat.zero_le _⟩ dX0_sheet_34 (fun H locs hP hS => ?_)
      refine W_pad (c' := 4) (s' := 1611) (by decide) (by decide) ?_
      exact cI_iret E hr hlocks hP ⟨hD _, hV.2⟩ hS hF dX0_sheet_37
    by_cases h2 : isSo x2
    · rw [if_pos h2]
      rw [if_pos h2] at hF
      obtain ⟨kd, hkd, rfl⟩ := so_nI h2
      refine lv_if_eq (tgt := 31) E.1 E.2.1 dX0_sheet_22 (by decide) (fun h => absurd h (by decide)) (fun _ => ?_)
      refine lv_iload_n E.1 E.2.1 dX0_sheet_25 rfl (lv_at hl 3 rfl) ?_
      refine lv_bipush (v := (60 : Int32)) E.1 E.2.1 dX0_sheet_26 (by decide) ?_
      refine lv_icmp_le (tgt := 38) E.1 E.2.1 dX0_sheet_28 (by decide) (fun h60 => ?_) (fun h60 => ?_)
      · rw [if_pos h60] at hF
        refine lv_aload_n E.1 E.2.1 dX0_sheet_38 rfl (lv_at hl 0 rfl) ?_
        refine lv_iconst (v := (0 : Int32)) E.1 E.2.1 dX0_sheet_39 (by decide) ?_
        refine ck_put E hD hK hP hS 8 rfl q136 dX0_sheet_40 (fun H locs hP hS => ?_)
        have hV : cV K B A ad (cz_f z0 8 0) := ⟨hD _, hV.2⟩
        refine lv_aload_n E.1 E.2.1 dX0_sheet_43 rfl (lv_at hl 0 rfl) ?_
        refine ck_get E hK hP 9 (by decide) q137 rfl (v := .ref (B 9)) rfl dX0_sheet_44 ?_
        refine lv_iload_n E.1 E.2.1 dX0_sheet_47 rfl (lv_at hl 1 rfl) ?_
        refine va_new E.1 E.2.1 E.2.2.2.2 in_X10 tyX10 tyX10_ok E.2.2.2.1 (E.2.2.2.2 _ q122) (E.2.2.2.2 _ q650) (E.2.2.2.2 _ q84) hK hP.1 hV.1 hS hA (ci := 7) (C := RX10) (T := TX10) (N := 1) rfl (fs := [.null]) (by decide +kernel) (by decide) (by decide) dX0_sheet_48 (fun qs H hP1 hD1 hS => ?_)
        refine lv_dup E.1 E.2.1 dX0_sheet_51 rfl ?_
        refine lv_iload_n E.1 E.2.1 dX0_sheet_52 rfl (lv_at hl 2 rfl) ?_
        refine lv_iload_n E.1 E.2.1 dX0_sheet_53 rfl (lv_at hl 3 rfl) ?_
        have hPa : cP D K B (adp ad (qs, .inr (7, [.null]))) (cz_f z0 8 0) H := ⟨hP1, cDy_push hP.2⟩
        have hVa : cV K B A (adp ad (qs, .inr (7, [.null]))) (cz_f z0 8 0) := ⟨hD1, hV.2⟩
        by_cases h0 : x3 < 0
        · rw [if_pos h0] at hF
          refine cx_catch (hh := hhX0_sheet) (hp := 63) (rest := [.ref qs, .ref qs, .int (nI k), .ref (B 9)]) (runT_S (As := [.int (nI kd), .int x3]) (rest := [.ref qs, .ref qs, .int (nI k), .ref (B 9)]) E (ct_rowOf_neg l G D K hkd h0) (va_cwS 2 E.2.2.2.2 (lw_S q651 q652 q54 q653) rfl rfl rfl (by decide +kernel) ⟨by decide, by decide⟩) (x_preS hAl hX hK (ws := []) (fun k q hq => by cases hq) hS) rfl rfl hl.1 rfl (lv_room (Nat.le_of_ble_eq_true rfl)) dX0_sheet_54 ⟨by decide, by decide⟩) htab E.2.2.2.1 (hs_cls (cN_C hT hN q619)) (fun cX hcX => hs_hit (E.2.2.2.2 _ q555) (cN_C hT hN q619) hcX (by decide) (by decide)) (fun H1 x g1 g2 => ?_)
          refine lv_astore (lv' := [(4, .ref x), (0, .ref (B 0)), (1, .int (nI k)), (2, .int (nI kd)), (3, .int x3)]) E.1 E.2.1 dX0_sheet_63 hl (by decide) rfl (fun ls hl => ?_)
          refine lv_aload_n E.1 E.2.1 dX0_sheet_65 rfl (lv_at hl 1 rfl) ?_
          refine lv_iconst (v := (4 : Int32)) E.1 E.2.1 dX0_sheet_66 (by decide) ?_
          refine ck_fails (ad := adp ad (qs, .inr (7, [.null]))) (z := cz_f z0 8 0) E hT hN (fun z => cW_D hVa.1 z) hK ⟨cx_keptP hPa.1 g2, hPa.2⟩ (cx_keptS hS g1 g2) hl (Nat.le_of_ble_eq_true rfl) ⟨by decide, by decide⟩ ⟨by decide, by decide⟩ dX0_sheet_67 (fun H locs hP hS => ?_)
          exact cI_iret E hr hlocks hP ⟨cW_D hVa.1 _, hVa.2⟩ hS hF dX0_sheet_70
        · rw [if_neg h0] at hF
          obtain ⟨n, hn, rfl⟩ := nI_of2 (M := 60) (n := 60) (by decide) h0 h60
          rw [nI_clamp (show k < 2 ^ 31 by omega), nI_clamp (show kd < 2 ^ 31 by omega), nI_clamp (show n < 2 ^ 31 by omega)] at hF
          refine cI_goR (va_runS (As := [.int (nI kd), .int (nI n)]) (rest := [.ref qs, .ref qs, .int (nI k), .ref (B 9)]) E (mm_X0_rowOf l (s0 := s0) (A := A) (cz_f z0 8 0) hkd hn) (va_cwS 2 E.2.2.2.2 (lw_S q651 q652 q54 q653) rfl rfl rfl (by decide +kernel) ⟨by decide, by decide⟩) (cI_preS hAl hA hX hK hPa hVa hS) rfl rfl hl.1 rfl (lv_room (Nat.le_of_ble_eq_true rfl)) dX0_sheet_54 ⟨by decide, by decide⟩) hS (fun qr H locs hPb hVb hS => ?_)
          have hi : (adp (adp ad (qs, .inr (7, [.null]))) (qr, rwE K kd n (fun _ => 0))).2.2[ad.2.2.length]? = some (qs, .inr (7, [.null])) := by
            show ((ad.2.2 ++ [(qs, (Sum.inr (7, [.null]) : va_E))]) ++ [_])[ad.2.2.length]? = _
            rw [List.getElem?_append_left (by simp)]
            simp
          refine ck_cellAt (q0 := ad.2.2.length + 7) (x := .inr (7, [.null])) (x' := .inr (7, [.ref qr])) (Wd := cW K B (adp (adp ad (qs, .inr (7, [.null]))) (qr, rwE K kd n (fun _ => 0))) (cz_f z0 8 0)) (va_runI (As := [.ref qr]) (rest := [.ref qs, .int (nI k), .ref (B 9)]) E (nm_X10_7 l hT D K qs .null qr) (cwI 1 E.2.2.2.2 (lw_meth q656) rfl rfl rfl (E.2.2.2.2 _ q84) (E.2.2.2.2 _ q654) (E.2.2.2.2 _ q655) rfl (by decide +kernel) ⟨by decide, by decide⟩) (n_preS hK hN (vP_of hPb.1 (fun x hx => by
              rw [List.mem_singleton] at hx
              rw [hx]
              exact List.mem_of_getElem? (i := ad.2.2.length + 7) hi))) rfl rfl hl.1 rfl (lv_room (Nat.le_of_ble_eq_true rfl)) dX0_sheet_57 ⟨by decide, by decide⟩) hPb.1 hVb.1 hi hS (fun H locs hPc hDc hS => ?_)
          have hdy : (cW K B (adp (adp ad (qs, .inr (7, [.null]))) (qr, rwE K kd n (fun _ => 0))) (cz_f z0 8 0)).set (ad.2.2.length + 7) (qs, .inr (7, [.ref qr])) = cW K B (adp (adp ad (qs, .inr (7, [.ref qr]))) (qr, rwE K kd n (fun _ => 0))) (cz_f z0 8 0) := by
            show _ :: _ :: _ :: _ :: _ :: _ :: _ :: ((ad.2.2 ++ [(qs, (Sum.inr (7, [.null]) : va_E))]) ++ [_]).set ad.2.2.length _ = _ :: _ :: _ :: _ :: _ :: _ :: _ :: ((ad.2.2 ++ [(qs, (Sum.inr (7, [.ref qr]) : va_E))]) ++ [_])
            rw [List.set_append_left _ _ (by simp)]
            simp
          rw [hdy] at hPc hDc
          refine va_astq (f := fun k => (cz_sh z0 k).map (fun _ => ad.2.1 (300 + k))) E.1 E.2.1 hK hPc hDc hS 4 4 (ad.2.2.length + 7) 7 rfl (r := (RX10, TX10, 1)) rfl (v := qs) (vs := [.ref qr]) (by
            show ((ad.2.2 ++ [(qs, (Sum.inr (7, [.ref qr]) : va_E))]) ++ [_])[ad.2.2.length]? = _
            rw [List.getElem?_append_left (by simp)]
            simp) rfl (vp_in_nI hk (by decide)) dX0_sheet_60 (fun H locs hPd hDd hS => ?_)
          refine lv_iconst (v := (1 : Int32)) E.1 E.2.1 dX0_sheet_61 (by decide) ?_
          rw [nI_clamp (show k < 2 ^ 31 by omega)] at hPd hDd
          have hne : ∀ x, x < 4 → cz_sh z0 x ≠ none → ad.2.1 (400 + x) ≠ qr := by
            intro x hx hz
            obtain ⟨q, hq⟩ := Option.ne_none_iff_exists'.mp hz
            obtain ⟨i, hi1⟩ := List.getElem?_of_mem (hP.2.2.2.2.2.2 x hx q hq).2.2.2
            have hil := (List.getElem?_eq_some_iff.mp hi1).1
            have e1 : (cW K B (adp (adp ad (qs, .inr (7, [.null]))) (qr, rwE K kd n (fun _ => 0))) (cz_f z0 8 0))[i + 7]? = some (ad.2.1 (400 + x), rwE K q.1 q.2.1 q.2.2) := by
              show ((ad.2.2 ++ [_]) ++ [_])[i]? = _
              rw [List.getElem?_append_left (by simp; omega), List.getElem?_append_left hil]
              exact hi1
            have e2 : (cW K B (adp (adp ad (qs, .inr (7, [.null]))) (qr, rwE K kd n (fun _ => 0))) (cz_f z0 8 0))[(ad.2.2.length + 1) + 7]? = some (qr, rwE K kd n (fun _ => 0)) := by
              show ((ad.2.2 ++ [_]) ++ [_])[ad.2.2.length + 1]? = _
              rw [List.getElem?_append_right (by simp)]
              simp
            intro he
            have := hVb.1.1 _ _ _ _ e1 e2 he
            omega
          refine W_pad (c' := 4) (s' := 1611) (by decide) (by decide) ?_
          have e4 : ∀ j, j < 300 → (if j = 300 + k then qs else if j = 400 + k then qr else ad.2.1 j) = ad.2.1 j := fun j hj => by rw [if_neg (by omega), if_neg (by omega)]
          have h3k : ∀ x, x < 4 → x ≠ k → (if 300 + x = 300 + k then qs else if 300 + x = 400 + k then qr else ad.2.1 (300 + x)) = ad.2.1 (300 + x) ∧ (if 400 + x = 300 + k then qs else if 400 + x = 400 + k then qr else ad.2.1 (400 + x)) = ad.2.1 (400 + x) := fun x hx hxk => ⟨by rw [if_neg (by omega), if_neg (by omega)], by rw [if_neg (by omega), if_neg (by omega)]⟩
          have hkk : (if 300 + k = 300 + k then qs else if 300 + k = 400 + k then qr else ad.2.1 (300 + k)) = qs ∧ (if 400 + k = 300 + k then qs else if 400 + k = 400 + k then qr else ad.2.1 (400 + k)) = qr := ⟨if_pos rfl, by rw [if_neg (by omega), if_pos rfl]⟩
          have hw := sh_P (A := A) (K := K) (B := B) (z := cz_f z0 8 0) (o := some (kd, n, fun _ => 0)) (k := k) (ad := ad) (ad' := (ad.1, (fun x => if x = 300 + k then qs else if x = 400 + k then qr else ad.2.1 x), (ad.2.2 ++ [(qs, (Sum.inr (7, [.ref qr]) : va_E))]) ++ [(qr, rwE K kd n (fun _ => 0))])) (f := va_up (fun k => (cz_sh z0 k).map (fun _ => ad.2.1 (300 + k))) k (some qs)) rfl (e4 4 (by decide)) (e4 7 (by decide)) (fun x hx => by
            rw [cz_S_at]
            unfold va_up
            by_cases hxk : x = k
            · rw [if_pos hxk, if_pos hxk, hxk]
              show some qs = some (if 300 + k = 300 + k then qs else if 300 + k = 400 + k then qr else ad.2.1 (300 + k))
              rw [hkk.1]
            · rw [if_neg hxk, if_neg hxk]
              show _ = (cz_sh z0 x).map (fun _ => if 300 + x = 300 + k then qs else if 300 + x = 400 + k then qr else ad.2.1 (300 + x))
              rw [(h3k x hx hxk).1]) hPd hDd
          have hmem : ∀ x ∈ ad.2.2, x ∈ (ad.2.2 ++ [(qs, (Sum.inr (7, [.ref qr]) : va_E))]) ++ [(qr, rwE K kd n (fun _ => 0))] := fun x hx => List.mem_append_left _ (List.mem_append_left _ hx)
          refine cI_iret E hr hlocks ⟨hw.1, sh_Dy hP.2 (fun x hx _ => hmem x hx) e4 (fun x hx hxk q hq => ⟨(h3k x hx hxk).1, (h3k x hx hxk).2, hmem _ (hP.2.2.2.2.2.2 x hx q hq).2.2.2⟩) (fun q hq => ?_)⟩ ⟨hw.2, ?_, fun x x' hx hx' hxx h1 h2 => ?_⟩ hS hF dX0_sheet_62
          · cases hq
            refine ⟨hkd, hn, ?_, ?_⟩
            · show ((if 300 + k = 300 + k then qs else if 300 + k = 400 + k then qr else ad.2.1 (300 + k)), (Sum.inr (7, [.ref (if 400 + k = 300 + k then qs else if 400 + k = 400 + k then qr else ad.2.1 (400 + k))]) : va_E)) ∈ _
              rw [hkk.1, hkk.2]
              exact List.mem_append_left _ (List.mem_append_right _ List.mem_cons_self)
            · show ((if 400 + k = 300 + k then qs else if 400 + k = 400 + k then qr else ad.2.1 (400 + k)), _) ∈ _
              rw [hkk.2]
              exact List.mem_append_right _ List.mem_cons_self
          · show (if 4 = 300 + k then qs else if 4 = 400 + k then qr else ad.2.1 4) = (if 7 = 300 + k then qs else if 7 = 400 + k then qr else ad.2.1 7) → (if 4 = 300 + k then qs else if 4 = 400 + k then qr else ad.2.1 4) = B 10
            rw [e4 4 (by decide), e4 7 (by decide)]
            exact hV.2.1
          · show (if 400 + x = 300 + k then qs else if 400 + x = 400 + k then qr else ad.2.1 (400 + x)) ≠ (if 400 + x' = 300 + k then qs else if 400 + x' = 400 + k then qr else ad.2.1 (400 + x'))
            rw [cz_S_at] at h1 h2
            by_cases hxk : x = k
            · have hx'k : x' ≠ k := fun h => hxx (by rw [hxk, h])
              rw [if_neg hx'k] at h2
              rw [(h3k x' hx' hx'k).2, hxk, hkk.2]
              exact (hne x' hx' h2).symm
            · rw [if_neg hxk] at h1
              rw [(h3k x hx hxk).2]
              by_cases hx'k : x' = k
              · rw [hx'k, hkk.2]
                exact hne x hx h1
              · rw [if_neg hx'k] at h2
                rw [(h3k x' hx' hx'k).2]
                exact hV.2.2 x x' hx hx' hxx h1 h2
      · rw [if_neg h60] at hF
        exact bad hF
    · rw [if_neg h2]
      rw [if_neg h2] at hF
      refine lv_if_eq (tgt := 31) E.1 E.2.1 dX0_sheet_22 (by decide) (fun _ => ?_) (fun h => absurd rfl h)
      exact bad hF
  · rw [if_neg h]
    rw [if_neg h] at hF
    refine lv_if_eq (tgt := 13) E.1 E.2.1 dX0_sheet_4 (by decide) (fun h => absurd h (by decide)) (fun _ => ?_)
    refine lv_aload_n E.1 E.2.1 dX0_sheet_7 rfl (lv_at hl 0 rfl) ?_
    refine lv_iconst (v := (-1 : Int32)) E.1 E.2.1 dX0_sheet_8 (by decide) ?_
    refine ck_refused E hT hN hD hK hP hS hl (Nat.le_of_ble_eq_true rfl) ⟨by decide, by decide⟩ ⟨Nat.zero_le _, Nat.zero_le _⟩ dX0_sheet_9 (fun H locs hP hS => ?_)
    refine W_pad (c' := 4) (s' := 1611) (by decide) (by decide) ?_
    exact cI_iret E hr hlocks hP ⟨hD _, hV.2⟩ hS hF dX0_sheet_12
