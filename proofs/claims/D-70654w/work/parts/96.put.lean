/-! DebtFerry.put, DebtFerry.cell -/
theorem cf_setIn (l : Launch) {s0 : State} {a0 : Array Value} (G : cG l s0 a0) (D : va_G) (K : Nat → ClassId) (w : Nat) {kd : Nat} (hk : kd ≤ 2) (n : Nat) (g : Nat → Int32) (i v : Int32) (hi : inb i n = true) : Met l yX0_setIn (ws_ yX0_setIn cX0_setIn 3 none) rmX0_cellOf (xPc D K s0 [(w, rwE K kd n g)] [.ref w, .int i, .int v]) (eQ D w (rwE K kd n (upd g i.toNatClampNeg (narS kd v)))) 0 0 (fun x => x = w) := by
  have h3 : kd = 0 ∨ kd = 1 ∨ kd = 2 := by omega
  rcases h3 with rfl | rfl | rfl
  · exact ct_setIn0 l G D K w n g i v hi
  · exact ct_setIn1 l G D K w n g i v hi
  · exact ct_setIn2 l G D K w n g i v hi
theorem cf_setIn_out (l : Launch) {s0 : State} {a0 : Array Value} (G : cG l s0 a0) (D : va_G) (K : Nat → ClassId) (w : Nat) {kd : Nat} (hk : kd ≤ 2) (n : Nat) (g : Nat → Int32) (i v : Int32) (hn : n ≤ 60) (hi : inb i n = false) : MetT l yX0_setIn (ws_ yX0_setIn cX0_setIn 3 none) rmXT (xPc D K s0 [(w, rwE K kd n g)] [.ref w, .int i, .int v]) "java/lang/ArrayIndexOutOfBoundsException" 3 1610 := by
  have h3 : kd = 0 ∨ kd = 1 ∨ kd = 2 := by omega
  rcases h3 with rfl | rfl | rfl
  · exact ct_setIn0_out l G D K w n g i v hn hi
  · exact ct_setIn1_out l G D K w n g i v hn hi
  · exact ct_setIn2_out l G D K w n g i v hn hi
theorem cf_cellOf (l : Launch) {s0 : State} {a0 : Array Value} (G : cG l s0 a0) (D : va_G) (K : Nat → ClassId) (w : Nat) {kd : Nat} (hk : kd ≤ 2) (n : Nat) (g : Nat → Int32) (i : Int32) (hi : inb i n = true) : Met l yX0_cellOf (ws_ yX0_cellOf cX0_cellOf 3 (some .int)) rmX0_cellOf (xPc D K s0 [(w, rwE K kd n g)] [.ref w, .int (nI kd), .int i]) (pQ (.int (g i.toNatClampNeg))) 0 0 (fun _ => False) := by
  have h3 : kd = 0 ∨ kd = 1 ∨ kd = 2 := by omega
  rcases h3 with rfl | rfl | rfl
  · exact ct_cellOf0 l G D K w n g i hi
  · exact ct_cellOf1 l G D K w n g i hi
  · exact ct_cellOf2 l G D K w n g i hi
theorem cf_cellOf_out (l : Launch) {s0 : State} {a0 : Array Value} (G : cG l s0 a0) (D : va_G) (K : Nat → ClassId) (w : Nat) {kd : Nat} (hk : kd ≤ 2) (n : Nat) (g : Nat → Int32) (i : Int32) (hn : n ≤ 60) (hi : inb i n = false) : MetT l yX0_cellOf (ws_ yX0_cellOf cX0_cellOf 3 (some .int)) rmXT (xPc D K s0 [(w, rwE K kd n g)] [.ref w, .int (nI kd), .int i]) "java/lang/ArrayIndexOutOfBoundsException" 3 1610 := by
  have h3 : kd = 0 ∨ kd = 1 ∨ kd = 2 := by omega
  rcases h3 with rfl | rfl | rfl
  · exact ct_cellOf0_out l G D K w n g i hn hi
  · exact ct_cellOf1_out l G D K w n g i hn hi
  · exact ct_cellOf2_out l G D K w n g i hn hi
theorem cf_cellOf_null (l : Launch) {s0 : State} {a0 : Array Value} (G : cG l s0 a0) (D : va_G) (K : Nat → ClassId) {kd : Nat} (hk : kd ≤ 2) (i : Int32) : MetT l yX0_cellOf (ws_ yX0_cellOf cX0_cellOf 3 (some .int)) rmXT (xPc D K s0 [] [.null, .int (nI kd), .int i]) "java/lang/NullPointerException" 3 1610 := by
  have h3 : kd = 0 ∨ kd = 1 ∨ kd = 2 := by omega
  rcases h3 with rfl | rfl | rfl
  · exact ct_cellOf0_null l G D K i
  · exact ct_cellOf1_null l G D K i
  · exact ct_cellOf2_null l G D K i
theorem cf_cellOf_cast (l : Launch) {s0 : State} {a0 : Array Value} (G : cG l s0 a0) (D : va_G) (K : Nat → ClassId) (w : Nat) {kd kd' : Nat} (hk : kd ≤ 2) (hk' : kd' ≤ 2) (hne : kd ≠ kd') (n : Nat) (g : Nat → Int32) (i : Int32) : MetT l yX0_cellOf (ws_ yX0_cellOf cX0_cellOf 3 (some .int)) rmXT (xPc D K s0 [(w, rwE K kd n g)] [.ref w, .int (nI kd'), .int i]) "java/lang/ClassCastException" 3 1610 := by
  have h3 : kd = 0 ∨ kd = 1 ∨ kd = 2 := by omega
  have h4 : kd' = 0 ∨ kd' = 1 ∨ kd' = 2 := by omega
  rcases h3 with rfl | rfl | rfl <;> rcases h4 with rfl | rfl | rfl
  · exact absurd rfl hne
  · exact ct_cellOf1_cast0 l G D K w n g i
  · exact ct_cellOf2_cast0 l G D K w n g i
  · exact ct_cellOf0_cast1 l G D K w n g i
  · exact absurd rfl hne
  · exact ct_cellOf2_cast1 l G D K w n g i
  · exact ct_cellOf0_cast2 l G D K w n g i
  · exact ct_cellOf1_cast2 l G D K w n g i
  · exact absurd rfl hne
theorem cf_sizeOf (l : Launch) {s0 : State} {a0 : Array Value} (G : cG l s0 a0) (D : va_G) (K : Nat → ClassId) (w : Nat) {kd : Nat} (hk : kd ≤ 2) (n : Nat) (g : Nat → Int32) : Met l yX0_sizeOf (ws_ yX0_sizeOf cX0_sizeOf 2 (some .int)) rmX0_cellOf (xPc D K s0 [(w, rwE K kd n g)] [.ref w, .int (nI kd)]) (pQ (.int (nI n))) 0 0 (fun _ => False) := by
  have h3 : kd = 0 ∨ kd = 1 ∨ kd = 2 := by omega
  rcases h3 with rfl | rfl | rfl
  · exact ct_sizeOf0 l G D K w n g
  · exact ct_sizeOf1 l G D K w n g
  · exact ct_sizeOf2 l G D K w n g
theorem cf_sizeOf_null (l : Launch) {s0 : State} {a0 : Array Value} (G : cG l s0 a0) (D : va_G) (K : Nat → ClassId) {kd : Nat} (hk : kd ≤ 2) : MetT l yX0_sizeOf (ws_ yX0_sizeOf cX0_sizeOf 2 (some .int)) rmXT (xPc D K s0 [] [.null, .int (nI kd)]) "java/lang/NullPointerException" 3 1610 := by
  have h3 : kd = 0 ∨ kd = 1 ∨ kd = 2 := by omega
  rcases h3 with rfl | rfl | rfl
  · exact ct_sizeOf0_null l G D K
  · exact ct_sizeOf1_null l G D K
  · exact ct_sizeOf2_null l G D K
theorem cf_sizeOf_cast (l : Launch) {s0 : State} {a0 : Array Value} (G : cG l s0 a0) (D : va_G) (K : Nat → ClassId) (w : Nat) {kd kd' : Nat} (hk : kd ≤ 2) (hk' : kd' ≤ 2) (hne : kd ≠ kd') (n : Nat) (g : Nat → Int32) : MetT l yX0_sizeOf (ws_ yX0_sizeOf cX0_sizeOf 2 (some .int)) rmXT (xPc D K s0 [(w, rwE K kd n g)] [.ref w, .int (nI kd')]) "java/lang/ClassCastException" 3 1610 := by
  have h3 : kd = 0 ∨ kd = 1 ∨ kd = 2 := by omega
  have h4 : kd' = 0 ∨ kd' = 1 ∨ kd' = 2 := by omega
  rcases h3 with rfl | rfl | rfl <;> rcases h4 with rfl | rfl | rfl
  · exact absurd rfl hne
  · exact ct_sizeOf1_cast0 l G D K w n g
  · exact ct_sizeOf2_cast0 l G D K w n g
  · exact ct_sizeOf0_cast1 l G D K w n g
  · exact absurd rfl hne
  · exact ct_sizeOf2_cast1 l G D K w n g
  · exact ct_sizeOf0_cast2 l G D K w n g
  · exact ct_sizeOf1_cast2 l G D K w n g
  · exact absurd rfl hne
section PUTS
variable {p : Program} {l : Launch} {e : Env} {R : Room} {s : State} {m : MethodId} {args : Array Value} {below : List Frame} {meth : Method} {c : Code} {H : Heap} {locs : List Loc} {cells slots : Nat} {Q : State → Prop} {cc : ByteArray} {nL pc : Nat} {rest : List Value} {ls : Array Slot} {D : va_G} {K : Nat → ClassId} {s0 : State} {a0 : Array Value} {B : Nat → Nat} {ad : CA} {A : Nat → Prop} {z : CZ} {lv : List (Nat × Value)} {own : String}
/-- Throwable's statics lie in the old heap -/
theorem th_locs (hT : ∀ w ∈ lw_tbl, w.before a0 s0 = true) (hN : s0.WarmedH s.vm) (hAl : ∀ q, A q → s0.heap.size ≤ q) (hS : va_S A s.heap H locs) : ∀ (k : Class) (a i : Nat) (cT : ClassId), s.vm.findClass "java/lang/Throwable" = some cT → s.vm.classes[cT]? = some k → k.statics = some a → (⟨a, i⟩ : Loc) ∉ locs := by
  intro k a i cT h1 h2 h3 hm
  obtain ⟨c0, k0, i0, f0, a1, cell, hc, hf, -, hst, hcell, -⟩ := Cond.laysStatic_spec (hT _ q570)
  obtain ⟨k', hf', he⟩ := State.fieldFound?_setVm hN.alike hf
  have hk' : s.vm.classes[c0]? = some k' := (State.fieldFound?_spec hf').1
  have hc' : s.vm.findClass "java/lang/Throwable" = some c0 := by rw [hN.alike.findClass]; exact hc
  cases h1.symm.trans hc'
  cases h2.symm.trans hk'
  have hst' : k.statics = some a1 := by rw [he]; exact hst
  cases h3.symm.trans hst'
  have := hAl _ (hS.2.2 _ hm)
  exact absurd (Array.getElem?_eq_some_iff.mp hcell).1 (Nat.not_lt.mpr this)
/-- null's field is asked for -/
theorem rt_getNull (htr : ∀ e, l.admits e → e.platform.stackTraces = false) (E : CallFix p m c cc nL s args lw_all RX0) (ha : ∀ a ∈ Bundle.npeArmAtoms 8, a.before args s = true) (hlocs : ∀ (k : Class) (a i : Nat) (cT : ClassId), s.vm.findClass "java/lang/Throwable" = some cT → s.vm.classes[cT]? = some k → k.statics = some a → (⟨a, i⟩ : Loc) ∉ locs) (hl : lv_has ls nL lv) (hW : (rest.map fun v => v.category).sum ≤ 50) (hR : 8 ≤ R.frames ∧ 10290 ≤ R.locals) (hRc : cells + 1 ≤ R.cells ∧ slots + 8 ≤ R.slots) (hdg : decode cc pc = .ok (.getfield 227, 3)) :
    RunT p l e R s m args below meth c H locs cells slots 1 8 (F0 m pc ls (.null :: rest)) (F0 m pc ls rest) "java/lang/NullPointerException" := by
  intro T hT X
  obtain ⟨c0, k0, c1, k1, i1, f1, -, -, hi, hst, -⟩ := Cond.laysFinal_spec (E.2.2.2.2 _ q660)
  obtain ⟨vm', X', st⟩ := X.getfieldNull E.1 E.2.2.2.1 (E.2.2.2.2 _ q659) hi hst (g := F0 m pc ls (.null :: rest)) rfl rfl (by rw [E.2.1]; exact hdg)
  obtain ⟨x, T', X2, hS, hc, st2⟩ := npe_run X' E.1 (htr e X.admits) ha hlocs (g := F0 m pc ls rest) rfl (hl.1.trans E.2.2.1.symm) (by omega) (by have h0 : 2 * (F0 m pc ls rest).monitorRoom = 0 := rfl; have h1 : ((F0 m pc ls rest).stack.map fun v => v.category).sum ≤ 50 := hW; have := hR.2; omega) hRc.1 hRc.2
  have hh : (T.setVm vm').heap = H := hT
  rw [hh] at hS
  exact ⟨x, T', 1, 8, Nat.le_refl _, Nat.le_refl _, X2, hS, hc, fun target h => st target (st2 target h)⟩
theorem cI_lret {v : Int64} {res : Int64 × CZ} (E : CallFix p m c cc nL s args lw_all own) (hr : meth.sig.returnType = some .long) (hlocks : meth.locks = false) (hP : cP D K B ad z H) (hV : cV K B A ad z) (hS : va_S A s.heap H locs) (hF : some (v, z) = some res) (hdg : decode cc pc = .ok (.lreturn, 1)) : W p l e R s m args below meth c H locs cells slots (MQ below (cIQ D K B A (some (.long res.1)) res.2) args s cells slots A) (F0 m pc ls [.long v]) := by
  cases hF
  exact W.lret E.1 E.2.1 hr (fun t ht _ => ⟨⟨rfl, ad, by rw [ht]; exact hP, hV⟩, hS.F ht⟩) hS.2.2 hdg hlocks
theorem ck_failsL (E : CallFix p m c cc nL s args lw_all RX0) (hT : ∀ w ∈ lw_tbl, w.before a0 s0 = true) (hN : s0.WarmedH s.vm) (hD : ∀ z, va_D A (cW K B ad z)) (hK : va_K D vCl (cT K) s) (hP : cP D K B ad z H) (hS : va_S A s.heap H locs) {v : Int32} (hl : lv_has ls nL lv) (hW : (rest.map fun v => v.category).sum ≤ 8) (hR : 2 ≤ R.frames ∧ 33 ≤ R.locals) (hf : cells ≤ R.cells ∧ slots ≤ R.slots) (hdg : decode cc pc = .ok (.invokevirtual 266, 3))
    (kk : ∀ (H : Heap) (locs : List Loc), cP D K B ad (cz_f z 8 v) H → va_S A s.heap H locs → W p l e R s m args below meth c H locs cells slots Q (F0 m (pc + 3) ls (.long (-9223372036854775808) :: rest))) : W p l e R s m args below meth c H locs cells slots Q (F0 m pc ls (.int v :: .ref (B 0) :: rest)) :=
  cx_go (va_runV (As := [.int v]) (rest := rest) E (mm_X0_failsLong l hT hD v z _ rfl) (cwV 1 E.2.2.2.2 (lw_V q751 q753 qs26 q54 q754) rfl rfl rfl (by decide +kernel) ⟨hR.1, hR.2⟩) (ck_pre hK hN hP (ck_me hK hP)) rfl rfl hl.1 rfl (lv_room hW) hdg hf) hS kk
theorem ck_rowIn (E : CallFix p m c cc nL s args lw_all RX0) (hN : s0.WarmedH s.vm) (hK : va_K D vCl (cT K) s) (hP : cP D K B ad z H) {k : Nat} (hk : k < 4) (hl : lv_has ls nL lv) (hW : (rest.map fun v => v.category).sum ≤ 8) (hR : 2 ≤ R.frames ∧ 33 ≤ R.locals) (hf : cells ≤ R.cells ∧ slots ≤ R.slots) (hdg : decode cc pc = .ok (.invokevirtual 259, 3))
    (kk : W p l e R s m args below meth c H locs cells slots Q (F0 m (pc + 3) ls (rowV ad z k :: rest))) : W p l e R s m args below meth c H locs cells slots Q (F0 m pc ls (.int (nI k) :: .ref (B 0) :: rest)) :=
  px_go (va_runV (As := [.int (nI k)]) (rest := rest) E (mm_X0_rowIn l (s0 := s0) z hk) (cwV 1 E.2.2.2.2 (lw_V q744 q746 qs25 q54 q747) rfl rfl rfl (by decide +kernel) ⟨hR.1, hR.2⟩) (ck_pre hK hN hP (ck_me hK hP)) rfl rfl hl.1 rfl (lv_room hW) hdg hf) kk
end PUTS
abbrev rmX0_put : Room := { frames := 10, cells := 3, slots := 1610, locals := 10340 }
abbrev hhX0_put : List (Nat × Nat × Nat × Nat) := [(18, 33, 34, 255), (18, 33, 42, 257)]
set_option maxHeartbeats 1000000 in
theorem mm_X0_put (l : Launch) {D : va_G} {K : Nat → ClassId} {s0 : State} {a0 : Array Value} {B : Nat → Nat} {ad : CA} {A : Nat → Prop} (G : cG l s0 a0) (hAl : ∀ q, A q → s0.heap.size ≤ q) (x1 x2 x3 : Int32) (z0 : CZ) (res : Int32 × CZ) (hF : c_put x1 x2 x3 z0 = some res) : Met l yX0_put (wsW_ yX0_put cX0_put 5 (some .int) hhX0_put) rmX0_put (cIPc D K s0 B A ad z0 [.ref (B 0), .int x1, .int x2, .int x3]) (cIQ D K B A (some (.int res.1)) res.2) 3 1610 A := by
  refine cIH_start RX0 (by decide) rfl (Nat.le_of_ble_eq_true rfl) ?_
  intro p e s m args below meth c H locs ls E hr hlocks htab hK hX hA hP hV hS hl
  have hN := hX.1
  have hT := G.1
  have hD : ∀ z, va_D A (cW K B ad z) := fun z => cW_D hV.1 z
  have hl : lv_has ls 5 [(0, .ref (B 0)), (1, .int x1), (2, .int x2), (3, .int x3)] := hl
  unfold c_put at hF
  refine lv_iload_n E.1 E.2.1 dX0_put_0 rfl (lv_at hl 1 rfl) ?_
  refine ck_noSheet E hl (Nat.le_of_ble_eq_true rfl) ⟨by decide, by decide⟩ ⟨Nat.zero_le _, Nat.zero_le _⟩ dX0_put_1 ?_
  by_cases h : isSh x1
  · rw [if_pos h]
    rw [if_pos h] at hF
    obtain ⟨k, hk, rfl⟩ := sh_nI h
    rw [nI_clamp (show k < 2 ^ 31 by omega)] at hF
    refine lv_if_eq (tgt := 13) E.1 E.2.1 dX0_put_4 (by decide) (fun _ => ?_) (fun h => absurd rfl h)
    refine lv_aload_n E.1 E.2.1 dX0_put_13 rfl (lv_at hl 0 rfl) ?_
    refine lv_iconst (v := (0 : Int32)) E.1 E.2.1 dX0_put_14 (by decide) ?_
    refine ck_put E hD hK hP hS 8 rfl q136 dX0_put_15 (fun H locs hP hS => ?_)
    have hV : cV K B A ad (cz_f z0 8 0) := ⟨hD _, hV.2⟩
    refine lv_aload_n E.1 E.2.1 dX0_put_18 rfl (lv_at hl 0 rfl) ?_
    refine ck_get E hK hP 9 (by decide) q137 rfl (v := .ref (B 9)) rfl dX0_put_19 ?_
    refine lv_iload_n E.1 E.2.1 dX0_put_22 rfl (lv_at hl 1 rfl) ?_
    cases hz : cz_sh z0 k with
    | none =>
      rw [hz] at hF
      refine ck_shl E hK hP hk (v := .null) (by show va_rf ((cz_sh z0 k).map _) = _; rw [hz]; rfl) dX0_put_23 ?_
      refine cx_catch (hh := hhX0_put) (hp := 34) (rest := []) (rt_getNull G.2.2.2 E (xa_npe hT E.2.2.2.2 hN hX.2 (cG_x G hN hX.2)) (th_locs hT hN hAl hS) hl (Nat.le_of_ble_eq_true rfl) ⟨by decide, by decide⟩ ⟨by decide, by decide⟩ dX0_put_24) htab E.2.2.2.1 (hs_cls (cN_C hT hN q698)) (fun cX hcX => hs_hit (E.2.2.2.2 _ q676) (cN_C hT hN q698) hcX (by decide) (by decide)) (fun H1 x g1 g2 => ?_)
      refine lv_astore (lv' := [(4, .ref x), (0, .ref (B 0)), (1, .int (nI k)), (2, .int x2), (3, .int x3)]) E.1 E.2.1 dX0_put_34 hl (by decide) rfl (fun ls hl => ?_)
      refine lv_aload_n E.1 E.2.1 dX0_put_36 rfl (lv_at hl 1 rfl) ?_
      refine lv_iconst (v := (1 : Int32)) E.1 E.2.1 dX0_put_37 (by decide) ?_
      refine ck_fails (z := cz_f z0 8 0) E hT hN hD hK ⟨cx_keptP hP.1 g2, hP.2⟩ (cx_keptS hS g1 g2) hl (Nat.le_of_ble_eq_true rfl) ⟨by decide, by decide⟩ ⟨by decide, by decide⟩ dX0_put_38 (fun H locs hP hS => ?_)
      refine W_pad (c' := 3) (s' := 1610) (by decide) (by decide) ?_
      exact cI_iret E hr hlocks hP ⟨hD _, hV.2⟩ hS hF dX0_put_41
    | some q =>
      rw [hz] at hF
      have hz1 : cz_sh (cz_f z0 8 0) k = some q := hz
      have hd := hP.2.2.2.2.2.2 k hk q hz1
      refine ck_shl E hK hP hk (v := .ref (ad.2.1 (300 + k))) (by show va_rf ((cz_sh z0 k).map _) = _; rw [hz]; rfl) dX0_put_23 ?_
      refine ck_shrow E hK hP hk hz1 dX0_put_24 ?_
      refine lv_iload_n E.1 E.2.1 dX0_put_27 rfl (lv_at hl 2 rfl) ?_
      refine lv_iload_n E.1 E.2.1 dX0_put_28 rfl (lv_at hl 3 rfl) ?_
      obtain ⟨i, hi⟩ := List.getElem?_of_mem hd.2.2.2
      have hi7 : (cW K B ad (cz_f z0 8 0))[i + 7]? = some (ad.2.1 (400 + k), rwE K q.1 q.2.1 q.2.2) := hi
      have hP1 : va_P D vCl [(ad.2.1 (400 + k), rwE K q.1 q.2.1 q.2.2)] H := vP_of hP.1 (fun x hx => by
        rw [List.mem_singleton] at hx
        rw [hx]; exact List.mem_of_getElem? hi7)
      dsimp only at hF
      cases hb : inb x2 q.2.1 with
      | true =>
        rw [if_pos hb] at hF
        refine ck_cellAt (q0 := i + 7) (Wd := cW K B ad (cz_f z0 8 0)) (va_runS (As := [.ref (ad.2.1 (400 + k)), .int x2, .int x3]) (rest := []) E (cf_setIn l G D K (ad.2.1 (400 + k)) hd.1 q.2.1 q.2.2 x2 x3 hb) (va_cwS 3 E.2.2.2.2 (lw_S q720 q721 q54 q722) rfl rfl rfl (by decide +kernel) ⟨by decide, by decide⟩) (x_preS hAl hX hK hP1 hS) rfl rfl hl.1 rfl (lv_room (Nat.le_of_ble_eq_true rfl)) dX0_put_29 ⟨by decide, by decide⟩) hP.1 hV.1 hi7 hS (fun H locs hP2 hD2 hS => ?_)
        refine lv_iconst (v := (1 : Int32)) E.1 E.2.1 dX0_put_32 (by decide) ?_
        obtain ⟨r1, r2⟩ := sh_row (g := upd q.2.2 x2.toNatClampNeg (narS q.1 x3)) hP hV hk hz1 hi hP2
        refine W_pad (c' := 3) (s' := 1610) (by decide) (by decide) ?_
        exact cI_iret E hr hlocks r1 r2 hS hF dX0_put_33
      | false =>
        rw [if_neg (by rw [hb]; decide)] at hF
        refine cx_catch (hh := hhX0_put) (hp := 42) (rest := []) (runT_S (As := [.ref (ad.2.1 (400 + k)), .int x2, .int x3]) (rest := []) E (cf_setIn_out l G D K (ad.2.1 (400 + k)) hd.1 q.2.1 q.2.2 x2 x3 hd.2.1 hb) (va_cwS 3 E.2.2.2.2 (lw_S q720 q721 q54 q722) rfl rfl rfl (by decide +kernel) ⟨by decide, by decide⟩) (x_preS hAl hX hK hP1 hS) rfl rfl hl.1 rfl (lv_room (Nat.le_of_ble_eq_true rfl)) dX0_put_29 ⟨by decide, by decide⟩) htab E.2.2.2.1 (hs_cls (cN_C hT hN q716)) (fun cX hcX => hs_miss (X := "java/lang/ArrayIndexOutOfBoundsException") (E.2.2.2.2 _ q676) (cG_nc G hN (by decide +kernel)) hcX (by decide) (by decide) (hs_hit (E.2.2.2.2 _ q701) (cN_C hT hN q1434) hcX (by decide) (by decide))) (fun H1 x g1 g2 => ?_)
        refine lv_astore (lv' := [(4, .ref x), (0, .ref (B 0)), (1, .int (nI k)), (2, .int x2), (3, .int x3)]) E.1 E.2.1 dX0_put_42 hl (by decide) rfl (fun ls hl => ?_)
        refine lv_aload_n E.1 E.2.1 dX0_put_44 rfl (lv_at hl 1 rfl) ?_
        refine lv_iconst (v := (3 : Int32)) E.1 E.2.1 dX0_put_45 (by decide) ?_
        refine ck_fails (z := cz_f z0 8 0) E hT hN hD hK ⟨cx_keptP hP.1 g2, hP.2⟩ (cx_keptS hS g1 g2) hl (Nat.le_of_ble_eq_true rfl) ⟨by decide, by decide⟩ ⟨by decide, by decide⟩ dX0_put_46 (fun H locs hP hS => ?_)
        refine W_pad (c' := 3) (s' := 1610) (by decide) (by decide) ?_
        exact cI_iret E hr hlocks hP ⟨hD _, hV.2⟩ hS hF dX0_put_49
  · rw [if_neg h]
    rw [if_neg h] at hF
    refine lv_if_eq (tgt := 13) E.1 E.2.1 dX0_put_4 (by decide) (fun h => absurd h (by decide)) (fun _ => ?_)
    refine lv_aload_n E.1 E.2.1 dX0_put_7 rfl (lv_at hl 0 rfl) ?_
    refine lv_iconst (v := (-1 : Int32)) E.1 E.2.1 dX0_put_8 (by decide) ?_
    refine ck_refused E hT hN hD hK hP hS hl (Nat.le_of_ble_eq_true rfl) ⟨by decide, by decide⟩ ⟨Nat.zero_le _, Nat.zero_le _⟩ dX0_put_9 (fun H locs hP hS => ?_)
    refine W_pad (c' := 3) (s' := 1610) (by decide) (by decide) ?_
    exact cI_iret E hr hlocks hP ⟨hD _, hV.2⟩ hS hF dX0_put_12
abbrev hhX0_cell : List (Nat × Nat × Nat × Nat) := [(28, 39, 40, 255), (28, 39, 48, 270), (28, 39, 56, 257)]
set_option maxHeartbeats 1000000 in
theorem mm_X0_cell (l : Launch) {D : va_G} {K : Nat → ClassId} {s0 : State} {a0 : Array Value} {B : Nat → Nat} {ad : CA} {A : Nat → Prop} (G : cG l s0 a0) (hAl : ∀ q, A q → s0.heap.size ≤ q) (x1 x2 x3 : Int32) (z0 : CZ) (res : Int64 × CZ) (hF : c_cell x1 x2 x3 z0 = some res) : Met l yX0_cell (wsW_ yX0_cell cX0_cell 5 (some .long) hhX0_cell) rmX0_put (cIPc D K s0 B A ad z0 [.ref (B 0), .int x1, .int x2, .int x3]) (cIQ D K B A (some (.long res.1)) res.2) 3 1610 A := by
  refine cIH_start RX0 (by decide) rfl (Nat.le_of_ble_eq_true rfl) ?_
  intro p e s m args below meth c H locs ls E hr hlocks htab hK hX hA hP hV hS hl
  have hN := hX.1
  have hT := G.1
  have hD : ∀ z, va_D A (cW K B ad z) := fun z => cW_D hV.1 z
  have hl : lv_has ls 5 [(0, .ref (B 0)), (1, .int x1), (2, .int x2), (3, .int x3)] := hl
  unfold c_cell at hF
  refine lv_aload_n E.1 E.2.1 dX0_cell_0 rfl (lv_at hl 0 rfl) ?_
  refine lv_iconst (v := (0 : Int32)) E.1 E.2.1 dX0_cell_1 (by decide) ?_
  refine ck_put E hD hK hP hS 8 rfl q136 dX0_cell_2 (fun H locs hP hS => ?_)
  have hV : cV K B A ad (cz_f z0 8 0) := ⟨hD _, hV.2⟩
  have bad : some ((-9223372036854775808 : Int64), cz_f z0 8 0) = some res → W p l e rmX0_put s m args below meth c H locs 0 0 (MQ below (cIQ D K B A (some (.long res.1)) res.2) args s 3 1610 A) (F0 m 24 ls []) := by
    intro hF
    refine lv_ldc2 (v := (-9223372036854775808 : Int64)) E.1 E.2.1 E.2.2.2.1 (E.2.2.2.2 _ q547) dX0_cell_24 ?_
    refine W_pad (c' := 3) (s' := 1610) (by decide) (by decide) ?_
    exact cI_lret E hr hlocks hP hV hS hF dX0_cell_27
  refine lv_iload_n E.1 E.2.1 dX0_cell_5 rfl (lv_at hl 1 rfl) ?_
  refine ck_noSheet E hl (Nat.le_of_ble_eq_true rfl) ⟨by decide, by decide⟩ ⟨Nat.zero_le _, Nat.zero_le _⟩ dX0_cell_6 ?_
  by_cases h : isSh x1
  · rw [if_pos h]
    rw [if_pos h] at hF
    obtain ⟨k, hk, rfl⟩ := sh_nI h
    rw [nI_clamp (show k < 2 ^ 31 by omega)] at hF
    refine lv_if_ne (tgt := 24) E.1 E.2.1 dX0_cell_9 (by decide) (fun h => absurd rfl h) (fun _ => ?_)
    refine lv_iload_n E.1 E.2.1 dX0_cell_12 rfl (lv_at hl 3 rfl) ?_
    refine lv_i2l E.1 E.2.1 dX0_cell_13 rfl ?_
    refine lv_lconst (v := (0 : Int64)) E.1 E.2.1 dX0_cell_14 (by decide) ?_
    refine lv_ldc2 (v := (2 : Int64)) E.1 E.2.1 E.2.2.2.1 (E.2.2.2.2 _ q649) dX0_cell_15 ?_
    refine ck_inSo E hl (Nat.le_of_ble_eq_true rfl) ⟨by decide, by decide⟩ ⟨Nat.zero_le _, Nat.zero_le _⟩ dX0_cell_18 ?_
    by_cases h2 : isSo x3
    · rw [if_pos h2]
      rw [if_pos h2] at hF
      obtain ⟨kd, hkd, rfl⟩ := so_nI h2
      refine lv_if_ne (tgt := 28) E.1 E.2.1 dX0_cell_21 (by decide) (fun _ => ?_) (fun h => absurd h (by decide))
      refine lv_aload_n E.1 E.2.1 dX0_cell_28 rfl (lv_at hl 0 rfl) ?_
      refine lv_iload_n E.1 E.2.1 dX0_cell_29 rfl (lv_at hl 1 rfl) ?_
      refine ck_rowIn E hN hK hP hk hl (Nat.le_of_ble_eq_true rfl) ⟨by decide, by decide⟩ ⟨Nat.zero_le _, Nat.zero_le _⟩ dX0_cell_30 ?_
      refine lv_iload_n E.1 E.2.1 dX0_cell_33 rfl (lv_at hl 3 rfl) ?_
      refine lv_iload_n E.1 E.2.1 dX0_cell_34 rfl (lv_at hl 2 rfl) ?_
      cases hz : cz_sh z0 k with
      | none =>
        rw [hz] at hF
        have e1 : rowV ad (cz_f z0 8 0) k = .null := by show va_rf ((cz_sh z0 k).map _) = _; rw [hz]; rfl
        rw [e1]
        refine cx_catch (hh := hhX0_cell) (hp := 40) (rest := []) (runT_S (As := [.null, .int (nI kd), .int x2]) (rest := []) E (cf_cellOf_null l G D K hkd x2) (va_cwS 3 E.2.2.2.2 (lw_S q748 q749 q54 q750) rfl rfl rfl (by decide +kernel) ⟨by decide, by decide⟩) (x_preS hAl hX hK (ws := []) (fun k q hq => by cases hq) hS) rfl rfl hl.1 rfl (lv_room (Nat.le_of_ble_eq_true rfl)) dX0_cell_35 ⟨by decide, by decide⟩) htab E.2.2.2.1 (hs_cls (cN_C hT hN q698)) (fun cX hcX => hs_hit (E.2.2.2.2 _ q676) (cN_C hT hN q698) hcX (by decide) (by decide)) (fun H1 x g1 g2 => ?_)
        refine lv_astore (lv' := [(4, .ref x), (0, .ref (B 0)), (1, .int (nI k)), (2, .int x2), (3, .int (nI kd))]) E.1 E.2.1 dX0_cell_40 hl (by decide) rfl (fun ls hl => ?_)
        refine lv_aload_n E.1 E.2.1 dX0_cell_42 rfl (lv_at hl 1 rfl) ?_
        refine lv_iconst (v := (1 : Int32)) E.1 E.2.1 dX0_cell_43 (by decide) ?_
        refine ck_failsL (z := cz_f z0 8 0) E hT hN hD hK ⟨cx_keptP hP.1 g2, hP.2⟩ (cx_keptS hS g1 g2) hl (Nat.le_of_ble_eq_true rfl) ⟨by decide, by decide⟩ ⟨by decide, by decide⟩ dX0_cell_44 (fun H locs hP hS => ?_)
        exact cI_lret E hr hlocks hP ⟨hD _, hV.2⟩ hS hF dX0_cell_47
      | some q =>
        rw [hz] at hF
        have hz1 : cz_sh (cz_f z0 8 0) k = some q := hz
        have hd := hP.2.2.2.2.2.2 k hk q hz1
        have e1 : rowV ad (cz_f z0 8 0) k = .ref (ad.2.1 (400 + k)) := by show va_rf ((cz_sh z0 k).map _) = _; rw [hz]; rfl
        rw [e1]
        obtain ⟨i, hi⟩ := List.getElem?_of_mem hd.2.2.2
        have hi7 : (cW K B ad (cz_f z0 8 0))[i + 7]? = some (ad.2.1 (400 + k), rwE K q.1 q.2.1 q.2.2) := hi
        have hP1 : va_P D vCl [(ad.2.1 (400 + k), rwE K q.1 q.2.1 q.2.2)] H := vP_of hP.1 (fun x hx => by
          rw [List.mem_singleton] at hx
          rw [hx]; exact List.mem_of_getElem? hi7)
        by_cases hkk : q.1 = kd
        · subst hkk
          dsimp only at hF
          rw [if_pos rfl] at hF
          cases hb : inb x2 q.2.1 with
          | true =>
            rw [if_pos hb] at hF
            refine px_go (va_runS (As := [.ref (ad.2.1 (400 + k)), .int (nI q.1), .int x2]) (rest := []) E (cf_cellOf l G D K (ad.2.1 (400 + k)) hd.1 q.2.1 q.2.2 x2 hb) (va_cwS 3 E.2.2.2.2 (lw_S q748 q749 q54 q750) rfl rfl rfl (by decide +kernel) ⟨by decide, by decide⟩) (x_preS hAl hX hK hP1 hS) rfl rfl hl.1 rfl (lv_room (Nat.le_of_ble_eq_true rfl)) dX0_cell_35 ⟨by decide, by decide⟩) ?_
            refine lv_i2l E.1 E.2.1 dX0_cell_38 rfl ?_
            refine W_pad (c' := 3) (s' := 1610) (by decide) (by decide) ?_
            exact cI_lret E hr hlocks hP hV hS hF dX0_cell_39
          | false =>
            rw [if_neg (by rw [hb]; decide)] at hF
            refine cx_catch (hh := hhX0_cell) (hp := 56) (rest := []) (runT_S (As := [.ref (ad.2.1 (400 + k)), .int (nI q.1), .int x2]) (rest := []) E (cf_cellOf_out l G D K (ad.2.1 (400 + k)) hd.1 q.2.1 q.2.2 x2 hd.2.1 hb) (va_cwS 3 E.2.2.2.2 (lw_S q748 q749 q54 q750) rfl rfl rfl (by decide +kernel) ⟨by decide, by decide⟩) (x_preS hAl hX hK hP1 hS) rfl rfl hl.1 rfl (lv_room (Nat.le_of_ble_eq_true rfl)) dX0_cell_35 ⟨by decide, by decide⟩) htab E.2.2.2.1 (hs_cls (cN_C hT hN q716)) (fun cX hcX => hs_miss (X := "java/lang/ArrayIndexOutOfBoundsException") (E.2.2.2.2 _ q676) (cG_nc G hN (by decide +kernel)) hcX (by decide) (by decide) (hs_miss (X := "java/lang/ArrayIndexOutOfBoundsException") (E.2.2.2.2 _ q730) (cG_nc G hN (by decide +kernel)) hcX (by decide) (by decide) (hs_hit (E.2.2.2.2 _ q701) (cN_C hT hN q1434) hcX (by decide) (by decide)))) (fun H1 x g1 g2 => ?_)
            refine lv_astore (lv' := [(4, .ref x), (0, .ref (B 0)), (1, .int (nI k)), (2, .int x2), (3, .int (nI q.1))]) E.1 E.2.1 dX0_cell_56 hl (by decide) rfl (fun ls hl => ?_)
            refine lv_aload_n E.1 E.2.1 dX0_cell_58 rfl (lv_at hl 1 rfl) ?_
            refine lv_iconst (v := (3 : Int32)) E.1 E.2.1 dX0_cell_59 (by decide) ?_
            refine ck_failsL (z := cz_f z0 8 0) E hT hN hD hK ⟨cx_keptP hP.1 g2, hP.2⟩ (cx_keptS hS g1 g2) hl (Nat.le_of_ble_eq_true rfl) ⟨by decide, by decide⟩ ⟨by decide, by decide⟩ dX0_cell_60 (fun H locs hP hS => ?_)
            exact cI_lret E hr hlocks hP ⟨hD _, hV.2⟩ hS hF dX0_cell_63
        · dsimp only at hF
          rw [if_neg (fun h => hkk (by have h2 := congrArg Int32.toNatClampNeg h; rwa [nI_clamp (by omega), nI_clamp (by omega)] at h2))] at hF
          refine cx_catch (hh := hhX0_cell) (hp := 48) (rest := []) (runT_S (As := [.ref (ad.2.1 (400 + k)), .int (nI kd), .int x2]) (rest := []) E (cf_cellOf_cast l G D K (ad.2.1 (400 + k)) hd.1 hkd hkk q.2.1 q.2.2 x2) (va_cwS 3 E.2.2.2.2 (lw_S q748 q749 q54 q750) rfl rfl rfl (by decide +kernel) ⟨by decide, by decide⟩) (x_preS hAl hX hK hP1 hS) rfl rfl hl.1 rfl (lv_room (Nat.le_of_ble_eq_true rfl)) dX0_cell_35 ⟨by decide, by decide⟩) htab E.2.2.2.1 (hs_cls (cN_C hT hN q742)) (fun cX hcX => hs_miss (X := "java/lang/ClassCastException") (E.2.2.2.2 _ q676) (cG_nc G hN (by decide +kernel)) hcX (by decide) (by decide) (hs_hit (E.2.2.2.2 _ q730) (cN_C hT hN q742) hcX (by decide) (by decide))) (fun H1 x g1 g2 => ?_)
          refine lv_astore (lv' := [(4, .ref x), (0, .ref (B 0)), (1, .int (nI k)), (2, .int x2), (3, .int (nI kd))]) E.1 E.2.1 dX0_cell_48 hl (by decide) rfl (fun ls hl => ?_)
          refine lv_aload_n E.1 E.2.1 dX0_cell_50 rfl (lv_at hl 1 rfl) ?_
          refine lv_iconst (v := (2 : Int32)) E.1 E.2.1 dX0_cell_51 (by decide) ?_
          refine ck_failsL (z := cz_f z0 8 0) E hT hN hD hK ⟨cx_keptP hP.1 g2, hP.2⟩ (cx_keptS hS g1 g2) hl (Nat.le_of_ble_eq_true rfl) ⟨by decide, by decide⟩ ⟨by decide, by decide⟩ dX0_cell_52 (fun H locs hP hS => ?_)
          exact cI_lret E hr hlocks hP ⟨hD _, hV.2⟩ hS hF dX0_cell_55
    · rw [if_neg h2]
      rw [if_neg h2] at hF
      refine lv_if_ne (tgt := 28) E.1 E.2.1 dX0_cell_21 (by decide) (fun h => absurd rfl h) (fun _ => ?_)
      exact bad hF
  · rw [if_neg h]
    rw [if_neg h] at hF
    refine lv_if_ne (tgt := 24) E.1 E.2.1 dX0_cell_9 (by decide) (fun _ => ?_) (fun h => absurd h (by decide))
    exact bad hF
