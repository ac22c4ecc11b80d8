/-! setIn (by gen/setin.py) -/
theorem va_D_one {w : Nat} {x : va_E} : va_D (fun q => q = w) [(w, x)] := by
  have one : ∀ (i : Nat) (y : Nat × va_E), [(w, x)][i]? = some y → i = 0 ∧ y = (w, x) := by
    intro i y h
    cases i with
    | zero => exact ⟨rfl, (Option.some.inj h).symm⟩
    | succ i => cases h
  exact ⟨fun i j p q hi hj _ => by rw [(one i p hi).1, (one j q hj).1], fun k q hk => by rw [(one k q hk).2]⟩
set_option maxHeartbeats 1000000 in
theorem ct_setIn0 (l : Launch) {s0 : State} {a0 : Array Value} (G : cG l s0 a0) (D : va_G) (K : Nat → ClassId) (w n : Nat) (g : Nat → Int32) (i v : Int32) (hi : inb i n = true) : Met l yX0_setIn (ws_ yX0_setIn cX0_setIn 3 none) rmX0_cellOf (xPc D K s0 [(w, rwE K 0 n g)] [.ref w, .int i, .int v]) (eQ D w (rwE K 0 n (upd g i.toNatClampNeg (narS 0 v)))) 0 0 (fun x => x = w) := by
  refine gx_start RX0 (by decide) rfl (Nat.le_of_ble_eq_true rfl) ?_
  intro p e s m args below meth c ls E hr hlocks _ hC hl
  obtain ⟨hP, hK, hN, hO⟩ := hC
  have hl : lv_has ls 3 [(0, .ref w), (1, .int i), (2, .int v)] := hl
  have hD : va_D (fun x => x = w) [(w, rwE K 0 n g)] := va_D_one
  refine lv_aload_n E.1 E.2.1 dX0_setIn_0 rfl (lv_at hl 0 rfl) ?_
  refine va_instE (nm := "[B") E.1 E.2.1 E.2.2.2.1 (E.2.2.2.2 _ q723) (row_recv hK hP 1 rfl (by rfl)) dX0_setIn_1 ?_
  refine lv_if_eq (tgt := 18) E.1 E.2.1 dX0_setIn_4 (by decide) (fun h => absurd h (by decide)) (fun _ => ?_)
  refine lv_aload_n E.1 E.2.1 dX0_setIn_7 rfl (lv_at hl 0 rfl) ?_
  refine va_castA E.1 E.2.1 E.2.2.2.1 (E.2.2.2.2 _ q723) hP 0 rfl (hK.2 1 (K 1, .byte) rfl).2 dX0_setIn_8 ?_
  refine lv_iload_n E.1 E.2.1 dX0_setIn_11 rfl (lv_at hl 1 rfl) ?_
  refine lv_iload_n E.1 E.2.1 dX0_setIn_12 rfl (lv_at hl 2 rfl) ?_
  refine lv_i2b E.1 E.2.1 dX0_setIn_13 rfl ?_
  refine va_bast E.1 E.2.1 hK hP hD va_S.rf 0 1 rfl rfl (inb_in hi) dX0_setIn_14 (fun H locs hP _ hS => ?_)
  refine lv_goto (tgt := 43) E.1 E.2.1 dX0_setIn_15 (by decide) ?_
  rw [show vp_nar .byte v.toInt8.toInt32 = narS 0 v by rw [vp_nar_byte]; simp [narS]] at hP
  exact W.vret E.1 E.2.1 hr (fun t ht _ => ⟨⟨rfl, by rw [ht]; exact hP⟩, hS.F ht⟩) hS.2.2 dX0_setIn_43 hlocks
set_option maxHeartbeats 1000000 in
theorem ct_setIn0_out (l : Launch) {s0 : State} {a0 : Array Value} (G : cG l s0 a0) (D : va_G) (K : Nat → ClassId) (w n : Nat) (g : Nat → Int32) (i v : Int32) (hn : n ≤ 60) (hi : inb i n = false) : MetT l yX0_setIn (ws_ yX0_setIn cX0_setIn 3 none) rmXT (xPc D K s0 [(w, rwE K 0 n g)] [.ref w, .int i, .int v]) "java/lang/ArrayIndexOutOfBoundsException" 3 1610 := by
  refine tx_start RX0 (by decide) rfl (Nat.le_of_ble_eq_true rfl) ?_
  intro p e s m args below meth c ls E hr hlocks hxt hC hl
  obtain ⟨hP, hK, hN, hO⟩ := hC
  have hl : lv_has ls 3 [(0, .ref w), (1, .int i), (2, .int v)] := hl
  refine lv_aload_n E.1 E.2.1 dX0_setIn_0 rfl (lv_at hl 0 rfl) ?_
  refine va_instE (nm := "[B") E.1 E.2.1 E.2.2.2.1 (E.2.2.2.2 _ q723) (row_recv hK hP 1 rfl (by rfl)) dX0_setIn_1 ?_
  refine lv_if_eq (tgt := 18) E.1 E.2.1 dX0_setIn_4 (by decide) (fun h => absurd h (by decide)) (fun _ => ?_)
  refine lv_aload_n E.1 E.2.1 dX0_setIn_7 rfl (lv_at hl 0 rfl) ?_
  refine va_castA E.1 E.2.1 E.2.2.2.1 (E.2.2.2.2 _ q723) hP 0 rfl (hK.2 1 (K 1, .byte) rfl).2 dX0_setIn_8 ?_
  refine lv_iload_n E.1 E.2.1 dX0_setIn_11 rfl (lv_at hl 1 rfl) ?_
  refine lv_iload_n E.1 E.2.1 dX0_setIn_12 rfl (lv_at hl 2 rfl) ?_
  refine lv_i2b E.1 E.2.1 dX0_setIn_13 rfl ?_
  exact tx_bastoreO (i := i) (w := w) (cell := vp_cell (K 1) (n, .inl g)) (ty := .byte) (rest := []) (hP 0 _ rfl) ((hK.2 1 (K 1, .byte) rfl).1 n (fun j => .int (g j))) (by rw [vpc_size]; exact inb_out hi) (by rw [vpc_size]; exact hn) G.2.2.2 E (xa_aio G.1 E.2.2.2.2 hN hO (cG_x G hN hO)) hxt hlocks hl (Nat.le_of_ble_eq_true rfl) ⟨by decide, by decide⟩ ⟨by decide, by decide⟩ ⟨by decide, by decide⟩ dX0_setIn_14
set_option maxHeartbeats 1000000 in
theorem ct_setIn1 (l : Launch) {s0 : State} {a0 : Array Value} (G : cG l s0 a0) (D : va_G) (K : Nat → ClassId) (w n : Nat) (g : Nat → Int32) (i v : Int32) (hi : inb i n = true) : Met l yX0_setIn (ws_ yX0_setIn cX0_setIn 3 none) rmX0_cellOf (xPc D K s0 [(w, rwE K 1 n g)] [.ref w, .int i, .int v]) (eQ D w (rwE K 1 n (upd g i.toNatClampNeg (narS 1 v)))) 0 0 (fun x => x = w) := by
  refine gx_start RX0 (by decide) rfl (Nat.le_of_ble_eq_true rfl) ?_
  intro p e s m args below meth c ls E hr hlocks _ hC hl
  obtain ⟨hP, hK, hN, hO⟩ := hC
  have hl : lv_has ls 3 [(0, .ref w), (1, .int i), (2, .int v)] := hl
  have hD : va_D (fun x => x = w) [(w, rwE K 1 n g)] := va_D_one
  refine lv_aload_n E.1 E.2.1 dX0_setIn_0 rfl (lv_at hl 0 rfl) ?_
  refine va_instNo (C := "[S") (nm := "[B") E.1 E.2.1 E.2.2.2.1 (E.2.2.2.2 _ q723) (cG_nc G hN (by decide +kernel)) (row_recv hK hP 2 rfl (by rfl)) dX0_setIn_1 ?_
  refine lv_if_eq (tgt := 18) E.1 E.2.1 dX0_setIn_4 (by decide) (fun _ => ?_) (fun h => absurd rfl h)
  refine lv_aload_n E.1 E.2.1 dX0_setIn_18 rfl (lv_at hl 0 rfl) ?_
  refine va_instE (nm := "[S") E.1 E.2.1 E.2.2.2.1 (E.2.2.2.2 _ q724) (row_recv hK hP 2 rfl (by rfl)) dX0_setIn_19 ?_
  refine lv_if_eq (tgt := 36) E.1 E.2.1 dX0_setIn_22 (by decide) (fun h => absurd h (by decide)) (fun _ => ?_)
  refine lv_aload_n E.1 E.2.1 dX0_setIn_25 rfl (lv_at hl 0 rfl) ?_
  refine va_castA E.1 E.2.1 E.2.2.2.1 (E.2.2.2.2 _ q724) hP 0 rfl (hK.2 2 (K 2, .short) rfl).2 dX0_setIn_26 ?_
  refine lv_iload_n E.1 E.2.1 dX0_setIn_29 rfl (lv_at hl 1 rfl) ?_
  refine lv_iload_n E.1 E.2.1 dX0_setIn_30 rfl (lv_at hl 2 rfl) ?_
  refine lv_i2s E.1 E.2.1 dX0_setIn_31 rfl ?_
  refine va_sast E.1 E.2.1 hK hP hD va_S.rf 0 2 rfl rfl (inb_in hi) dX0_setIn_32 (fun H locs hP _ hS => ?_)
  refine lv_goto (tgt := 43) E.1 E.2.1 dX0_setIn_33 (by decide) ?_
  rw [show vp_nar .short v.toInt16.toInt32 = narS 1 v by rw [vp_nar_short]; simp [narS]] at hP
  exact W.vret E.1 E.2.1 hr (fun t ht _ => ⟨⟨rfl, by rw [ht]; exact hP⟩, hS.F ht⟩) hS.2.2 dX0_setIn_43 hlocks
set_option maxHeartbeats 1000000 in
theorem ct_setIn1_out (l : Launch) {s0 : State} {a0 : Array Value} (G : cG l s0 a0) (D : va_G) (K : Nat → ClassId) (w n : Nat) (g : Nat → Int32) (i v : Int32) (hn : n ≤ 60) (hi : inb i n = false) : MetT l yX0_setIn (ws_ yX0_setIn cX0_setIn 3 none) rmXT (xPc D K s0 [(w, rwE K 1 n g)] [.ref w, .int i, .int v]) "java/lang/ArrayIndexOutOfBoundsException" 3 1610 := by
  refine tx_start RX0 (by decide) rfl (Nat.le_of_ble_eq_true rfl) ?_
  intro p e s m args below meth c ls E hr hlocks hxt hC hl
  obtain ⟨hP, hK, hN, hO⟩ := hC
  have hl : lv_has ls 3 [(0, .ref w), (1, .int i), (2, .int v)] := hl
  refine lv_aload_n E.1 E.2.1 dX0_setIn_0 rfl (lv_at hl 0 rfl) ?_
  refine va_instNo (C := "[S") (nm := "[B") E.1 E.2.1 E.2.2.2.1 (E.2.2.2.2 _ q723) (cG_nc G hN (by decide +kernel)) (row_recv hK hP 2 rfl (by rfl)) dX0_setIn_1 ?_
  refine lv_if_eq (tgt := 18) E.1 E.2.1 dX0_setIn_4 (by decide) (fun _ => ?_) (fun h => absurd rfl h)
  refine lv_aload_n E.1 E.2.1 dX0_setIn_18 rfl (lv_at hl 0 rfl) ?_
  refine va_instE (nm := "[S") E.1 E.2.1 E.2.2.2.1 (E.2.2.2.2 _ q724) (row_recv hK hP 2 rfl (by rfl)) dX0_setIn_19 ?_
  refine lv_if_eq (tgt := 36) E.1 E.2.1 dX0_setIn_22 (by decide) (fun h => absurd h (by decide)) (fun _ => ?_)
  refine lv_aload_n E.1 E.2.1 dX0_setIn_25 rfl (lv_at hl 0 rfl) ?_
  refine va_castA E.1 E.2.1 E.2.2.2.1 (E.2.2.2.2 _ q724) hP 0 rfl (hK.2 2 (K 2, .short) rfl).2 dX0_setIn_26 ?_
  refine lv_iload_n E.1 E.2.1 dX0_setIn_29 rfl (lv_at hl 1 rfl) ?_
  refine lv_iload_n E.1 E.2.1 dX0_setIn_30 rfl (lv_at hl 2 rfl) ?_
  refine lv_i2s E.1 E.2.1 dX0_setIn_31 rfl ?_
  exact tx_sastoreO (i := i) (w := w) (cell := vp_cell (K 2) (n, .inl g)) (ty := .short) (rest := []) (hP 0 _ rfl) ((hK.2 2 (K 2, .short) rfl).1 n (fun j => .int (g j))) (by rw [vpc_size]; exact inb_out hi) (by rw [vpc_size]; exact hn) G.2.2.2 E (xa_aio G.1 E.2.2.2.2 hN hO (cG_x G hN hO)) hxt hlocks hl (Nat.le_of_ble_eq_true rfl) ⟨by decide, by decide⟩ ⟨by decide, by decide⟩ ⟨by decide, by decide⟩ dX0_setIn_32
set_option maxHeartbeats 1000000 in
theorem ct_setIn2 (l : Launch) {s0 : State} {a0 : Array Value} (G : cG l s0 a0) (D : va_G) (K : Nat → ClassId) (w n : Nat) (g : Nat → Int32) (i v : Int32) (hi : inb i n = true) : Met l yX0_setIn (ws_ yX0_setIn cX0_setIn 3 none) rmX0_cellOf (xPc D K s0 [(w, rwE K 2 n g)] [.ref w, .int i, .int v]) (eQ D w (rwE K 2 n (upd g i.toNatClampNeg (narS 2 v)))) 0 0 (fun x => x = w) := by
  refine gx_start RX0 (by decide) rfl (Nat.le_of_ble_eq_true rfl) ?_
  intro p e s m args below meth c ls E hr hlocks _ hC hl
  obtain ⟨hP, hK, hN, hO⟩ := hC
  have hl : lv_has ls 3 [(0, .ref w), (1, .int i), (2, .int v)] := hl
  have hD : va_D (fun x => x = w) [(w, rwE K 2 n g)] := va_D_one
  refine lv_aload_n E.1 E.2.1 dX0_setIn_0 rfl (lv_at hl 0 rfl) ?_
  refine va_instNo (C := "[I") (nm := "[B") E.1 E.2.1 E.2.2.2.1 (E.2.2.2.2 _ q723) (cG_nc G hN (by decide +kernel)) (row_recv hK hP 0 rfl (by rfl)) dX0_setIn_1 ?_
  refine lv_if_eq (tgt := 18) E.1 E.2.1 dX0_setIn_4 (by decide) (fun _ => ?_) (fun h => absurd rfl h)
  refine lv_aload_n E.1 E.2.1 dX0_setIn_18 rfl (lv_at hl 0 rfl) ?_
  refine va_instNo (C := "[I") (nm := "[S") E.1 E.2.1 E.2.2.2.1 (E.2.2.2.2 _ q724) (cG_nc G hN (by decide +kernel)) (row_recv hK hP 0 rfl (by rfl)) dX0_setIn_19 ?_
  refine lv_if_eq (tgt := 36) E.1 E.2.1 dX0_setIn_22 (by decide) (fun _ => ?_) (fun h => absurd rfl h)
  refine lv_aload_n E.1 E.2.1 dX0_setIn_36 rfl (lv_at hl 0 rfl) ?_
  refine va_castA E.1 E.2.1 E.2.2.2.1 (E.2.2.2.2 _ q725) hP 0 rfl (hK.2 0 (K 0, .int) rfl).2 dX0_setIn_37 ?_
  refine lv_iload_n E.1 E.2.1 dX0_setIn_40 rfl (lv_at hl 1 rfl) ?_
  refine lv_iload_n E.1 E.2.1 dX0_setIn_41 rfl (lv_at hl 2 rfl) ?_
  refine va_iast E.1 E.2.1 hK hP hD va_S.rf 0 0 rfl rfl (inb_in hi) dX0_setIn_42 (fun H locs hP _ hS => ?_)
  exact W.vret E.1 E.2.1 hr (fun t ht _ => ⟨⟨rfl, by rw [ht]; exact hP⟩, hS.F ht⟩) hS.2.2 dX0_setIn_43 hlocks
set_option maxHeartbeats 1000000 in
theorem ct_setIn2_out (l : Launch) {s0 : State} {a0 : Array Value} (G : cG l s0 a0) (D : va_G) (K : Nat → ClassId) (w n : Nat) (g : Nat → Int32) (i v : Int32) (hn : n ≤ 60) (hi : inb i n = false) : MetT l yX0_setIn (ws_ yX0_setIn cX0_setIn 3 none) rmXT (xPc D K s0 [(w, rwE K 2 n g)] [.ref w, .int i, .int v]) "java/lang/ArrayIndexOutOfBoundsException" 3 1610 := by
  refine tx_start RX0 (by decide) rfl (Nat.le_of_ble_eq_true rfl) ?_
  intro p e s m args below meth c ls E hr hlocks hxt hC hl
  obtain ⟨hP, hK, hN, hO⟩ := hC
  have hl : lv_has ls 3 [(0, .ref w), (1, .int i), (2, .int v)] := hl
  refine lv_aload_n E.1 E.2.1 dX0_setIn_0 rfl (lv_at hl 0 rfl) ?_
  refine va_instNo (C := "[I") (nm := "[B") E.1 E.2.1 E.2.2.2.1 (E.2.2.2.2 _ q723) (cG_nc G hN (by decide +kernel)) (row_recv hK hP 0 rfl (by rfl)) dX0_setIn_1 ?_
  refine lv_if_eq (tgt := 18) E.1 E.2.1 dX0_setIn_4 (by decide) (fun _ => ?_) (fun h => absurd rfl h)
  refine lv_aload_n E.1 E.2.1 dX0_setIn_18 rfl (lv_at hl 0 rfl) ?_
  refine va_instNo (C := "[I") (nm := "[S") E.1 E.2.1 E.2.2.2.1 (E.2.2.2.2 _ q724) (cG_nc G hN (by decide +kernel)) (row_recv hK hP 0 rfl (by rfl)) dX0_setIn_19 ?_
  refine lv_if_eq (tgt := 36) E.1 E.2.1 dX0_setIn_22 (by decide) (fun _ => ?_) (fun h => absurd rfl h)
  refine lv_aload_n E.1 E.2.1 dX0_setIn_36 rfl (lv_at hl 0 rfl) ?_
  refine va_castA E.1 E.2.1 E.2.2.2.1 (E.2.2.2.2 _ q725) hP 0 rfl (hK.2 0 (K 0, .int) rfl).2 dX0_setIn_37 ?_
  refine lv_iload_n E.1 E.2.1 dX0_setIn_40 rfl (lv_at hl 1 rfl) ?_
  refine lv_iload_n E.1 E.2.1 dX0_setIn_41 rfl (lv_at hl 2 rfl) ?_
  exact tx_iastoreO (i := i) (w := w) (cell := vp_cell (K 0) (n, .inl g)) (ty := .int) (rest := []) (hP 0 _ rfl) ((hK.2 0 (K 0, .int) rfl).1 n (fun j => .int (g j))) (by rw [vpc_size]; exact inb_out hi) (by rw [vpc_size]; exact hn) G.2.2.2 E (xa_aio G.1 E.2.2.2.2 hN hO (cG_x G hN hO)) hxt hlocks hl (Nat.le_of_ble_eq_true rfl) ⟨by decide, by decide⟩ ⟨by decide, by decide⟩ ⟨by decide, by decide⟩ dX0_setIn_42
