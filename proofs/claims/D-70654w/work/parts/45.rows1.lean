/-! cellOf, sizeOf: what they answer, what they throw -/
/-- all that is taken from the law's start -/
def cG (l : Launch) (s0 : State) (a0 : Array Value) : Prop := (∀ w ∈ lw_tbl, w.before a0 s0 = true) ∧ (Jvm.Cond.and given_1 narrow_1).before a0 s0 = true ∧ modOK s0.vm ∧ ∀ e, l.admits e → e.platform.stackTraces = false
abbrev xE (s0 U : State) : Prop := s0.WarmedH U.vm ∧ s0.heap.size ≤ U.heap.size ∧ ∀ q, q < s0.heap.size → U.heap[q]? = s0.heap[q]?
abbrev xPc (D : va_G) (K : Nat → ClassId) (s0 : State) (ws : va_W) (av : List Value) : Array Value → State → Prop := va_Pc av (fun U => va_P D vCl ws U.heap ∧ va_K D vCl (cT K) U ∧ xE s0 U)
theorem cG_x {l : Launch} {s0 s : State} {a0 args : Array Value} (G : cG l s0 a0) (hN : s0.WarmedH s.vm) (hO : s0.heap.size ≤ s.heap.size ∧ ∀ q, q < s0.heap.size → s.heap[q]? = s0.heap[q]?) : True ∧ True ∧ (Cond.isRef (.static Bundle.tN "UNASSIGNED_STACK" Bundle.steD)).before args s = true ∧ (Cond.isRef (.static Bundle.tN "SUPPRESSED_SENTINEL" Bundle.listD)).before args s = true :=
  ⟨trivial, trivial, st_ref hN hO (G.1 _ q570) (flat_of_before _ G.2.1 _ (by decide +kernel)), st_ref hN hO (G.1 _ q572) (flat_of_before _ G.2.1 _ (by decide +kernel))⟩
theorem cG_mod {l : Launch} {s0 s : State} {a0 : Array Value} (G : cG l s0 a0) (hN : s0.WarmedH s.vm) : modOK s.vm := by
  have h := G.2.2.1
  unfold modOK at h ⊢
  rw [hN.1]
  exact h
theorem cG_nc {l : Launch} {s0 s : State} {a0 : Array Value} (G : cG l s0 a0) (hN : s0.WarmedH s.vm) {C T : String} (h : (flatC (Jvm.Cond.and given_1 narrow_1)).contains (Cond.not (.castable C T)) = true) : va_Nc C T s :=
  va_Nc.moved hN.alike (va_Nc.of (flat_of_before _ G.2.1 _ (by simpa using h)))
theorem inb_out {i : Int32} {n : Nat} (h : inb i n = false) : i < 0 ∨ n ≤ i.toNatClampNeg := by
  exact Decidable.of_not_not (of_decide_eq_false (p := ¬ (i < 0 ∨ n ≤ i.toNatClampNeg)) h)
theorem row_recv {s : State} {H : Heap} {D : va_G} {K : Nat → ClassId} {w n : Nat} {g : Nat → Int32} {k : ClassId} (hK : va_K D vCl (cT K) s) (hP : va_P D vCl [(w, .inl (k, n, .inl g))] H) (t : Nat) {ty : FieldType} (ht : (cT K)[t]? = some (k, ty)) (hty : va_RA s k ty = (s.vm.findClass ("[" ++ ty.toString) = some k)) : ∃ cell : Cell, H[w]? = some cell ∧ cell.vm.isStatics = false ∧ s.vm.findClass ("[" ++ ty.toString) = some cell.cls :=
  ⟨_, hP 0 _ rfl, rfl, by have := (hK.2 t _ ht).2; rw [hty] at this; exact this⟩
abbrev rmX0_cellOf : Room := { frames := 1, cells := 0, slots := 0, locals := 12 }
/-- the room of whoever throws -/
abbrev rmXT : Room := { frames := 9, cells := 3, slots := 1610, locals := 10300 }
set_option maxHeartbeats 1000000 in
theorem ct_cellOf0 (l : Launch) {s0 : State} {a0 : Array Value} (G : cG l s0 a0) (D : va_G) (K : Nat → ClassId) (w n : Nat) (g : Nat → Int32) (i : Int32) (hi : inb i n = true) : Met l yX0_cellOf (ws_ yX0_cellOf cX0_cellOf 3 (some .int)) rmX0_cellOf (xPc D K s0 [(w, .inl (K 1, n, .inl g))] [.ref w, .int 0, .int i]) (pQ (.int (g i.toNatClampNeg))) 0 0 (fun _ => False) := by
  refine gx_start RX0 (by decide) rfl (Nat.le_of_ble_eq_true rfl) ?_
  intro p e s m args below meth c ls E hr hlocks _ hC hl
  obtain ⟨hP, hK, hN, hO⟩ := hC
  have hl : lv_has ls 3 [(0, .ref w), (1, .int 0), (2, .int i)] := hl
  refine lv_iload_n E.1 E.2.1 dX0_cellOf_0 rfl (lv_at hl 1 rfl) ?_
  refine lv_if_ne (tgt := 13) E.1 E.2.1 dX0_cellOf_1 (by decide) (fun h => absurd rfl h) (fun _ => ?_)
  refine lv_aload_n E.1 E.2.1 dX0_cellOf_4 rfl (lv_at hl 0 rfl) ?_
  refine va_castA E.1 E.2.1 E.2.2.2.1 (E.2.2.2.2 _ q723) hP 0 rfl (hK.2 1 (K 1, .byte) rfl).2 dX0_cellOf_5 ?_
  refine lv_iload_n E.1 E.2.1 dX0_cellOf_8 rfl (lv_at hl 2 rfl) ?_
  refine va_bald E.1 E.2.1 hK hP 0 1 rfl rfl (inb_in hi) dX0_cellOf_9 ?_
  refine lv_goto (tgt := 33) E.1 E.2.1 dX0_cellOf_10 (by decide) ?_
  exact px_iret E hr hlocks rfl rfl dX0_cellOf_33
set_option maxHeartbeats 1000000 in
theorem ct_cellOf0_null (l : Launch) {s0 : State} {a0 : Array Value} (G : cG l s0 a0) (D : va_G) (K : Nat → ClassId) (i : Int32) : MetT l yX0_cellOf (ws_ yX0_cellOf cX0_cellOf 3 (some .int)) rmXT (xPc D K s0 [] [.null, .int 0, .int i]) "java/lang/NullPointerException" 3 1610 := by
  refine tx_start RX0 (by decide) rfl (Nat.le_of_ble_eq_true rfl) ?_
  intro p e s m args below meth c ls E hr hlocks hxt hC hl
  obtain ⟨hP, hK, hN, hO⟩ := hC
  have hl : lv_has ls 3 [(0, .null), (1, .int 0), (2, .int i)] := hl
  refine lv_iload_n E.1 E.2.1 dX0_cellOf_0 rfl (lv_at hl 1 rfl) ?_
  refine lv_if_ne (tgt := 13) E.1 E.2.1 dX0_cellOf_1 (by decide) (fun h => absurd rfl h) (fun _ => ?_)
  refine lv_aload_nN E.1 E.2.1 dX0_cellOf_4 rfl (lv_at hl 0 rfl) ?_
  refine lv_castN E.1 E.2.1 dX0_cellOf_5 ?_
  refine lv_iload_n E.1 E.2.1 dX0_cellOf_8 rfl (lv_at hl 2 rfl) ?_
  exact tx_baloadN (rest := []) G.2.2.2 E (xa_npe G.1 E.2.2.2.2 hN hO (cG_x G hN hO)) hxt hlocks hl (Nat.le_of_ble_eq_true rfl) ⟨by decide, by decide⟩ ⟨by decide, by decide⟩ ⟨by decide, by decide⟩ dX0_cellOf_9
set_option maxHeartbeats 1000000 in
theorem ct_cellOf0_out (l : Launch) {s0 : State} {a0 : Array Value} (G : cG l s0 a0) (D : va_G) (K : Nat → ClassId) (w n : Nat) (g : Nat → Int32) (i : Int32) (hn : n ≤ 60) (hi : inb i n = false) : MetT l yX0_cellOf (ws_ yX0_cellOf cX0_cellOf 3 (some .int)) rmXT (xPc D K s0 [(w, .inl (K 1, n, .inl g))] [.ref w, .int 0, .int i]) "java/lang/ArrayIndexOutOfBoundsException" 3 1610 := by
  refine tx_start RX0 (by decide) rfl (Nat.le_of_ble_eq_true rfl) ?_
  intro p e s m args below meth c ls E hr hlocks hxt hC hl
  obtain ⟨hP, hK, hN, hO⟩ := hC
  have hl : lv_has ls 3 [(0, .ref w), (1, .int 0), (2, .int i)] := hl
  refine lv_iload_n E.1 E.2.1 dX0_cellOf_0 rfl (lv_at hl 1 rfl) ?_
  refine lv_if_ne (tgt := 13) E.1 E.2.1 dX0_cellOf_1 (by decide) (fun h => absurd rfl h) (fun _ => ?_)
  refine lv_aload_n E.1 E.2.1 dX0_cellOf_4 rfl (lv_at hl 0 rfl) ?_
  refine va_castA E.1 E.2.1 E.2.2.2.1 (E.2.2.2.2 _ q723) hP 0 rfl (hK.2 1 (K 1, .byte) rfl).2 dX0_cellOf_5 ?_
  refine lv_iload_n E.1 E.2.1 dX0_cellOf_8 rfl (lv_at hl 2 rfl) ?_
  exact tx_baloadO (i := i) (w := w) (cell := vp_cell (K 1) (n, .inl g)) (ty := .byte) (rest := []) (hP 0 _ rfl) ((hK.2 1 (K 1, .byte) rfl).1 n (fun j => .int (g j))) (by rw [vpc_size]; exact inb_out hi) (by rw [vpc_size]; exact hn) G.2.2.2 E (xa_aio G.1 E.2.2.2.2 hN hO (cG_x G hN hO)) hxt hlocks hl (Nat.le_of_ble_eq_true rfl) ⟨by decide, by decide⟩ ⟨by decide, by decide⟩ ⟨by decide, by decide⟩ dX0_cellOf_9
set_option maxHeartbeats 1000000 in
theorem ct_cellOf0_cast1 (l : Launch) {s0 : State} {a0 : Array Value} (G : cG l s0 a0) (D : va_G) (K : Nat → ClassId) (w n : Nat) (g : Nat → Int32) (i : Int32) : MetT l yX0_cellOf (ws_ yX0_cellOf cX0_cellOf 3 (some .int)) rmXT (xPc D K s0 [(w, .inl (K 2, n, .inl g))] [.ref w, .int 0, .int i]) "java/lang/ClassCastException" 3 1610 := by
  refine tx_start RX0 (by decide) rfl (Nat.le_of_ble_eq_true rfl) ?_
  intro p e s m args below meth c ls E hr hlocks hxt hC hl
  obtain ⟨hP, hK, hN, hO⟩ := hC
  have hl : lv_has ls 3 [(0, .ref w), (1, .int 0), (2, .int i)] := hl
  refine lv_iload_n E.1 E.2.1 dX0_cellOf_0 rfl (lv_at hl 1 rfl) ?_
  refine lv_if_ne (tgt := 13) E.1 E.2.1 dX0_cellOf_1 (by decide) (fun h => absurd rfl h) (fun _ => ?_)
  refine lv_aload_n E.1 E.2.1 dX0_cellOf_4 rfl (lv_at hl 0 rfl) ?_
  exact tx_cast (N := "[B") (N' := "[S") (rest := []) G.2.2.2 E (xa_cce G.1 E.2.2.2.2 hN hO (cG_x G hN hO)) (cG_mod G hN) q723 (row_recv hK hP 2 rfl (by rfl)) (cG_nc G hN (by decide +kernel)) (fun k h1 h2 h3 _ _ => ⟨h2, h3, by rw [h1]; decide +kernel, Or.inr (by rw [h1]; decide +kernel)⟩) (fun k h1 h2 h3 _ _ => ⟨h2, h3, by rw [h1]; decide +kernel, Or.inr (by rw [h1]; decide +kernel)⟩) hxt hlocks hl (Nat.le_of_ble_eq_true rfl) ⟨by decide, by decide⟩ ⟨by decide, by decide⟩ ⟨by decide, by decide⟩ dX0_cellOf_5
set_option maxHeartbeats 1000000 in
theorem ct_sizeOf0_cast1 (l : Launch) {s0 : State} {a0 : Array Value} (G : cG l s0 a0) (D : va_G) (K : Nat → ClassId) (w n : Nat) (g : Nat → Int32) : MetT l yX0_sizeOf (ws_ yX0_sizeOf cX0_sizeOf 2 (some .int)) rmXT (xPc D K s0 [(w, .inl (K 2, n, .inl g))] [.ref w, .int 0]) "java/lang/ClassCastException" 3 1610 := by
  refine tx_start RX0 (by decide) rfl (Nat.le_of_ble_eq_true rfl) ?_
  intro p e s m args below meth c ls E hr hlocks hxt hC hl
  obtain ⟨hP, hK, hN, hO⟩ := hC
  have hl : lv_has ls 2 [(0, .ref w), (1, .int 0)] := hl
  refine lv_iload_n E.1 E.2.1 dX0_sizeOf_0 rfl (lv_at hl 1 rfl) ?_
  refine lv_if_ne (tgt := 12) E.1 E.2.1 dX0_sizeOf_1 (by decide) (fun h => absurd rfl h) (fun _ => ?_)
  refine lv_aload_n E.1 E.2.1 dX0_sizeOf_4 rfl (lv_at hl 0 rfl) ?_
  exact tx_cast (N := "[B") (N' := "[S") (rest := []) G.2.2.2 E (xa_cce G.1 E.2.2.2.2 hN hO (cG_x G hN hO)) (cG_mod G hN) q723 (row_recv hK hP 2 rfl (by rfl)) (cG_nc G hN (by decide +kernel)) (fun k h1 h2 h3 _ _ => ⟨h2, h3, by rw [h1]; decide +kernel, Or.inr (by rw [h1]; decide +kernel)⟩) (fun k h1 h2 h3 _ _ => ⟨h2, h3, by rw [h1]; decide +kernel, Or.inr (by rw [h1]; decide +kernel)⟩) hxt hlocks hl (Nat.le_of_ble_eq_true rfl) ⟨by decide, by decide⟩ ⟨by decide, by decide⟩ ⟨by decide, by decide⟩ dX0_sizeOf_5
set_option maxHeartbeats 1000000 in
theorem ct_cellOf0_cast2 (l : Launch) {s0 : State} {a0 : Array Value} (G : cG l s0 a0) (D : va_G) (K : Nat → ClassId) (w n : Nat) (g : Nat → Int32) (i : Int32) : MetT l yX0_cellOf (ws_ yX0_cellOf cX0_cellOf 3 (some .int)) rmXT (xPc D K s0 [(w, .inl (K 0, n, .inl g))] [.ref w, .int 0, .int i]) "java/lang/ClassCastException" 3 1610 := by
  refine tx_start RX0 (by decide) rfl (Nat.le_of_ble_eq_true rfl) ?_
  intro p e s m args below meth c ls E hr hlocks hxt hC hl
  obtain ⟨hP, hK, hN, hO⟩ := hC
  have hl : lv_has ls 3 [(0, .ref w), (1, .int 0), (2, .int i)] := hl
  refine lv_iload_n E.1 E.2.1 dX0_cellOf_0 rfl (lv_at hl 1 rfl) ?_
  refine lv_if_ne (tgt := 13) E.1 E.2.1 dX0_cellOf_1 (by decide) (fun h => absurd rfl h) (fun _ => ?_)
  refine lv_aload_n E.1 E.2.1 dX0_cellOf_4 rfl (lv_at hl 0 rfl) ?_
  exact tx_cast (N := "[B") (N' := "[I") (rest := []) G.2.2.2 E (xa_cce G.1 E.2.2.2.2 hN hO (cG_x G hN hO)) (cG_mod G hN) q723 (row_recv hK hP 0 rfl (by rfl)) (cG_nc G hN (by decide +kernel)) (fun k h1 h2 h3 _ _ => ⟨h2, h3, by rw [h1]; decide +kernel, Or.inr (by rw [h1]; decide +kernel)⟩) (fun k h1 h2 h3 _ _ => ⟨h2, h3, by rw [h1]; decide +kernel, Or.inr (by rw [h1]; decide +kernel)⟩) hxt hlocks hl (Nat.le_of_ble_eq_true rfl) ⟨by decide, by decide⟩ ⟨by decide, by decide⟩ ⟨by decide, by decide⟩ dX0_cellOf_5
set_option maxHeartbeats 1000000 in
theorem ct_sizeOf0_cast2 (l : Launch) {s0 : State} {a0 : Array Value} (G : cG l s0 a0) (D : va_G) (K : Nat → ClassId) (w n : Nat) (g : Nat → Int32) : MetT l yX0_sizeOf (ws_ yX0_sizeOf cX0_sizeOf 2 (some .int)) rmXT (xPc D K s0 [(w, .inl (K 0, n, .inl g))] [.ref w, .int 0]) "java/lang/ClassCastException" 3 1610 := by
  refine tx_start RX0 (by decide) rfl (Nat.le_of_ble_eq_true rfl) ?_
  intro p e s m args below meth c ls E hr hlocks hxt hC hl
  obtain ⟨hP, hK, hN, hO⟩ := hC
  have hl : lv_has ls 2 [(0, .ref w), (1, .int 0)] := hl
  refine lv_iload_n E.1 E.2.1 dX0_sizeOf_0 rfl (lv_at hl 1 rfl) ?_
  refine lv_if_ne (tgt := 12) E.1 E.2.1 dX0_sizeOf_1 (by decide) (fun h => absurd rfl h) (fun _ => ?_)
  refine lv_aload_n E.1 E.2.1 dX0_sizeOf_4 rfl (lv_at hl 0 rfl) ?_
  exact tx_cast (N := "[B") (N' := "[I") (rest := []) G.2.2.2 E (xa_cce G.1 E.2.2.2.2 hN hO (cG_x G hN hO)) (cG_mod G hN) q723 (row_recv hK hP 0 rfl (by rfl)) (cG_nc G hN (by decide +kernel)) (fun k h1 h2 h3 _ _ => ⟨h2, h3, by rw [h1]; decide +kernel, Or.inr (by rw [h1]; decide +kernel)⟩) (fun k h1 h2 h3 _ _ => ⟨h2, h3, by rw [h1]; decide +kernel, Or.inr (by rw [h1]; decide +kernel)⟩) hxt hlocks hl (Nat.le_of_ble_eq_true rfl) ⟨by decide, by decide⟩ ⟨by decide, by decide⟩ ⟨by decide, by decide⟩ dX0_sizeOf_5
set_option maxHeartbeats 1000000 in
theorem ct_sizeOf0 (l : Launch) {s0 : State} {a0 : Array Value} (G : cG l s0 a0) (D : va_G) (K : Nat → ClassId) (w n : Nat) (g : Nat → Int32) : Met l yX0_sizeOf (ws_ yX0_sizeOf cX0_sizeOf 2 (some .int)) rmX0_cellOf (xPc D K s0 [(w, .inl (K 1, n, .inl g))] [.ref w, .int 0]) (pQ (.int (nI n))) 0 0 (fun _ => False) := by
  refine gx_start RX0 (by decide) rfl (Nat.le_of_ble_eq_true rfl) ?_
  intro p e s m args below meth c ls E hr hlocks _ hC hl
  obtain ⟨hP, hK, hN, hO⟩ := hC
  have hl : lv_has ls 2 [(0, .ref w), (1, .int 0)] := hl
  refine lv_iload_n E.1 E.2.1 dX0_sizeOf_0 rfl (lv_at hl 1 rfl) ?_
  refine lv_if_ne (tgt := 12) E.1 E.2.1 dX0_sizeOf_1 (by decide) (fun h => absurd rfl h) (fun _ => ?_)
  refine lv_aload_n E.1 E.2.1 dX0_sizeOf_4 rfl (lv_at hl 0 rfl) ?_
  refine va_castA E.1 E.2.1 E.2.2.2.1 (E.2.2.2.2 _ q723) hP 0 rfl (hK.2 1 (K 1, .byte) rfl).2 dX0_sizeOf_5 ?_
  refine va_alen (v := nI n) E.1 E.2.1 hK hP 0 1 rfl rfl rfl dX0_sizeOf_8 ?_
  refine lv_goto (tgt := 30) E.1 E.2.1 dX0_sizeOf_9 (by decide) ?_
  exact px_iret E hr hlocks rfl rfl dX0_sizeOf_30
set_option maxHeartbeats 1000000 in
theorem ct_sizeOf0_null (l : Launch) {s0 : State} {a0 : Array Value} (G : cG l s0 a0) (D : va_G) (K : Nat → ClassId)  : MetT l yX0_sizeOf (ws_ yX0_sizeOf cX0_sizeOf 2 (some .int)) rmXT (xPc D K s0 [] [.null, .int 0]) "java/lang/NullPointerException" 3 1610 := by
  refine tx_start RX0 (by decide) rfl (Nat.le_of_ble_eq_true rfl) ?_
  intro p e s m args below meth c ls E hr hlocks hxt hC hl
  obtain ⟨hP, hK, hN, hO⟩ := hC
  have hl : lv_has ls 2 [(0, .null), (1, .int 0)] := hl
  refine lv_iload_n E.1 E.2.1 dX0_sizeOf_0 rfl (lv_at hl 1 rfl) ?_
  refine lv_if_ne (tgt := 12) E.1 E.2.1 dX0_sizeOf_1 (by decide) (fun h => absurd rfl h) (fun _ => ?_)
  refine lv_aload_nN E.1 E.2.1 dX0_sizeOf_4 rfl (lv_at hl 0 rfl) ?_
  refine lv_castN E.1 E.2.1 dX0_sizeOf_5 ?_
  exact tx_alenN (rest := []) G.2.2.2 E (xa_npe G.1 E.2.2.2.2 hN hO (cG_x G hN hO)) hxt hlocks hl (Nat.le_of_ble_eq_true rfl) ⟨by decide, by decide⟩ ⟨by decide, by decide⟩ ⟨by decide, by decide⟩ dX0_sizeOf_8
set_option maxHeartbeats 1000000 in
theorem ct_cellOf1 (l : Launch) {s0 : State} {a0 : Array Value} (G : cG l s0 a0) (D : va_G) (K : Nat → ClassId) (w n : Nat) (g : Nat → Int32) (i : Int32) (hi : inb i n = true) : Met l yX0_cellOf (ws_ yX0_cellOf cX0_cellOf 3 (some .int)) rmX0_cellOf (xPc D K s0 [(w, .inl (K 2, n, .inl g))] [.ref w, .int 1, .int i]) (pQ (.int (g i.toNatClampNeg))) 0 0 (fun _ => False) := by
  refine gx_start RX0 (by decide) rfl (Nat.le_of_ble_eq_true rfl) ?_
  intro p e s m args below meth c ls E hr hlocks _ hC hl
  obtain ⟨hP, hK, hN, hO⟩ := hC
  have hl : lv_has ls 3 [(0, .ref w), (1, .int 1), (2, .int i)] := hl
  refine lv_iload_n E.1 E.2.1 dX0_cellOf_0 rfl (lv_at hl 1 rfl) ?_
  refine lv_if_ne (tgt := 13) E.1 E.2.1 dX0_cellOf_1 (by decide) (fun _ => ?_) (fun h => absurd h (by decide))
  refine lv_iload_n E.1 E.2.1 dX0_cellOf_13 rfl (lv_at hl 1 rfl) ?_
  refine lv_iconst (v := (1 : Int32)) E.1 E.2.1 dX0_cellOf_14 (by decide) ?_
  refine lv_icmp_ne (tgt := 27) E.1 E.2.1 dX0_cellOf_15 (by decide) (fun h => absurd rfl h) (fun _ => ?_)
  refine lv_aload_n E.1 E.2.1 dX0_cellOf_18 rfl (lv_at hl 0 rfl) ?_
  refine va_castA E.1 E.2.1 E.2.2.2.1 (E.2.2.2.2 _ q724) hP 0 rfl (hK.2 2 (K 2, .short) rfl).2 dX0_cellOf_19 ?_
  refine lv_iload_n E.1 E.2.1 dX0_cellOf_22 rfl (lv_at hl 2 rfl) ?_
  refine va_sald E.1 E.2.1 hK hP 0 2 rfl rfl (inb_in hi) dX0_cellOf_23 ?_
  refine lv_goto (tgt := 33) E.1 E.2.1 dX0_cellOf_24 (by decide) ?_
  exact px_iret E hr hlocks rfl rfl dX0_cellOf_33
set_option maxHeartbeats 1000000 in
theorem ct_cellOf1_null (l : Launch) {s0 : State} {a0 : Array Value} (G : cG l s0 a0) (D : va_G) (K : Nat → ClassId) (i : Int32) : MetT l yX0_cellOf (ws_ yX0_cellOf cX0_cellOf 3 (some .int)) rmXT (xPc D K s0 [] [.null, .int 1, .int i]) "java/lang/NullPointerException" 3 1610 := by
  refine tx_start RX0 (by decide) rfl (Nat.le_of_ble_eq_true rfl) ?_
  intro p e s m args below meth c ls E hr hlocks hxt hC hl
  obtain ⟨hP, hK, hN, hO⟩ := hC
  have hl : lv_has ls 3 [(0, .null), (1, .int 1), (2, .int i)] := hl
  refine lv_iload_n E.1 E.2.1 dX0_cellOf_0 rfl (lv_at hl 1 rfl) ?_
  refine lv_if_ne (tgt := 13) E.1 E.2.1 dX0_cellOf_1 (by decide) (fun _ => ?_) (fun h => absurd h (by decide))
  refine lv_iload_n E.1 E.2.1 dX0_cellOf_13 rfl (lv_at hl 1 rfl) ?_
  refine lv_iconst (v := (1 : Int32)) E.1 E.2.1 dX0_cellOf_14 (by decide) ?_
  refine lv_icmp_ne (tgt := 27) E.1 E.2.1 dX0_cellOf_15 (by decide) (fun h => absurd rfl h) (fun _ => ?_)
  refine lv_aload_nN E.1 E.2.1 dX0_cellOf_18 rfl (lv_at hl 0 rfl) ?_
  refine lv_castN E.1 E.2.1 dX0_cellOf_19 ?_
  refine lv_iload_n E.1 E.2.1 dX0_cellOf_22 rfl (lv_at hl 2 rfl) ?_
  exact tx_saloadN (rest := []) G.2.2.2 E (xa_npe G.1 E.2.2.2.2 hN hO (cG_x G hN hO)) hxt hlocks hl (Nat.le_of_ble_eq_true rfl) ⟨by decide, by decide⟩ ⟨by decide, by decide⟩ ⟨by decide, by decide⟩ dX0_cellOf_23
set_option maxHeartbeats 1000000 in
theorem ct_cellOf1_out (l : Launch) {s0 : State} {a0 : Array Value} (G : cG l s0 a0) (D : va_G) (K : Nat → ClassId) (w n : Nat) (g : Nat → Int32) (i : Int32) (hn : n ≤ 60) (hi : inb i n = false) : MetT l yX0_cellOf (ws_ yX0_cellOf cX0_cellOf 3 (some .int)) rmXT (xPc D K s0 [(w, .inl (K 2, n, .inl g))] [.ref w, .int 1, .int i]) "java/lang/ArrayIndexOutOfBoundsException" 3 1610 := by
  refine tx_start RX0 (by decide) rfl (Nat.le_of_ble_eq_true rfl) ?_
  intro p e s m args below meth c ls E hr hlocks hxt hC hl
  obtain ⟨hP, hK, hN, hO⟩ := hC
  have hl : lv_has ls 3 [(0, .ref w), (1, .int 1), (2, .int i)] := hl
  refine lv_iload_n E.1 E.2.1 dX0_cellOf_0 rfl (lv_at hl 1 rfl) ?_
  refine lv_if_ne (tgt := 13) E.1 E.2.1 dX0_cellOf_1 (by decide) (fun _ => ?_) (fun h => absurd h (by decide))
  refine lv_iload_n E.1 E.2.1 dX0_cellOf_13 rfl (lv_at hl 1 rfl) ?_
  refine lv_iconst (v := (1 : Int32)) E.1 E.2.1 dX0_cellOf_14 (by decide) ?_
  refine lv_icmp_ne (tgt := 27) E.1 E.2.1 dX0_cellOf_15 (by decide) (fun h => absurd rfl h) (fun _ => ?_)
  refine lv_aload_n E.1 E.2.1 dX0_cellOf_18 rfl (lv_at hl 0 rfl) ?_
  refine va_castA E.1 E.2.1 E.2.2.2.1 (E.2.2.2.2 _ q724) hP 0 rfl (hK.2 2 (K 2, .short) rfl).2 dX0_cellOf_19 ?_
  refine lv_iload_n E.1 E.2.1 dX0_cellOf_22 rfl (lv_at hl 2 rfl) ?_
  exact tx_saloadO (i := i) (w := w) (cell := vp_cell (K 2) (n, .inl g)) (ty := .short) (rest := []) (hP 0 _ rfl) ((hK.2 2 (K 2, .short) rfl).1 n (fun j => .int (g j))) (by rw [vpc_size]; exact inb_out hi) (by rw [vpc_size]; exact hn) G.2.2.2 E (xa_aio G.1 E.2.2.2.2 hN hO (cG_x G hN hO)) hxt hlocks hl (Nat.le_of_ble_eq_true rfl) ⟨by decide, by decide⟩ ⟨by decide, by decide⟩ ⟨by decide, by decide⟩ dX0_cellOf_23
set_option maxHeartbeats 1000000 in
theorem ct_cellOf1_cast0 (l : Launch) {s0 : State} {a0 : Array Value} (G : cG l s0 a0) (D : va_G) (K : Nat → ClassId) (w n : Nat) (g : Nat → Int32) (i : Int32) : MetT l yX0_cellOf (ws_ yX0_cellOf cX0_cellOf 3 (some .int)) rmXT (xPc D K s0 [(w, .inl (K 1, n, .inl g))] [.ref w, .int 1, .int i]) "java/lang/ClassCastException" 3 1610 := by
  refine tx_start RX0 (by decide) rfl (Nat.le_of_ble_eq_true rfl) ?_
  intro p e s m args below meth c ls E hr hlocks hxt hC hl
  obtain ⟨hP, hK, hN, hO⟩ := hC
  have hl : lv_has ls 3 [(0, .ref w), (1, .int 1), (2, .int i)] := hl
  refine lv_iload_n E.1 E.2.1 dX0_cellOf_0 rfl (lv_at hl 1 rfl) ?_
  refine lv_if_ne (tgt := 13) E.1 E.2.1 dX0_cellOf_1 (by decide) (fun _ => ?_) (fun h => absurd h (by decide))
  refine lv_iload_n E.1 E.2.1 dX0_cellOf_13 rfl (lv_at hl 1 rfl) ?_
  refine lv_iconst (v := (1 : Int32)) E.1 E.2.1 dX0_cellOf_14 (by decide) ?_
  refine lv_icmp_ne (tgt := 27) E.1 E.2.1 dX0_cellOf_15 (by decide) (fun h => absurd rfl h) (fun _ => ?_)
  refine lv_aload_n E.1 E.2.1 dX0_cellOf_18 rfl (lv_at hl 0 rfl) ?_
  exact tx_cast (N := "[S") (N' := "[B") (rest := []) G.2.2.2 E (xa_cce G.1 E.2.2.2.2 hN hO (cG_x G hN hO)) (cG_mod G hN) q724 (row_recv hK hP 1 rfl (by rfl)) (cG_nc G hN (by decide +kernel)) (fun k h1 h2 h3 _ _ => ⟨h2, h3, by rw [h1]; decide +kernel, Or.inr (by rw [h1]; decide +kernel)⟩) (fun k h1 h2 h3 _ _ => ⟨h2, h3, by rw [h1]; decide +kernel, Or.inr (by rw [h1]; decide +kernel)⟩) hxt hlocks hl (Nat.le_of_ble_eq_true rfl) ⟨by decide, by decide⟩ ⟨by decide, by decide⟩ ⟨by decide, by decide⟩ dX0_cellOf_19
set_option maxHeartbeats 1000000 in
theorem ct_sizeOf1_cast0 (l : Launch) {s0 : State} {a0 : Array Value} (G : cG l s0 a0) (D : va_G) (K : Nat → ClassId) (w n : Nat) (g : Nat → Int32) : MetT l yX0_sizeOf (ws_ yX0_sizeOf cX0_sizeOf 2 (some .int)) rmXT (xPc D K s0 [(w, .inl (K 1, n, .inl g))] [.ref w, .int 1]) "java/lang/ClassCastException" 3 1610 := by
  refine tx_start RX0 (by decide) rfl (Nat.le_of_ble_eq_true rfl) ?_
  intro p e s m args below meth c ls E hr hlocks hxt hC hl
  obtain ⟨hP, hK, hN, hO⟩ := hC
  have hl : lv_has ls 2 [(0, .ref w), (1, .int 1)] := hl
  refine lv_iload_n E.1 E.2.1 dX0_sizeOf_0 rfl (lv_at hl 1 rfl) ?_
  refine lv_if_ne (tgt := 12) E.1 E.2.1 dX0_sizeOf_1 (by decide) (fun _ => ?_) (fun h => absurd h (by decide))
  refine lv_iload_n E.1 E.2.1 dX0_sizeOf_12 rfl (lv_at hl 1 rfl) ?_
  refine lv_iconst (v := (1 : Int32)) E.1 E.2.1 dX0_sizeOf_13 (by decide) ?_
  refine lv_icmp_ne (tgt := 25) E.1 E.2.1 dX0_sizeOf_14 (by decide) (fun h => absurd rfl h) (fun _ => ?_)
  refine lv_aload_n E.1 E.2.1 dX0_sizeOf_17 rfl (lv_at hl 0 rfl) ?_
  exact tx_cast (N := "[S") (N' := "[B") (rest := []) G.2.2.2 E (xa_cce G.1 E.2.2.2.2 hN hO (cG_x G hN hO)) (cG_mod G hN) q724 (row_recv hK hP 1 rfl (by rfl)) (cG_nc G hN (by decide +kernel)) (fun k h1 h2 h3 _ _ => ⟨h2, h3, by rw [h1]; decide +kernel, Or.inr (by rw [h1]; decide +kernel)⟩) (fun k h1 h2 h3 _ _ => ⟨h2, h3, by rw [h1]; decide +kernel, Or.inr (by rw [h1]; decide +kernel)⟩) hxt hlocks hl (Nat.le_of_ble_eq_true rfl) ⟨by decide, by decide⟩ ⟨by decide, by decide⟩ ⟨by decide, by decide⟩ dX0_sizeOf_18
set_option maxHeartbeats 1000000 in
theorem ct_cellOf1_cast2 (l : Launch) {s0 : State} {a0 : Array Value} (G : cG l s0 a0) (D : va_G) (K : Nat → ClassId) (w n : Nat) (g : Nat → Int32) (i : Int32) : MetT l yX0_cellOf (ws_ yX0_cellOf cX0_cellOf 3 (some .int)) rmXT (xPc D K s0 [(w, .inl (K 0, n, .inl g))] [.ref w, .int 1, .int i]) "java/lang/ClassCastException" 3 1610 := by
  refine tx_start RX0 (by decide) rfl (Nat.le_of_ble_eq_true rfl) ?_
  intro p e s m args below meth c ls E hr hlocks hxt hC hl
  obtain ⟨hP, hK, hN, hO⟩ := hC
  have hl : lv_has ls 3 [(0, .ref w), (1, .int 1), (2, .int i)] := hl
  refine lv_iload_n E.1 E.2.1 dX0_cellOf_0 rfl (lv_at hl 1 rfl) ?_
  refine lv_if_ne (tgt := 13) E.1 E.2.1 dX0_cellOf_1 (by decide) (fun _ => ?_) (fun h => absurd h (by decide))
  refine lv_iload_n E.1 E.2.1 dX0_cellOf_13 rfl (lv_at hl 1 rfl) ?_
  refine lv_iconst (v := (1 : Int32)) E.1 E.2.1 dX0_cellOf_14 (by decide) ?_
  refine lv_icmp_ne (tgt := 27) E.1 E.2.1 dX0_cellOf_15 (by decide) (fun h => absurd rfl h) (fun _ => ?_)
  refine lv_aload_n E.1 E.2.1 dX0_cellOf_18 rfl (lv_at hl 0 rfl) ?_
  exact tx_cast (N := "[S") (N' := "[I") (rest := []) G.2.2.2 E (xa_cce G.1 E.2.2.2.2 hN hO (cG_x G hN hO)) (cG_mod G hN) q724 (row_recv hK hP 0 rfl (by rfl)) (cG_nc G hN (by decide +kernel)) (fun k h1 h2 h3 _ _ => ⟨h2, h3, by rw [h1]; decide +kernel, Or.inr (by rw [h1]; decide +kernel)⟩) (fun k h1 h2 h3 _ _ => ⟨h2, h3, by rw [h1]; decide +kernel, Or.inr (by rw [h1]; decide +kernel)⟩) hxt hlocks hl (Nat.le_of_ble_eq_true rfl) ⟨by decide, by decide⟩ ⟨by decide, by decide⟩ ⟨by decide, by decide⟩ dX0_cellOf_19
set_option maxHeartbeats 1000000 in
theorem ct_sizeOf1_cast2 (l : Launch) {s0 : State} {a0 : Array Value} (G : cG l s0 a0) (D : va_G) (K : Nat → ClassId) (w n : Nat) (g : Nat → Int32) : MetT l yX0_sizeOf (ws_ yX0_sizeOf cX0_sizeOf 2 (some .int)) rmXT (xPc D K s0 [(w, .inl (K 0, n, .inl g))] [.ref w, .int 1]) "java/lang/ClassCastException" 3 1610 := by
  refine tx_start RX0 (by decide) rfl (Nat.le_of_ble_eq_true rfl) ?_
  intro p e s m args below meth c ls E hr hlocks hxt hC hl
  obtain ⟨hP, hK, hN, hO⟩ := hC
  have hl : lv_has ls 2 [(0, .ref w), (1, .int 1)] := hl
  refine lv_iload_n E.1 E.2.1 dX0_sizeOf_0 rfl (lv_at hl 1 rfl) ?_
  refine lv_if_ne (tgt := 12) E.1 E.2.1 dX0_sizeOf_1 (by decide) (fun _ => ?_) (fun h => absurd h (by decide))
  refine lv_iload_n E.1 E.2.1 dX0_sizeOf_12 rfl (lv_at hl 1 rfl) ?_
  refine lv_iconst (v := (1 : Int32)) E.1 E.2.1 dX0_sizeOf_13 (by decide) ?_
  refine lv_icmp_ne (tgt := 25) E.1 E.2.1 dX0_sizeOf_14 (by decide) (fun h => absurd rfl h) (fun _ => ?_)
  refine lv_aload_n E.1 E.2.1 dX0_sizeOf_17 rfl (lv_at hl 0 rfl) ?_
  exact tx_cast (N := "[S") (N' := "[I") (rest := []) G.2.2.2 E (xa_cce G.1 E.2.2.2.2 hN hO (cG_x G hN hO)) (cG_mod G hN) q724 (row_recv hK hP 0 rfl (by rfl)) (cG_nc G hN (by decide +kernel)) (fun k h1 h2 h3 _ _ => ⟨h2, h3, by rw [h1]; decide +kernel, Or.inr (by rw [h1]; decide +kernel)⟩) (fun k h1 h2 h3 _ _ => ⟨h2, h3, by rw [h1]; decide +kernel, Or.inr (by rw [h1]; decide +kernel)⟩) hxt hlocks hl (Nat.le_of_ble_eq_true rfl) ⟨by decide, by decide⟩ ⟨by decide, by decide⟩ ⟨by decide, by decide⟩ dX0_sizeOf_18
set_option maxHeartbeats 1000000 in
theorem ct_sizeOf1 (l : Launch) {s0 : State} {a0 : Array Value} (G : cG l s0 a0) (D : va_G) (K : Nat → ClassId) (w n : Nat) (g : Nat → Int32) : Met l yX0_sizeOf (ws_ yX0_sizeOf cX0_sizeOf 2 (some .int)) rmX0_cellOf (xPc D K s0 [(w, .inl (K 2, n, .inl g))] [.ref w, .int 1]) (pQ (.int (nI n))) 0 0 (fun _ => False) := by
  refine gx_start RX0 (by decide) rfl (Nat.le_of_ble_eq_true rfl) ?_
  intro p e s m args below meth c ls E hr hlocks _ hC hl
  obtain ⟨hP, hK, hN, hO⟩ := hC
  have hl : lv_has ls 2 [(0, .ref w), (1, .int 1)] := hl
  refine lv_iload_n E.1 E.2.1 dX0_sizeOf_0 rfl (lv_at hl 1 rfl) ?_
  refine lv_if_ne (tgt := 12) E.1 E.2.1 dX0_sizeOf_1 (by decide) (fun _ => ?_) (fun h => absurd h (by decide))
  refine lv_iload_n E.1 E.2.1 dX0_sizeOf_12 rfl (lv_at hl 1 rfl) ?_
  refine lv_iconst (v := (1 : Int32)) E.1 E.2.1 dX0_sizeOf_13 (by decide) ?_
  refine lv_icmp_ne (tgt := 25) E.1 E.2.1 dX0_sizeOf_14 (by decide) (fun h => absurd rfl h) (fun _ => ?_)
  refine lv_aload_n E.1 E.2.1 dX0_sizeOf_17 rfl (lv_at hl 0 rfl) ?_
  refine va_castA E.1 E.2.1 E.2.2.2.1 (E.2.2.2.2 _ q724) hP 0 rfl (hK.2 2 (K 2, .short) rfl).2 dX0_sizeOf_18 ?_
  refine va_alen (v := nI n) E.1 E.2.1 hK hP 0 2 rfl rfl rfl dX0_sizeOf_21 ?_
  refine lv_goto (tgt := 30) E.1 E.2.1 dX0_sizeOf_22 (by decide) ?_
  exact px_iret E hr hlocks rfl rfl dX0_sizeOf_30
set_option maxHeartbeats 1000000 in
theorem ct_sizeOf1_null (l : Launch) {s0 : State} {a0 : Array Value} (G : cG l s0 a0) (D : va_G) (K : Nat → ClassId)  : MetT l yX0_sizeOf (ws_ yX0_sizeOf cX0_sizeOf 2 (some .int)) rmXT (xPc D K s0 [] [.null, .int 1]) "java/lang/NullPointerException" 3 1610 := by
  refine tx_start RX0 (by decide) rfl (Nat.le_of_ble_eq_true rfl) ?_
  intro p e s m args below meth c ls E hr hlocks hxt hC hl
  obtain ⟨hP, hK, hN, hO⟩ := hC
  have hl : lv_has ls 2 [(0, .null), (1, .int 1)] := hl
  refine lv_iload_n E.1 E.2.1 dX0_sizeOf_0 rfl (lv_at hl 1 rfl) ?_
  refine lv_if_ne (tgt := 12) E.1 E.2.1 dX0_sizeOf_1 (by decide) (fun _ => ?_) (fun h => absurd h (by decide))
  refine lv_iload_n E.1 E.2.1 dX0_sizeOf_12 rfl (lv_at hl 1 rfl) ?_
  refine lv_iconst (v := (1 : Int32)) E.1 E.2.1 dX0_sizeOf_13 (by decide) ?_
  refine lv_icmp_ne (tgt := 25) E.1 E.2.1 dX0_sizeOf_14 (by decide) (fun h => absurd rfl h) (fun _ => ?_)
  refine lv_aload_nN E.1 E.2.1 dX0_sizeOf_17 rfl (lv_at hl 0 rfl) ?_
  refine lv_castN E.1 E.2.1 dX0_sizeOf_18 ?_
  exact tx_alenN (rest := []) G.2.2.2 E (xa_npe G.1 E.2.2.2.2 hN hO (cG_x G hN hO)) hxt hlocks hl (Nat.le_of_ble_eq_true rfl) ⟨by decide, by decide⟩ ⟨by decide, by decide⟩ ⟨by decide, by decide⟩ dX0_sizeOf_21
set_option maxHeartbeats 1000000 in
theorem ct_cellOf2 (l : Launch) {s0 : State} {a0 : Array Value} (G : cG l s0 a0) (D : va_G) (K : Nat → ClassId) (w n : Nat) (g : Nat → Int32) (i : Int32) (hi : inb i n = true) : Met l yX0_cellOf (ws_ yX0_cellOf cX0_cellOf 3 (some .int)) rmX0_cellOf (xPc D K s0 [(w, .inl (K 0, n, .inl g))] [.ref w, .int 2, .int i]) (pQ (.int (g i.toNatClampNeg))) 0 0 (fun _ => False) := by
  refine gx_start RX0 (by decide) rfl (Nat.le_of_ble_eq_true rfl) ?_
  intro p e s m args below meth c ls E hr hlocks _ hC hl
  obtain ⟨hP, hK, hN, hO⟩ := hC
  have hl : lv_has ls 3 [(0, .ref w), (1, .int 2), (2, .int i)] := hl
  refine lv_iload_n E.1 E.2.1 dX0_cellOf_0 rfl (lv_at hl 1 rfl) ?_
  refine lv_if_ne (tgt := 13) E.1 E.2.1 dX0_cellOf_1 (by decide) (fun _ => ?_) (fun h => absurd h (by decide))
  refine lv_iload_n E.1 E.2.1 dX0_cellOf_13 rfl (lv_at hl 1 rfl) ?_
  refine lv_iconst (v := (1 : Int32)) E.1 E.2.1 dX0_cellOf_14 (by decide) ?_
  refine lv_icmp_ne (tgt := 27) E.1 E.2.1 dX0_cellOf_15 (by decide) (fun _ => ?_) (fun h => absurd h (by decide))
  refine lv_aload_n E.1 E.2.1 dX0_cellOf_27 rfl (lv_at hl 0 rfl) ?_
  refine va_castA E.1 E.2.1 E.2.2.2.1 (E.2.2.2.2 _ q725) hP 0 rfl (hK.2 0 (K 0, .int) rfl).2 dX0_cellOf_28 ?_
  refine lv_iload_n E.1 E.2.1 dX0_cellOf_31 rfl (lv_at hl 2 rfl) ?_
  refine va_iald E.1 E.2.1 hK hP 0 0 rfl rfl (inb_in hi) dX0_cellOf_32 ?_
  exact px_iret E hr hlocks rfl rfl dX0_cellOf_33
set_option maxHeartbeats 1000000 in
theorem ct_cellOf2_null (l : Launch) {s0 : State} {a0 : Array Value} (G : cG l s0 a0) (D : va_G) (K : Nat → ClassId) (i : Int32) : MetT l yX0_cellOf (ws_ yX0_cellOf cX0_cellOf 3 (some .int)) rmXT (xPc D K s0 [] [.null, .int 2, .int i]) "java/lang/NullPointerException" 3 1610 := by
  refine tx_start RX0 (by decide) rfl (Nat.le_of_ble_eq_true rfl) ?_
  intro p e s m args below meth c ls E hr hlocks hxt hC hl
  obtain ⟨hP, hK, hN, hO⟩ := hC
  have hl : lv_has ls 3 [(0, .null), (1, .int 2), (2, .int i)] := hl
  refine lv_iload_n E.1 E.2.1 dX0_cellOf_0 rfl (lv_at hl 1 rfl) ?_
  refine lv_if_ne (tgt := 13) E.1 E.2.1 dX0_cellOf_1 (by decide) (fun _ => ?_) (fun h => absurd h (by decide))
  refine lv_iload_n E.1 E.2.1 dX0_cellOf_13 rfl (lv_at hl 1 rfl) ?_
  refine lv_iconst (v := (1 : Int32)) E.1 E.2.1 dX0_cellOf_14 (by decide) ?_
  refine lv_icmp_ne (tgt := 27) E.1 E.2.1 dX0_cellOf_15 (by decide) (fun _ => ?_) (fun h => absurd h (by decide))
  refine lv_aload_nN E.1 E.2.1 dX0_cellOf_27 rfl (lv_at hl 0 rfl) ?_
  refine lv_castN E.1 E.2.1 dX0_cellOf_28 ?_
  refine lv_iload_n E.1 E.2.1 dX0_cellOf_31 rfl (lv_at hl 2 rfl) ?_
  exact tx_ialoadN (rest := []) G.2.2.2 E (xa_npe G.1 E.2.2.2.2 hN hO (cG_x G hN hO)) hxt hlocks hl (Nat.le_of_ble_eq_true rfl) ⟨by decide, by decide⟩ ⟨by decide, by decide⟩ ⟨by decide, by decide⟩ dX0_cellOf_32
set_option maxHeartbeats 1000000 in
theorem ct_cellOf2_out (l : Launch) {s0 : State} {a0 : Array Value} (G : cG l s0 a0) (D : va_G) (K : Nat → ClassId) (w n : Nat) (g : Nat → Int32) (i : Int32) (hn : n ≤ 60) (hi : inb i n = false) : MetT l yX0_cellOf (ws_ yX0_cellOf cX0_cellOf 3 (some .int)) rmXT (xPc D K s0 [(w, .inl (K 0, n, .inl g))] [.ref w, .int 2, .int i]) "java/lang/ArrayIndexOutOfBoundsException" 3 1610 := by
  refine tx_start RX0 (by decide) rfl (Nat.le_of_ble_eq_true rfl) ?_
  intro p e s m args below meth c ls E hr hlocks hxt hC hl
  obtain ⟨hP, hK, hN, hO⟩ := hC
  have hl : lv_has ls 3 [(0, .ref w), (1, .int 2), (2, .int i)] := hl
  refine lv_iload_n E.1 E.2.1 dX0_cellOf_0 rfl (lv_at hl 1 rfl) ?_
  refine lv_if_ne (tgt := 13) E.1 E.2.1 dX0_cellOf_1 (by decide) (fun _ => ?_) (fun h => absurd h (by decide))
  refine lv_iload_n E.1 E.2.1 dX0_cellOf_13 rfl (lv_at hl 1 rfl) ?_
  refine lv_iconst (v := (1 : Int32)) E.1 E.2.1 dX0_cellOf_14 (by decide) ?_
  refine lv_icmp_ne (tgt := 27) E.1 E.2.1 dX0_cellOf_15 (by decide) (fun _ => ?_) (fun h => absurd h (by decide))
  refine lv_aload_n E.1 E.2.1 dX0_cellOf_27 rfl (lv_at hl 0 rfl) ?_
  refine va_castA E.1 E.2.1 E.2.2.2.1 (E.2.2.2.2 _ q725) hP 0 rfl (hK.2 0 (K 0, .int) rfl).2 dX0_cellOf_28 ?_
  refine lv_iload_n E.1 E.2.1 dX0_cellOf_31 rfl (lv_at hl 2 rfl) ?_
  exact tx_ialoadO (i := i) (w := w) (cell := vp_cell (K 0) (n, .inl g)) (ty := .int) (rest := []) (hP 0 _ rfl) ((hK.2 0 (K 0, .int) rfl).1 n (fun j => .int (g j))) (by rw [vpc_size]; exact inb_out hi) (by rw [vpc_size]; exact hn) G.2.2.2 E (xa_aio G.1 E.2.2.2.2 hN hO (cG_x G hN hO)) hxt hlocks hl (Nat.le_of_ble_eq_true rfl) ⟨by decide, by decide⟩ ⟨by decide, by decide⟩ ⟨by decide, by decide⟩ dX0_cellOf_32
set_option maxHeartbeats 1000000 in
theorem ct_cellOf2_cast0 (l : Launch) {s0 : State} {a0 : Array Value} (G : cG l s0 a0) (D : va_G) (K : Nat → ClassId) (w n : Nat) (g : Nat → Int32) (i : Int32) : MetT l yX0_cellOf (ws_ yX0_cellOf cX0_cellOf 3 (some .int)) rmXT (xPc D K s0 [(w, .inl (K 1, n, .inl g))] [.ref w, .int 2, .int i]) "java/lang/ClassCastException" 3 1610 := by
  refine tx_start RX0 (by decide) rfl (Nat.le_of_ble_eq_true rfl) ?_
  intro p e s m args below meth c ls E hr hlocks hxt hC hl
  obtain ⟨hP, hK, hN, hO⟩ := hC
  have hl : lv_has ls 3 [(0, .ref w), (1, .int 2), (2, .int i)] := hl
  refine lv_iload_n E.1 E.2.1 dX0_cellOf_0 rfl (lv_at hl 1 rfl) ?_
  refine lv_if_ne (tgt := 13) E.1 E.2.1 dX0_cellOf_1 (by decide) (fun _ => ?_) (fun h => absurd h (by decide))
  refine lv_iload_n E.1 E.2.1 dX0_cellOf_13 rfl (lv_at hl 1 rfl) ?_
  refine lv_iconst (v := (1 : Int32)) E.1 E.2.1 dX0_cellOf_14 (by decide) ?_
  refine lv_icmp_ne (tgt := 27) E.1 E.2.1 dX0_cellOf_15 (by decide) (fun _ => ?_) (fun h => absurd h (by decide))
  refine lv_aload_n E.1 E.2.1 dX0_cellOf_27 rfl (lv_at hl 0 rfl) ?_
  exact tx_cast (N := "[I") (N' := "[B") (rest := []) G.2.2.2 E (xa_cce G.1 E.2.2.2.2 hN hO (cG_x G hN hO)) (cG_mod G hN) q725 (row_recv hK hP 1 rfl (by rfl)) (cG_nc G hN (by decide +kernel)) (fun k h1 h2 h3 _ _ => ⟨h2, h3, by rw [h1]; decide +kernel, Or.inr (by rw [h1]; decide +kernel)⟩) (fun k h1 h2 h3 _ _ => ⟨h2, h3, by rw [h1]; decide +kernel, Or.inr (by rw [h1]; decide +kernel)⟩) hxt hlocks hl (Nat.le_of_ble_eq_true rfl) ⟨by decide, by decide⟩ ⟨by decide, by decide⟩ ⟨by decide, by decide⟩ dX0_cellOf_28
set_option maxHeartbeats 1000000 in
theorem ct_sizeOf2_cast0 (l : Launch) {s0 : State} {a0 : Array Value} (G : cG l s0 a0) (D : va_G) (K : Nat → ClassId) (w n : Nat) (g : Nat → Int32) : MetT l yX0_sizeOf (ws_ yX0_sizeOf cX0_sizeOf 2 (some .int)) rmXT (xPc D K s0 [(w, .inl (K 1, n, .inl g))] [.ref w, .int 2]) "java/lang/ClassCastException" 3 1610 := by
  refine tx_start RX0 (by decide) rfl (Nat.le_of_ble_eq_true rfl) ?_
  intro p e s m args below meth c ls E hr hlocks hxt hC hl
  obtain ⟨hP, hK, hN, hO⟩ := hC
  have hl : lv_has ls 2 [(0, .ref w), (1, .int 2)] := hl
  refine lv_iload_n E.1 E.2.1 dX0_sizeOf_0 rfl (lv_at hl 1 rfl) ?_
  refine lv_if_ne (tgt := 12) E.1 E.2.1 dX0_sizeOf_1 (by decide) (fun _ => ?_) (fun h => absurd h (by decide))
  refine lv_iload_n E.1 E.2.1 dX0_sizeOf_12 rfl (lv_at hl 1 rfl) ?_
  refine lv_iconst (v := (1 : Int32)) E.1 E.2.1 dX0_sizeOf_13 (by decide) ?_
  refine lv_icmp_ne (tgt := 25) E.1 E.2.1 dX0_sizeOf_14 (by decide) (fun _ => ?_) (fun h => absurd h (by decide))
  refine lv_aload_n E.1 E.2.1 dX0_sizeOf_25 rfl (lv_at hl 0 rfl) ?_
  exact tx_cast (N := "[I") (N' := "[B") (rest := []) G.2.2.2 E (xa_cce G.1 E.2.2.2.2 hN hO (cG_x G hN hO)) (cG_mod G hN) q725 (row_recv hK hP 1 rfl (by rfl)) (cG_nc G hN (by decide +kernel)) (fun k h1 h2 h3 _ _ => ⟨h2, h3, by rw [h1]; decide +kernel, Or.inr (by rw [h1]; decide +kernel)⟩) (fun k h1 h2 h3 _ _ => ⟨h2, h3, by rw [h1]; decide +kernel, Or.inr (by rw [h1]; decide +kernel)⟩) hxt hlocks hl (Nat.le_of_ble_eq_true rfl) ⟨by decide, by decide⟩ ⟨by decide, by decide⟩ ⟨by decide, by decide⟩ dX0_sizeOf_26
set_option maxHeartbeats 1000000 in
theorem ct_cellOf2_cast1 (l : Launch) {s0 : State} {a0 : Array Value} (G : cG l s0 a0) (D : va_G) (K : Nat → ClassId) (w n : Nat) (g : Nat → Int32) (i : Int32) : MetT l yX0_cellOf (ws_ yX0_cellOf cX0_cellOf 3 (some .int)) rmXT (xPc D K s0 [(w, .inl (K 2, n, .inl g))] [.ref w, .int 2, .int i]) "java/lang/ClassCastException" 3 1610 := by
  refine tx_start RX0 (by decide) rfl (Nat.le_of_ble_eq_true rfl) ?_
  intro p e s m args below meth c ls E hr hlocks hxt hC hl
  obtain ⟨hP, hK, hN, hO⟩ := hC
  have hl : lv_has ls 3 [(0, .ref w), (1, .int 2), (2, .int i)] := hl
  refine lv_iload_n E.1 E.2.1 dX0_cellOf_0 rfl (lv_at hl 1 rfl) ?_
  refine lv_if_ne (tgt := 13) E.1 E.2.1 dX0_cellOf_1 (by decide) (fun _ => ?_) (fun h => absurd h (by decide))
  refine lv_iload_n E.1 E.2.1 dX0_cellOf_13 rfl (lv_at hl 1 rfl) ?_
  refine lv_iconst (v := (1 : Int32)) E.1 E.2.1 dX0_cellOf_14 (by decide) ?_
  refine lv_icmp_ne (tgt := 27) E.1 E.2.1 dX0_cellOf_15 (by decide) (fun _ => ?_) (fun h => absurd h (by decide))
  refine lv_aload_n E.1 E.2.1 dX0_cellOf_27 rfl (lv_at hl 0 rfl) ?_
  exact tx_cast (N := "[I") (N' := "[S") (rest := []) G.2.2.2 E (xa_cce G.1 E.2.2.2.2 hN hO (cG_x G hN hO)) (cG_mod G hN) q725 (row_recv hK hP 2 rfl (by rfl)) (cG_nc G hN (by decide +kernel)) (fun k h1 h2 h3 _ _ => ⟨h2, h3, by rw [h1]; decide +kernel, Or.inr (by rw [h1]; decide +kernel)⟩) (fun k h1 h2 h3 _ _ => ⟨h2, h3, by rw [h1]; decide +kernel, Or.inr (by rw [h1]; decide +kernel)⟩) hxt hlocks hl (Nat.le_of_ble_eq_true rfl) ⟨by decide, by decide⟩ ⟨by decide, by decide⟩ ⟨by decide, by decide⟩ dX0_cellOf_28
set_option maxHeartbeats 1000000 in
theorem ct_sizeOf2_cast1 (l : Launch) {s0 : State} {a0 : Array Value} (G : cG l s0 a0) (D : va_G) (K : Nat → ClassId) (w n : Nat) (g : Nat → Int32) : MetT l yX0_sizeOf (ws_ yX0_sizeOf cX0_sizeOf 2 (some .int)) rmXT (xPc D K s0 [(w, .inl (K 2, n, .inl g))] [.ref w, .int 2]) "java/lang/ClassCastException" 3 1610 := by
  refine tx_start RX0 (by decide) rfl (Nat.le_of_ble_eq_true rfl) ?_
  intro p e s m args below meth c ls E hr hlocks hxt hC hl
  obtain ⟨hP, hK, hN, hO⟩ := hC
  have hl : lv_has ls 2 [(0, .ref w), (1, .int 2)] := hl
  refine lv_iload_n E.1 E.2.1 dX0_sizeOf_0 rfl (lv_at hl 1 rfl) ?_
  refine lv_if_ne (tgt := 12) E.1 E.2.1 dX0_sizeOf_1 (by decide) (fun _ => ?_) (fun h => absurd h (by decide))
  refine lv_iload_n E.1 E.2.1 dX0_sizeOf_12 rfl (lv_at hl 1 rfl) ?_
  refine lv_iconst (v := (1 : Int32)) E.1 E.2.1 dX0_sizeOf_13 (by decide) ?_
  refine lv_icmp_ne (tgt := 25) E.1 E.2.1 dX0_sizeOf_14 (by decide) (fun _ => ?_) (fun h => absurd h (by decide))
  refine lv_aload_n E.1 E.2.1 dX0_sizeOf_25 rfl (lv_at hl 0 rfl) ?_
  exact tx_cast (N := "[I") (N' := "[S") (rest := []) G.2.2.2 E (xa_cce G.1 E.2.2.2.2 hN hO (cG_x G hN hO)) (cG_mod G hN) q725 (row_recv hK hP 2 rfl (by rfl)) (cG_nc G hN (by decide +kernel)) (fun k h1 h2 h3 _ _ => ⟨h2, h3, by rw [h1]; decide +kernel, Or.inr (by rw [h1]; decide +kernel)⟩) (fun k h1 h2 h3 _ _ => ⟨h2, h3, by rw [h1]; decide +kernel, Or.inr (by rw [h1]; decide +kernel)⟩) hxt hlocks hl (Nat.le_of_ble_eq_true rfl) ⟨by decide, by decide⟩ ⟨by decide, by decide⟩ ⟨by decide, by decide⟩ dX0_sizeOf_26
set_option maxHeartbeats 1000000 in
theorem ct_sizeOf2 (l : Launch) {s0 : State} {a0 : Array Value} (G : cG l s0 a0) (D : va_G) (K : Nat → ClassId) (w n : Nat) (g : Nat → Int32) : Met l yX0_sizeOf (ws_ yX0_sizeOf cX0_sizeOf 2 (some .int)) rmX0_cellOf (xPc D K s0 [(w, .inl (K 0, n, .inl g))] [.ref w, .int 2]) (pQ (.int (nI n))) 0 0 (fun _ => False) := by
  refine gx_start RX0 (by decide) rfl (Nat.le_of_ble_eq_true rfl) ?_
  intro p e s m args below meth c ls E hr hlocks _ hC hl
  obtain ⟨hP, hK, hN, hO⟩ := hC
  have hl : lv_has ls 2 [(0, .ref w), (1, .int 2)] := hl
  refine lv_iload_n E.1 E.2.1 dX0_sizeOf_0 rfl (lv_at hl 1 rfl) ?_
  refine lv_if_ne (tgt := 12) E.1 E.2.1 dX0_sizeOf_1 (by decide) (fun _ => ?_) (fun h => absurd h (by decide))
  refine lv_iload_n E.1 E.2.1 dX0_sizeOf_12 rfl (lv_at hl 1 rfl) ?_
  refine lv_iconst (v := (1 : Int32)) E.1 E.2.1 dX0_sizeOf_13 (by decide) ?_
  refine lv_icmp_ne (tgt := 25) E.1 E.2.1 dX0_sizeOf_14 (by decide) (fun _ => ?_) (fun h => absurd h (by decide))
  refine lv_aload_n E.1 E.2.1 dX0_sizeOf_25 rfl (lv_at hl 0 rfl) ?_
  refine va_castA E.1 E.2.1 E.2.2.2.1 (E.2.2.2.2 _ q725) hP 0 rfl (hK.2 0 (K 0, .int) rfl).2 dX0_sizeOf_26 ?_
  refine va_alen (v := nI n) E.1 E.2.1 hK hP 0 0 rfl rfl rfl dX0_sizeOf_29 ?_
  exact px_iret E hr hlocks rfl rfl dX0_sizeOf_30
set_option maxHeartbeats 1000000 in
theorem ct_sizeOf2_null (l : Launch) {s0 : State} {a0 : Array Value} (G : cG l s0 a0) (D : va_G) (K : Nat → ClassId)  : MetT l yX0_sizeOf (ws_ yX0_sizeOf cX0_sizeOf 2 (some .int)) rmXT (xPc D K s0 [] [.null, .int 2]) "java/lang/NullPointerException" 3 1610 := by
  refine tx_start RX0 (by decide) rfl (Nat.le_of_ble_eq_true rfl) ?_
  intro p e s m args below meth c ls E hr hlocks hxt hC hl
  obtain ⟨hP, hK, hN, hO⟩ := hC
  have hl : lv_has ls 2 [(0, .null), (1, .int 2)] := hl
  refine lv_iload_n E.1 E.2.1 dX0_sizeOf_0 rfl (lv_at hl 1 rfl) ?_
  refine lv_if_ne (tgt := 12) E.1 E.2.1 dX0_sizeOf_1 (by decide) (fun _ => ?_) (fun h => absurd h (by decide))
  refine lv_iload_n E.1 E.2.1 dX0_sizeOf_12 rfl (lv_at hl 1 rfl) ?_
  refine lv_iconst (v := (1 : Int32)) E.1 E.2.1 dX0_sizeOf_13 (by decide) ?_
  refine lv_icmp_ne (tgt := 25) E.1 E.2.1 dX0_sizeOf_14 (by decide) (fun _ => ?_) (fun h => absurd h (by decide))
  refine lv_aload_nN E.1 E.2.1 dX0_sizeOf_25 rfl (lv_at hl 0 rfl) ?_
  refine lv_castN E.1 E.2.1 dX0_sizeOf_26 ?_
  exact tx_alenN (rest := []) G.2.2.2 E (xa_npe G.1 E.2.2.2.2 hN hO (cG_x G hN hO)) hxt hlocks hl (Nat.le_of_ble_eq_true rfl) ⟨by decide, by decide⟩ ⟨by decide, by decide⟩ ⟨by decide, by decide⟩ dX0_sizeOf_29
