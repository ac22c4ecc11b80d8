/-! Act.tried -/
def actOk (C : String) (ci k0 N : Nat) (T : u_T) : Prop := vCl[ci]? = some (C, T, N) ∧ (∀ w ∈ u_ws C T N, w ∈ lw_all) ∧ k0 < N ∧ (T k0).1 = RX2 ∧ (T k0).2.1 = "this$0" ∧ (T k0).2.2.1 = "LDebtFerry;"
theorem ac_M : actOk RX4 8 5 7 TX4 := ⟨rfl, in_X4, by decide, rfl, rfl, rfl⟩
theorem ac_L : actOk RX8 9 5 8 TX8 := ⟨rfl, in_X8, by decide, rfl, rfl, rfl⟩
theorem ac_C : actOk RX11 10 0 7 TX11 := ⟨rfl, in_X11, by decide, rfl, rfl, rfl⟩
theorem ac_T : actOk RX12 11 0 4 TX12 := ⟨rfl, in_X12, by decide, rfl, rfl, rfl⟩
abbrev hhX2 : List (Nat × Nat × Nat × Nat) := [(8, 12, 13, 23), (8, 12, 23, 29), (8, 12, 23, 31), (8, 12, 33, 33), (8, 12, 43, 35)]
abbrev yDone : MethodName := ⟨"DebtFerry$Act", "done", "()I"⟩
section ACT
variable {p : Program} {l : Launch} {e : Env} {R : Room} {s : State} {m : MethodId} {args : Array Value} {below : List Frame} {meth : Method} {c : Code} {H : Heap} {locs : List Loc} {cells slots : Nat} {Q : State → Prop} {cc : ByteArray} {nL pc : Nat} {rest : List Value} {ls : Array Slot} {D : va_G} {K : Nat → ClassId} {s0 : State} {a0 : Array Value} {B : Nat → Nat} {ad : CA} {A : Nat → Prop} {z : CZ} {lv : List (Nat × Value)} {own : String} {C : String} {ci k0 N qa : Nat} {T : u_T} {fs : List Value}
theorem ck_this (E : CallFix p m c cc nL s args lw_all RX2) (ac : actOk C ci k0 N T) (hK : va_K D vCl (cT K) s) (hP : cP D K B ad z H) (hqa : (qa, .inr (ci, fs)) ∈ ad.2.2) (hf0 : fs[k0]? = some (.ref (B 0))) (hdg : decode cc pc = .ok (.getfield 3, 3))
    (kk : W p l e R s m args below meth c H locs cells slots Q (F0 m (pc + 3) ls (.ref (B 0) :: rest))) : W p l e R s m args below meth c H locs cells slots Q (F0 m pc ls (.ref qa :: rest)) := by
  obtain ⟨i, hi⟩ := cW_dy (K := K) (B := B) (z := z) hqa
  obtain ⟨h1, h2, h3, h4, h5, h6⟩ := ac
  exact va_get E.1 E.2.1 E.2.2.2.2 h2 E.2.2.2.1 hK hP.1 (i + 7) hi h1 k0 h3 (ref := RX2) (by rw [h5, h6]; exact E.2.2.2.2 _ q779) (fun x h => by rw [h4] at h; exact h) hf0 hdg kk
theorem act_recv (ac : actOk C ci k0 N T) (hK : va_K D vCl (cT K) s) (hP : cP D K B ad z H) (hqa : (qa, .inr (ci, fs)) ∈ ad.2.2) : ∃ cellB : Cell, H[qa]? = some cellB ∧ cellB.vm.isStatics = false ∧ s.vm.findClass C = some cellB.cls := by
  obtain ⟨i, hi⟩ := cW_dy (K := K) (B := B) (z := z) hqa
  exact va_recv hK hP.1 ac.1 hi
theorem ck_failsN (E : CallFix p m c cc nL s args lw_all RX2) (hT : ∀ w ∈ lw_tbl, w.before a0 s0 = true) (hN : s0.WarmedH s.vm) (hD : ∀ z, va_D A (cW K B ad z)) (hK : va_K D vCl (cT K) s) (hP : cP D K B ad z H) (hS : va_S A s.heap H locs) {v : Int32} (hl : lv_has ls nL lv) (hW : (rest.map fun v => v.category).sum ≤ 8) (hR : 2 ≤ R.frames ∧ 33 ≤ R.locals) (hf : cells ≤ R.cells ∧ slots ≤ R.slots) (hdg : decode cc pc = .ok (.invokevirtual 25, 3))
    (kk : ∀ (H : Heap) (locs : List Loc), cP D K B ad (cz_f z 8 v) H → va_S A s.heap H locs → W p l e R s m args below meth c H locs cells slots Q (F0 m (pc + 3) ls (.int (-10 - v) :: rest))) : W p l e R s m args below meth c H locs cells slots Q (F0 m pc ls (.int v :: .ref (B 0) :: rest)) :=
  cx_go (va_runVN (C := RX0) (As := [.int v]) (rest := rest) E (mm_X0_fails l hT hD v z _ rfl) ⟨va_cnB 1 E.2.2.2.2 (lw_meth q667) rfl rfl rfl (cN_M hT hN q927) (E.2.2.2.2 _ q54) (by decide +kernel) ⟨hR.1, hR.2⟩, E.2.2.2.2 _ q666, E.2.2.2.2 _ qs24⟩ (ck_pre hK hN hP (ck_me hK hP)) rfl rfl hl.1 rfl (lv_room hW) hdg hf) hS kk
end ACT
set_option maxHeartbeats 1000000 in
theorem tried_ret (l : Launch) {D : va_G} {K : Nat → ClassId} {s0 : State} {a0 : Array Value} {B : Nat → Nat} {ad : CA} {A : Nat → Prop} (hT : ∀ w ∈ lw_tbl, w.before a0 s0 = true) (hAl : ∀ q, A q → s0.heap.size ≤ q) {C : String} {ci k0 N qa : Nat} {T : u_T} {fs : List Value} (ac : actOk C ci k0 N T) (hqa : (qa, .inr (ci, fs)) ∈ ad.2.2) (hf0 : fs[k0]? = some (.ref (B 0))) {z : CZ} {res : Int32 × CZ}
    {y : MethodName} {bytes : ByteArray} {maxL mc ms mcT msT : Nat} {rm rmT : Room} (hM : Met l y (ws_ y bytes maxL (some .int)) rm (cIPc D K s0 B A ad (cz_f z 8 0) [.ref qa]) (cIQ D K B A (some (.int res.1)) res.2) mc ms A)
    (h3 : Cond.selects C yDone y ∈ lw_all) (h4 : Cond.instanceMethod y ∈ lw_all) (h5 : Cond.initialized y.cls ∈ lw_all) (h6 : Cond.code y bytes maxL (some .int) ∈ lw_all) (hrm : rm.cells = mc ∧ rm.slots = ms ∧ rm.frames + 1 ≤ rmT.frames ∧ 8 + (maxL + 11) + rm.locals ≤ rmT.locals ∧ mc ≤ rmT.cells ∧ ms ≤ rmT.slots) (hpad : mc ≤ mcT ∧ ms ≤ msT) :
    Met l yX2_tried (wsW_ yX2_tried cX2_tried 2 (some .int) hhX2) rmT (cIPc D K s0 B A ad z [.ref qa]) (cIQ D K B A (some (.int res.1)) res.2) mcT msT A := by
  refine cIH_start RX2 (by decide) rfl (Nat.le_of_ble_eq_true rfl) ?_
  intro p e s m args below meth c H locs ls E hr hlocks htab hK hX hA hP hV hS hl
  have hN := hX.1
  have hD : ∀ z, va_D A (cW K B ad z) := fun z => cW_D hV.1 z
  have hl : lv_has ls 2 [(0, .ref qa)] := hl
  refine lv_aload_n E.1 E.2.1 dX2_tried_0 rfl (lv_at hl 0 rfl) ?_
  refine ck_this E ac hK hP hqa hf0 dX2_tried_1 ?_
  refine lv_iconst (v := (0 : Int32)) E.1 E.2.1 dX2_tried_4 (by decide) ?_
  refine ck_putN E hT hN hD hK hP hS 8 rfl q135 dX2_tried_5 (fun H locs hP hS => ?_)
  refine lv_aload_n E.1 E.2.1 dX2_tried_8 rfl (lv_at hl 0 rfl) ?_
  refine cI_go (va_runU (As := []) (rest := []) E hM (va_cwA (C := C) (owner := RX2) (x := yDone) 0 E.2.2.2.2 (lw_U q824 q826 h3 h4 h5 h6) rfl hrm.1 hrm.2.1 (va_Nw.warmD hN (va_Nw.of rfl (hT _ q825))) (by decide +kernel) ⟨hrm.2.2.1, hrm.2.2.2.1⟩) (cI_pre hAl hA hX hK hP ⟨hD _, hV.2⟩ hS (act_recv ac hK hP hqa)) rfl rfl hl.1 rfl (lv_room (Nat.le_of_ble_eq_true rfl)) dX2_tried_9 ⟨by rw [Nat.zero_add]; exact hrm.2.2.2.2.1, by rw [Nat.zero_add]; exact hrm.2.2.2.2.2⟩) hS (fun H locs ad1 hP hV hS => ?_)
  rw [Nat.zero_add, Nat.zero_add]
  refine W_pad hpad.1 hpad.2 ?_
  exact cI_iret E hr hlocks hP hV hS rfl dX2_tried_12
set_option maxHeartbeats 1000000 in
theorem tried_thr (l : Launch) {D : va_G} {K : Nat → ClassId} {s0 : State} {a0 : Array Value} {B : Nat → Nat} {ad : CA} {A : Nat → Prop} (hT : ∀ w ∈ lw_tbl, w.before a0 s0 = true) (hAl : ∀ q, A q → s0.heap.size ≤ q) {C : String} {ci k0 N qa : Nat} {T : u_T} {fs : List Value} (ac : actOk C ci k0 N T) (hqa : (qa, .inr (ci, fs)) ∈ ad.2.2) (hf0 : fs[k0]? = some (.ref (B 0))) {z : CZ}
    {y : MethodName} {bytes : ByteArray} {maxL mc ms mcT msT : Nat} {rm rmT : Room} {X : String} {hp : Nat} {f : Int32} (hM : MetT l y (ws_ y bytes maxL (some .int)) rm (cIPc D K s0 B A ad (cz_f z 8 0) [.ref qa]) X mc ms)
    (hs : ∀ (s : State) (args : Array Value) (cX : ClassId), (∀ w ∈ lw_all, w.before args s = true) → s0.WarmedH s.vm → s.vm.findClass X = some cX → hsearch s args RX2 9 cX hhX2 hp) (hcls : ∀ s : State, s0.WarmedH s.vm → ∃ (cX : ClassId) (k : Class), s.vm.findClass X = some cX ∧ s.vm.classes[cX]? = some k) (hpf : (hp = 13 ∧ f = 1) ∨ (hp = 23 ∧ f = 2) ∨ (hp = 33 ∧ f = 4) ∨ (hp = 43 ∧ f = 3))
    (h3 : Cond.selects C yDone y ∈ lw_all) (h4 : Cond.instanceMethod y ∈ lw_all) (h5 : Cond.initialized y.cls ∈ lw_all) (h6 : Cond.code y bytes maxL (some .int) ∈ lw_all) (hrm : rm.cells = mc ∧ rm.slots = ms ∧ rm.frames + 1 ≤ rmT.frames ∧ 8 + (maxL + 11) + rm.locals ≤ rmT.locals ∧ mc ≤ rmT.cells ∧ ms ≤ rmT.slots) (hpad : mc ≤ mcT ∧ ms ≤ msT) (hr2 : 2 ≤ rmT.frames ∧ 33 ≤ rmT.locals) :
    Met l yX2_tried (wsW_ yX2_tried cX2_tried 2 (some .int) hhX2) rmT (cIPc D K s0 B A ad z [.ref qa]) (cIQ D K B A (some (.int (-10 - f))) (cz_f (cz_f z 8 0) 8 f)) mcT msT A := by
  refine cIH_start RX2 (by decide) rfl (Nat.le_of_ble_eq_true rfl) ?_
  intro p e s m args below meth c H locs ls E hr hlocks htab hK hX hA hP hV hS hl
  have hN := hX.1
  have hD : ∀ z, va_D A (cW K B ad z) := fun z => cW_D hV.1 z
  have hl : lv_has ls 2 [(0, .ref qa)] := hl
  refine lv_aload_n E.1 E.2.1 dX2_tried_0 rfl (lv_at hl 0 rfl) ?_
  refine ck_this E ac hK hP hqa hf0 dX2_tried_1 ?_
  refine lv_iconst (v := (0 : Int32)) E.1 E.2.1 dX2_tried_4 (by decide) ?_
  refine ck_putN E hT hN hD hK hP hS 8 rfl q135 dX2_tried_5 (fun H locs hP hS => ?_)
  refine lv_aload_n E.1 E.2.1 dX2_tried_8 rfl (lv_at hl 0 rfl) ?_
  refine cx_catch (hh := hhX2) (hp := hp) (rest := []) (runT_U (D := C) (owner := RX2) (x := yDone) (As := []) (rest := []) E hM (va_cwA (C := C) (owner := RX2) (x := yDone) 0 E.2.2.2.2 (lw_U q824 q826 h3 h4 h5 h6) rfl hrm.1 hrm.2.1 (va_Nw.warmD hN (va_Nw.of rfl (hT _ q825))) (by decide +kernel) ⟨hrm.2.2.1, hrm.2.2.2.1⟩) (cI_pre hAl hA hX hK hP ⟨hD _, hV.2⟩ hS (act_recv ac hK hP hqa)) rfl rfl hl.1 rfl (lv_room (Nat.le_of_ble_eq_true rfl)) dX2_tried_9 ⟨by rw [Nat.zero_add]; exact hrm.2.2.2.2.1, by rw [Nat.zero_add]; exact hrm.2.2.2.2.2⟩) htab E.2.2.2.1 (hcls s hN) (fun cX hcX => hs s args cX E.2.2.2.2 hN hcX) (fun H1 x g1 g2 => ?_)
  rw [Nat.zero_add, Nat.zero_add]
  have hP1 : cP D K B ad (cz_f z 8 0) H1 := ⟨cx_keptP hP.1 g2, hP.2⟩
  have hS1 := cx_keptS hS g1 g2
  rcases hpf with ⟨rfl, rfl⟩ | ⟨rfl, rfl⟩ | ⟨rfl, rfl⟩ | ⟨rfl, rfl⟩
  · refine lv_astore_n (lv' := [(1, .ref x), (0, .ref qa)]) E.1 E.2.1 dX2_tried_13 rfl hl (by decide) rfl (fun ls hl => ?_)
    refine lv_aload_n E.1 E.2.1 dX2_tried_14 rfl (lv_at hl 1 rfl) ?_
    refine ck_this E ac hK hP1 hqa hf0 dX2_tried_15 ?_
    refine lv_iconst (v := (1 : Int32)) E.1 E.2.1 dX2_tried_18 (by decide) ?_
    refine ck_failsN E hT hN hD hK hP1 hS1 hl (Nat.le_of_ble_eq_true rfl) hr2 ⟨hrm.2.2.2.2.1, hrm.2.2.2.2.2⟩ dX2_tried_19 (fun H locs hP hS => ?_)
    refine W_pad hpad.1 hpad.2 ?_
    exact cI_iret (res := (-10 - 1, cz_f (cz_f z 8 0) 8 1)) E hr hlocks hP ⟨hD _, hV.2⟩ hS rfl dX2_tried_22
  · refine lv_astore_n (lv' := [(1, .ref x), (0, .ref qa)]) E.1 E.2.1 dX2_tried_23 rfl hl (by decide) rfl (fun ls hl => ?_)
    refine lv_aload_n E.1 E.2.1 dX2_tried_24 rfl (lv_at hl 1 rfl) ?_
    refine ck_this E ac hK hP1 hqa hf0 dX2_tried_25 ?_
    refine lv_iconst (v := (2 : Int32)) E.1 E.2.1 dX2_tried_28 (by decide) ?_
    refine ck_failsN E hT hN hD hK hP1 hS1 hl (Nat.le_of_ble_eq_true rfl) hr2 ⟨hrm.2.2.2.2.1, hrm.2.2.2.2.2⟩ dX2_tried_29 (fun H locs hP hS => ?_)
    refine W_pad hpad.1 hpad.2 ?_
    exact cI_iret (res := (-10 - 2, cz_f (cz_f z 8 0) 8 2)) E hr hlocks hP ⟨hD _, hV.2⟩ hS rfl dX2_tried_32
  · refine lv_astore_n (lv' := [(1, .ref x), (0, .ref qa)]) E.1 E.2.1 dX2_tried_33 rfl hl (by decide) rfl (fun ls hl => ?_)
    refine lv_aload_n E.1 E.2.1 dX2_tried_34 rfl (lv_at hl 1 rfl) ?_
    refine ck_this E ac hK hP1 hqa hf0 dX2_tried_35 ?_
    refine lv_iconst (v := (4 : Int32)) E.1 E.2.1 dX2_tried_38 (by decide) ?_
    refine ck_failsN E hT hN hD hK hP1 hS1 hl (Nat.le_of_ble_eq_true rfl) hr2 ⟨hrm.2.2.2.2.1, hrm.2.2.2.2.2⟩ dX2_tried_39 (fun H locs hP hS => ?_)
    refine W_pad hpad.1 hpad.2 ?_
    exact cI_iret (res := (-10 - 4, cz_f (cz_f z 8 0) 8 4)) E hr hlocks hP ⟨hD _, hV.2⟩ hS rfl dX2_tried_42
  · refine lv_astore_n (lv' := [(1, .ref x), (0, .ref qa)]) E.1 E.2.1 dX2_tried_43 rfl hl (by decide) rfl (fun ls hl => ?_)
    refine lv_aload_n E.1 E.2.1 dX2_tried_44 rfl (lv_at hl 1 rfl) ?_
    refine ck_this E ac hK hP1 hqa hf0 dX2_tried_45 ?_
    refine lv_iconst (v := (3 : Int32)) E.1 E.2.1 dX2_tried_48 (by decide) ?_
    refine ck_failsN E hT hN hD hK hP1 hS1 hl (Nat.le_of_ble_eq_true rfl) hr2 ⟨hrm.2.2.2.2.1, hrm.2.2.2.2.2⟩ dX2_tried_49 (fun H locs hP hS => ?_)
    refine W_pad hpad.1 hpad.2 ?_
    exact cI_iret (res := (-10 - 3, cz_f (cz_f z 8 0) 8 3)) E hr hlocks hP ⟨hD _, hV.2⟩ hS rfl dX2_tried_52
