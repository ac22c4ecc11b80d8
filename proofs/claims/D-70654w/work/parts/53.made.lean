/-! DebtFerry.madeOf(IIZ): a new rider -/
def kOf (x : Int32) : Nat := if x = 0 then 0 else if x = 1 then 1 else 2
abbrev rmX0_madeOf : Room := { frames := 4, cells := 1, slots := 5, locals := 170 }
theorem cI_start {l : Launch} {D : va_G} {K : Nat → ClassId} {s0 : State} {B : Nat → Nat} {A : Nat → Prop} {ad : CA} {z : CZ} {cc : ByteArray} {nL : Nat} {y : MethodName} {ret : Option FieldType} {rm : Room} {av : List Value} {Qc : Array Value → State → Outcome → State → Prop} {mc ms : Nat} {free : Addr → Prop} (own : String) (hy : plainName y.cls = true) (ho : y.cls = own) (hn : (lg_sl av).length ≤ nL)
    (body : ∀ (p : Program) (e : Env) (s : State) (m : MethodId) (args : Array Value) (below : List Frame) (meth : Method) (c : Code) (H : Heap) (locs : List Loc) (ls : Array Slot), CallFix p m c cc nL s args lw_all own → meth.sig.returnType = ret → meth.locks = false → va_K D vCl (cT K) s → xE s0 s → (∀ q, s.heap.size ≤ q → A q) → cP D K B ad z H → cV K B A ad z → va_S A s.heap H locs → lv_has ls nL (lv_args 0 av) → W p l e rm s m args below meth c H locs 0 0 (MQ below Qc args s mc ms free) (F0 m 0 ls [])) : Met l y (ws_ y cc nL ret) rm (cIPc D K s0 B A ad z av) Qc mc ms free :=
  gx_start own hy ho hn (fun p e s m args below meth c ls E hr hlocks _ hC hl => body p e s m args below meth c _ _ ls E hr hlocks hC.2.1 hC.2.2.1 hC.2.2.2.2 hC.1 hC.2.2.2.1 (va_S.rf (A := A)) hl)
set_option maxHeartbeats 1000000 in
theorem mm_X0_madeOf (l : Launch) {D : va_G} {K : Nat → ClassId} {s0 : State} {a0 : Array Value} {B : Nat → Nat} {ad : CA} {A : Nat → Prop} (hT : ∀ w ∈ lw_tbl, w.before a0 s0 = true) (z : CZ) (x1 : Int32) (i : Nat) (x3 : Int32) (hz : narrow .boolean (.int x3) = .int x3 ∧ fits .boolean (.int x3) = true) : Met l yX0_madeOf (ws_ yX0_madeOf cX0_madeOf 4 (some (.object "DebtFerry$Rider"))) rmX0_madeOf (cIPc D K s0 B A ad z [.ref (B 0), .int x1, .int (nI i), .int x3]) (cIQr D K B A ad z (cRi B (kOf x1) i x3)) 1 5 A := by
  refine cI_start RX0 (by decide) rfl (Nat.le_of_ble_eq_true rfl) ?_
  intro p e s m args below meth c H locs ls E hr hlocks hK hX hA hP hD hS hl
  have hl : lv_has ls 4 [(0, .ref (B 0)), (1, .int x1), (2, .int (nI i)), (3, .int x3)] := hl
  have hN := hX.1
  refine lv_iload_n E.1 E.2.1 dX0_madeOf_0 rfl (lv_at hl 1 rfl) ?_
  refine lv_if_ne (tgt := 17) E.1 E.2.1 dX0_madeOf_1 (by decide) (fun h => ?_) (fun h => ?_)
  · refine lv_iload_n E.1 E.2.1 dX0_madeOf_17 rfl (lv_at hl 1 rfl) ?_
    refine lv_iconst (v := (1 : Int32)) E.1 E.2.1 dX0_madeOf_18 (by decide) ?_
    refine lv_icmp_ne (tgt := 35) E.1 E.2.1 dX0_madeOf_19 (by decide) (fun h2 => ?_) (fun h2 => ?_)
    · refine va_new E.1 E.2.1 E.2.2.2.2 in_X7 tyX7 tyX7_ok E.2.2.2.1 (E.2.2.2.2 _ q516) (E.2.2.2.2 _ q517) (E.2.2.2.2 _ q79) hK hP.1 hD.1 hS hA (ci := 5) (C := RX7) (T := TX7) (N := 5) rfl (fs := [.int 0, .int 0, .null, .null, .null]) (by decide +kernel) (by decide) (by decide) dX0_madeOf_35 (fun q H hP1 hD1 hS => ?_)
      refine lv_dup E.1 E.2.1 dX0_madeOf_38 rfl ?_
      refine lv_aload_n E.1 E.2.1 dX0_madeOf_39 rfl (lv_at hl 0 rfl) ?_
      refine lv_iload_n E.1 E.2.1 dX0_madeOf_40 rfl (lv_at hl 2 rfl) ?_
      refine lv_iload_n E.1 E.2.1 dX0_madeOf_41 rfl (lv_at hl 3 rfl) ?_
      refine ck_ctor (va_runI (As := [.ref (B 0), .int (nI i), .int x3]) (rest := [.ref q]) E (nm_X7_5 l hT D K q (.int 0) (.int 0) .null .null .null (B 0) (nI i) x3 hz) (cwI 3 E.2.2.2.2 (lw_meth q520) rfl rfl rfl (E.2.2.2.2 _ q79) (E.2.2.2.2 _ q518) (E.2.2.2.2 _ q519) rfl (by decide +kernel) ⟨Nat.le_of_ble_eq_true rfl, Nat.le_of_ble_eq_true rfl⟩) (n_preS hK hN (vP_of hP1 (fun x hx => List.mem_append_right _ hx))) rfl rfl hl.1 rfl (lv_room (Nat.le_of_ble_eq_true rfl)) dX0_madeOf_42 ⟨Nat.le_of_ble_eq_true rfl, Nat.le_of_ble_eq_true rfl⟩) hP1 hD1 hS (fun H locs hP1 hD1 hS => ?_)
      refine W_pad (c' := 1) (s' := 5) (by decide) (by decide) ?_
      rw [show kOf x1 = 2 by simp [kOf, h, h2]]
      exact W.aret E.1 E.2.1 hr (Or.inl ⟨_, rfl⟩) (Or.inr ⟨_, rfl⟩) (fun t ht _ => ⟨⟨q, rfl, by rw [ht]; exact ⟨hP1, cDy_push hP.2⟩, hD1, hD.2⟩, hS.F ht⟩) hS.2.2 dX0_madeOf_45 hlocks
    · refine va_new E.1 E.2.1 E.2.2.2.2 in_X6 tyX6 tyX6_ok E.2.2.2.1 (E.2.2.2.2 _ q504) (E.2.2.2.2 _ q505) (E.2.2.2.2 _ q78) hK hP.1 hD.1 hS hA (ci := 4) (C := RX6) (T := TX6) (N := 4) rfl (fs := [.int 0, .int 0, .null, .null]) (by decide +kernel) (by decide) (by decide) dX0_madeOf_22 (fun q H hP1 hD1 hS => ?_)
      refine lv_dup E.1 E.2.1 dX0_madeOf_25 rfl ?_
      refine lv_aload_n E.1 E.2.1 dX0_madeOf_26 rfl (lv_at hl 0 rfl) ?_
      refine lv_iload_n E.1 E.2.1 dX0_madeOf_27 rfl (lv_at hl 2 rfl) ?_
      refine lv_iload_n E.1 E.2.1 dX0_madeOf_28 rfl (lv_at hl 3 rfl) ?_
      refine ck_ctor (va_runI (As := [.ref (B 0), .int (nI i), .int x3]) (rest := [.ref q]) E (nm_X6_4 l hT D K q (.int 0) (.int 0) .null .null (B 0) (nI i) x3 hz) (cwI 3 E.2.2.2.2 (lw_meth q508) rfl rfl rfl (E.2.2.2.2 _ q78) (E.2.2.2.2 _ q506) (E.2.2.2.2 _ q507) rfl (by decide +kernel) ⟨Nat.le_of_ble_eq_true rfl, Nat.le_of_ble_eq_true rfl⟩) (n_preS hK hN (vP_of hP1 (fun x hx => List.mem_append_right _ hx))) rfl rfl hl.1 rfl (lv_room (Nat.le_of_ble_eq_true rfl)) dX0_madeOf_29 ⟨Nat.le_of_ble_eq_true rfl, Nat.le_of_ble_eq_true rfl⟩) hP1 hD1 hS (fun H locs hP1 hD1 hS => ?_)
      refine lv_goto (tgt := 45) E.1 E.2.1 dX0_madeOf_32 (by decide) ?_
      refine W_pad (c' := 1) (s' := 5) (by decide) (by decide) ?_
      rw [show kOf x1 = 1 by simp [kOf, h, h2]]
      exact W.aret E.1 E.2.1 hr (Or.inl ⟨_, rfl⟩) (Or.inr ⟨_, rfl⟩) (fun t ht _ => ⟨⟨q, rfl, by rw [ht]; exact ⟨hP1, cDy_push hP.2⟩, hD1, hD.2⟩, hS.F ht⟩) hS.2.2 dX0_madeOf_45 hlocks
  · refine va_new E.1 E.2.1 E.2.2.2.2 in_X5 tyX5 tyX5_ok E.2.2.2.1 (E.2.2.2.2 _ q199) (E.2.2.2.2 _ q483) (E.2.2.2.2 _ q77) hK hP.1 hD.1 hS hA (ci := 3) (C := RX5) (T := TX5) (N := 3) rfl (fs := [.int 0, .int 0, .null]) (by decide +kernel) (by decide) (by decide) dX0_madeOf_4 (fun q H hP1 hD1 hS => ?_)
    refine lv_dup E.1 E.2.1 dX0_madeOf_7 rfl ?_
    refine lv_aload_n E.1 E.2.1 dX0_madeOf_8 rfl (lv_at hl 0 rfl) ?_
    refine lv_iload_n E.1 E.2.1 dX0_madeOf_9 rfl (lv_at hl 2 rfl) ?_
    refine lv_iload_n E.1 E.2.1 dX0_madeOf_10 rfl (lv_at hl 3 rfl) ?_
    refine ck_ctor (va_runI (As := [.ref (B 0), .int (nI i), .int x3]) (rest := [.ref q]) E (nm_X5_3 l hT D K q (.int 0) (.int 0) .null (B 0) (nI i) x3 hz) (cwI 3 E.2.2.2.2 (lw_meth q486) rfl rfl rfl (E.2.2.2.2 _ q77) (E.2.2.2.2 _ q484) (E.2.2.2.2 _ q485) rfl (by decide +kernel) ⟨Nat.le_of_ble_eq_true rfl, Nat.le_of_ble_eq_true rfl⟩) (n_preS hK hN (vP_of hP1 (fun x hx => List.mem_append_right _ hx))) rfl rfl hl.1 rfl (lv_room (Nat.le_of_ble_eq_true rfl)) dX0_madeOf_11 ⟨Nat.le_of_ble_eq_true rfl, Nat.le_of_ble_eq_true rfl⟩) hP1 hD1 hS (fun H locs hP1 hD1 hS => ?_)
    refine lv_goto (tgt := 45) E.1 E.2.1 dX0_madeOf_14 (by decide) ?_
    refine W_pad (c' := 1) (s' := 5) (by decide) (by decide) ?_
    rw [show kOf x1 = 0 by simp [kOf, h]]
    exact W.aret E.1 E.2.1 hr (Or.inl ⟨_, rfl⟩) (Or.inr ⟨_, rfl⟩) (fun t ht _ => ⟨⟨q, rfl, by rw [ht]; exact ⟨hP1, cDy_push hP.2⟩, hD1, hD.2⟩, hS.F ht⟩) hS.2.2 dX0_madeOf_45 hlocks
