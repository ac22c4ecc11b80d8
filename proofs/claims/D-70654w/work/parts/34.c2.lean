/-! DebtFerry$Rider.kind()I -/
def c5_kind (i : Nat)  (z0 : CZ) : Option (Int32 × CZ) :=
  some ((0 : Int32), z0)
abbrev rmX5_kind : Room := { frames := 1, cells := 0, slots := 0, locals := 12 }
set_option maxHeartbeats 4000000 in
set_option maxRecDepth 100000 in
theorem mm_X5_kind (l : Launch) {D : va_G} {K : Nat → ClassId} {s0 : State} {a0 : Array Value} {B : Nat → Nat} {ad : CA} {A : Nat → Prop} (hT : ∀ w ∈ lw_tbl, w.before a0 s0 = true) (hD : ∀ z, va_D A (cW K B ad z)) (i : Nat)  (z0 : CZ) (res : Int32 × CZ) (hF : c5_kind i  z0 = some res) : Met l yX5_kind (ws_ yX5_kind cX5_kind 1 (some .int)) rmX5_kind (cPc D K s0 B ad z0 [.ref (ad.2.1 (100 + i))]) (cQ D K B ad A (some (.int res.1)) res.2) 0 0 A := by
  refine ck_start (A := A) RX5 (by decide) rfl (Nat.le_of_ble_eq_true rfl) ?_
  intro p e s m args below meth c H locs ls E hr hlocks hK hN hP hS hl
  have hl : lv_has ls 1 [(0, .ref (ad.2.1 (100 + i)))] := hl
  unfold c5_kind at hF
  refine lv_iconst (v := (0 : Int32)) E.1 E.2.1 dX5_kind_0 (by decide) ?_
  exact ck_iret E hr hlocks hP hS hF dX5_kind_1
/-! DebtFerry$Rider.number()I -/
def c5_number (i : Nat)  (z0 : CZ) : Option (Int32 × CZ) :=
  gd (decide (i < cz_np z0)) (some ((nI i), z0))
abbrev rmX5_number : Room := { frames := 1, cells := 0, slots := 0, locals := 12 }
set_option maxHeartbeats 4000000 in
set_option maxRecDepth 100000 in
theorem mm_X5_number (l : Launch) {D : va_G} {K : Nat → ClassId} {s0 : State} {a0 : Array Value} {B : Nat → Nat} {ad : CA} {A : Nat → Prop} (hT : ∀ w ∈ lw_tbl, w.before a0 s0 = true) (hD : ∀ z, va_D A (cW K B ad z)) (i : Nat)  (z0 : CZ) (res : Int32 × CZ) (hF : c5_number i  z0 = some res) : Met l yX5_number (ws_ yX5_number cX5_number 1 (some .int)) rmX5_number (cPc D K s0 B ad z0 [.ref (ad.2.1 (100 + i))]) (cQ D K B ad A (some (.int res.1)) res.2) 0 0 A := by
  refine ck_start (A := A) RX5 (by decide) rfl (Nat.le_of_ble_eq_true rfl) ?_
  intro p e s m args below meth c H locs ls E hr hlocks hK hN hP hS hl
  have hl : lv_has ls 1 [(0, .ref (ad.2.1 (100 + i)))] := hl
  unfold c5_number at hF
  refine lv_aload_n E.1 E.2.1 dX5_number_0 rfl (lv_at hl 0 rfl) ?_
  obtain ⟨h1, hF⟩ := gd_some hF
  have h1 : i < cz_np z0 := of_decide_eq_true h1
  refine ck_rfld E hK hP h1 0 (v := .int (nI i)) rfl q488 dX5_number_1 ?_
  exact ck_iret E hr hlocks hP hS hF dX5_number_4
/-! DebtFerry$Rider.tracedBy(I)I -/
def c5_tracedBy (i : Nat) (x1 : Int32) (z0 : CZ) : Option (Int32 × CZ) :=
  gd (decide (i < cz_np z0)) (gd (decide (i < cz_np z0)) (some ((0 : Int32), (cz_f z0 0 (((31 : Int32) * (z0.1 0)) + x1)))))
abbrev rmX5_tracedBy : Room := { frames := 1, cells := 0, slots := 0, locals := 12 }
set_option maxHeartbeats 4000000 in
set_option maxRecDepth 100000 in
theorem mm_X5_tracedBy (l : Launch) {D : va_G} {K : Nat → ClassId} {s0 : State} {a0 : Array Value} {B : Nat → Nat} {ad : CA} {A : Nat → Prop} (hT : ∀ w ∈ lw_tbl, w.before a0 s0 = true) (hD : ∀ z, va_D A (cW K B ad z)) (i : Nat) (x1 : Int32) (z0 : CZ) (res : Int32 × CZ) (hF : c5_tracedBy i x1 z0 = some res) : Met l yX5_tracedBy (ws_ yX5_tracedBy cX5_tracedBy 2 (some .int)) rmX5_tracedBy (cPc D K s0 B ad z0 [.ref (ad.2.1 (100 + i)), .int x1]) (cQ D K B ad A (some (.int res.1)) res.2) 0 0 A := by
  refine ck_start (A := A) RX5 (by decide) rfl (Nat.le_of_ble_eq_true rfl) ?_
  intro p e s m args below meth c H locs ls E hr hlocks hK hN hP hS hl
  have hl : lv_has ls 2 [(0, .ref (ad.2.1 (100 + i))), (1, .int x1)] := hl
  unfold c5_tracedBy at hF
  refine lv_aload_n E.1 E.2.1 dX5_tracedBy_0 rfl (lv_at hl 0 rfl) ?_
  obtain ⟨h1, hF⟩ := gd_some hF
  have h1 : i < cz_np z0 := of_decide_eq_true h1
  refine ck_rfld E hK hP h1 2 (v := .ref (B 0)) rfl q496 dX5_tracedBy_1 ?_
  refine lv_bipush (v := (31 : Int32)) E.1 E.2.1 dX5_tracedBy_4 (by decide) ?_
  refine lv_aload_n E.1 E.2.1 dX5_tracedBy_6 rfl (lv_at hl 0 rfl) ?_
  obtain ⟨h7, hF⟩ := gd_some hF
  have h7 : i < cz_np z0 := of_decide_eq_true h7
  refine ck_rfld E hK hP h7 2 (v := .ref (B 0)) rfl q496 dX5_tracedBy_7 ?_
  refine ck_getN E hT hN hK hP 0 (by decide) q124 rfl (v := .int (z0.1 0)) rfl dX5_tracedBy_10 ?_
  refine lv_imul E.1 E.2.1 dX5_tracedBy_13 ?_
  refine lv_iload_n E.1 E.2.1 dX5_tracedBy_14 rfl (lv_at hl 1 rfl) ?_
  refine lv_iadd E.1 E.2.1 dX5_tracedBy_15 ?_
  refine ck_putN E hT hN hD hK hP hS 0 rfl q124 dX5_tracedBy_16 (fun H locs hP hS => ?_)
  refine lv_iconst (v := (0 : Int32)) E.1 E.2.1 dX5_tracedBy_19 (by decide) ?_
  exact ck_iret E hr hlocks hP hS hF dX5_tracedBy_20
/-! DebtFerry$Rider.debtIn(I)I -/
def c5_debtIn_L4 (i : Nat) (x1 : Int32) : Nat → Int32 → Int32 → CZ → Option (Int32 × CZ)
  | 0, _, _, _ => none
  | n + 1, y4_2, y4_3, z4 =>
    gd (decide (i < cz_np z4)) (if (nI (cz_np z4)) ≤ y4_3 then some (y4_2, z4) else gd (decide (i < cz_np z4)) (gd (decide (i < cz_np z4)) ((c_noteOf (nI i) y4_3 z4).bind (fun r30 => (c_isIn x1 y4_3).bind (fun r35 => jn (fun (v52_0 : Int32) (z52 : CZ) => c5_debtIn_L4 i x1 n (y4_2 + (r30.1 * v52_0)) (y4_3 + 1) z52) (fun (k52 : Int32 → CZ → Option (Int32 × CZ)) => if r35 = 0 then k52 (1 : Int32) r30.2 else gd (decide (i < cz_np r30.2)) (k52 (r30.2.1 2) r30.2)))))))
def c5_debtIn (i : Nat) (x1 : Int32) (z0 : CZ) : Option (Int32 × CZ) :=
  c5_debtIn_L4 i x1 FU (0 : Int32) (0 : Int32) z0
abbrev rmX5_debtIn : Room := { frames := 2, cells := 0, slots := 0, locals := 34 }
set_option maxHeartbeats 4000000 in
set_option maxRecDepth 100000 in
theorem mm_X5_debtIn (l : Launch) {D : va_G} {K : Nat → ClassId} {s0 : State} {a0 : Array Value} {B : Nat → Nat} {ad : CA} {A : Nat → Prop} (hT : ∀ w ∈ lw_tbl, w.before a0 s0 = true) (hD : ∀ z, va_D A (cW K B ad z)) (i : Nat) (x1 : Int32) (z0 : CZ) (res : Int32 × CZ) (hF : c5_debtIn i x1 z0 = some res) : Met l yX5_debtIn (ws_ yX5_debtIn cX5_debtIn 4 (some .int)) rmX5_debtIn (cPc D K s0 B ad z0 [.ref (ad.2.1 (100 + i)), .int x1]) (cQ D K B ad A (some (.int res.1)) res.2) 0 0 A := by
  refine ck_start (A := A) RX5 (by decide) rfl (Nat.le_of_ble_eq_true rfl) ?_
  intro p e s m args below meth c H locs ls E hr hlocks hK hN hP hS hl
  have hl : lv_has ls 4 [(0, .ref (ad.2.1 (100 + i))), (1, .int x1)] := hl
  unfold c5_debtIn at hF
  refine lv_iconst (v := (0 : Int32)) E.1 E.2.1 dX5_debtIn_0 (by decide) ?_
  refine lv_istore_n (lv' := [(2, .int (0 : Int32)), (0, .ref (ad.2.1 (100 + i))), (1, .int x1)]) E.1 E.2.1 dX5_debtIn_1 rfl hl (by decide) rfl (fun ls hl => ?_)
  refine lv_iconst (v := (0 : Int32)) E.1 E.2.1 dX5_debtIn_2 (by decide) ?_
  refine lv_istore_n (lv' := [(3, .int (0 : Int32)), (2, .int (0 : Int32)), (0, .ref (ad.2.1 (100 + i))), (1, .int x1)]) E.1 E.2.1 dX5_debtIn_3 rfl hl (by decide) rfl (fun ls hl => ?_)
  have L4 : ∀ (n : Nat) (y4_2 : Int32) (y4_3 : Int32) (z4 : CZ) (H : Heap) (locs : List Loc) (ls : Array Slot), c5_debtIn_L4 i x1 n y4_2 y4_3 z4 = some res → cP D K B ad z4 H → va_S A s.heap H locs → lv_has ls 4 [(0, .ref (ad.2.1 (100 + i))), (1, .int x1), (2, .int y4_2), (3, .int y4_3)] → W p l e rmX5_debtIn s m args below meth c H locs 0 0 (MQ below (cQ D K B ad A (some (.int res.1)) res.2) args s 0 0 A) (F0 m 4 ls []) := by
    intro n
    induction n with
    | zero =>
      intro y4_2 y4_3 z4 H locs ls hF
      rw [c5_debtIn_L4] at hF
      cases hF
    | succ n ih =>
      intro y4_2 y4_3 z4 H locs ls hF hP hS hl
      rw [c5_debtIn_L4] at hF
      refine lv_iload_n E.1 E.2.1 dX5_debtIn_4 rfl (lv_at hl 3 rfl) ?_
      refine lv_aload_n E.1 E.2.1 dX5_debtIn_5 rfl (lv_at hl 0 rfl) ?_
      obtain ⟨h6, hF⟩ := gd_some hF
      have h6 : i < cz_np z4 := of_decide_eq_true h6
      refine ck_rfld E hK hP h6 2 (v := .ref (B 0)) rfl q496 dX5_debtIn_6 ?_
      refine ck_getN E hT hN hK hP 4 (by decide) q131 rfl (v := .ref (B 4)) rfl dX5_debtIn_9 ?_
      refine ck_size E hT hN hK hP (q0 := 5) (j := 4) (n := cz_np z4) rfl q293 hl (Nat.le_of_ble_eq_true rfl) ⟨Nat.le_of_ble_eq_true rfl, Nat.le_of_ble_eq_true rfl⟩ ⟨Nat.zero_le _, Nat.zero_le _⟩ dX5_debtIn_12 ?_
      refine lv_icmp_ge (tgt := 61) E.1 E.2.1 dX5_debtIn_17 (by decide) (fun h => ?_) (fun h => ?_)
      · have hF := ite_t h hF
        refine lv_iload_n E.1 E.2.1 dX5_debtIn_61 rfl (lv_at hl 2 rfl) ?_
        exact ck_iret E hr hlocks hP hS hF dX5_debtIn_62
      · have hF := ite_f h hF
        refine lv_iload_n E.1 E.2.1 dX5_debtIn_20 rfl (lv_at hl 2 rfl) ?_
        refine lv_aload_n E.1 E.2.1 dX5_debtIn_21 rfl (lv_at hl 0 rfl) ?_
        obtain ⟨h22, hF⟩ := gd_some hF
        have h22 : i < cz_np z4 := of_decide_eq_true h22
        refine ck_rfld E hK hP h22 2 (v := .ref (B 0)) rfl q496 dX5_debtIn_22 ?_
        refine lv_aload_n E.1 E.2.1 dX5_debtIn_25 rfl (lv_at hl 0 rfl) ?_
        obtain ⟨h26, hF⟩ := gd_some hF
        have h26 : i < cz_np z4 := of_decide_eq_true h26
        refine ck_rfld E hK hP h26 0 (v := .int (nI i)) rfl q488 dX5_debtIn_26 ?_
        refine lv_iload_n E.1 E.2.1 dX5_debtIn_29 rfl (lv_at hl 3 rfl) ?_
        obtain ⟨r30, hq30, hF⟩ := bnd hF
        refine cx_go (va_runVN (C := RX0) (As := [.int (nI i), .int y4_3]) (rest := [.int y4_2]) E (mm_X0_noteOf l hT hD (nI i) y4_3 z4 _ hq30) ⟨va_cnB 2 E.2.2.2.2 (lw_meth q218) rfl rfl rfl (cN_M hT hN q294) (E.2.2.2.2 _ q54) (by decide +kernel) ⟨Nat.le_of_ble_eq_true rfl, Nat.le_of_ble_eq_true rfl⟩, E.2.2.2.2 _ q217, E.2.2.2.2 _ qs2⟩ (ck_pre hK hN hP (ck_me hK hP)) rfl rfl hl.1 rfl (lv_room (Nat.le_of_ble_eq_true rfl)) dX5_debtIn_30 ⟨Nat.zero_le _, Nat.zero_le _⟩) hS (fun H locs hP hS => ?_)
        refine lv_iload_n E.1 E.2.1 dX5_debtIn_33 rfl (lv_at hl 1 rfl) ?_
        refine lv_iload_n E.1 E.2.1 dX5_debtIn_34 rfl (lv_at hl 3 rfl) ?_
        obtain ⟨r35, hq35, hF⟩ := bnd hF
        refine px_go (va_runSN (As := [.int x1, .int y4_3]) (rest := [.int r30.1, .int y4_2]) E (mm_X0_isIn l x1 y4_3 _ hq35) ⟨va_cnB 2 E.2.2.2.2 (lw_meth q268) rfl rfl rfl (cN_M hT hN q295) (E.2.2.2.2 _ q54) (by decide +kernel) ⟨Nat.le_of_ble_eq_true rfl, Nat.le_of_ble_eq_true rfl⟩, E.2.2.2.2 _ q267, trivial⟩ ⟨fun a U g mk q => q, fun U _ _ => ⟨rfl, trivial⟩⟩ rfl rfl hl.1 rfl (lv_room (Nat.le_of_ble_eq_true rfl)) dX5_debtIn_35 ⟨Nat.zero_le _, Nat.zero_le _⟩) ?_
        obtain ⟨k52, hk52, hF⟩ := jn_split hF
        have J52 : ∀ (v52_0 : Int32) (z52 : CZ) (H : Heap) (locs : List Loc) (ls : Array Slot), k52 v52_0 z52 = some res → cP D K B ad z52 H → va_S A s.heap H locs → lv_has ls 4 [(0, .ref (ad.2.1 (100 + i))), (1, .int x1), (3, .int y4_3)] → W p l e rmX5_debtIn s m args below meth c H locs 0 0 (MQ below (cQ D K B ad A (some (.int res.1)) res.2) args s 0 0 A) (F0 m 52 ls [.int v52_0, .int r30.1, .int y4_2]) := by
          intro v52_0 z52 H locs ls hF hP hS hl
          rw [hk52] at hF
          refine lv_imul E.1 E.2.1 dX5_debtIn_52 ?_
          refine lv_iadd E.1 E.2.1 dX5_debtIn_53 ?_
          refine lv_istore_n (lv' := [(2, .int (y4_2 + (r30.1 * v52_0))), (0, .ref (ad.2.1 (100 + i))), (1, .int x1), (3, .int y4_3)]) E.1 E.2.1 dX5_debtIn_54 rfl hl (by decide) rfl (fun ls hl => ?_)
          refine lv_iinc (v := y4_3 + 1) (lv' := [(3, .int (y4_3 + 1)), (2, .int (y4_2 + (r30.1 * v52_0))), (0, .ref (ad.2.1 (100 + i))), (1, .int x1)]) E.1 E.2.1 dX5_debtIn_55 hl (k := 3) rfl rfl (by decide) rfl (fun ls hl => ?_)
          refine lv_goto (tgt := 4) E.1 E.2.1 dX5_debtIn_58 (by decide) ?_
          exact ih (y4_2 + (r30.1 * v52_0)) (y4_3 + 1) z52 H locs ls hF hP hS (lv_sub hl [2, 3, 1, 0] rfl)
        refine lv_if_eq (tgt := 51) E.1 E.2.1 dX5_debtIn_38 (by decide) (fun h => ?_) (fun h => ?_)
        · have hF := ite_t h hF
          refine lv_iconst (v := (1 : Int32)) E.1 E.2.1 dX5_debtIn_51 (by decide) ?_
          exact J52 (1 : Int32) r30.2 H locs ls hF hP hS (lv_sub hl [0, 1, 3] rfl)
        · have hF := ite_f h hF
          refine lv_aload_n E.1 E.2.1 dX5_debtIn_41 rfl (lv_at hl 0 rfl) ?_
          obtain ⟨h42, hF⟩ := gd_some hF
          have h42 : i < cz_np r30.2 := of_decide_eq_true h42
          refine ck_rfld E hK hP h42 2 (v := .ref (B 0)) rfl q496 dX5_debtIn_42 ?_
          refine ck_getN E hT hN hK hP 2 (by decide) q127 rfl (v := .int (r30.2.1 2)) rfl dX5_debtIn_45 ?_
          refine lv_goto (tgt := 52) E.1 E.2.1 dX5_debtIn_48 (by decide) ?_
          exact J52 (r30.2.1 2) r30.2 H locs ls hF hP hS (lv_sub hl [0, 1, 3] rfl)
  exact L4 FU (0 : Int32) (0 : Int32) z0 H locs ls hF hP hS (lv_sub hl [2, 3, 1, 0] rfl)
/-! DebtFerry$Rider.said()I -/
def c5_said (i : Nat)  (z0 : CZ) : Option (Int32 × CZ) :=
  gd (decide (i < cz_np z0)) ((c5_tracedBy i (1 : Int32) z0).bind (fun r2 => gd (decide (i < cz_np r2.2)) (gd (decide (i < cz_np r2.2)) ((c_allOwedBy (nI i) r2.2).bind (fun r13 => some ((r2.1 + r13.1), r13.2))))))
abbrev rmX5_said : Room := { frames := 3, cells := 0, slots := 0, locals := 57 }
set_option maxHeartbeats 4000000 in
set_option maxRecDepth 100000 in
theorem mm_X5_said (l : Launch) {D : va_G} {K : Nat → ClassId} {s0 : State} {a0 : Array Value} {B : Nat → Nat} {ad : CA} {A : Nat → Prop} (hT : ∀ w ∈ lw_tbl, w.before a0 s0 = true) (hD : ∀ z, va_D A (cW K B ad z)) (i : Nat)  (z0 : CZ) (res : Int32 × CZ) (hF : c5_said i  z0 = some res) : Met l yX5_said (ws_ yX5_said cX5_said 1 (some .int)) rmX5_said (cPc D K s0 B ad z0 [.ref (ad.2.1 (100 + i))]) (cQ D K B ad A (some (.int res.1)) res.2) 0 0 A := by
  refine ck_start (A := A) RX5 (by decide) rfl (Nat.le_of_ble_eq_true rfl) ?_
  intro p e s m args below meth c H locs ls E hr hlocks hK hN hP hS hl
  have hl : lv_has ls 1 [(0, .ref (ad.2.1 (100 + i)))] := hl
  unfold c5_said at hF
  refine lv_aload_n E.1 E.2.1 dX5_said_0 rfl (lv_at hl 0 rfl) ?_
  refine lv_iconst (v := (1 : Int32)) E.1 E.2.1 dX5_said_1 (by decide) ?_
  obtain ⟨h2, hF⟩ := gd_some hF
  have h2 : i < cz_np z0 := of_decide_eq_true h2
  obtain ⟨r2, hq2, hF⟩ := bnd hF
  have hrun : va_Run p l e rmX5_said s m args below meth c H locs 0 0 0 0 (F0 m 2 ls [.int (1 : Int32), .ref (ad.2.1 (100 + i))]) [] (cQ D K B ad A (some (.int r2.1)) r2.2 (Value.ref (ad.2.1 (100 + i)) :: [.int (1 : Int32)]).toArray) A := by
    rcases rd_recv hK hP h2 with ⟨hk, hc⟩ | ⟨hk, hc⟩ | ⟨hk, hc⟩
    · exact va_runV (As := [.int (1 : Int32)]) (rest := []) E (mm_X5_tracedBy l hT hD i (1 : Int32) z0 _ (hq2)) (cwV 1 E.2.2.2.2 (lw_V q1020 q1002 q1433 q77 q1003) rfl rfl rfl (by decide +kernel) ⟨Nat.le_of_ble_eq_true rfl, Nat.le_of_ble_eq_true rfl⟩) (ck_pre hK hN hP hc) rfl rfl hl.1 rfl (lv_room (Nat.le_of_ble_eq_true rfl)) dX5_said_2 ⟨Nat.zero_le _, Nat.zero_le _⟩
    · exact va_runU (As := [.int (1 : Int32)]) (rest := []) E (mm_X5_tracedBy l hT hD i (1 : Int32) z0 _ (hq2)) (va_cwU (owner := "DebtFerry$Rider") 1 E.2.2.2.2 (lw_U q1020 q1430 q1432 q1002 q77 q1003) rfl rfl rfl rfl (by decide +kernel) ⟨Nat.le_of_ble_eq_true rfl, Nat.le_of_ble_eq_true rfl⟩) (ck_pre hK hN hP hc) rfl rfl hl.1 rfl (lv_room (Nat.le_of_ble_eq_true rfl)) dX5_said_2 ⟨Nat.zero_le _, Nat.zero_le _⟩
    · exact va_runU (As := [.int (1 : Int32)]) (rest := []) E (mm_X5_tracedBy l hT hD i (1 : Int32) z0 _ (hq2)) (va_cwU (owner := "DebtFerry$Rider") 1 E.2.2.2.2 (lw_U q1020 q1430 q1431 q1002 q77 q1003) rfl rfl rfl rfl (by decide +kernel) ⟨Nat.le_of_ble_eq_true rfl, Nat.le_of_ble_eq_true rfl⟩) (ck_pre hK hN hP hc) rfl rfl hl.1 rfl (lv_room (Nat.le_of_ble_eq_true rfl)) dX5_said_2 ⟨Nat.zero_le _, Nat.zero_le _⟩
  refine cx_go hrun hS (fun H locs hP hS => ?_)
  refine lv_aload_n E.1 E.2.1 dX5_said_5 rfl (lv_at hl 0 rfl) ?_
  obtain ⟨h6, hF⟩ := gd_some hF
  have h6 : i < cz_np r2.2 := of_decide_eq_true h6
  refine ck_rfld E hK hP h6 2 (v := .ref (B 0)) rfl q496 dX5_said_6 ?_
  refine lv_aload_n E.1 E.2.1 dX5_said_9 rfl (lv_at hl 0 rfl) ?_
  obtain ⟨h10, hF⟩ := gd_some hF
  have h10 : i < cz_np r2.2 := of_decide_eq_true h10
  refine ck_rfld E hK hP h10 0 (v := .int (nI i)) rfl q488 dX5_said_10 ?_
  obtain ⟨r13, hq13, hF⟩ := bnd hF
  refine cx_go (va_runVN (C := RX0) (As := [.int (nI i)]) (rest := [.int r2.1]) E (mm_X0_allOwedBy l hT hD (nI i) r2.2 _ hq13) ⟨va_cnB 1 E.2.2.2.2 (lw_meth q214) rfl rfl rfl (cN_M hT hN q1021) (E.2.2.2.2 _ q54) (by decide +kernel) ⟨Nat.le_of_ble_eq_true rfl, Nat.le_of_ble_eq_true rfl⟩, E.2.2.2.2 _ q213, E.2.2.2.2 _ qs1⟩ (ck_pre hK hN hP (ck_me hK hP)) rfl rfl hl.1 rfl (lv_room (Nat.le_of_ble_eq_true rfl)) dX5_said_13 ⟨Nat.zero_le _, Nat.zero_le _⟩) hS (fun H locs hP hS => ?_)
  refine lv_iadd E.1 E.2.1 dX5_said_16 ?_
  exact ck_iret E hr hlocks hP hS hF dX5_said_17
/-! DebtFerry$Friend.kind()I -/
def c6_kind (i : Nat)  (z0 : CZ) : Option (Int32 × CZ) :=
  some ((1 : Int32), z0)
abbrev rmX6_kind : Room := { frames := 1, cells := 0, slots := 0, locals := 12 }
set_option maxHeartbeats 4000000 in
set_option maxRecDepth 100000 in
theorem mm_X6_kind (l : Launch) {D : va_G} {K : Nat → ClassId} {s0 : State} {a0 : Array Value} {B : Nat → Nat} {ad : CA} {A : Nat → Prop} (hT : ∀ w ∈ lw_tbl, w.before a0 s0 = true) (hD : ∀ z, va_D A (cW K B ad z)) (i : Nat)  (z0 : CZ) (res : Int32 × CZ) (hF : c6_kind i  z0 = some res) : Met l yX6_kind (ws_ yX6_kind cX6_kind 1 (some .int)) rmX6_kind (cPc D K s0 B ad z0 [.ref (ad.2.1 (100 + i))]) (cQ D K B ad A (some (.int res.1)) res.2) 0 0 A := by
  refine ck_start (A := A) RX6 (by decide) rfl (Nat.le_of_ble_eq_true rfl) ?_
  intro p e s m args below meth c H locs ls E hr hlocks hK hN hP hS hl
  have hl : lv_has ls 1 [(0, .ref (ad.2.1 (100 + i)))] := hl
  unfold c6_kind at hF
  refine lv_iconst (v := (1 : Int32)) E.1 E.2.1 dX6_kind_0 (by decide) ?_
  exact ck_iret E hr hlocks hP hS hF dX6_kind_1
/-! DebtFerry$Friend.plainDebt(I)I -/
def c6_plainDebt (i : Nat) (x1 : Int32) (z0 : CZ) : Option (Int32 × CZ) :=
  gd (decide (i < cz_np z0)) (gd (decide (¬ cz_k z0 i = 0)) ((c5_debtIn i x1 z0).bind (fun r2 => some (r2.1, r2.2))))
abbrev rmX6_plainDebt : Room := { frames := 3, cells := 0, slots := 0, locals := 57 }
set_option maxHeartbeats 4000000 in
set_option maxRecDepth 100000 in
theorem mm_X6_plainDebt (l : Launch) {D : va_G} {K : Nat → ClassId} {s0 : State} {a0 : Array Value} {B : Nat → Nat} {ad : CA} {A : Nat → Prop} (hT : ∀ w ∈ lw_tbl, w.before a0 s0 = true) (hD : ∀ z, va_D A (cW K B ad z)) (i : Nat) (x1 : Int32) (z0 : CZ) (res : Int32 × CZ) (hF : c6_plainDebt i x1 z0 = some res) : Met l yX6_plainDebt (ws_ yX6_plainDebt cX6_plainDebt 2 (some .int)) rmX6_plainDebt (cPc D K s0 B ad z0 [.ref (ad.2.1 (100 + i)), .int x1]) (cQ D K B ad A (some (.int res.1)) res.2) 0 0 A := by
  refine ck_start (A := A) RX6 (by decide) rfl (Nat.le_of_ble_eq_true rfl) ?_
  intro p e s m args below meth c H locs ls E hr hlocks hK hN hP hS hl
  have hl : lv_has ls 2 [(0, .ref (ad.2.1 (100 + i))), (1, .int x1)] := hl
  unfold c6_plainDebt at hF
  refine lv_aload_n E.1 E.2.1 dX6_plainDebt_0 rfl (lv_at hl 0 rfl) ?_
  refine lv_iload_n E.1 E.2.1 dX6_plainDebt_1 rfl (lv_at hl 1 rfl) ?_
  obtain ⟨h2, hF⟩ := gd_some hF
  have h2 : i < cz_np z0 := of_decide_eq_true h2
  obtain ⟨g2, hF⟩ := gd_some hF
  have g2 : ¬ cz_k z0 i = 0 := of_decide_eq_true g2
  obtain ⟨r2, hq2, hF⟩ := bnd hF
  have hrun : va_Run p l e rmX6_plainDebt s m args below meth c H locs 0 0 0 0 (F0 m 2 ls [.int x1, .ref (ad.2.1 (100 + i))]) [] (cQ D K B ad A (some (.int r2.1)) r2.2 (Value.ref (ad.2.1 (100 + i)) :: [.int x1]).toArray) A := by
    rcases rd_recv hK hP h2 with ⟨hk, hc⟩ | ⟨hk, hc⟩ | ⟨hk, hc⟩
    · exact absurd hk (g2)
    · exact va_runSU (As := [.int x1]) (rest := []) (hK.1 4 (RX6, TX6, 4) rfl).2 E (mm_X5_debtIn l hT hD i x1 z0 _ (hq2)) (va_cwSU 1 E.2.2.2.2 (lw_SU q282 q272 q283 q270 q77 q291) rfl rfl rfl (by decide +kernel) ⟨Nat.le_of_ble_eq_true rfl, Nat.le_of_ble_eq_true rfl⟩) (ck_pre hK hN hP hc) rfl rfl hl.1 rfl (lv_room (Nat.le_of_ble_eq_true rfl)) dX6_plainDebt_2 ⟨Nat.zero_le _, Nat.zero_le _⟩
    · exact va_runSU (As := [.int x1]) (rest := []) (hK.1 5 (RX7, TX7, 5) rfl).2 E (mm_X5_debtIn l hT hD i x1 z0 _ (hq2)) (va_cwSU 1 E.2.2.2.2 (lw_SU q282 q272 q283 q270 q77 q291) rfl rfl rfl (by decide +kernel) ⟨Nat.le_of_ble_eq_true rfl, Nat.le_of_ble_eq_true rfl⟩) (ck_pre hK hN hP hc) rfl rfl hl.1 rfl (lv_room (Nat.le_of_ble_eq_true rfl)) dX6_plainDebt_2 ⟨Nat.zero_le _, Nat.zero_le _⟩
  refine cx_go hrun hS (fun H locs hP hS => ?_)
  exact ck_iret E hr hlocks hP hS hF dX6_plainDebt_5
/-! DebtFerry$Friend.debtIn(I)I -/
def c6_debtIn (i : Nat) (x1 : Int32) (z0 : CZ) : Option (Int32 × CZ) :=
  gd (decide (i < cz_np z0)) (gd (decide (¬ cz_k z0 i = 0)) ((c6_plainDebt i x1 z0).bind (fun r3 => some ((if (0 : Int32) < (r3.1 - (1 : Int32)) then (r3.1 - (1 : Int32)) else (0 : Int32)), r3.2))))
abbrev rmX6_debtIn : Room := { frames := 4, cells := 0, slots := 0, locals := 78 }
set_option maxHeartbeats 4000000 in
set_option maxRecDepth 100000 in
theorem mm_X6_debtIn (l : Launch) {D : va_G} {K : Nat → ClassId} {s0 : State} {a0 : Array Value} {B : Nat → Nat} {ad : CA} {A : Nat → Prop} (hT : ∀ w ∈ lw_tbl, w.before a0 s0 = true) (hD : ∀ z, va_D A (cW K B ad z)) (i : Nat) (x1 : Int32) (z0 : CZ) (res : Int32 × CZ) (hF : c6_debtIn i x1 z0 = some res) : Met l yX6_debtIn (ws_ yX6_debtIn cX6_debtIn 2 (some .int)) rmX6_debtIn (cPc D K s0 B ad z0 [.ref (ad.2.1 (100 + i)), .int x1]) (cQ D K B ad A (some (.int res.1)) res.2) 0 0 A := by
  refine ck_start (A := A) RX6 (by decide) rfl (Nat.le_of_ble_eq_true rfl) ?_
  intro p e s m args below meth c H locs ls E hr hlocks hK hN hP hS hl
  have hl : lv_has ls 2 [(0, .ref (ad.2.1 (100 + i))), (1, .int x1)] := hl
  unfold c6_debtIn at hF
  refine lv_iconst (v := (0 : Int32)) E.1 E.2.1 dX6_debtIn_0 (by decide) ?_
  refine lv_aload_n E.1 E.2.1 dX6_debtIn_1 rfl (lv_at hl 0 rfl) ?_
  refine lv_iload_n E.1 E.2.1 dX6_debtIn_2 rfl (lv_at hl 1 rfl) ?_
  obtain ⟨h3, hF⟩ := gd_some hF
  have h3 : i < cz_np z0 := of_decide_eq_true h3
  obtain ⟨g3, hF⟩ := gd_some hF
  have g3 : ¬ cz_k z0 i = 0 := of_decide_eq_true g3
  obtain ⟨r3, hq3, hF⟩ := bnd hF
  have hrun : va_Run p l e rmX6_debtIn s m args below meth c H locs 0 0 0 0 (F0 m 3 ls [.int x1, .ref (ad.2.1 (100 + i)), .int (0 : Int32)]) [.int (0 : Int32)] (cQ D K B ad A (some (.int r3.1)) r3.2 (Value.ref (ad.2.1 (100 + i)) :: [.int x1]).toArray) A := by
    rcases rd_recv hK hP h3 with ⟨hk, hc⟩ | ⟨hk, hc⟩ | ⟨hk, hc⟩
    · exact absurd hk (g3)
    · exact va_runV (As := [.int x1]) (rest := [.int (0 : Int32)]) E (mm_X6_plainDebt l hT hD i x1 z0 _ (hq3)) (cwV 1 E.2.2.2.2 (lw_V q287 q280 q1427 q78 q281) rfl rfl rfl (by decide +kernel) ⟨Nat.le_of_ble_eq_true rfl, Nat.le_of_ble_eq_true rfl⟩) (ck_pre hK hN hP hc) rfl rfl hl.1 rfl (lv_room (Nat.le_of_ble_eq_true rfl)) dX6_debtIn_3 ⟨Nat.zero_le _, Nat.zero_le _⟩
    · exact va_runU (As := [.int x1]) (rest := [.int (0 : Int32)]) E (mm_X6_plainDebt l hT hD i x1 z0 _ (hq3)) (va_cwU (owner := "DebtFerry$Friend") 1 E.2.2.2.2 (lw_U q287 q1425 q1426 q280 q78 q281) rfl rfl rfl rfl (by decide +kernel) ⟨Nat.le_of_ble_eq_true rfl, Nat.le_of_ble_eq_true rfl⟩) (ck_pre hK hN hP hc) rfl rfl hl.1 rfl (lv_room (Nat.le_of_ble_eq_true rfl)) dX6_debtIn_3 ⟨Nat.zero_le _, Nat.zero_le _⟩
  refine cx_go hrun hS (fun H locs hP hS => ?_)
  refine lv_iconst (v := (1 : Int32)) E.1 E.2.1 dX6_debtIn_6 (by decide) ?_
  refine lv_isub E.1 E.2.1 dX6_debtIn_7 ?_
  refine va_mmax E.1 E.2.1 (E.2.2.1.trans hl.1.symm) E.2.2.2.1 (E.2.2.2.2 _ q288) (E.2.2.2.2 _ q289) (E.2.2.2.2 _ q73) (E.2.2.2.2 _ q290) (Nat.le_of_ble_eq_true rfl) (Nat.le_of_ble_eq_true rfl) (Nat.zero_le _) (Nat.zero_le _) dX6_debtIn_8 ?_
  exact ck_iret E hr hlocks hP hS hF dX6_debtIn_11
/-! DebtFerry$Friend.said()I -/
def c6_said (i : Nat)  (z0 : CZ) : Option (Int32 × CZ) :=
  gd (decide (i < cz_np z0)) (gd (decide (¬ cz_k z0 i = 0)) ((c5_tracedBy i (2 : Int32) z0).bind (fun r2 => gd (decide (i < cz_np r2.2)) (gd (decide (¬ cz_k r2.2 i = 0)) ((c5_said i  r2.2).bind (fun r6 => some (((r2.1 + r6.1) + (100 : Int32)), r6.2)))))))
abbrev rmX6_said : Room := { frames := 4, cells := 0, slots := 0, locals := 77 }
set_option maxHeartbeats 4000000 in
set_option maxRecDepth 100000 in
theorem mm_X6_said (l : Launch) {D : va_G} {K : Nat → ClassId} {s0 : State} {a0 : Array Value} {B : Nat → Nat} {ad : CA} {A : Nat → Prop} (hT : ∀ w ∈ lw_tbl, w.before a0 s0 = true) (hD : ∀ z, va_D A (cW K B ad z)) (i : Nat)  (z0 : CZ) (res : Int32 × CZ) (hF : c6_said i  z0 = some res) : Met l yX6_said (ws_ yX6_said cX6_said 1 (some .int)) rmX6_said (cPc D K s0 B ad z0 [.ref (ad.2.1 (100 + i))]) (cQ D K B ad A (some (.int res.1)) res.2) 0 0 A := by
  refine ck_start (A := A) RX6 (by decide) rfl (Nat.le_of_ble_eq_true rfl) ?_
  intro p e s m args below meth c H locs ls E hr hlocks hK hN hP hS hl
  have hl : lv_has ls 1 [(0, .ref (ad.2.1 (100 + i)))] := hl
  unfold c6_said at hF
  refine lv_aload_n E.1 E.2.1 dX6_said_0 rfl (lv_at hl 0 rfl) ?_
  refine lv_iconst (v := (2 : Int32)) E.1 E.2.1 dX6_said_1 (by decide) ?_
  obtain ⟨h2, hF⟩ := gd_some hF
  have h2 : i < cz_np z0 := of_decide_eq_true h2
  obtain ⟨g2, hF⟩ := gd_some hF
  have g2 : ¬ cz_k z0 i = 0 := of_decide_eq_true g2
  obtain ⟨r2, hq2, hF⟩ := bnd hF
  have hrun : va_Run p l e rmX6_said s m args below meth c H locs 0 0 0 0 (F0 m 2 ls [.int (2 : Int32), .ref (ad.2.1 (100 + i))]) [] (cQ D K B ad A (some (.int r2.1)) r2.2 (Value.ref (ad.2.1 (100 + i)) :: [.int (2 : Int32)]).toArray) A := by
    rcases rd_recv hK hP h2 with ⟨hk, hc⟩ | ⟨hk, hc⟩ | ⟨hk, hc⟩
    · exact absurd hk (g2)
    · exact va_runU (As := [.int (2 : Int32)]) (rest := []) E (mm_X5_tracedBy l hT hD i (2 : Int32) z0 _ (hq2)) (va_cwU (owner := "DebtFerry$Rider") 1 E.2.2.2.2 (lw_U q1007 q1008 q1010 q1002 q77 q1003) rfl rfl rfl rfl (by decide +kernel) ⟨Nat.le_of_ble_eq_true rfl, Nat.le_of_ble_eq_true rfl⟩) (ck_pre hK hN hP hc) rfl rfl hl.1 rfl (lv_room (Nat.le_of_ble_eq_true rfl)) dX6_said_2 ⟨Nat.zero_le _, Nat.zero_le _⟩
    · exact va_runU (As := [.int (2 : Int32)]) (rest := []) E (mm_X5_tracedBy l hT hD i (2 : Int32) z0 _ (hq2)) (va_cwU (owner := "DebtFerry$Rider") 1 E.2.2.2.2 (lw_U q1007 q1008 q1009 q1002 q77 q1003) rfl rfl rfl rfl (by decide +kernel) ⟨Nat.le_of_ble_eq_true rfl, Nat.le_of_ble_eq_true rfl⟩) (ck_pre hK hN hP hc) rfl rfl hl.1 rfl (lv_room (Nat.le_of_ble_eq_true rfl)) dX6_said_2 ⟨Nat.zero_le _, Nat.zero_le _⟩
  refine cx_go hrun hS (fun H locs hP hS => ?_)
  refine lv_aload_n E.1 E.2.1 dX6_said_5 rfl (lv_at hl 0 rfl) ?_
  obtain ⟨h6, hF⟩ := gd_some hF
  have h6 : i < cz_np r2.2 := of_decide_eq_true h6
  obtain ⟨g6, hF⟩ := gd_some hF
  have g6 : ¬ cz_k r2.2 i = 0 := of_decide_eq_true g6
  obtain ⟨r6, hq6, hF⟩ := bnd hF
  have hrun : va_Run p l e rmX6_said s m args below meth c H locs 0 0 0 0 (F0 m 6 ls [.ref (ad.2.1 (100 + i)), .int r2.1]) [.int r2.1] (cQ D K B ad A (some (.int r6.1)) r6.2 (Value.ref (ad.2.1 (100 + i)) :: []).toArray) A := by
    rcases rd_recv hK hP h6 with ⟨hk, hc⟩ | ⟨hk, hc⟩ | ⟨hk, hc⟩
    · exact absurd hk (g6)
    · exact va_runSU (As := []) (rest := [.int r2.1]) (hK.1 4 (RX6, TX6, 4) rfl).2 E (mm_X5_said l hT hD i  r2.2 _ (hq6)) (va_cwSU 0 E.2.2.2.2 (lw_SU q1011 q994 q283 q992 q77 q1019) rfl rfl rfl (by decide +kernel) ⟨Nat.le_of_ble_eq_true rfl, Nat.le_of_ble_eq_true rfl⟩) (ck_pre hK hN hP hc) rfl rfl hl.1 rfl (lv_room (Nat.le_of_ble_eq_true rfl)) dX6_said_6 ⟨Nat.zero_le _, Nat.zero_le _⟩
    · exact va_runSU (As := []) (rest := [.int r2.1]) (hK.1 5 (RX7, TX7, 5) rfl).2 E (mm_X5_said l hT hD i  r2.2 _ (hq6)) (va_cwSU 0 E.2.2.2.2 (lw_SU q1011 q994 q283 q992 q77 q1019) rfl rfl rfl (by decide +kernel) ⟨Nat.le_of_ble_eq_true rfl, Nat.le_of_ble_eq_true rfl⟩) (ck_pre hK hN hP hc) rfl rfl hl.1 rfl (lv_room (Nat.le_of_ble_eq_true rfl)) dX6_said_6 ⟨Nat.zero_le _, Nat.zero_le _⟩
  refine cx_go hrun hS (fun H locs hP hS => ?_)
  refine lv_iadd E.1 E.2.1 dX6_said_9 ?_
  refine lv_bipush (v := (100 : Int32)) E.1 E.2.1 dX6_said_10 (by decide) ?_
  refine lv_iadd E.1 E.2.1 dX6_said_12 ?_
  exact ck_iret E hr hlocks hP hS hF dX6_said_13
/-! DebtFerry$Friend.plainly()I -/
def c6_plainly (i : Nat)  (z0 : CZ) : Option (Int32 × CZ) :=
  gd (decide (i < cz_np z0)) (gd (decide (¬ cz_k z0 i = 0)) ((c5_said i  z0).bind (fun r1 => some (r1.1, r1.2))))
abbrev rmX6_plainly : Room := { frames := 4, cells := 0, slots := 0, locals := 77 }
set_option maxHeartbeats 4000000 in
set_option maxRecDepth 100000 in
theorem mm_X6_plainly (l : Launch) {D : va_G} {K : Nat → ClassId} {s0 : State} {a0 : Array Value} {B : Nat → Nat} {ad : CA} {A : Nat → Prop} (hT : ∀ w ∈ lw_tbl, w.before a0 s0 = true) (hD : ∀ z, va_D A (cW K B ad z)) (i : Nat)  (z0 : CZ) (res : Int32 × CZ) (hF : c6_plainly i  z0 = some res) : Met l yX6_plainly (ws_ yX6_plainly cX6_plainly 1 (some .int)) rmX6_plainly (cPc D K s0 B ad z0 [.ref (ad.2.1 (100 + i))]) (cQ D K B ad A (some (.int res.1)) res.2) 0 0 A := by
  refine ck_start (A := A) RX6 (by decide) rfl (Nat.le_of_ble_eq_true rfl) ?_
  intro p e s m args below meth c H locs ls E hr hlocks hK hN hP hS hl
  have hl : lv_has ls 1 [(0, .ref (ad.2.1 (100 + i)))] := hl
  unfold c6_plainly at hF
  refine lv_aload_n E.1 E.2.1 dX6_plainly_0 rfl (lv_at hl 0 rfl) ?_
  obtain ⟨h1, hF⟩ := gd_some hF
  have h1 : i < cz_np z0 := of_decide_eq_true h1
  obtain ⟨g1, hF⟩ := gd_some hF
  have g1 : ¬ cz_k z0 i = 0 := of_decide_eq_true g1
  obtain ⟨r1, hq1, hF⟩ := bnd hF
  have hrun : va_Run p l e rmX6_plainly s m args below meth c H locs 0 0 0 0 (F0 m 1 ls [.ref (ad.2.1 (100 + i))]) [] (cQ D K B ad A (some (.int r1.1)) r1.2 (Value.ref (ad.2.1 (100 + i)) :: []).toArray) A := by
    rcases rd_recv hK hP h1 with ⟨hk, hc⟩ | ⟨hk, hc⟩ | ⟨hk, hc⟩
    · exact absurd hk (g1)
    · exact va_runSU (As := []) (rest := []) (hK.1 4 (RX6, TX6, 4) rfl).2 E (mm_X5_said l hT hD i  z0 _ (hq1)) (va_cwSU 0 E.2.2.2.2 (lw_SU q1011 q994 q283 q992 q77 q1019) rfl rfl rfl (by decide +kernel) ⟨Nat.le_of_ble_eq_true rfl, Nat.le_of_ble_eq_true rfl⟩) (ck_pre hK hN hP hc) rfl rfl hl.1 rfl (lv_room (Nat.le_of_ble_eq_true rfl)) dX6_plainly_1 ⟨Nat.zero_le _, Nat.zero_le _⟩
    · exact va_runSU (As := []) (rest := []) (hK.1 5 (RX7, TX7, 5) rfl).2 E (mm_X5_said l hT hD i  z0 _ (hq1)) (va_cwSU 0 E.2.2.2.2 (lw_SU q1011 q994 q283 q992 q77 q1019) rfl rfl rfl (by decide +kernel) ⟨Nat.le_of_ble_eq_true rfl, Nat.le_of_ble_eq_true rfl⟩) (ck_pre hK hN hP hc) rfl rfl hl.1 rfl (lv_room (Nat.le_of_ble_eq_true rfl)) dX6_plainly_1 ⟨Nat.zero_le _, Nat.zero_le _⟩
  refine cx_go hrun hS (fun H locs hP hS => ?_)
  exact ck_iret E hr hlocks hP hS hF dX6_plainly_4
/-! DebtFerry$Banker.kind()I -/
def c7_kind (i : Nat)  (z0 : CZ) : Option (Int32 × CZ) :=
  some ((2 : Int32), z0)
abbrev rmX7_kind : Room := { frames := 1, cells := 0, slots := 0, locals := 12 }
set_option maxHeartbeats 4000000 in
set_option maxRecDepth 100000 in
theorem mm_X7_kind (l : Launch) {D : va_G} {K : Nat → ClassId} {s0 : State} {a0 : Array Value} {B : Nat → Nat} {ad : CA} {A : Nat → Prop} (hT : ∀ w ∈ lw_tbl, w.before a0 s0 = true) (hD : ∀ z, va_D A (cW K B ad z)) (i : Nat)  (z0 : CZ) (res : Int32 × CZ) (hF : c7_kind i  z0 = some res) : Met l yX7_kind (ws_ yX7_kind cX7_kind 1 (some .int)) rmX7_kind (cPc D K s0 B ad z0 [.ref (ad.2.1 (100 + i))]) (cQ D K B ad A (some (.int res.1)) res.2) 0 0 A := by
  refine ck_start (A := A) RX7 (by decide) rfl (Nat.le_of_ble_eq_true rfl) ?_
  intro p e s m args below meth c H locs ls E hr hlocks hK hN hP hS hl
  have hl : lv_has ls 1 [(0, .ref (ad.2.1 (100 + i)))] := hl
  unfold c7_kind at hF
  refine lv_iconst (v := (2 : Int32)) E.1 E.2.1 dX7_kind_0 (by decide) ?_
  exact ck_iret E hr hlocks hP hS hF dX7_kind_1
/-! DebtFerry$Banker.debtIn(I)I -/
def c7_debtIn (i : Nat) (x1 : Int32) (z0 : CZ) : Option (Int32 × CZ) :=
  gd (decide (i < cz_np z0)) (gd (decide (cz_k z0 i = 2)) ((c6_plainDebt i x1 z0).bind (fun r2 => some ((r2.1 / (2 : Int32)), r2.2))))
abbrev rmX7_debtIn : Room := { frames := 4, cells := 0, slots := 0, locals := 78 }
set_option maxHeartbeats 4000000 in
set_option maxRecDepth 100000 in
theorem mm_X7_debtIn (l : Launch) {D : va_G} {K : Nat → ClassId} {s0 : State} {a0 : Array Value} {B : Nat → Nat} {ad : CA} {A : Nat → Prop} (hT : ∀ w ∈ lw_tbl, w.before a0 s0 = true) (hD : ∀ z, va_D A (cW K B ad z)) (i : Nat) (x1 : Int32) (z0 : CZ) (res : Int32 × CZ) (hF : c7_debtIn i x1 z0 = some res) : Met l yX7_debtIn (ws_ yX7_debtIn cX7_debtIn 2 (some .int)) rmX7_debtIn (cPc D K s0 B ad z0 [.ref (ad.2.1 (100 + i)), .int x1]) (cQ D K B ad A (some (.int res.1)) res.2) 0 0 A := by
  refine ck_start (A := A) RX7 (by decide) rfl (Nat.le_of_ble_eq_true rfl) ?_
  intro p e s m args below meth c H locs ls E hr hlocks hK hN hP hS hl
  have hl : lv_has ls 2 [(0, .ref (ad.2.1 (100 + i))), (1, .int x1)] := hl
  unfold c7_debtIn at hF
  refine lv_aload_n E.1 E.2.1 dX7_debtIn_0 rfl (lv_at hl 0 rfl) ?_
  refine lv_iload_n E.1 E.2.1 dX7_debtIn_1 rfl (lv_at hl 1 rfl) ?_
  obtain ⟨h2, hF⟩ := gd_some hF
  have h2 : i < cz_np z0 := of_decide_eq_true h2
  obtain ⟨g2, hF⟩ := gd_some hF
  have g2 : cz_k z0 i = 2 := of_decide_eq_true g2
  obtain ⟨r2, hq2, hF⟩ := bnd hF
  have hrun : va_Run p l e rmX7_debtIn s m args below meth c H locs 0 0 0 0 (F0 m 2 ls [.int x1, .ref (ad.2.1 (100 + i))]) [] (cQ D K B ad A (some (.int r2.1)) r2.2 (Value.ref (ad.2.1 (100 + i)) :: [.int x1]).toArray) A := by
    rcases rd_recv hK hP h2 with ⟨hk, hc⟩ | ⟨hk, hc⟩ | ⟨hk, hc⟩
    · exact absurd hk (by rw [g2]; decide)
    · exact absurd hk (by rw [g2]; decide)
    · exact va_runU (As := [.int x1]) (rest := []) E (mm_X6_plainDebt l hT hD i x1 z0 _ (hq2)) (va_cwU (owner := "DebtFerry$Friend") 1 E.2.2.2.2 (lw_U q276 q277 q279 q280 q78 q281) rfl rfl rfl rfl (by decide +kernel) ⟨Nat.le_of_ble_eq_true rfl, Nat.le_of_ble_eq_true rfl⟩) (ck_pre hK hN hP hc) rfl rfl hl.1 rfl (lv_room (Nat.le_of_ble_eq_true rfl)) dX7_debtIn_2 ⟨Nat.zero_le _, Nat.zero_le _⟩
  refine cx_go hrun hS (fun H locs hP hS => ?_)
  refine lv_iconst (v := (2 : Int32)) E.1 E.2.1 dX7_debtIn_5 (by decide) ?_
  refine lv_idiv E.1 E.2.1 dX7_debtIn_6 (by decide) ?_
  exact ck_iret E hr hlocks hP hS hF dX7_debtIn_7
/-! DebtFerry$Banker.said()I -/
def c7_said (i : Nat)  (z0 : CZ) : Option (Int32 × CZ) :=
  gd (decide (i < cz_np z0)) (gd (decide (cz_k z0 i = 2)) ((c5_tracedBy i (3 : Int32) z0).bind (fun r2 => gd (decide (i < cz_np r2.2)) (gd (decide (cz_k r2.2 i = 2)) ((c6_said i  r2.2).bind (fun r6 => gd (decide (i < cz_np r6.2)) (gd (decide (cz_k r6.2 i = 2)) ((c6_plainly i  r6.2).bind (fun r11 => some (((r2.1 + r6.1) + r11.1), r11.2))))))))))
abbrev rmX7_said : Room := { frames := 5, cells := 0, slots := 0, locals := 97 }
set_option maxHeartbeats 4000000 in
set_option maxRecDepth 100000 in
theorem mm_X7_said (l : Launch) {D : va_G} {K : Nat → ClassId} {s0 : State} {a0 : Array Value} {B : Nat → Nat} {ad : CA} {A : Nat → Prop} (hT : ∀ w ∈ lw_tbl, w.before a0 s0 = true) (hD : ∀ z, va_D A (cW K B ad z)) (i : Nat)  (z0 : CZ) (res : Int32 × CZ) (hF : c7_said i  z0 = some res) : Met l yX7_said (ws_ yX7_said cX7_said 1 (some .int)) rmX7_said (cPc D K s0 B ad z0 [.ref (ad.2.1 (100 + i))]) (cQ D K B ad A (some (.int res.1)) res.2) 0 0 A := by
  refine ck_start (A := A) RX7 (by decide) rfl (Nat.le_of_ble_eq_true rfl) ?_
  intro p e s m args below meth c H locs ls E hr hlocks hK hN hP hS hl
  have hl : lv_has ls 1 [(0, .ref (ad.2.1 (100 + i)))] := hl
  unfold c7_said at hF
  refine lv_aload_n E.1 E.2.1 dX7_said_0 rfl (lv_at hl 0 rfl) ?_
  refine lv_iconst (v := (3 : Int32)) E.1 E.2.1 dX7_said_1 (by decide) ?_
  obtain ⟨h2, hF⟩ := gd_some hF
  have h2 : i < cz_np z0 := of_decide_eq_true h2
  obtain ⟨g2, hF⟩ := gd_some hF
  have g2 : cz_k z0 i = 2 := of_decide_eq_true g2
  obtain ⟨r2, hq2, hF⟩ := bnd hF
  have hrun : va_Run p l e rmX7_said s m args below meth c H locs 0 0 0 0 (F0 m 2 ls [.int (3 : Int32), .ref (ad.2.1 (100 + i))]) [] (cQ D K B ad A (some (.int r2.1)) r2.2 (Value.ref (ad.2.1 (100 + i)) :: [.int (3 : Int32)]).toArray) A := by
    rcases rd_recv hK hP h2 with ⟨hk, hc⟩ | ⟨hk, hc⟩ | ⟨hk, hc⟩
    · exact absurd hk (by rw [g2]; decide)
    · exact absurd hk (by rw [g2]; decide)
    · exact va_runU (As := [.int (3 : Int32)]) (rest := []) E (mm_X5_tracedBy l hT hD i (3 : Int32) z0 _ (hq2)) (va_cwU (owner := "DebtFerry$Rider") 1 E.2.2.2.2 (lw_U q998 q999 q1001 q1002 q77 q1003) rfl rfl rfl rfl (by decide +kernel) ⟨Nat.le_of_ble_eq_true rfl, Nat.le_of_ble_eq_true rfl⟩) (ck_pre hK hN hP hc) rfl rfl hl.1 rfl (lv_room (Nat.le_of_ble_eq_true rfl)) dX7_said_2 ⟨Nat.zero_le _, Nat.zero_le _⟩
  refine cx_go hrun hS (fun H locs hP hS => ?_)
  refine lv_aload_n E.1 E.2.1 dX7_said_5 rfl (lv_at hl 0 rfl) ?_
  obtain ⟨h6, hF⟩ := gd_some hF
  have h6 : i < cz_np r2.2 := of_decide_eq_true h6
  obtain ⟨g6, hF⟩ := gd_some hF
  have g6 : cz_k r2.2 i = 2 := of_decide_eq_true g6
  obtain ⟨r6, hq6, hF⟩ := bnd hF
  have hrun : va_Run p l e rmX7_said s m args below meth c H locs 0 0 0 0 (F0 m 6 ls [.ref (ad.2.1 (100 + i)), .int r2.1]) [.int r2.1] (cQ D K B ad A (some (.int r6.1)) r6.2 (Value.ref (ad.2.1 (100 + i)) :: []).toArray) A := by
    rcases rd_recv hK hP h6 with ⟨hk, hc⟩ | ⟨hk, hc⟩ | ⟨hk, hc⟩
    · exact absurd hk (by rw [g6]; decide)
    · exact absurd hk (by rw [g6]; decide)
    · exact va_runSU (As := []) (rest := [.int r2.1]) (hK.1 5 (RX7, TX7, 5) rfl).2 E (mm_X6_said l hT hD i  r2.2 _ (hq6)) (va_cwSU 0 E.2.2.2.2 (lw_SU q1004 q1429 q529 q1005 q78 q1006) rfl rfl rfl (by decide +kernel) ⟨Nat.le_of_ble_eq_true rfl, Nat.le_of_ble_eq_true rfl⟩) (ck_pre hK hN hP hc) rfl rfl hl.1 rfl (lv_room (Nat.le_of_ble_eq_true rfl)) dX7_said_6 ⟨Nat.zero_le _, Nat.zero_le _⟩
  refine cx_go hrun hS (fun H locs hP hS => ?_)
  refine lv_iadd E.1 E.2.1 dX7_said_9 ?_
  refine lv_aload_n E.1 E.2.1 dX7_said_10 rfl (lv_at hl 0 rfl) ?_
  obtain ⟨h11, hF⟩ := gd_some hF
  have h11 : i < cz_np r6.2 := of_decide_eq_true h11
  obtain ⟨g11, hF⟩ := gd_some hF
  have g11 : cz_k r6.2 i = 2 := of_decide_eq_true g11
  obtain ⟨r11, hq11, hF⟩ := bnd hF
  have hrun : va_Run p l e rmX7_said s m args below meth c H locs 0 0 0 0 (F0 m 11 ls [.ref (ad.2.1 (100 + i)), .int (r2.1 + r6.1)]) [.int (r2.1 + r6.1)] (cQ D K B ad A (some (.int r11.1)) r11.2 (Value.ref (ad.2.1 (100 + i)) :: []).toArray) A := by
    rcases rd_recv hK hP h11 with ⟨hk, hc⟩ | ⟨hk, hc⟩ | ⟨hk, hc⟩
    · exact absurd hk (by rw [g11]; decide)
    · exact absurd hk (by rw [g11]; decide)
    · exact va_runU (As := []) (rest := [.int (r2.1 + r6.1)]) E (mm_X6_plainly l hT hD i  r6.2 _ (hq11)) (va_cwU (owner := "DebtFerry$Friend") 0 E.2.2.2.2 (lw_U q1012 q1013 q1015 q1016 q78 q1017) rfl rfl rfl rfl (by decide +kernel) ⟨Nat.le_of_ble_eq_true rfl, Nat.le_of_ble_eq_true rfl⟩) (ck_pre hK hN hP hc) rfl rfl hl.1 rfl (lv_room (Nat.le_of_ble_eq_true rfl)) dX7_said_11 ⟨Nat.zero_le _, Nat.zero_le _⟩
  refine cx_go hrun hS (fun H locs hP hS => ?_)
  refine lv_iadd E.1 E.2.1 dX7_said_14 ?_
  exact ck_iret E hr hlocks hP hS hF dX7_said_15
/-! DebtFerry$Banker.hailed()I -/
def c7_hailed (i : Nat)  (z0 : CZ) : Option (Int32 × CZ) :=
  gd (decide (i < cz_np z0)) (gd (decide (cz_k z0 i = 2)) ((c5_tracedBy i (5 : Int32) z0).bind (fun r2 => some ((r2.1 + (40 : Int32)), r2.2))))
abbrev rmX7_hailed : Room := { frames := 2, cells := 0, slots := 0, locals := 33 }
set_option maxHeartbeats 4000000 in
set_option maxRecDepth 100000 in
theorem mm_X7_hailed (l : Launch) {D : va_G} {K : Nat → ClassId} {s0 : State} {a0 : Array Value} {B : Nat → Nat} {ad : CA} {A : Nat → Prop} (hT : ∀ w ∈ lw_tbl, w.before a0 s0 = true) (hD : ∀ z, va_D A (cW K B ad z)) (i : Nat)  (z0 : CZ) (res : Int32 × CZ) (hF : c7_hailed i  z0 = some res) : Met l yX7_hailed (ws_ yX7_hailed cX7_hailed 1 (some .int)) rmX7_hailed (cPc D K s0 B ad z0 [.ref (ad.2.1 (100 + i))]) (cQ D K B ad A (some (.int res.1)) res.2) 0 0 A := by
  refine ck_start (A := A) RX7 (by decide) rfl (Nat.le_of_ble_eq_true rfl) ?_
  intro p e s m args below meth c H locs ls E hr hlocks hK hN hP hS hl
  have hl : lv_has ls 1 [(0, .ref (ad.2.1 (100 + i)))] := hl
  unfold c7_hailed at hF
  refine lv_aload_n E.1 E.2.1 dX7_hailed_0 rfl (lv_at hl 0 rfl) ?_
  refine lv_iconst (v := (5 : Int32)) E.1 E.2.1 dX7_hailed_1 (by decide) ?_
  obtain ⟨h2, hF⟩ := gd_some hF
  have h2 : i < cz_np z0 := of_decide_eq_true h2
  obtain ⟨g2, hF⟩ := gd_some hF
  have g2 : cz_k z0 i = 2 := of_decide_eq_true g2
  obtain ⟨r2, hq2, hF⟩ := bnd hF
  have hrun : va_Run p l e rmX7_hailed s m args below meth c H locs 0 0 0 0 (F0 m 2 ls [.int (5 : Int32), .ref (ad.2.1 (100 + i))]) [] (cQ D K B ad A (some (.int r2.1)) r2.2 (Value.ref (ad.2.1 (100 + i)) :: [.int (5 : Int32)]).toArray) A := by
    rcases rd_recv hK hP h2 with ⟨hk, hc⟩ | ⟨hk, hc⟩ | ⟨hk, hc⟩
    · exact absurd hk (by rw [g2]; decide)
    · exact absurd hk (by rw [g2]; decide)
    · exact va_runU (As := [.int (5 : Int32)]) (rest := []) E (mm_X5_tracedBy l hT hD i (5 : Int32) z0 _ (hq2)) (va_cwU (owner := "DebtFerry$Rider") 1 E.2.2.2.2 (lw_U q998 q999 q1001 q1002 q77 q1003) rfl rfl rfl rfl (by decide +kernel) ⟨Nat.le_of_ble_eq_true rfl, Nat.le_of_ble_eq_true rfl⟩) (ck_pre hK hN hP hc) rfl rfl hl.1 rfl (lv_room (Nat.le_of_ble_eq_true rfl)) dX7_hailed_2 ⟨Nat.zero_le _, Nat.zero_le _⟩
  refine cx_go hrun hS (fun H locs hP hS => ?_)
  refine lv_bipush (v := (40 : Int32)) E.1 E.2.1 dX7_hailed_5 (by decide) ?_
  refine lv_iadd E.1 E.2.1 dX7_hailed_7 ?_
  exact ck_iret E hr hlocks hP hS hF dX7_hailed_8
