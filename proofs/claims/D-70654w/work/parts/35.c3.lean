/-! DebtFerry.pulling(I)I -/
def c_pulling_L7 (x1 : Int32) : Nat → Int32 → Int32 → Int32 → CZ → Option (Int32 × CZ)
  | 0, _, _, _, _ => none
  | n + 1, y7_2, y7_3, y7_4, z7 =>
    if (nI (cz_np z7)) ≤ y7_4 then some (y7_3, z7) else (c_isIn x1 y7_4).bind (fun r24 => jn (fun (v52_0 : Int32) (z52 : CZ) => jn (fun (v83_0 : Int32) (z83 : CZ) => c_pulling_L7 x1 n (if y7_2 < v52_0 then v52_0 else y7_2) v83_0 (y7_4 + 1) z83) (fun (k83 : Int32 → CZ → Option (Int32 × CZ)) => if v52_0 ≤ y7_2 then if v52_0 = y7_2 then k83 (y7_3 ||| ((1 : Int32) <<< (y7_4 &&& 31))) z52 else k83 y7_3 z52 else k83 ((1 : Int32) <<< (y7_4 &&& 31)) z52)) (fun (k52 : Int32 → CZ → Option (Int32 × CZ)) => if r24 = 0 then k52 (0 : Int32) z7 else gd (inb y7_4 (cz_np z7)) (gd (decide (y7_4.toNatClampNeg < cz_np z7)) (gd (decide (y7_4.toNatClampNeg < cz_np z7)) ((if cz_k z7 y7_4.toNatClampNeg = 0 then c5_debtIn y7_4.toNatClampNeg x1 z7 else if cz_k z7 y7_4.toNatClampNeg = 1 then c6_debtIn y7_4.toNatClampNeg x1 z7 else c7_debtIn y7_4.toNatClampNeg x1 z7).bind (fun r45 => k52 r45.1 r45.2))))))
def c_pulling (x1 : Int32) (z0 : CZ) : Option (Int32 × CZ) :=
  c_pulling_L7 x1 FU (1 : Int32) (0 : Int32) (0 : Int32) z0
abbrev rmX0_pulling : Room := { frames := 5, cells := 0, slots := 0, locals := 99 }
set_option maxHeartbeats 4000000 in
set_option maxRecDepth 100000 in
theorem mm_X0_pulling (l : Launch) {D : va_G} {K : Nat → ClassId} {s0 : State} {a0 : Array Value} {B : Nat → Nat} {ad : CA} {A : Nat → Prop} (hT : ∀ w ∈ lw_tbl, w.before a0 s0 = true) (hD : ∀ z, va_D A (cW K B ad z)) (x1 : Int32) (z0 : CZ) (res : Int32 × CZ) (hF : c_pulling x1 z0 = some res) : Met l yX0_pulling (ws_ yX0_pulling cX0_pulling 6 (some .int)) rmX0_pulling (cPc D K s0 B ad z0 [.ref (B 0), .int x1]) (cQ D K B ad A (some (.int res.1)) res.2) 0 0 A := by
  refine ck_start (A := A) RX0 (by decide) rfl (Nat.le_of_ble_eq_true rfl) ?_
  intro p e s m args below meth c H locs ls E hr hlocks hK hN hP hS hl
  have hl : lv_has ls 6 [(0, .ref (B 0)), (1, .int x1)] := hl
  unfold c_pulling at hF
  refine lv_iconst (v := (1 : Int32)) E.1 E.2.1 dX0_pulling_0 (by decide) ?_
  refine lv_istore_n (lv' := [(2, .int (1 : Int32)), (0, .ref (B 0)), (1, .int x1)]) E.1 E.2.1 dX0_pulling_1 rfl hl (by decide) rfl (fun ls hl => ?_)
  refine lv_iconst (v := (0 : Int32)) E.1 E.2.1 dX0_pulling_2 (by decide) ?_
  refine lv_istore_n (lv' := [(3, .int (0 : Int32)), (2, .int (1 : Int32)), (0, .ref (B 0)), (1, .int x1)]) E.1 E.2.1 dX0_pulling_3 rfl hl (by decide) rfl (fun ls hl => ?_)
  refine lv_iconst (v := (0 : Int32)) E.1 E.2.1 dX0_pulling_4 (by decide) ?_
  refine lv_istore (lv' := [(4, .int (0 : Int32)), (3, .int (0 : Int32)), (2, .int (1 : Int32)), (0, .ref (B 0)), (1, .int x1)]) E.1 E.2.1 dX0_pulling_5 hl (by decide) rfl (fun ls hl => ?_)
  have L7 : ∀ (n : Nat) (y7_2 : Int32) (y7_3 : Int32) (y7_4 : Int32) (z7 : CZ) (H : Heap) (locs : List Loc) (ls : Array Slot), c_pulling_L7 x1 n y7_2 y7_3 y7_4 z7 = some res → cP D K B ad z7 H → va_S A s.heap H locs → lv_has ls 6 [(0, .ref (B 0)), (1, .int x1), (2, .int y7_2), (3, .int y7_3), (4, .int y7_4)] → W p l e rmX0_pulling s m args below meth c H locs 0 0 (MQ below (cQ D K B ad A (some (.int res.1)) res.2) args s 0 0 A) (F0 m 7 ls []) := by
    intro n
    induction n with
    | zero =>
      intro y7_2 y7_3 y7_4 z7 H locs ls hF
      rw [c_pulling_L7] at hF
      cases hF
    | succ n ih =>
      intro y7_2 y7_3 y7_4 z7 H locs ls hF hP hS hl
      rw [c_pulling_L7] at hF
      refine lv_iload E.1 E.2.1 dX0_pulling_7 (lv_at hl 4 rfl) ?_
      refine lv_aload_n E.1 E.2.1 dX0_pulling_9 rfl (lv_at hl 0 rfl) ?_
      refine ck_get E hK hP 4 (by decide) q130 rfl (v := .ref (B 4)) rfl dX0_pulling_10 ?_
      refine ck_size E hT hN hK hP (q0 := 5) (j := 4) (n := cz_np z7) rfl q168 hl (Nat.le_of_ble_eq_true rfl) ⟨Nat.le_of_ble_eq_true rfl, Nat.le_of_ble_eq_true rfl⟩ ⟨Nat.zero_le _, Nat.zero_le _⟩ dX0_pulling_13 ?_
      refine lv_icmp_ge (tgt := 97) E.1 E.2.1 dX0_pulling_18 (by decide) (fun h => ?_) (fun h => ?_)
      · have hF := ite_t h hF
        refine lv_iload_n E.1 E.2.1 dX0_pulling_97 rfl (lv_at hl 3 rfl) ?_
        exact ck_iret E hr hlocks hP hS hF dX0_pulling_98
      · have hF := ite_f h hF
        refine lv_iload_n E.1 E.2.1 dX0_pulling_21 rfl (lv_at hl 1 rfl) ?_
        refine lv_iload E.1 E.2.1 dX0_pulling_22 (lv_at hl 4 rfl) ?_
        obtain ⟨r24, hq24, hF⟩ := bnd hF
        refine px_call (As := [.int x1, .int y7_4]) (rest := []) (v := .int r24) E (mm_X0_isIn l x1 y7_4 _ hq24) (va_cwS 2 E.2.2.2.2 (lw_S q266 q267 q54 q268) rfl rfl rfl (by decide +kernel) ⟨Nat.le_of_ble_eq_true rfl, Nat.le_of_ble_eq_true rfl⟩) hl rfl rfl (Nat.le_of_ble_eq_true rfl) ⟨Nat.zero_le _, Nat.zero_le _⟩ dX0_pulling_24 ?_
        obtain ⟨k52, hk52, hF⟩ := jn_split hF
        have J52 : ∀ (v52_0 : Int32) (z52 : CZ) (H : Heap) (locs : List Loc) (ls : Array Slot), k52 v52_0 z52 = some res → cP D K B ad z52 H → va_S A s.heap H locs → lv_has ls 6 [(0, .ref (B 0)), (1, .int x1), (2, .int y7_2), (3, .int y7_3), (4, .int y7_4)] → W p l e rmX0_pulling s m args below meth c H locs 0 0 (MQ below (cQ D K B ad A (some (.int res.1)) res.2) args s 0 0 A) (F0 m 52 ls [.int v52_0]) := by
          intro v52_0 z52 H locs ls hF hP hS hl
          rw [hk52] at hF
          refine lv_istore (lv' := [(5, .int v52_0), (0, .ref (B 0)), (1, .int x1), (2, .int y7_2), (3, .int y7_3), (4, .int y7_4)]) E.1 E.2.1 dX0_pulling_52 hl (by decide) rfl (fun ls hl => ?_)
          refine lv_iload E.1 E.2.1 dX0_pulling_54 (lv_at hl 0 rfl) ?_
          refine lv_iload_n E.1 E.2.1 dX0_pulling_56 rfl (lv_at hl 3 rfl) ?_
          obtain ⟨k83, hk83, hF⟩ := jn_split hF
          have J83 : ∀ (v83_0 : Int32) (z83 : CZ) (H : Heap) (locs : List Loc) (ls : Array Slot), k83 v83_0 z83 = some res → cP D K B ad z83 H → va_S A s.heap H locs → lv_has ls 6 [(0, .ref (B 0)), (1, .int x1), (2, .int y7_2), (4, .int y7_4), (5, .int v52_0)] → W p l e rmX0_pulling s m args below meth c H locs 0 0 (MQ below (cQ D K B ad A (some (.int res.1)) res.2) args s 0 0 A) (F0 m 83 ls [.int v83_0]) := by
            intro v83_0 z83 H locs ls hF hP hS hl
            rw [hk83] at hF
            refine lv_istore_n (lv' := [(3, .int v83_0), (0, .ref (B 0)), (1, .int x1), (2, .int y7_2), (4, .int y7_4), (5, .int v52_0)]) E.1 E.2.1 dX0_pulling_83 rfl hl (by decide) rfl (fun ls hl => ?_)
            refine lv_iload_n E.1 E.2.1 dX0_pulling_84 rfl (lv_at hl 3 rfl) ?_
            refine lv_iload E.1 E.2.1 dX0_pulling_85 (lv_at hl 5 rfl) ?_
            refine va_mmax E.1 E.2.1 (E.2.2.1.trans hl.1.symm) E.2.2.2.1 (E.2.2.2.2 _ q304) (E.2.2.2.2 _ q289) (E.2.2.2.2 _ q73) (E.2.2.2.2 _ q290) (Nat.le_of_ble_eq_true rfl) (Nat.le_of_ble_eq_true rfl) (Nat.zero_le _) (Nat.zero_le _) dX0_pulling_87 ?_
            refine lv_istore_n (lv' := [(2, .int (if y7_2 < v52_0 then v52_0 else y7_2)), (3, .int v83_0), (0, .ref (B 0)), (1, .int x1), (4, .int y7_4), (5, .int v52_0)]) E.1 E.2.1 dX0_pulling_90 rfl hl (by decide) rfl (fun ls hl => ?_)
            refine lv_iinc (v := y7_4 + 1) (lv' := [(4, .int (y7_4 + 1)), (2, .int (if y7_2 < v52_0 then v52_0 else y7_2)), (3, .int v83_0), (0, .ref (B 0)), (1, .int x1), (5, .int v52_0)]) E.1 E.2.1 dX0_pulling_91 hl (k := 4) rfl rfl (by decide) rfl (fun ls hl => ?_)
            refine lv_goto (tgt := 7) E.1 E.2.1 dX0_pulling_94 (by decide) ?_
            exact ih (if y7_2 < v52_0 then v52_0 else y7_2) v83_0 (y7_4 + 1) z83 H locs ls hF hP hS (lv_sub hl [3, 4, 1, 2, 0] rfl)
          refine lv_icmp_le (tgt := 67) E.1 E.2.1 dX0_pulling_57 (by decide) (fun h => ?_) (fun h => ?_)
          · have hF := ite_t h hF
            refine lv_iload E.1 E.2.1 dX0_pulling_67 (lv_at hl 0 rfl) ?_
            refine lv_iload_n E.1 E.2.1 dX0_pulling_69 rfl (lv_at hl 3 rfl) ?_
            refine lv_icmp_ne (tgt := 82) E.1 E.2.1 dX0_pulling_70 (by decide) (fun h => ?_) (fun h => ?_)
            · have hF := ite_f h hF
              refine lv_iload_n E.1 E.2.1 dX0_pulling_82 rfl (lv_at hl 4 rfl) ?_
              exact J83 y7_3 z52 H locs ls hF hP hS (lv_sub hl [1, 2, 3, 5, 0] rfl)
            · have hF := ite_t h hF
              refine lv_iload_n E.1 E.2.1 dX0_pulling_73 rfl (lv_at hl 4 rfl) ?_
              refine lv_iconst (v := (1 : Int32)) E.1 E.2.1 dX0_pulling_74 (by decide) ?_
              refine lv_iload E.1 E.2.1 dX0_pulling_75 (lv_at hl 5 rfl) ?_
              refine lv_ishl E.1 E.2.1 dX0_pulling_77 ?_
              refine lv_ior E.1 E.2.1 dX0_pulling_78 ?_
              refine lv_goto (tgt := 83) E.1 E.2.1 dX0_pulling_79 (by decide) ?_
              exact J83 (y7_3 ||| ((1 : Int32) <<< (y7_4 &&& 31))) z52 H locs ls hF hP hS (lv_sub hl [1, 2, 3, 5, 0] rfl)
          · have hF := ite_f h hF
            refine lv_iconst (v := (1 : Int32)) E.1 E.2.1 dX0_pulling_60 (by decide) ?_
            refine lv_iload E.1 E.2.1 dX0_pulling_61 (lv_at hl 5 rfl) ?_
            refine lv_ishl E.1 E.2.1 dX0_pulling_63 ?_
            refine lv_goto (tgt := 83) E.1 E.2.1 dX0_pulling_64 (by decide) ?_
            exact J83 ((1 : Int32) <<< (y7_4 &&& 31)) z52 H locs ls hF hP hS (lv_sub hl [1, 2, 3, 5, 0] rfl)
        refine lv_if_eq (tgt := 51) E.1 E.2.1 dX0_pulling_27 (by decide) (fun h => ?_) (fun h => ?_)
        · have hF := ite_t h hF
          refine lv_iconst (v := (0 : Int32)) E.1 E.2.1 dX0_pulling_51 (by decide) ?_
          exact J52 (0 : Int32) z7 H locs ls hF hP hS (lv_sub hl [0, 1, 2, 3, 4] rfl)
        · have hF := ite_f h hF
          refine lv_aload_n E.1 E.2.1 dX0_pulling_30 rfl (lv_at hl 0 rfl) ?_
          refine ck_get E hK hP 4 (by decide) q130 rfl (v := .ref (B 4)) rfl dX0_pulling_31 ?_
          refine lv_iload E.1 E.2.1 dX0_pulling_34 (lv_at hl 4 rfl) ?_
          obtain ⟨h36, hF⟩ := gd_some hF
          refine ck_lget E hT hN hK hP (q0 := 5) (j := 4) (n := cz_np z7) (o := 100) rfl hP.2.1.1 hP.2.2.1 h36 q181 hl (Nat.le_of_ble_eq_true rfl) ⟨Nat.le_of_ble_eq_true rfl, Nat.le_of_ble_eq_true rfl⟩ ⟨Nat.zero_le _, Nat.zero_le _⟩ dX0_pulling_36 ?_
          obtain ⟨h41, hF⟩ := gd_some hF
          have h41 : y7_4.toNatClampNeg < cz_np z7 := of_decide_eq_true h41
          refine ck_castR E hT hN hK hP h41 q199 dX0_pulling_41 ?_
          refine lv_iload_n E.1 E.2.1 dX0_pulling_44 rfl (lv_at hl 1 rfl) ?_
          obtain ⟨h45, hF⟩ := gd_some hF
          have h45 : y7_4.toNatClampNeg < cz_np z7 := of_decide_eq_true h45
          obtain ⟨r45, hq45, hF⟩ := bnd hF
          have hrun : va_Run p l e rmX0_pulling s m args below meth c H locs 0 0 0 0 (F0 m 45 ls [.int x1, .ref (ad.2.1 (100 + y7_4.toNatClampNeg))]) [] (cQ D K B ad A (some (.int r45.1)) r45.2 (Value.ref (ad.2.1 (100 + y7_4.toNatClampNeg)) :: [.int x1]).toArray) A := by
            rcases rd_recv hK hP h45 with ⟨hk, hc⟩ | ⟨hk, hc⟩ | ⟨hk, hc⟩
            · exact va_runV (As := [.int x1]) (rest := []) E (mm_X5_debtIn l hT hD y7_4.toNatClampNeg x1 z7 _ (ite_t hk hq45)) (cwV 1 E.2.2.2.2 (lw_V q269 q270 q271 q77 q291) rfl rfl rfl (by decide +kernel) ⟨Nat.le_of_ble_eq_true rfl, Nat.le_of_ble_eq_true rfl⟩) (ck_pre hK hN hP hc) rfl rfl hl.1 rfl (lv_room (Nat.le_of_ble_eq_true rfl)) dX0_pulling_45 ⟨Nat.zero_le _, Nat.zero_le _⟩
            · exact va_runU (As := [.int x1]) (rest := []) E (mm_X6_debtIn l hT hD y7_4.toNatClampNeg x1 z7 _ (ite_t hk (ite_f (by rw [hk]; decide) hq45))) (va_cwO (owner := "DebtFerry$Rider") 1 E.2.2.2.2 (lw_O q269 q272 q270 q284 q285 q78 q286) rfl rfl rfl q291 (by decide +kernel) ⟨Nat.le_of_ble_eq_true rfl, Nat.le_of_ble_eq_true rfl⟩) (ck_pre hK hN hP hc) rfl rfl hl.1 rfl (lv_room (Nat.le_of_ble_eq_true rfl)) dX0_pulling_45 ⟨Nat.zero_le _, Nat.zero_le _⟩
            · exact va_runU (As := [.int x1]) (rest := []) E (mm_X7_debtIn l hT hD y7_4.toNatClampNeg x1 z7 _ (ite_f (by rw [hk]; decide) (ite_f (by rw [hk]; decide) hq45))) (va_cwO (owner := "DebtFerry$Rider") 1 E.2.2.2.2 (lw_O q269 q272 q270 q273 q274 q79 q275) rfl rfl rfl q291 (by decide +kernel) ⟨Nat.le_of_ble_eq_true rfl, Nat.le_of_ble_eq_true rfl⟩) (ck_pre hK hN hP hc) rfl rfl hl.1 rfl (lv_room (Nat.le_of_ble_eq_true rfl)) dX0_pulling_45 ⟨Nat.zero_le _, Nat.zero_le _⟩
          refine cx_go hrun hS (fun H locs hP hS => ?_)
          refine lv_goto (tgt := 52) E.1 E.2.1 dX0_pulling_48 (by decide) ?_
          exact J52 r45.1 r45.2 H locs ls hF hP hS (lv_sub hl [0, 1, 2, 3, 4] rfl)
  exact L7 FU (1 : Int32) (0 : Int32) (0 : Int32) z0 H locs ls hF hP hS (lv_sub hl [3, 4, 2, 1, 0] rfl)
/-! DebtFerry.isFair(I)Z -/
def c_isFair (x1 : Int32) (z0 : CZ) : Option (Int32 × CZ) :=
  (c_pulling x1 z0).bind (fun r2 => (j16_bitCount x1).bind (fun r7 => if (r2.2.1 1) < r7 then (zr (0 : Int32)).bind (fun r => some (r, r2.2)) else (j16_bitCount r2.1).bind (fun r18 => if r18 = (1 : Int32) then (j16_numberOfTrailingZeros r2.1).bind (fun r30 => gd (inb r30 (cz_np r2.2)) (gd (decide (r30.toNatClampNeg < cz_np r2.2)) (gd (decide (r30.toNatClampNeg < cz_np r2.2)) (if (cz_l r2.2 r30.toNatClampNeg) = 0 then (zr (1 : Int32)).bind (fun r => some (r, r2.2)) else (zr (0 : Int32)).bind (fun r => some (r, r2.2)))))) else (zr (0 : Int32)).bind (fun r => some (r, r2.2)))))
abbrev rmX0_isFair : Room := { frames := 6, cells := 0, slots := 0, locals := 124 }
set_option maxHeartbeats 4000000 in
set_option maxRecDepth 100000 in
theorem mm_X0_isFair (l : Launch) {D : va_G} {K : Nat → ClassId} {s0 : State} {a0 : Array Value} {B : Nat → Nat} {ad : CA} {A : Nat → Prop} (hT : ∀ w ∈ lw_tbl, w.before a0 s0 = true) (hD : ∀ z, va_D A (cW K B ad z)) (x1 : Int32) (z0 : CZ) (res : Int32 × CZ) (hF : c_isFair x1 z0 = some res) : Met l yX0_isFair (ws_ yX0_isFair cX0_isFair 3 (some .boolean)) rmX0_isFair (cPc D K s0 B ad z0 [.ref (B 0), .int x1]) (cQ D K B ad A (some (.int res.1)) res.2) 0 0 A := by
  refine ck_start (A := A) RX0 (by decide) rfl (Nat.le_of_ble_eq_true rfl) ?_
  intro p e s m args below meth c H locs ls E hr hlocks hK hN hP hS hl
  have hl : lv_has ls 3 [(0, .ref (B 0)), (1, .int x1)] := hl
  unfold c_isFair at hF
  refine lv_aload_n E.1 E.2.1 dX0_isFair_0 rfl (lv_at hl 0 rfl) ?_
  refine lv_iload_n E.1 E.2.1 dX0_isFair_1 rfl (lv_at hl 1 rfl) ?_
  obtain ⟨r2, hq2, hF⟩ := bnd hF
  refine cx_go (va_runV (As := [.int x1]) (rest := []) E (mm_X0_pulling l hT hD x1 z0 _ hq2) (cwV 1 E.2.2.2.2 (lw_V q300 q302 qs7 q54 q303) rfl rfl rfl (by decide +kernel) ⟨Nat.le_of_ble_eq_true rfl, Nat.le_of_ble_eq_true rfl⟩) (ck_pre hK hN hP (ck_me hK hP)) rfl rfl hl.1 rfl (lv_room (Nat.le_of_ble_eq_true rfl)) dX0_isFair_2 ⟨Nat.zero_le _, Nat.zero_le _⟩) hS (fun H locs hP hS => ?_)
  refine lv_istore_n (lv' := [(2, .int r2.1), (0, .ref (B 0)), (1, .int x1)]) E.1 E.2.1 dX0_isFair_5 rfl hl (by decide) rfl (fun ls hl => ?_)
  refine lv_iload_n E.1 E.2.1 dX0_isFair_6 rfl (lv_at hl 2 rfl) ?_
  obtain ⟨r7, hq7, hF⟩ := bnd hF
  refine px_call (As := [.int x1]) (rest := []) (v := .int r7) E (mm_J16_bitCount l x1 _ hq7) (va_cwS 1 E.2.2.2.2 (lw_S q313 q314 q76 q315) rfl rfl rfl (by decide +kernel) ⟨Nat.le_of_ble_eq_true rfl, Nat.le_of_ble_eq_true rfl⟩) hl rfl rfl (Nat.le_of_ble_eq_true rfl) ⟨Nat.zero_le _, Nat.zero_le _⟩ dX0_isFair_7 ?_
  refine lv_aload_n E.1 E.2.1 dX0_isFair_10 rfl (lv_at hl 1 rfl) ?_
  refine ck_get E hK hP 1 (by decide) q126 rfl (v := .int (r2.2.1 1)) rfl dX0_isFair_11 ?_
  refine lv_icmp_gt (tgt := 51) E.1 E.2.1 dX0_isFair_14 (by decide) (fun h => ?_) (fun h => ?_)
  · have hF := ite_t h hF
    refine lv_iconst (v := (0 : Int32)) E.1 E.2.1 dX0_isFair_51 (by decide) ?_
    exact ck_zret E hr hlocks hP hS hF dX0_isFair_52
  · have hF := ite_f h hF
    refine lv_iload_n E.1 E.2.1 dX0_isFair_17 rfl (lv_at hl 0 rfl) ?_
    obtain ⟨r18, hq18, hF⟩ := bnd hF
    refine px_call (As := [.int r2.1]) (rest := []) (v := .int r18) E (mm_J16_bitCount l r2.1 _ hq18) (va_cwS 1 E.2.2.2.2 (lw_S q313 q314 q76 q315) rfl rfl rfl (by decide +kernel) ⟨Nat.le_of_ble_eq_true rfl, Nat.le_of_ble_eq_true rfl⟩) hl rfl rfl (Nat.le_of_ble_eq_true rfl) ⟨Nat.zero_le _, Nat.zero_le _⟩ dX0_isFair_18 ?_
    refine lv_iconst (v := (1 : Int32)) E.1 E.2.1 dX0_isFair_21 (by decide) ?_
    refine lv_icmp_ne (tgt := 51) E.1 E.2.1 dX0_isFair_22 (by decide) (fun h => ?_) (fun h => ?_)
    · have hF := ite_f h hF
      refine lv_iconst (v := (0 : Int32)) E.1 E.2.1 dX0_isFair_51 (by decide) ?_
      exact ck_zret E hr hlocks hP hS hF dX0_isFair_52
    · have hF := ite_t h hF
      refine lv_aload_n E.1 E.2.1 dX0_isFair_25 rfl (lv_at hl 1 rfl) ?_
      refine ck_get E hK hP 4 (by decide) q130 rfl (v := .ref (B 4)) rfl dX0_isFair_26 ?_
      refine lv_iload_n E.1 E.2.1 dX0_isFair_29 rfl (lv_at hl 0 rfl) ?_
      obtain ⟨r30, hq30, hF⟩ := bnd hF
      refine px_call (As := [.int r2.1]) (rest := [.ref (B 4)]) (v := .int r30) E (mm_J16_numberOfTrailingZeros l r2.1 _ hq30) (va_cwS 1 E.2.2.2.2 (lw_S q319 q320 q76 q321) rfl rfl rfl (by decide +kernel) ⟨Nat.le_of_ble_eq_true rfl, Nat.le_of_ble_eq_true rfl⟩) hl rfl rfl (Nat.le_of_ble_eq_true rfl) ⟨Nat.zero_le _, Nat.zero_le _⟩ dX0_isFair_30 ?_
      obtain ⟨h33, hF⟩ := gd_some hF
      refine ck_lget E hT hN hK hP (q0 := 5) (j := 4) (n := cz_np r2.2) (o := 100) rfl hP.2.1.1 hP.2.2.1 h33 q181 hl (Nat.le_of_ble_eq_true rfl) ⟨Nat.le_of_ble_eq_true rfl, Nat.le_of_ble_eq_true rfl⟩ ⟨Nat.zero_le _, Nat.zero_le _⟩ dX0_isFair_33 ?_
      obtain ⟨h38, hF⟩ := gd_some hF
      have h38 : r30.toNatClampNeg < cz_np r2.2 := of_decide_eq_true h38
      refine ck_castR E hT hN hK hP h38 q199 dX0_isFair_38 ?_
      obtain ⟨h41, hF⟩ := gd_some hF
      have h41 : r30.toNatClampNeg < cz_np r2.2 := of_decide_eq_true h41
      refine ck_rfld E hK hP h41 1 (v := .int (cz_l r2.2 r30.toNatClampNeg)) rfl q495 dX0_isFair_41 ?_
      refine lv_if_ne (tgt := 51) E.1 E.2.1 dX0_isFair_44 (by decide) (fun h => ?_) (fun h => ?_)
      · have hF := ite_f h hF
        refine lv_iconst (v := (0 : Int32)) E.1 E.2.1 dX0_isFair_51 (by decide) ?_
        exact ck_zret E hr hlocks hP hS hF dX0_isFair_52
      · have hF := ite_t h hF
        refine lv_iconst (v := (1 : Int32)) E.1 E.2.1 dX0_isFair_47 (by decide) ?_
        refine lv_goto (tgt := 52) E.1 E.2.1 dX0_isFair_48 (by decide) ?_
        exact ck_zret E hr hlocks hP hS hF dX0_isFair_52
/-! DebtFerry.debt(II)I -/
def c_debt (x1 : Int32) (x2 : Int32) (z0 : CZ) : Option (Int32 × CZ) :=
  (c_noPerson x1 z0).bind (fun r2 => if r2.1 = 0 then (c_isLoad x2 r2.2).bind (fun r12 => if r12.1 = 0 then some ((-2 : Int32), r12.2) else (c_isIn x2 x1).bind (fun r23 => if r23 = 0 then some ((-3 : Int32), r12.2) else gd (inb x1 (cz_np r12.2)) (gd (decide (x1.toNatClampNeg < cz_np r12.2)) (gd (decide (x1.toNatClampNeg < cz_np r12.2)) ((if cz_k r12.2 x1.toNatClampNeg = 0 then c5_debtIn x1.toNatClampNeg x2 r12.2 else if cz_k r12.2 x1.toNatClampNeg = 1 then c6_debtIn x1.toNatClampNeg x2 r12.2 else c7_debtIn x1.toNatClampNeg x2 r12.2).bind (fun r43 => some (r43.1, r43.2))))))) else some ((-1 : Int32), r2.2))
abbrev rmX0_debt : Room := { frames := 5, cells := 0, slots := 0, locals := 99 }
set_option maxHeartbeats 4000000 in
set_option maxRecDepth 100000 in
theorem mm_X0_debt (l : Launch) {D : va_G} {K : Nat → ClassId} {s0 : State} {a0 : Array Value} {B : Nat → Nat} {ad : CA} {A : Nat → Prop} (hT : ∀ w ∈ lw_tbl, w.before a0 s0 = true) (hD : ∀ z, va_D A (cW K B ad z)) (x1 : Int32) (x2 : Int32) (z0 : CZ) (res : Int32 × CZ) (hF : c_debt x1 x2 z0 = some res) : Met l yX0_debt (ws_ yX0_debt cX0_debt 3 (some .int)) rmX0_debt (cPc D K s0 B ad z0 [.ref (B 0), .int x1, .int x2]) (cQ D K B ad A (some (.int res.1)) res.2) 0 0 A := by
  refine ck_start (A := A) RX0 (by decide) rfl (Nat.le_of_ble_eq_true rfl) ?_
  intro p e s m args below meth c H locs ls E hr hlocks hK hN hP hS hl
  have hl : lv_has ls 3 [(0, .ref (B 0)), (1, .int x1), (2, .int x2)] := hl
  unfold c_debt at hF
  refine lv_aload_n E.1 E.2.1 dX0_debt_0 rfl (lv_at hl 0 rfl) ?_
  refine lv_iload_n E.1 E.2.1 dX0_debt_1 rfl (lv_at hl 1 rfl) ?_
  obtain ⟨r2, hq2, hF⟩ := bnd hF
  refine cx_go (va_runV (As := [.int x1]) (rest := []) E (mm_X0_noPerson l hT hD x1 z0 _ hq2) (cwV 1 E.2.2.2.2 (lw_V q163 q165 qs0 q54 q166) rfl rfl rfl (by decide +kernel) ⟨Nat.le_of_ble_eq_true rfl, Nat.le_of_ble_eq_true rfl⟩) (ck_pre hK hN hP (ck_me hK hP)) rfl rfl hl.1 rfl (lv_room (Nat.le_of_ble_eq_true rfl)) dX0_debt_2 ⟨Nat.zero_le _, Nat.zero_le _⟩) hS (fun H locs hP hS => ?_)
  refine lv_if_eq (tgt := 10) E.1 E.2.1 dX0_debt_5 (by decide) (fun h => ?_) (fun h => ?_)
  · have hF := ite_t h hF
    refine lv_aload_n E.1 E.2.1 dX0_debt_10 rfl (lv_at hl 0 rfl) ?_
    refine lv_iload_n E.1 E.2.1 dX0_debt_11 rfl (lv_at hl 2 rfl) ?_
    obtain ⟨r12, hq12, hF⟩ := bnd hF
    refine cx_go (va_runV (As := [.int x2]) (rest := []) E (mm_X0_isLoad l hT hD x2 r2.2 _ hq12) (cwV 1 E.2.2.2.2 (lw_V q258 q260 qs5 q54 q261) rfl rfl rfl (by decide +kernel) ⟨Nat.le_of_ble_eq_true rfl, Nat.le_of_ble_eq_true rfl⟩) (ck_pre hK hN hP (ck_me hK hP)) rfl rfl hl.1 rfl (lv_room (Nat.le_of_ble_eq_true rfl)) dX0_debt_12 ⟨Nat.zero_le _, Nat.zero_le _⟩) hS (fun H locs hP hS => ?_)
    refine lv_if_ne (tgt := 21) E.1 E.2.1 dX0_debt_15 (by decide) (fun h => ?_) (fun h => ?_)
    · have hF := ite_f h hF
      refine lv_iload_n E.1 E.2.1 dX0_debt_21 rfl (lv_at hl 2 rfl) ?_
      refine lv_iload_n E.1 E.2.1 dX0_debt_22 rfl (lv_at hl 1 rfl) ?_
      obtain ⟨r23, hq23, hF⟩ := bnd hF
      refine px_call (As := [.int x2, .int x1]) (rest := []) (v := .int r23) E (mm_X0_isIn l x2 x1 _ hq23) (va_cwS 2 E.2.2.2.2 (lw_S q266 q267 q54 q268) rfl rfl rfl (by decide +kernel) ⟨Nat.le_of_ble_eq_true rfl, Nat.le_of_ble_eq_true rfl⟩) hl rfl rfl (Nat.le_of_ble_eq_true rfl) ⟨Nat.zero_le _, Nat.zero_le _⟩ dX0_debt_23 ?_
      refine lv_if_eq (tgt := 49) E.1 E.2.1 dX0_debt_26 (by decide) (fun h => ?_) (fun h => ?_)
      · have hF := ite_t h hF
        refine lv_bipush (v := (-3 : Int32)) E.1 E.2.1 dX0_debt_49 (by decide) ?_
        exact ck_iret E hr hlocks hP hS hF dX0_debt_51
      · have hF := ite_f h hF
        refine lv_aload_n E.1 E.2.1 dX0_debt_29 rfl (lv_at hl 0 rfl) ?_
        refine ck_get E hK hP 4 (by decide) q130 rfl (v := .ref (B 4)) rfl dX0_debt_30 ?_
        refine lv_iload_n E.1 E.2.1 dX0_debt_33 rfl (lv_at hl 1 rfl) ?_
        obtain ⟨h34, hF⟩ := gd_some hF
        refine ck_lget E hT hN hK hP (q0 := 5) (j := 4) (n := cz_np r12.2) (o := 100) rfl hP.2.1.1 hP.2.2.1 h34 q181 hl (Nat.le_of_ble_eq_true rfl) ⟨Nat.le_of_ble_eq_true rfl, Nat.le_of_ble_eq_true rfl⟩ ⟨Nat.zero_le _, Nat.zero_le _⟩ dX0_debt_34 ?_
        obtain ⟨h39, hF⟩ := gd_some hF
        have h39 : x1.toNatClampNeg < cz_np r12.2 := of_decide_eq_true h39
        refine ck_castR E hT hN hK hP h39 q199 dX0_debt_39 ?_
        refine lv_iload_n E.1 E.2.1 dX0_debt_42 rfl (lv_at hl 2 rfl) ?_
        obtain ⟨h43, hF⟩ := gd_some hF
        have h43 : x1.toNatClampNeg < cz_np r12.2 := of_decide_eq_true h43
        obtain ⟨r43, hq43, hF⟩ := bnd hF
        have hrun : va_Run p l e rmX0_debt s m args below meth c H locs 0 0 0 0 (F0 m 43 ls [.int x2, .ref (ad.2.1 (100 + x1.toNatClampNeg))]) [] (cQ D K B ad A (some (.int r43.1)) r43.2 (Value.ref (ad.2.1 (100 + x1.toNatClampNeg)) :: [.int x2]).toArray) A := by
          rcases rd_recv hK hP h43 with ⟨hk, hc⟩ | ⟨hk, hc⟩ | ⟨hk, hc⟩
          · exact va_runV (As := [.int x2]) (rest := []) E (mm_X5_debtIn l hT hD x1.toNatClampNeg x2 r12.2 _ (ite_t hk hq43)) (cwV 1 E.2.2.2.2 (lw_V q269 q270 q271 q77 q291) rfl rfl rfl (by decide +kernel) ⟨Nat.le_of_ble_eq_true rfl, Nat.le_of_ble_eq_true rfl⟩) (ck_pre hK hN hP hc) rfl rfl hl.1 rfl (lv_room (Nat.le_of_ble_eq_true rfl)) dX0_debt_43 ⟨Nat.zero_le _, Nat.zero_le _⟩
          · exact va_runU (As := [.int x2]) (rest := []) E (mm_X6_debtIn l hT hD x1.toNatClampNeg x2 r12.2 _ (ite_t hk (ite_f (by rw [hk]; decide) hq43))) (va_cwO (owner := "DebtFerry$Rider") 1 E.2.2.2.2 (lw_O q269 q272 q270 q284 q285 q78 q286) rfl rfl rfl q291 (by decide +kernel) ⟨Nat.le_of_ble_eq_true rfl, Nat.le_of_ble_eq_true rfl⟩) (ck_pre hK hN hP hc) rfl rfl hl.1 rfl (lv_room (Nat.le_of_ble_eq_true rfl)) dX0_debt_43 ⟨Nat.zero_le _, Nat.zero_le _⟩
          · exact va_runU (As := [.int x2]) (rest := []) E (mm_X7_debtIn l hT hD x1.toNatClampNeg x2 r12.2 _ (ite_f (by rw [hk]; decide) (ite_f (by rw [hk]; decide) hq43))) (va_cwO (owner := "DebtFerry$Rider") 1 E.2.2.2.2 (lw_O q269 q272 q270 q273 q274 q79 q275) rfl rfl rfl q291 (by decide +kernel) ⟨Nat.le_of_ble_eq_true rfl, Nat.le_of_ble_eq_true rfl⟩) (ck_pre hK hN hP hc) rfl rfl hl.1 rfl (lv_room (Nat.le_of_ble_eq_true rfl)) dX0_debt_43 ⟨Nat.zero_le _, Nat.zero_le _⟩
        refine cx_go hrun hS (fun H locs hP hS => ?_)
        refine lv_goto (tgt := 51) E.1 E.2.1 dX0_debt_46 (by decide) ?_
        exact ck_iret E hr hlocks hP hS hF dX0_debt_51
    · have hF := ite_t h hF
      refine lv_bipush (v := (-2 : Int32)) E.1 E.2.1 dX0_debt_18 (by decide) ?_
      exact ck_iret E hr hlocks hP hS hF dX0_debt_20
  · have hF := ite_f h hF
    refine lv_iconst (v := (-1 : Int32)) E.1 E.2.1 dX0_debt_8 (by decide) ?_
    exact ck_iret E hr hlocks hP hS hF dX0_debt_9
/-! DebtFerry.pullers(I)I -/
def c_pullers (x1 : Int32) (z0 : CZ) : Option (Int32 × CZ) :=
  (c_noRiver  z0).bind (fun r1 => if r1.1 = 0 then (c_isLoad x1 r1.2).bind (fun r12 => if r12.1 = 0 then some ((-2 : Int32), r12.2) else (c_pulling x1 r12.2).bind (fun r20 => some (r20.1, r20.2))) else some ((-3 : Int32), r1.2))
abbrev rmX0_pullers : Room := { frames := 6, cells := 0, slots := 0, locals := 124 }
set_option maxHeartbeats 4000000 in
set_option maxRecDepth 100000 in
theorem mm_X0_pullers (l : Launch) {D : va_G} {K : Nat → ClassId} {s0 : State} {a0 : Array Value} {B : Nat → Nat} {ad : CA} {A : Nat → Prop} (hT : ∀ w ∈ lw_tbl, w.before a0 s0 = true) (hD : ∀ z, va_D A (cW K B ad z)) (x1 : Int32) (z0 : CZ) (res : Int32 × CZ) (hF : c_pullers x1 z0 = some res) : Met l yX0_pullers (ws_ yX0_pullers cX0_pullers 2 (some .int)) rmX0_pullers (cPc D K s0 B ad z0 [.ref (B 0), .int x1]) (cQ D K B ad A (some (.int res.1)) res.2) 0 0 A := by
  refine ck_start (A := A) RX0 (by decide) rfl (Nat.le_of_ble_eq_true rfl) ?_
  intro p e s m args below meth c H locs ls E hr hlocks hK hN hP hS hl
  have hl : lv_has ls 2 [(0, .ref (B 0)), (1, .int x1)] := hl
  unfold c_pullers at hF
  refine lv_aload_n E.1 E.2.1 dX0_pullers_0 rfl (lv_at hl 0 rfl) ?_
  obtain ⟨r1, hq1, hF⟩ := bnd hF
  refine cx_go (va_runV (As := []) (rest := []) E (mm_X0_noRiver l hT hD  z0 _ hq1) (cwV 0 E.2.2.2.2 (lw_V q237 q239 qs4 q54 q240) rfl rfl rfl (by decide +kernel) ⟨Nat.le_of_ble_eq_true rfl, Nat.le_of_ble_eq_true rfl⟩) (ck_pre hK hN hP (ck_me hK hP)) rfl rfl hl.1 rfl (lv_room (Nat.le_of_ble_eq_true rfl)) dX0_pullers_1 ⟨Nat.zero_le _, Nat.zero_le _⟩) hS (fun H locs hP hS => ?_)
  refine lv_if_eq (tgt := 10) E.1 E.2.1 dX0_pullers_4 (by decide) (fun h => ?_) (fun h => ?_)
  · have hF := ite_t h hF
    refine lv_aload_n E.1 E.2.1 dX0_pullers_10 rfl (lv_at hl 0 rfl) ?_
    refine lv_iload_n E.1 E.2.1 dX0_pullers_11 rfl (lv_at hl 1 rfl) ?_
    obtain ⟨r12, hq12, hF⟩ := bnd hF
    refine cx_go (va_runV (As := [.int x1]) (rest := []) E (mm_X0_isLoad l hT hD x1 r1.2 _ hq12) (cwV 1 E.2.2.2.2 (lw_V q258 q260 qs5 q54 q261) rfl rfl rfl (by decide +kernel) ⟨Nat.le_of_ble_eq_true rfl, Nat.le_of_ble_eq_true rfl⟩) (ck_pre hK hN hP (ck_me hK hP)) rfl rfl hl.1 rfl (lv_room (Nat.le_of_ble_eq_true rfl)) dX0_pullers_12 ⟨Nat.zero_le _, Nat.zero_le _⟩) hS (fun H locs hP hS => ?_)
    refine lv_if_eq (tgt := 26) E.1 E.2.1 dX0_pullers_15 (by decide) (fun h => ?_) (fun h => ?_)
    · have hF := ite_t h hF
      refine lv_bipush (v := (-2 : Int32)) E.1 E.2.1 dX0_pullers_26 (by decide) ?_
      exact ck_iret E hr hlocks hP hS hF dX0_pullers_28
    · have hF := ite_f h hF
      refine lv_aload_n E.1 E.2.1 dX0_pullers_18 rfl (lv_at hl 0 rfl) ?_
      refine lv_iload_n E.1 E.2.1 dX0_pullers_19 rfl (lv_at hl 1 rfl) ?_
      obtain ⟨r20, hq20, hF⟩ := bnd hF
      refine cx_go (va_runV (As := [.int x1]) (rest := []) E (mm_X0_pulling l hT hD x1 r12.2 _ hq20) (cwV 1 E.2.2.2.2 (lw_V q300 q302 qs7 q54 q303) rfl rfl rfl (by decide +kernel) ⟨Nat.le_of_ble_eq_true rfl, Nat.le_of_ble_eq_true rfl⟩) (ck_pre hK hN hP (ck_me hK hP)) rfl rfl hl.1 rfl (lv_room (Nat.le_of_ble_eq_true rfl)) dX0_pullers_20 ⟨Nat.zero_le _, Nat.zero_le _⟩) hS (fun H locs hP hS => ?_)
      refine lv_goto (tgt := 28) E.1 E.2.1 dX0_pullers_23 (by decide) ?_
      exact ck_iret E hr hlocks hP hS hF dX0_pullers_28
  · have hF := ite_f h hF
    refine lv_bipush (v := (-3 : Int32)) E.1 E.2.1 dX0_pullers_7 (by decide) ?_
    exact ck_iret E hr hlocks hP hS hF dX0_pullers_9
/-! DebtFerry.fair(I)I -/
def c_fair (x1 : Int32) (z0 : CZ) : Option (Int32 × CZ) :=
  (c_noRiver  z0).bind (fun r1 => if r1.1 = 0 then (c_isLoad x1 r1.2).bind (fun r12 => if r12.1 = 0 then some ((-2 : Int32), r12.2) else (c_isFair x1 r12.2).bind (fun r25 => if r25.1 = 0 then some ((0 : Int32), r25.2) else some ((1 : Int32), r25.2))) else some ((-3 : Int32), r1.2))
abbrev rmX0_fair : Room := { frames := 7, cells := 0, slots := 0, locals := 146 }
set_option maxHeartbeats 4000000 in
set_option maxRecDepth 100000 in
theorem mm_X0_fair (l : Launch) {D : va_G} {K : Nat → ClassId} {s0 : State} {a0 : Array Value} {B : Nat → Nat} {ad : CA} {A : Nat → Prop} (hT : ∀ w ∈ lw_tbl, w.before a0 s0 = true) (hD : ∀ z, va_D A (cW K B ad z)) (x1 : Int32) (z0 : CZ) (res : Int32 × CZ) (hF : c_fair x1 z0 = some res) : Met l yX0_fair (ws_ yX0_fair cX0_fair 2 (some .int)) rmX0_fair (cPc D K s0 B ad z0 [.ref (B 0), .int x1]) (cQ D K B ad A (some (.int res.1)) res.2) 0 0 A := by
  refine ck_start (A := A) RX0 (by decide) rfl (Nat.le_of_ble_eq_true rfl) ?_
  intro p e s m args below meth c H locs ls E hr hlocks hK hN hP hS hl
  have hl : lv_has ls 2 [(0, .ref (B 0)), (1, .int x1)] := hl
  unfold c_fair at hF
  refine lv_aload_n E.1 E.2.1 dX0_fair_0 rfl (lv_at hl 0 rfl) ?_
  obtain ⟨r1, hq1, hF⟩ := bnd hF
  refine cx_go (va_runV (As := []) (rest := []) E (mm_X0_noRiver l hT hD  z0 _ hq1) (cwV 0 E.2.2.2.2 (lw_V q237 q239 qs4 q54 q240) rfl rfl rfl (by decide +kernel) ⟨Nat.le_of_ble_eq_true rfl, Nat.le_of_ble_eq_true rfl⟩) (ck_pre hK hN hP (ck_me hK hP)) rfl rfl hl.1 rfl (lv_room (Nat.le_of_ble_eq_true rfl)) dX0_fair_1 ⟨Nat.zero_le _, Nat.zero_le _⟩) hS (fun H locs hP hS => ?_)
  refine lv_if_eq (tgt := 10) E.1 E.2.1 dX0_fair_4 (by decide) (fun h => ?_) (fun h => ?_)
  · have hF := ite_t h hF
    refine lv_aload_n E.1 E.2.1 dX0_fair_10 rfl (lv_at hl 0 rfl) ?_
    refine lv_iload_n E.1 E.2.1 dX0_fair_11 rfl (lv_at hl 1 rfl) ?_
    obtain ⟨r12, hq12, hF⟩ := bnd hF
    refine cx_go (va_runV (As := [.int x1]) (rest := []) E (mm_X0_isLoad l hT hD x1 r1.2 _ hq12) (cwV 1 E.2.2.2.2 (lw_V q258 q260 qs5 q54 q261) rfl rfl rfl (by decide +kernel) ⟨Nat.le_of_ble_eq_true rfl, Nat.le_of_ble_eq_true rfl⟩) (ck_pre hK hN hP (ck_me hK hP)) rfl rfl hl.1 rfl (lv_room (Nat.le_of_ble_eq_true rfl)) dX0_fair_12 ⟨Nat.zero_le _, Nat.zero_le _⟩) hS (fun H locs hP hS => ?_)
    refine lv_if_ne (tgt := 23) E.1 E.2.1 dX0_fair_15 (by decide) (fun h => ?_) (fun h => ?_)
    · have hF := ite_f h hF
      refine lv_aload_n E.1 E.2.1 dX0_fair_23 rfl (lv_at hl 0 rfl) ?_
      refine lv_iload_n E.1 E.2.1 dX0_fair_24 rfl (lv_at hl 1 rfl) ?_
      obtain ⟨r25, hq25, hF⟩ := bnd hF
      refine cx_go (va_runV (As := [.int x1]) (rest := []) E (mm_X0_isFair l hT hD x1 r12.2 _ hq25) (cwV 1 E.2.2.2.2 (lw_V q309 q311 qs8 q54 q312) rfl rfl rfl (by decide +kernel) ⟨Nat.le_of_ble_eq_true rfl, Nat.le_of_ble_eq_true rfl⟩) (ck_pre hK hN hP (ck_me hK hP)) rfl rfl hl.1 rfl (lv_room (Nat.le_of_ble_eq_true rfl)) dX0_fair_25 ⟨Nat.zero_le _, Nat.zero_le _⟩) hS (fun H locs hP hS => ?_)
      refine lv_if_eq (tgt := 35) E.1 E.2.1 dX0_fair_28 (by decide) (fun h => ?_) (fun h => ?_)
      · have hF := ite_t h hF
        refine lv_iconst (v := (0 : Int32)) E.1 E.2.1 dX0_fair_35 (by decide) ?_
        exact ck_iret E hr hlocks hP hS hF dX0_fair_36
      · have hF := ite_f h hF
        refine lv_iconst (v := (1 : Int32)) E.1 E.2.1 dX0_fair_31 (by decide) ?_
        refine lv_goto (tgt := 36) E.1 E.2.1 dX0_fair_32 (by decide) ?_
        exact ck_iret E hr hlocks hP hS hF dX0_fair_36
    · have hF := ite_t h hF
      refine lv_bipush (v := (-2 : Int32)) E.1 E.2.1 dX0_fair_18 (by decide) ?_
      refine lv_goto (tgt := 36) E.1 E.2.1 dX0_fair_20 (by decide) ?_
      exact ck_iret E hr hlocks hP hS hF dX0_fair_36
  · have hF := ite_f h hF
    refine lv_bipush (v := (-3 : Int32)) E.1 E.2.1 dX0_fair_7 (by decide) ?_
    exact ck_iret E hr hlocks hP hS hF dX0_fair_9
/-! DebtFerry.fewestFor(I)I -/
def c_fewestFor_L5 (x1 : Int32) : Nat → Int32 → Int32 → CZ → Option (Int32 × CZ)
  | 0, _, _, _ => none
  | n + 1, y5_2, y5_3, z5 =>
    if y5_3 ≤ 0 then some (y5_2, z5) else gd (inb (x1 ^^^ y5_3) 32) (jn (fun (w49_2 : Int32) (z49 : CZ) => c_fewestFor_L5 x1 n w49_2 ((y5_3 - (1 : Int32)) &&& x1) z49) (fun (k49 : Int32 → CZ → Option (Int32 × CZ)) => if (z5.2.1 5 (x1 ^^^ y5_3).toNatClampNeg) < 0 then k49 y5_2 z5 else (c_isFair y5_3 z5).bind (fun r26 => if r26.1 = 0 then k49 y5_2 r26.2 else jn (fun  (z44 : CZ) => k49 ((z5.2.1 5 (x1 ^^^ y5_3).toNatClampNeg) + (1 : Int32)) z44) (fun (k44 : CZ → Option (Int32 × CZ)) => if y5_2 < 0 then k44  r26.2 else if y5_2 ≤ ((z5.2.1 5 (x1 ^^^ y5_3).toNatClampNeg) + (1 : Int32)) then k49 y5_2 r26.2 else k44  r26.2))))
def c_fewestFor (x1 : Int32) (z0 : CZ) : Option (Int32 × CZ) :=
  c_fewestFor_L5 x1 FU (-9 : Int32) x1 z0
abbrev rmX0_fewestFor : Room := { frames := 7, cells := 0, slots := 0, locals := 146 }
set_option maxHeartbeats 4000000 in
set_option maxRecDepth 100000 in
theorem mm_X0_fewestFor (l : Launch) {D : va_G} {K : Nat → ClassId} {s0 : State} {a0 : Array Value} {B : Nat → Nat} {ad : CA} {A : Nat → Prop} (hT : ∀ w ∈ lw_tbl, w.before a0 s0 = true) (hD : ∀ z, va_D A (cW K B ad z)) (x1 : Int32) (z0 : CZ) (res : Int32 × CZ) (hF : c_fewestFor x1 z0 = some res) : Met l yX0_fewestFor (ws_ yX0_fewestFor cX0_fewestFor 5 (some .int)) rmX0_fewestFor (cPc D K s0 B ad z0 [.ref (B 0), .int x1]) (cQ D K B ad A (some (.int res.1)) res.2) 0 0 A := by
  refine ck_start (A := A) RX0 (by decide) rfl (Nat.le_of_ble_eq_true rfl) ?_
  intro p e s m args below meth c H locs ls E hr hlocks hK hN hP hS hl
  have hl : lv_has ls 5 [(0, .ref (B 0)), (1, .int x1)] := hl
  unfold c_fewestFor at hF
  refine lv_bipush (v := (-9 : Int32)) E.1 E.2.1 dX0_fewestFor_0 (by decide) ?_
  refine lv_istore_n (lv' := [(2, .int (-9 : Int32)), (0, .ref (B 0)), (1, .int x1)]) E.1 E.2.1 dX0_fewestFor_2 rfl hl (by decide) rfl (fun ls hl => ?_)
  refine lv_iload_n E.1 E.2.1 dX0_fewestFor_3 rfl (lv_at hl 2 rfl) ?_
  refine lv_istore_n (lv' := [(3, .int x1), (2, .int (-9 : Int32)), (0, .ref (B 0)), (1, .int x1)]) E.1 E.2.1 dX0_fewestFor_4 rfl hl (by decide) rfl (fun ls hl => ?_)
  have L5 : ∀ (n : Nat) (y5_2 : Int32) (y5_3 : Int32) (z5 : CZ) (H : Heap) (locs : List Loc) (ls : Array Slot), c_fewestFor_L5 x1 n y5_2 y5_3 z5 = some res → cP D K B ad z5 H → va_S A s.heap H locs → lv_has ls 5 [(0, .ref (B 0)), (1, .int x1), (2, .int y5_2), (3, .int y5_3)] → W p l e rmX0_fewestFor s m args below meth c H locs 0 0 (MQ below (cQ D K B ad A (some (.int res.1)) res.2) args s 0 0 A) (F0 m 5 ls []) := by
    intro n
    induction n with
    | zero =>
      intro y5_2 y5_3 z5 H locs ls hF
      rw [c_fewestFor_L5] at hF
      cases hF
    | succ n ih =>
      intro y5_2 y5_3 z5 H locs ls hF hP hS hl
      rw [c_fewestFor_L5] at hF
      refine lv_iload_n E.1 E.2.1 dX0_fewestFor_5 rfl (lv_at hl 3 rfl) ?_
      refine lv_if_le (tgt := 58) E.1 E.2.1 dX0_fewestFor_6 (by decide) (fun h => ?_) (fun h => ?_)
      · have hF := ite_t h hF
        refine lv_iload_n E.1 E.2.1 dX0_fewestFor_58 rfl (lv_at hl 2 rfl) ?_
        exact ck_iret E hr hlocks hP hS hF dX0_fewestFor_59
      · have hF := ite_f h hF
        refine lv_aload_n E.1 E.2.1 dX0_fewestFor_9 rfl (lv_at hl 0 rfl) ?_
        refine ck_get E hK hP 5 (by decide) q132 rfl (v := .ref (B 5)) rfl dX0_fewestFor_10 ?_
        refine lv_iload_n E.1 E.2.1 dX0_fewestFor_13 rfl (lv_at hl 1 rfl) ?_
        refine lv_iload_n E.1 E.2.1 dX0_fewestFor_14 rfl (lv_at hl 3 rfl) ?_
        refine lv_ixor E.1 E.2.1 dX0_fewestFor_15 ?_
        obtain ⟨h16, hF⟩ := gd_some hF
        refine ck_ald E hK hP (q := 2) (j := 5) (n := 32) rfl h16 dX0_fewestFor_16 ?_
        refine lv_istore (lv' := [(4, .int (z5.2.1 5 (x1 ^^^ y5_3).toNatClampNeg)), (0, .ref (B 0)), (1, .int x1), (2, .int y5_2), (3, .int y5_3)]) E.1 E.2.1 dX0_fewestFor_17 hl (by decide) rfl (fun ls hl => ?_)
        refine lv_iload E.1 E.2.1 dX0_fewestFor_19 (lv_at hl 0 rfl) ?_
        obtain ⟨k49, hk49, hF⟩ := jn_split hF
        have J49 : ∀ (w49_2 : Int32) (z49 : CZ) (H : Heap) (locs : List Loc) (ls : Array Slot), k49 w49_2 z49 = some res → cP D K B ad z49 H → va_S A s.heap H locs → lv_has ls 5 [(0, .ref (B 0)), (1, .int x1), (2, .int w49_2), (3, .int y5_3)] → W p l e rmX0_fewestFor s m args below meth c H locs 0 0 (MQ below (cQ D K B ad A (some (.int res.1)) res.2) args s 0 0 A) (F0 m 49 ls []) := by
          intro w49_2 z49 H locs ls hF hP hS hl
          rw [hk49] at hF
          refine lv_iload_n E.1 E.2.1 dX0_fewestFor_49 rfl (lv_at hl 3 rfl) ?_
          refine lv_iconst (v := (1 : Int32)) E.1 E.2.1 dX0_fewestFor_50 (by decide) ?_
          refine lv_isub E.1 E.2.1 dX0_fewestFor_51 ?_
          refine lv_iload_n E.1 E.2.1 dX0_fewestFor_52 rfl (lv_at hl 1 rfl) ?_
          refine lv_iand E.1 E.2.1 dX0_fewestFor_53 ?_
          refine lv_istore_n (lv' := [(3, .int ((y5_3 - (1 : Int32)) &&& x1)), (0, .ref (B 0)), (1, .int x1), (2, .int w49_2)]) E.1 E.2.1 dX0_fewestFor_54 rfl hl (by decide) rfl (fun ls hl => ?_)
          refine lv_goto (tgt := 5) E.1 E.2.1 dX0_fewestFor_55 (by decide) ?_
          exact ih w49_2 ((y5_3 - (1 : Int32)) &&& x1) z49 H locs ls hF hP hS (lv_sub hl [1, 2, 3, 0] rfl)
        refine lv_if_lt (tgt := 49) E.1 E.2.1 dX0_fewestFor_21 (by decide) (fun h => ?_) (fun h => ?_)
        · have hF := ite_t h hF
          exact J49 y5_2 z5 H locs ls hF hP hS (lv_sub hl [1, 2, 3, 4] rfl)
        · have hF := ite_f h hF
          refine lv_aload_n E.1 E.2.1 dX0_fewestFor_24 rfl (lv_at hl 1 rfl) ?_
          refine lv_iload_n E.1 E.2.1 dX0_fewestFor_25 rfl (lv_at hl 4 rfl) ?_
          obtain ⟨r26, hq26, hF⟩ := bnd hF
          refine cx_go (va_runV (As := [.int y5_3]) (rest := []) E (mm_X0_isFair l hT hD y5_3 z5 _ hq26) (cwV 1 E.2.2.2.2 (lw_V q309 q311 qs8 q54 q312) rfl rfl rfl (by decide +kernel) ⟨Nat.le_of_ble_eq_true rfl, Nat.le_of_ble_eq_true rfl⟩) (ck_pre hK hN hP (ck_me hK hP)) rfl rfl hl.1 rfl (lv_room (Nat.le_of_ble_eq_true rfl)) dX0_fewestFor_26 ⟨Nat.zero_le _, Nat.zero_le _⟩) hS (fun H locs hP hS => ?_)
          refine lv_if_eq (tgt := 49) E.1 E.2.1 dX0_fewestFor_29 (by decide) (fun h => ?_) (fun h => ?_)
          · have hF := ite_t h hF
            exact J49 y5_2 r26.2 H locs ls hF hP hS (lv_sub hl [1, 2, 3, 4] rfl)
          · have hF := ite_f h hF
            refine lv_iload_n E.1 E.2.1 dX0_fewestFor_32 rfl (lv_at hl 3 rfl) ?_
            obtain ⟨k44, hk44, hF⟩ := jn_split hF
            have J44 : ∀  (z44 : CZ) (H : Heap) (locs : List Loc) (ls : Array Slot), k44  z44 = some res → cP D K B ad z44 H → va_S A s.heap H locs → lv_has ls 5 [(0, .ref (B 0)), (1, .int x1), (3, .int y5_3), (4, .int (z5.2.1 5 (x1 ^^^ y5_3).toNatClampNeg))] → W p l e rmX0_fewestFor s m args below meth c H locs 0 0 (MQ below (cQ D K B ad A (some (.int res.1)) res.2) args s 0 0 A) (F0 m 44 ls []) := by
              intro  z44 H locs ls hF hP hS hl
              rw [hk44] at hF
              refine lv_iload E.1 E.2.1 dX0_fewestFor_44 (lv_at hl 3 rfl) ?_
              refine lv_iconst (v := (1 : Int32)) E.1 E.2.1 dX0_fewestFor_46 (by decide) ?_
              refine lv_iadd E.1 E.2.1 dX0_fewestFor_47 ?_
              refine lv_istore_n (lv' := [(2, .int ((z5.2.1 5 (x1 ^^^ y5_3).toNatClampNeg) + (1 : Int32))), (0, .ref (B 0)), (1, .int x1), (3, .int y5_3), (4, .int (z5.2.1 5 (x1 ^^^ y5_3).toNatClampNeg))]) E.1 E.2.1 dX0_fewestFor_48 rfl hl (by decide) rfl (fun ls hl => ?_)
              exact J49 ((z5.2.1 5 (x1 ^^^ y5_3).toNatClampNeg) + (1 : Int32)) z44 H locs ls hF hP hS (lv_sub hl [1, 2, 0, 3] rfl)
            refine lv_if_lt (tgt := 44) E.1 E.2.1 dX0_fewestFor_33 (by decide) (fun h => ?_) (fun h => ?_)
            · have hF := ite_t h hF
              exact J44  r26.2 H locs ls hF hP hS (lv_sub hl [1, 2, 4, 0] rfl)
            · have hF := ite_f h hF
              refine lv_iload E.1 E.2.1 dX0_fewestFor_36 (lv_at hl 0 rfl) ?_
              refine lv_iconst (v := (1 : Int32)) E.1 E.2.1 dX0_fewestFor_38 (by decide) ?_
              refine lv_iadd E.1 E.2.1 dX0_fewestFor_39 ?_
              refine lv_iload_n E.1 E.2.1 dX0_fewestFor_40 rfl (lv_at hl 3 rfl) ?_
              refine lv_icmp_ge (tgt := 49) E.1 E.2.1 dX0_fewestFor_41 (by decide) (fun h => ?_) (fun h => ?_)
              · have hF := ite_t h hF
                exact J49 y5_2 r26.2 H locs ls hF hP hS (lv_sub hl [1, 2, 3, 4] rfl)
              · have hF := ite_f h hF
                exact J44  r26.2 H locs ls hF hP hS (lv_sub hl [1, 2, 4, 0] rfl)
  exact L5 FU (-9 : Int32) x1 z0 H locs ls hF hP hS (lv_sub hl [2, 3, 1, 0] rfl)
/-! DebtFerry.reckon()V -/
def c_reckon_L9 : Nat → Int32 → CZ → Option CZ
  | 0, _, _ => none
  | n + 1, y9_1, z9 =>
    (c_everyone  z9).bind (fun r11 => if r11.1 < y9_1 then some r11.2 else (c_fewestFor y9_1 r11.2).bind (fun r24 => gd (inb y9_1 32) (c_reckon_L9 n (y9_1 + 1) (cz_a r24.2 5 y9_1.toNatClampNeg r24.1))))
def c_reckon  (z0 : CZ) : Option CZ :=
  gd (inb (0 : Int32) 32) (c_reckon_L9 FU (1 : Int32) (cz_a z0 5 (0 : Int32).toNatClampNeg (0 : Int32)))
abbrev rmX0_reckon : Room := { frames := 8, cells := 0, slots := 0, locals := 170 }
set_option maxHeartbeats 4000000 in
set_option maxRecDepth 100000 in
theorem mm_X0_reckon (l : Launch) {D : va_G} {K : Nat → ClassId} {s0 : State} {a0 : Array Value} {B : Nat → Nat} {ad : CA} {A : Nat → Prop} (hT : ∀ w ∈ lw_tbl, w.before a0 s0 = true) (hD : ∀ z, va_D A (cW K B ad z))  (z0 : CZ) (res : CZ) (hF : c_reckon  z0 = some res) : Met l yX0_reckon (ws_ yX0_reckon cX0_reckon 2 none) rmX0_reckon (cPc D K s0 B ad z0 [.ref (B 0)]) (cQ D K B ad A none res) 0 0 A := by
  refine ck_start (A := A) RX0 (by decide) rfl (Nat.le_of_ble_eq_true rfl) ?_
  intro p e s m args below meth c H locs ls E hr hlocks hK hN hP hS hl
  have hl : lv_has ls 2 [(0, .ref (B 0))] := hl
  unfold c_reckon at hF
  refine lv_aload_n E.1 E.2.1 dX0_reckon_0 rfl (lv_at hl 0 rfl) ?_
  refine ck_get E hK hP 5 (by decide) q132 rfl (v := .ref (B 5)) rfl dX0_reckon_1 ?_
  refine lv_iconst (v := (0 : Int32)) E.1 E.2.1 dX0_reckon_4 (by decide) ?_
  refine lv_iconst (v := (0 : Int32)) E.1 E.2.1 dX0_reckon_5 (by decide) ?_
  obtain ⟨h6, hF⟩ := gd_some hF
  refine ck_ast E hD hK hP hS (q := 2) (j := 5) (n := 32) rfl h6 dX0_reckon_6 (fun H locs hP hS => ?_)
  refine lv_iconst (v := (1 : Int32)) E.1 E.2.1 dX0_reckon_7 (by decide) ?_
  refine lv_istore_n (lv' := [(1, .int (1 : Int32)), (0, .ref (B 0))]) E.1 E.2.1 dX0_reckon_8 rfl hl (by decide) rfl (fun ls hl => ?_)
  have L9 : ∀ (n : Nat) (y9_1 : Int32) (z9 : CZ) (H : Heap) (locs : List Loc) (ls : Array Slot), c_reckon_L9 n y9_1 z9 = some res → cP D K B ad z9 H → va_S A s.heap H locs → lv_has ls 2 [(0, .ref (B 0)), (1, .int y9_1)] → W p l e rmX0_reckon s m args below meth c H locs 0 0 (MQ below (cQ D K B ad A none res) args s 0 0 A) (F0 m 9 ls []) := by
    intro n
    induction n with
    | zero =>
      intro y9_1 z9 H locs ls hF
      rw [c_reckon_L9] at hF
      cases hF
    | succ n ih =>
      intro y9_1 z9 H locs ls hF hP hS hl
      rw [c_reckon_L9] at hF
      refine lv_iload_n E.1 E.2.1 dX0_reckon_9 rfl (lv_at hl 1 rfl) ?_
      refine lv_aload_n E.1 E.2.1 dX0_reckon_10 rfl (lv_at hl 0 rfl) ?_
      obtain ⟨r11, hq11, hF⟩ := bnd hF
      refine cx_go (va_runV (As := []) (rest := [.int y9_1]) E (mm_X0_everyone l hT hD  z9 _ hq11) (cwV 0 E.2.2.2.2 (lw_V q262 q264 qs6 q54 q265) rfl rfl rfl (by decide +kernel) ⟨Nat.le_of_ble_eq_true rfl, Nat.le_of_ble_eq_true rfl⟩) (ck_pre hK hN hP (ck_me hK hP)) rfl rfl hl.1 rfl (lv_room (Nat.le_of_ble_eq_true rfl)) dX0_reckon_11 ⟨Nat.zero_le _, Nat.zero_le _⟩) hS (fun H locs hP hS => ?_)
      refine lv_icmp_gt (tgt := 34) E.1 E.2.1 dX0_reckon_14 (by decide) (fun h => ?_) (fun h => ?_)
      · have hF := ite_t h hF
        exact ck_vret E hr hlocks hP hS hF dX0_reckon_34
      · have hF := ite_f h hF
        refine lv_aload_n E.1 E.2.1 dX0_reckon_17 rfl (lv_at hl 0 rfl) ?_
        refine ck_get E hK hP 5 (by decide) q132 rfl (v := .ref (B 5)) rfl dX0_reckon_18 ?_
        refine lv_iload_n E.1 E.2.1 dX0_reckon_21 rfl (lv_at hl 1 rfl) ?_
        refine lv_aload_n E.1 E.2.1 dX0_reckon_22 rfl (lv_at hl 0 rfl) ?_
        refine lv_iload_n E.1 E.2.1 dX0_reckon_23 rfl (lv_at hl 1 rfl) ?_
        obtain ⟨r24, hq24, hF⟩ := bnd hF
        refine cx_go (va_runV (As := [.int y9_1]) (rest := [.int y9_1, .ref (B 5)]) E (mm_X0_fewestFor l hT hD y9_1 r11.2 _ hq24) (cwV 1 E.2.2.2.2 (lw_V q333 q335 qs10 q54 q336) rfl rfl rfl (by decide +kernel) ⟨Nat.le_of_ble_eq_true rfl, Nat.le_of_ble_eq_true rfl⟩) (ck_pre hK hN hP (ck_me hK hP)) rfl rfl hl.1 rfl (lv_room (Nat.le_of_ble_eq_true rfl)) dX0_reckon_24 ⟨Nat.zero_le _, Nat.zero_le _⟩) hS (fun H locs hP hS => ?_)
        obtain ⟨h27, hF⟩ := gd_some hF
        refine ck_ast E hD hK hP hS (q := 2) (j := 5) (n := 32) rfl h27 dX0_reckon_27 (fun H locs hP hS => ?_)
        refine lv_iinc (v := y9_1 + 1) (lv' := [(1, .int (y9_1 + 1)), (0, .ref (B 0))]) E.1 E.2.1 dX0_reckon_28 hl (k := 1) rfl rfl (by decide) rfl (fun ls hl => ?_)
        refine lv_goto (tgt := 9) E.1 E.2.1 dX0_reckon_31 (by decide) ?_
        exact ih (y9_1 + 1) (cz_a r24.2 5 y9_1.toNatClampNeg r24.1) H locs ls hF hP hS (lv_sub hl [1, 0] rfl)
  exact L9 FU (1 : Int32) (cz_a z0 5 (0 : Int32).toNatClampNeg (0 : Int32)) H locs ls hF hP hS (lv_sub hl [1, 0] rfl)
/-! DebtFerry.firstLoad(I)I -/
def c_firstLoad_L2 (x1 : Int32) : Nat → Int32 → CZ → Option (Int32 × CZ)
  | 0, _, _ => none
  | n + 1, y2_2, z2 =>
    if (y2_2 &&& (x1 ^^^ (-1 : Int32))) = 0 then (c_isFair y2_2 z2).bind (fun r12 => if r12.1 = 0 then c_firstLoad_L2 x1 n (y2_2 + 1) r12.2 else gd (inb (x1 ^^^ y2_2) 32) (gd (inb x1 32) (if (r12.2.2.1 5 (x1 ^^^ y2_2).toNatClampNeg) = ((r12.2.2.1 5 x1.toNatClampNeg) - (1 : Int32)) then some (y2_2, r12.2) else c_firstLoad_L2 x1 n (y2_2 + 1) r12.2))) else c_firstLoad_L2 x1 n (y2_2 + 1) z2
def c_firstLoad (x1 : Int32) (z0 : CZ) : Option (Int32 × CZ) :=
  c_firstLoad_L2 x1 FU (1 : Int32) z0
abbrev rmX0_firstLoad : Room := { frames := 7, cells := 0, slots := 0, locals := 146 }
set_option maxHeartbeats 4000000 in
set_option maxRecDepth 100000 in
theorem mm_X0_firstLoad (l : Launch) {D : va_G} {K : Nat → ClassId} {s0 : State} {a0 : Array Value} {B : Nat → Nat} {ad : CA} {A : Nat → Prop} (hT : ∀ w ∈ lw_tbl, w.before a0 s0 = true) (hD : ∀ z, va_D A (cW K B ad z)) (x1 : Int32) (z0 : CZ) (res : Int32 × CZ) (hF : c_firstLoad x1 z0 = some res) : Met l yX0_firstLoad (ws_ yX0_firstLoad cX0_firstLoad 3 (some .int)) rmX0_firstLoad (cPc D K s0 B ad z0 [.ref (B 0), .int x1]) (cQ D K B ad A (some (.int res.1)) res.2) 0 0 A := by
  refine ck_start (A := A) RX0 (by decide) rfl (Nat.le_of_ble_eq_true rfl) ?_
  intro p e s m args below meth c H locs ls E hr hlocks hK hN hP hS hl
  have hl : lv_has ls 3 [(0, .ref (B 0)), (1, .int x1)] := hl
  unfold c_firstLoad at hF
  refine lv_iconst (v := (1 : Int32)) E.1 E.2.1 dX0_firstLoad_0 (by decide) ?_
  refine lv_istore_n (lv' := [(2, .int (1 : Int32)), (0, .ref (B 0)), (1, .int x1)]) E.1 E.2.1 dX0_firstLoad_1 rfl hl (by decide) rfl (fun ls hl => ?_)
  have L2 : ∀ (n : Nat) (y2_2 : Int32) (z2 : CZ) (H : Heap) (locs : List Loc) (ls : Array Slot), c_firstLoad_L2 x1 n y2_2 z2 = some res → cP D K B ad z2 H → va_S A s.heap H locs → lv_has ls 3 [(0, .ref (B 0)), (1, .int x1), (2, .int y2_2)] → W p l e rmX0_firstLoad s m args below meth c H locs 0 0 (MQ below (cQ D K B ad A (some (.int res.1)) res.2) args s 0 0 A) (F0 m 2 ls []) := by
    intro n
    induction n with
    | zero =>
      intro y2_2 z2 H locs ls hF
      rw [c_firstLoad_L2] at hF
      cases hF
    | succ n ih =>
      intro y2_2 z2 H locs ls hF hP hS hl
      rw [c_firstLoad_L2] at hF
      refine lv_iload_n E.1 E.2.1 dX0_firstLoad_2 rfl (lv_at hl 2 rfl) ?_
      refine lv_iload_n E.1 E.2.1 dX0_firstLoad_3 rfl (lv_at hl 1 rfl) ?_
      refine lv_iconst (v := (-1 : Int32)) E.1 E.2.1 dX0_firstLoad_4 (by decide) ?_
      refine lv_ixor E.1 E.2.1 dX0_firstLoad_5 ?_
      refine lv_iand E.1 E.2.1 dX0_firstLoad_6 ?_
      refine lv_if_ne (tgt := 37) E.1 E.2.1 dX0_firstLoad_7 (by decide) (fun h => ?_) (fun h => ?_)
      · have hF := ite_f h hF
        refine lv_iinc (v := y2_2 + 1) (lv' := [(2, .int (y2_2 + 1)), (0, .ref (B 0)), (1, .int x1)]) E.1 E.2.1 dX0_firstLoad_37 hl (k := 2) rfl rfl (by decide) rfl (fun ls hl => ?_)
        refine lv_goto (tgt := 2) E.1 E.2.1 dX0_firstLoad_40 (by decide) ?_
        exact ih (y2_2 + 1) z2 H locs ls hF hP hS (lv_sub hl [1, 2, 0] rfl)
      · have hF := ite_t h hF
        refine lv_aload_n E.1 E.2.1 dX0_firstLoad_10 rfl (lv_at hl 0 rfl) ?_
        refine lv_iload_n E.1 E.2.1 dX0_firstLoad_11 rfl (lv_at hl 2 rfl) ?_
        obtain ⟨r12, hq12, hF⟩ := bnd hF
        refine cx_go (va_runV (As := [.int y2_2]) (rest := []) E (mm_X0_isFair l hT hD y2_2 z2 _ hq12) (cwV 1 E.2.2.2.2 (lw_V q309 q311 qs8 q54 q312) rfl rfl rfl (by decide +kernel) ⟨Nat.le_of_ble_eq_true rfl, Nat.le_of_ble_eq_true rfl⟩) (ck_pre hK hN hP (ck_me hK hP)) rfl rfl hl.1 rfl (lv_room (Nat.le_of_ble_eq_true rfl)) dX0_firstLoad_12 ⟨Nat.zero_le _, Nat.zero_le _⟩) hS (fun H locs hP hS => ?_)
        refine lv_if_eq (tgt := 37) E.1 E.2.1 dX0_firstLoad_15 (by decide) (fun h => ?_) (fun h => ?_)
        · have hF := ite_t h hF
          refine lv_iinc (v := y2_2 + 1) (lv' := [(2, .int (y2_2 + 1)), (0, .ref (B 0)), (1, .int x1)]) E.1 E.2.1 dX0_firstLoad_37 hl (k := 2) rfl rfl (by decide) rfl (fun ls hl => ?_)
          refine lv_goto (tgt := 2) E.1 E.2.1 dX0_firstLoad_40 (by decide) ?_
          exact ih (y2_2 + 1) r12.2 H locs ls hF hP hS (lv_sub hl [1, 2, 0] rfl)
        · have hF := ite_f h hF
          refine lv_aload_n E.1 E.2.1 dX0_firstLoad_18 rfl (lv_at hl 0 rfl) ?_
          refine ck_get E hK hP 5 (by decide) q132 rfl (v := .ref (B 5)) rfl dX0_firstLoad_19 ?_
          refine lv_iload_n E.1 E.2.1 dX0_firstLoad_22 rfl (lv_at hl 1 rfl) ?_
          refine lv_iload_n E.1 E.2.1 dX0_firstLoad_23 rfl (lv_at hl 2 rfl) ?_
          refine lv_ixor E.1 E.2.1 dX0_firstLoad_24 ?_
          obtain ⟨h25, hF⟩ := gd_some hF
          refine ck_ald E hK hP (q := 2) (j := 5) (n := 32) rfl h25 dX0_firstLoad_25 ?_
          refine lv_aload_n E.1 E.2.1 dX0_firstLoad_26 rfl (lv_at hl 0 rfl) ?_
          refine ck_get E hK hP 5 (by decide) q132 rfl (v := .ref (B 5)) rfl dX0_firstLoad_27 ?_
          refine lv_iload_n E.1 E.2.1 dX0_firstLoad_30 rfl (lv_at hl 1 rfl) ?_
          obtain ⟨h31, hF⟩ := gd_some hF
          refine ck_ald E hK hP (q := 2) (j := 5) (n := 32) rfl h31 dX0_firstLoad_31 ?_
          refine lv_iconst (v := (1 : Int32)) E.1 E.2.1 dX0_firstLoad_32 (by decide) ?_
          refine lv_isub E.1 E.2.1 dX0_firstLoad_33 ?_
          refine lv_icmp_eq (tgt := 43) E.1 E.2.1 dX0_firstLoad_34 (by decide) (fun h => ?_) (fun h => ?_)
          · have hF := ite_t h hF
            refine lv_iload_n E.1 E.2.1 dX0_firstLoad_43 rfl (lv_at hl 2 rfl) ?_
            exact ck_iret E hr hlocks hP hS hF dX0_firstLoad_44
          · have hF := ite_f h hF
            refine lv_iinc (v := y2_2 + 1) (lv' := [(2, .int (y2_2 + 1)), (0, .ref (B 0)), (1, .int x1)]) E.1 E.2.1 dX0_firstLoad_37 hl (k := 2) rfl rfl (by decide) rfl (fun ls hl => ?_)
            refine lv_goto (tgt := 2) E.1 E.2.1 dX0_firstLoad_40 (by decide) ?_
            exact ih (y2_2 + 1) r12.2 H locs ls hF hP hS (lv_sub hl [1, 2, 0] rfl)
  exact L2 FU (1 : Int32) z0 H locs ls hF hP hS (lv_sub hl [1, 2, 0] rfl)
/-! DebtFerry.cross(I)I -/
def c_cross_L69 (x1 : Int32) : Nat → Int32 → Int32 → CZ → Option (Int32 × CZ)
  | 0, _, _, _ => none
  | n + 1, y69_3, y69_4, z69 =>
    if x1 ≤ y69_4 then (c_firstLoad y69_3 z69).bind (fun r91 => some (r91.1, r91.2)) else (c_firstLoad y69_3 z69).bind (fun r78 => c_cross_L69 x1 n (y69_3 ^^^ r78.1) (y69_4 + 1) r78.2)
def c_cross (x1 : Int32) (z0 : CZ) : Option (Int32 × CZ) :=
  (c_noRiver  z0).bind (fun r1 => if r1.1 = 0 then (c_in (x1.toInt64) (-1 : Int64) (4 : Int64)).bind (fun r18 => if r18 = 0 then some ((-2 : Int32), r1.2) else (c_reckon  r1.2).bind (fun r28 => (c_everyone  r28).bind (fun r36 => gd (inb r36.1 32) (jn (fun  (z50 : CZ) => if 0 ≤ x1 then some ((-9 : Int32), z50) else some ((r36.2.2.1 5 r36.1.toNatClampNeg), z50)) (fun (k50 : CZ → Option (Int32 × CZ)) => if x1 < 0 then k50  r36.2 else if x1 < (r36.2.2.1 5 r36.1.toNatClampNeg) then (c_everyone  r36.2).bind (fun r62 => c_cross_L69 x1 FU r62.1 (0 : Int32) r62.2) else k50  r36.2))))) else some ((-3 : Int32), r1.2))
abbrev rmX0_cross : Room := { frames := 9, cells := 0, slots := 0, locals := 191 }
set_option maxHeartbeats 4000000 in
set_option maxRecDepth 100000 in
theorem mm_X0_cross (l : Launch) {D : va_G} {K : Nat → ClassId} {s0 : State} {a0 : Array Value} {B : Nat → Nat} {ad : CA} {A : Nat → Prop} (hT : ∀ w ∈ lw_tbl, w.before a0 s0 = true) (hD : ∀ z, va_D A (cW K B ad z)) (x1 : Int32) (z0 : CZ) (res : Int32 × CZ) (hF : c_cross x1 z0 = some res) : Met l yX0_cross (ws_ yX0_cross cX0_cross 5 (some .int)) rmX0_cross (cPc D K s0 B ad z0 [.ref (B 0), .int x1]) (cQ D K B ad A (some (.int res.1)) res.2) 0 0 A := by
  refine ck_start (A := A) RX0 (by decide) rfl (Nat.le_of_ble_eq_true rfl) ?_
  intro p e s m args below meth c H locs ls E hr hlocks hK hN hP hS hl
  have hl : lv_has ls 5 [(0, .ref (B 0)), (1, .int x1)] := hl
  unfold c_cross at hF
  refine lv_aload_n E.1 E.2.1 dX0_cross_0 rfl (lv_at hl 0 rfl) ?_
  obtain ⟨r1, hq1, hF⟩ := bnd hF
  refine cx_go (va_runV (As := []) (rest := []) E (mm_X0_noRiver l hT hD  z0 _ hq1) (cwV 0 E.2.2.2.2 (lw_V q237 q239 qs4 q54 q240) rfl rfl rfl (by decide +kernel) ⟨Nat.le_of_ble_eq_true rfl, Nat.le_of_ble_eq_true rfl⟩) (ck_pre hK hN hP (ck_me hK hP)) rfl rfl hl.1 rfl (lv_room (Nat.le_of_ble_eq_true rfl)) dX0_cross_1 ⟨Nat.zero_le _, Nat.zero_le _⟩) hS (fun H locs hP hS => ?_)
  refine lv_if_eq (tgt := 10) E.1 E.2.1 dX0_cross_4 (by decide) (fun h => ?_) (fun h => ?_)
  · have hF := ite_t h hF
    refine lv_iload_n E.1 E.2.1 dX0_cross_10 rfl (lv_at hl 1 rfl) ?_
    refine lv_i2l E.1 E.2.1 dX0_cross_11 rfl ?_
    refine lv_ldc2 (v := (-1 : Int64)) E.1 E.2.1 E.2.2.2.1 (E.2.2.2.2 _ q327) dX0_cross_12 ?_
    refine lv_ldc2 (v := (4 : Int64)) E.1 E.2.1 E.2.2.2.1 (E.2.2.2.2 _ q328) dX0_cross_15 ?_
    obtain ⟨r18, hq18, hF⟩ := bnd hF
    refine px_call (As := [.long (x1.toInt64), .long (-1 : Int64), .long (4 : Int64)]) (rest := []) (v := .int r18) E (mm_X0_in l (x1.toInt64) (-1 : Int64) (4 : Int64) _ hq18) (va_cwS 3 E.2.2.2.2 (lw_S q177 q178 q54 q179) rfl rfl rfl (by decide +kernel) ⟨Nat.le_of_ble_eq_true rfl, Nat.le_of_ble_eq_true rfl⟩) hl rfl rfl (Nat.le_of_ble_eq_true rfl) ⟨Nat.zero_le _, Nat.zero_le _⟩ dX0_cross_18 ?_
    refine lv_if_ne (tgt := 27) E.1 E.2.1 dX0_cross_21 (by decide) (fun h => ?_) (fun h => ?_)
    · have hF := ite_f h hF
      refine lv_aload_n E.1 E.2.1 dX0_cross_27 rfl (lv_at hl 0 rfl) ?_
      obtain ⟨r28, hq28, hF⟩ := bnd hF
      refine cx_go (va_runV (As := []) (rest := []) E (mm_X0_reckon l hT hD  r1.2 _ hq28) (cwV 0 E.2.2.2.2 (lw_V q329 q331 qs9 q54 q332) rfl rfl rfl (by decide +kernel) ⟨Nat.le_of_ble_eq_true rfl, Nat.le_of_ble_eq_true rfl⟩) (ck_pre hK hN hP (ck_me hK hP)) rfl rfl hl.1 rfl (lv_room (Nat.le_of_ble_eq_true rfl)) dX0_cross_28 ⟨Nat.zero_le _, Nat.zero_le _⟩) hS (fun H locs hP hS => ?_)
      refine lv_aload_n E.1 E.2.1 dX0_cross_31 rfl (lv_at hl 0 rfl) ?_
      refine ck_get E hK hP 5 (by decide) q132 rfl (v := .ref (B 5)) rfl dX0_cross_32 ?_
      refine lv_aload_n E.1 E.2.1 dX0_cross_35 rfl (lv_at hl 0 rfl) ?_
      obtain ⟨r36, hq36, hF⟩ := bnd hF
      refine cx_go (va_runV (As := []) (rest := [.ref (B 5)]) E (mm_X0_everyone l hT hD  r28 _ hq36) (cwV 0 E.2.2.2.2 (lw_V q262 q264 qs6 q54 q265) rfl rfl rfl (by decide +kernel) ⟨Nat.le_of_ble_eq_true rfl, Nat.le_of_ble_eq_true rfl⟩) (ck_pre hK hN hP (ck_me hK hP)) rfl rfl hl.1 rfl (lv_room (Nat.le_of_ble_eq_true rfl)) dX0_cross_36 ⟨Nat.zero_le _, Nat.zero_le _⟩) hS (fun H locs hP hS => ?_)
      obtain ⟨h39, hF⟩ := gd_some hF
      refine ck_ald E hK hP (q := 2) (j := 5) (n := 32) rfl h39 dX0_cross_39 ?_
      refine lv_istore_n (lv' := [(2, .int (r36.2.2.1 5 r36.1.toNatClampNeg)), (0, .ref (B 0)), (1, .int x1)]) E.1 E.2.1 dX0_cross_40 rfl hl (by decide) rfl (fun ls hl => ?_)
      refine lv_iload_n E.1 E.2.1 dX0_cross_41 rfl (lv_at hl 2 rfl) ?_
      obtain ⟨k50, hk50, hF⟩ := jn_split hF
      have J50 : ∀  (z50 : CZ) (H : Heap) (locs : List Loc) (ls : Array Slot), k50  z50 = some res → cP D K B ad z50 H → va_S A s.heap H locs → lv_has ls 5 [(1, .int x1), (2, .int (r36.2.2.1 5 r36.1.toNatClampNeg))] → W p l e rmX0_cross s m args below meth c H locs 0 0 (MQ below (cQ D K B ad A (some (.int res.1)) res.2) args s 0 0 A) (F0 m 50 ls []) := by
        intro  z50 H locs ls hF hP hS hl
        rw [hk50] at hF
        refine lv_iload_n E.1 E.2.1 dX0_cross_50 rfl (lv_at hl 0 rfl) ?_
        refine lv_if_ge (tgt := 58) E.1 E.2.1 dX0_cross_51 (by decide) (fun h => ?_) (fun h => ?_)
        · have hF := ite_t h hF
          refine lv_bipush (v := (-9 : Int32)) E.1 E.2.1 dX0_cross_58 (by decide) ?_
          exact ck_iret E hr hlocks hP hS hF dX0_cross_60
        · have hF := ite_f h hF
          refine lv_iload_n E.1 E.2.1 dX0_cross_54 rfl (lv_at hl 1 rfl) ?_
          refine lv_goto (tgt := 60) E.1 E.2.1 dX0_cross_55 (by decide) ?_
          exact ck_iret E hr hlocks hP hS hF dX0_cross_60
      refine lv_if_lt (tgt := 50) E.1 E.2.1 dX0_cross_42 (by decide) (fun h => ?_) (fun h => ?_)
      · have hF := ite_t h hF
        exact J50  r36.2 H locs ls hF hP hS (lv_sub hl [2, 0] rfl)
      · have hF := ite_f h hF
        refine lv_iload_n E.1 E.2.1 dX0_cross_45 rfl (lv_at hl 2 rfl) ?_
        refine lv_iload_n E.1 E.2.1 dX0_cross_46 rfl (lv_at hl 0 rfl) ?_
        refine lv_icmp_lt (tgt := 61) E.1 E.2.1 dX0_cross_47 (by decide) (fun h => ?_) (fun h => ?_)
        · have hF := ite_t h hF
          refine lv_aload_n E.1 E.2.1 dX0_cross_61 rfl (lv_at hl 1 rfl) ?_
          obtain ⟨r62, hq62, hF⟩ := bnd hF
          refine cx_go (va_runV (As := []) (rest := []) E (mm_X0_everyone l hT hD  r36.2 _ hq62) (cwV 0 E.2.2.2.2 (lw_V q262 q264 qs6 q54 q265) rfl rfl rfl (by decide +kernel) ⟨Nat.le_of_ble_eq_true rfl, Nat.le_of_ble_eq_true rfl⟩) (ck_pre hK hN hP (ck_me hK hP)) rfl rfl hl.1 rfl (lv_room (Nat.le_of_ble_eq_true rfl)) dX0_cross_62 ⟨Nat.zero_le _, Nat.zero_le _⟩) hS (fun H locs hP hS => ?_)
          refine lv_istore_n (lv' := [(3, .int r62.1), (2, .int (r36.2.2.1 5 r36.1.toNatClampNeg)), (0, .ref (B 0)), (1, .int x1)]) E.1 E.2.1 dX0_cross_65 rfl hl (by decide) rfl (fun ls hl => ?_)
          refine lv_iconst (v := (0 : Int32)) E.1 E.2.1 dX0_cross_66 (by decide) ?_
          refine lv_istore (lv' := [(4, .int (0 : Int32)), (3, .int r62.1), (2, .int (r36.2.2.1 5 r36.1.toNatClampNeg)), (0, .ref (B 0)), (1, .int x1)]) E.1 E.2.1 dX0_cross_67 hl (by decide) rfl (fun ls hl => ?_)
          have L69 : ∀ (n : Nat) (y69_3 : Int32) (y69_4 : Int32) (z69 : CZ) (H : Heap) (locs : List Loc) (ls : Array Slot), c_cross_L69 x1 n y69_3 y69_4 z69 = some res → cP D K B ad z69 H → va_S A s.heap H locs → lv_has ls 5 [(0, .ref (B 0)), (1, .int x1), (3, .int y69_3), (4, .int y69_4)] → W p l e rmX0_cross s m args below meth c H locs 0 0 (MQ below (cQ D K B ad A (some (.int res.1)) res.2) args s 0 0 A) (F0 m 69 ls []) := by
            intro n
            induction n with
            | zero =>
              intro y69_3 y69_4 z69 H locs ls hF
              rw [c_cross_L69] at hF
              cases hF
            | succ n ih =>
              intro y69_3 y69_4 z69 H locs ls hF hP hS hl
              rw [c_cross_L69] at hF
              refine lv_iload E.1 E.2.1 dX0_cross_69 (lv_at hl 3 rfl) ?_
              refine lv_iload_n E.1 E.2.1 dX0_cross_71 rfl (lv_at hl 1 rfl) ?_
              refine lv_icmp_ge (tgt := 89) E.1 E.2.1 dX0_cross_72 (by decide) (fun h => ?_) (fun h => ?_)
              · have hF := ite_t h hF
                refine lv_aload_n E.1 E.2.1 dX0_cross_89 rfl (lv_at hl 0 rfl) ?_
                refine lv_iload_n E.1 E.2.1 dX0_cross_90 rfl (lv_at hl 2 rfl) ?_
                obtain ⟨r91, hq91, hF⟩ := bnd hF
                refine cx_go (va_runV (As := [.int y69_3]) (rest := []) E (mm_X0_firstLoad l hT hD y69_3 z69 _ hq91) (cwV 1 E.2.2.2.2 (lw_V q337 q339 qs11 q54 q340) rfl rfl rfl (by decide +kernel) ⟨Nat.le_of_ble_eq_true rfl, Nat.le_of_ble_eq_true rfl⟩) (ck_pre hK hN hP (ck_me hK hP)) rfl rfl hl.1 rfl (lv_room (Nat.le_of_ble_eq_true rfl)) dX0_cross_91 ⟨Nat.zero_le _, Nat.zero_le _⟩) hS (fun H locs hP hS => ?_)
                exact ck_iret E hr hlocks hP hS hF dX0_cross_94
              · have hF := ite_f h hF
                refine lv_iload_n E.1 E.2.1 dX0_cross_75 rfl (lv_at hl 2 rfl) ?_
                refine lv_aload_n E.1 E.2.1 dX0_cross_76 rfl (lv_at hl 0 rfl) ?_
                refine lv_iload_n E.1 E.2.1 dX0_cross_77 rfl (lv_at hl 2 rfl) ?_
                obtain ⟨r78, hq78, hF⟩ := bnd hF
                refine cx_go (va_runV (As := [.int y69_3]) (rest := [.int y69_3]) E (mm_X0_firstLoad l hT hD y69_3 z69 _ hq78) (cwV 1 E.2.2.2.2 (lw_V q337 q339 qs11 q54 q340) rfl rfl rfl (by decide +kernel) ⟨Nat.le_of_ble_eq_true rfl, Nat.le_of_ble_eq_true rfl⟩) (ck_pre hK hN hP (ck_me hK hP)) rfl rfl hl.1 rfl (lv_room (Nat.le_of_ble_eq_true rfl)) dX0_cross_78 ⟨Nat.zero_le _, Nat.zero_le _⟩) hS (fun H locs hP hS => ?_)
                refine lv_ixor E.1 E.2.1 dX0_cross_81 ?_
                refine lv_istore_n (lv' := [(3, .int (y69_3 ^^^ r78.1)), (0, .ref (B 0)), (1, .int x1), (4, .int y69_4)]) E.1 E.2.1 dX0_cross_82 rfl hl (by decide) rfl (fun ls hl => ?_)
                refine lv_iinc (v := y69_4 + 1) (lv' := [(4, .int (y69_4 + 1)), (3, .int (y69_3 ^^^ r78.1)), (0, .ref (B 0)), (1, .int x1)]) E.1 E.2.1 dX0_cross_83 hl (k := 3) rfl rfl (by decide) rfl (fun ls hl => ?_)
                refine lv_goto (tgt := 69) E.1 E.2.1 dX0_cross_86 (by decide) ?_
                exact ih (y69_3 ^^^ r78.1) (y69_4 + 1) r78.2 H locs ls hF hP hS (lv_sub hl [2, 3, 1, 0] rfl)
          exact L69 FU r62.1 (0 : Int32) r62.2 H locs ls hF hP hS (lv_sub hl [3, 4, 1, 0] rfl)
        · have hF := ite_f h hF
          exact J50  r36.2 H locs ls hF hP hS (lv_sub hl [2, 0] rfl)
    · have hF := ite_t h hF
      refine lv_bipush (v := (-2 : Int32)) E.1 E.2.1 dX0_cross_24 (by decide) ?_
      exact ck_iret E hr hlocks hP hS hF dX0_cross_26
  · have hF := ite_f h hF
    refine lv_bipush (v := (-3 : Int32)) E.1 E.2.1 dX0_cross_7 (by decide) ?_
    exact ck_iret E hr hlocks hP hS hF dX0_cross_9
/-! DebtFerry.penceTo(III)I -/
def c_penceTo_L26 (x1 : Int32) (x3 : Int32) : Nat → Int32 → Int32 → Int32 → Int32 → CZ → Option (Int32 × CZ)
  | 0, _, _, _, _, _ => none
  | n + 1, y26_4, y26_5, y26_6, y26_7, z26 =>
    jn (fun  (z76 : CZ) => gd (inb y26_4 25) (some (y26_6, (cz_a z76 3 y26_4.toNatClampNeg y26_5)))) (fun (k76 : CZ → Option (Int32 × CZ)) => if (9 : Int32) < y26_7 then k76  z26 else if 0 ≤ y26_6 then k76  z26 else gd (inb y26_4 25) ((c_pulling x3 (cz_a z26 3 y26_4.toNatClampNeg y26_7)).bind (fun r49 => if r49.1 = ((1 : Int32) <<< (x1 &&& 31)) then c_penceTo_L26 x1 x3 n y26_4 y26_5 (y26_7 - y26_5) (y26_7 + 1) r49.2 else c_penceTo_L26 x1 x3 n y26_4 y26_5 (-9 : Int32) (y26_7 + 1) r49.2)))
def c_penceTo (x1 : Int32) (x2 : Int32) (x3 : Int32) (z0 : CZ) : Option (Int32 × CZ) :=
  gd (inb ((x1 * (5 : Int32)) + x2) 25) (c_penceTo_L26 x1 x3 FU ((x1 * (5 : Int32)) + x2) (z0.2.1 3 ((x1 * (5 : Int32)) + x2).toNatClampNeg) (-9 : Int32) ((z0.2.1 3 ((x1 * (5 : Int32)) + x2).toNatClampNeg) + (1 : Int32)) z0)
abbrev rmX0_penceTo : Room := { frames := 6, cells := 0, slots := 0, locals := 124 }
set_option maxHeartbeats 4000000 in
set_option maxRecDepth 100000 in
theorem mm_X0_penceTo (l : Launch) {D : va_G} {K : Nat → ClassId} {s0 : State} {a0 : Array Value} {B : Nat → Nat} {ad : CA} {A : Nat → Prop} (hT : ∀ w ∈ lw_tbl, w.before a0 s0 = true) (hD : ∀ z, va_D A (cW K B ad z)) (x1 : Int32) (x2 : Int32) (x3 : Int32) (z0 : CZ) (res : Int32 × CZ) (hF : c_penceTo x1 x2 x3 z0 = some res) : Met l yX0_penceTo (ws_ yX0_penceTo cX0_penceTo 8 (some .int)) rmX0_penceTo (cPc D K s0 B ad z0 [.ref (B 0), .int x1, .int x2, .int x3]) (cQ D K B ad A (some (.int res.1)) res.2) 0 0 A := by
  refine ck_start (A := A) RX0 (by decide) rfl (Nat.le_of_ble_eq_true rfl) ?_
  intro p e s m args below meth c H locs ls E hr hlocks hK hN hP hS hl
  have hl : lv_has ls 8 [(0, .ref (B 0)), (1, .int x1), (2, .int x2), (3, .int x3)] := hl
  unfold c_penceTo at hF
  refine lv_iload_n E.1 E.2.1 dX0_penceTo_0 rfl (lv_at hl 1 rfl) ?_
  refine lv_iconst (v := (5 : Int32)) E.1 E.2.1 dX0_penceTo_1 (by decide) ?_
  refine lv_imul E.1 E.2.1 dX0_penceTo_2 ?_
  refine lv_iload_n E.1 E.2.1 dX0_penceTo_3 rfl (lv_at hl 2 rfl) ?_
  refine lv_iadd E.1 E.2.1 dX0_penceTo_4 ?_
  refine lv_istore (lv' := [(4, .int ((x1 * (5 : Int32)) + x2)), (0, .ref (B 0)), (1, .int x1), (2, .int x2), (3, .int x3)]) E.1 E.2.1 dX0_penceTo_5 hl (by decide) rfl (fun ls hl => ?_)
  refine lv_aload_n E.1 E.2.1 dX0_penceTo_7 rfl (lv_at hl 1 rfl) ?_
  refine ck_get E hK hP 3 (by decide) q129 rfl (v := .ref (B 3)) rfl dX0_penceTo_8 ?_
  refine lv_iload E.1 E.2.1 dX0_penceTo_11 (lv_at hl 0 rfl) ?_
  obtain ⟨h13, hF⟩ := gd_some hF
  refine ck_ald E hK hP (q := 1) (j := 3) (n := 25) rfl h13 dX0_penceTo_13 ?_
  refine lv_istore (lv' := [(5, .int (z0.2.1 3 ((x1 * (5 : Int32)) + x2).toNatClampNeg)), (4, .int ((x1 * (5 : Int32)) + x2)), (0, .ref (B 0)), (1, .int x1), (2, .int x2), (3, .int x3)]) E.1 E.2.1 dX0_penceTo_14 hl (by decide) rfl (fun ls hl => ?_)
  refine lv_bipush (v := (-9 : Int32)) E.1 E.2.1 dX0_penceTo_16 (by decide) ?_
  refine lv_istore (lv' := [(6, .int (-9 : Int32)), (5, .int (z0.2.1 3 ((x1 * (5 : Int32)) + x2).toNatClampNeg)), (4, .int ((x1 * (5 : Int32)) + x2)), (0, .ref (B 0)), (1, .int x1), (2, .int x2), (3, .int x3)]) E.1 E.2.1 dX0_penceTo_18 hl (by decide) rfl (fun ls hl => ?_)
  refine lv_iload E.1 E.2.1 dX0_penceTo_20 (lv_at hl 1 rfl) ?_
  refine lv_iconst (v := (1 : Int32)) E.1 E.2.1 dX0_penceTo_22 (by decide) ?_
  refine lv_iadd E.1 E.2.1 dX0_penceTo_23 ?_
  refine lv_istore (lv' := [(7, .int ((z0.2.1 3 ((x1 * (5 : Int32)) + x2).toNatClampNeg) + (1 : Int32))), (6, .int (-9 : Int32)), (5, .int (z0.2.1 3 ((x1 * (5 : Int32)) + x2).toNatClampNeg)), (4, .int ((x1 * (5 : Int32)) + x2)), (0, .ref (B 0)), (1, .int x1), (2, .int x2), (3, .int x3)]) E.1 E.2.1 dX0_penceTo_24 hl (by decide) rfl (fun ls hl => ?_)
  have L26 : ∀ (n : Nat) (y26_4 : Int32) (y26_5 : Int32) (y26_6 : Int32) (y26_7 : Int32) (z26 : CZ) (H : Heap) (locs : List Loc) (ls : Array Slot), c_penceTo_L26 x1 x3 n y26_4 y26_5 y26_6 y26_7 z26 = some res → cP D K B ad z26 H → va_S A s.heap H locs → lv_has ls 8 [(0, .ref (B 0)), (1, .int x1), (3, .int x3), (4, .int y26_4), (5, .int y26_5), (6, .int y26_6), (7, .int y26_7)] → W p l e rmX0_penceTo s m args below meth c H locs 0 0 (MQ below (cQ D K B ad A (some (.int res.1)) res.2) args s 0 0 A) (F0 m 26 ls []) := by
    intro n
    induction n with
    | zero =>
      intro y26_4 y26_5 y26_6 y26_7 z26 H locs ls hF
      rw [c_penceTo_L26] at hF
      cases hF
    | succ n ih =>
      intro y26_4 y26_5 y26_6 y26_7 z26 H locs ls hF hP hS hl
      rw [c_penceTo_L26] at hF
      refine lv_iload E.1 E.2.1 dX0_penceTo_26 (lv_at hl 6 rfl) ?_
      refine lv_bipush (v := (9 : Int32)) E.1 E.2.1 dX0_penceTo_28 (by decide) ?_
      obtain ⟨k76, hk76, hF⟩ := jn_split hF
      have J76 : ∀  (z76 : CZ) (H : Heap) (locs : List Loc) (ls : Array Slot), k76  z76 = some res → cP D K B ad z76 H → va_S A s.heap H locs → lv_has ls 8 [(0, .ref (B 0)), (4, .int y26_4), (5, .int y26_5), (6, .int y26_6)] → W p l e rmX0_penceTo s m args below meth c H locs 0 0 (MQ below (cQ D K B ad A (some (.int res.1)) res.2) args s 0 0 A) (F0 m 76 ls []) := by
        intro  z76 H locs ls hF hP hS hl
        rw [hk76] at hF
        refine lv_aload_n E.1 E.2.1 dX0_penceTo_76 rfl (lv_at hl 0 rfl) ?_
        refine ck_get E hK hP 3 (by decide) q129 rfl (v := .ref (B 3)) rfl dX0_penceTo_77 ?_
        refine lv_iload E.1 E.2.1 dX0_penceTo_80 (lv_at hl 1 rfl) ?_
        refine lv_iload E.1 E.2.1 dX0_penceTo_82 (lv_at hl 2 rfl) ?_
        obtain ⟨h84, hF⟩ := gd_some hF
        refine ck_ast E hD hK hP hS (q := 1) (j := 3) (n := 25) rfl h84 dX0_penceTo_84 (fun H locs hP hS => ?_)
        refine lv_iload E.1 E.2.1 dX0_penceTo_85 (lv_at hl 3 rfl) ?_
        exact ck_iret E hr hlocks hP hS hF dX0_penceTo_87
      refine lv_icmp_gt (tgt := 76) E.1 E.2.1 dX0_penceTo_30 (by decide) (fun h => ?_) (fun h => ?_)
      · have hF := ite_t h hF
        exact J76  z26 H locs ls hF hP hS (lv_sub hl [0, 3, 4, 5] rfl)
      · have hF := ite_f h hF
        refine lv_iload E.1 E.2.1 dX0_penceTo_33 (lv_at hl 5 rfl) ?_
        refine lv_if_ge (tgt := 76) E.1 E.2.1 dX0_penceTo_35 (by decide) (fun h => ?_) (fun h => ?_)
        · have hF := ite_t h hF
          exact J76  z26 H locs ls hF hP hS (lv_sub hl [0, 3, 4, 5] rfl)
        · have hF := ite_f h hF
          refine lv_aload_n E.1 E.2.1 dX0_penceTo_38 rfl (lv_at hl 0 rfl) ?_
          refine ck_get E hK hP 3 (by decide) q129 rfl (v := .ref (B 3)) rfl dX0_penceTo_39 ?_
          refine lv_iload E.1 E.2.1 dX0_penceTo_42 (lv_at hl 3 rfl) ?_
          refine lv_iload E.1 E.2.1 dX0_penceTo_44 (lv_at hl 6 rfl) ?_
          obtain ⟨h46, hF⟩ := gd_some hF
          refine ck_ast E hD hK hP hS (q := 1) (j := 3) (n := 25) rfl h46 dX0_penceTo_46 (fun H locs hP hS => ?_)
          refine lv_aload_n E.1 E.2.1 dX0_penceTo_47 rfl (lv_at hl 0 rfl) ?_
          refine lv_iload_n E.1 E.2.1 dX0_penceTo_48 rfl (lv_at hl 2 rfl) ?_
          obtain ⟨r49, hq49, hF⟩ := bnd hF
          refine cx_go (va_runV (As := [.int x3]) (rest := []) E (mm_X0_pulling l hT hD x3 (cz_a z26 3 y26_4.toNatClampNeg y26_7) _ hq49) (cwV 1 E.2.2.2.2 (lw_V q300 q302 qs7 q54 q303) rfl rfl rfl (by decide +kernel) ⟨Nat.le_of_ble_eq_true rfl, Nat.le_of_ble_eq_true rfl⟩) (ck_pre hK hN hP (ck_me hK hP)) rfl rfl hl.1 rfl (lv_room (Nat.le_of_ble_eq_true rfl)) dX0_penceTo_49 ⟨Nat.zero_le _, Nat.zero_le _⟩) hS (fun H locs hP hS => ?_)
          refine lv_iconst (v := (1 : Int32)) E.1 E.2.1 dX0_penceTo_52 (by decide) ?_
          refine lv_iload_n E.1 E.2.1 dX0_penceTo_53 rfl (lv_at hl 1 rfl) ?_
          refine lv_ishl E.1 E.2.1 dX0_penceTo_54 ?_
          refine lv_icmp_ne (tgt := 66) E.1 E.2.1 dX0_penceTo_55 (by decide) (fun h => ?_) (fun h => ?_)
          · have hF := ite_f h hF
            refine lv_bipush (v := (-9 : Int32)) E.1 E.2.1 dX0_penceTo_66 (by decide) ?_
            refine lv_istore (lv' := [(6, .int (-9 : Int32)), (0, .ref (B 0)), (1, .int x1), (3, .int x3), (4, .int y26_4), (5, .int y26_5), (7, .int y26_7)]) E.1 E.2.1 dX0_penceTo_68 hl (by decide) rfl (fun ls hl => ?_)
            refine lv_iinc (v := y26_7 + 1) (lv' := [(7, .int (y26_7 + 1)), (6, .int (-9 : Int32)), (0, .ref (B 0)), (1, .int x1), (3, .int x3), (4, .int y26_4), (5, .int y26_5)]) E.1 E.2.1 dX0_penceTo_70 hl (k := 6) rfl rfl (by decide) rfl (fun ls hl => ?_)
            refine lv_goto (tgt := 26) E.1 E.2.1 dX0_penceTo_73 (by decide) ?_
            exact ih y26_4 y26_5 (-9 : Int32) (y26_7 + 1) r49.2 H locs ls hF hP hS (lv_sub hl [2, 3, 4, 5, 6, 1, 0] rfl)
          · have hF := ite_t h hF
            refine lv_iload E.1 E.2.1 dX0_penceTo_58 (lv_at hl 6 rfl) ?_
            refine lv_iload E.1 E.2.1 dX0_penceTo_60 (lv_at hl 4 rfl) ?_
            refine lv_isub E.1 E.2.1 dX0_penceTo_62 ?_
            refine lv_goto (tgt := 68) E.1 E.2.1 dX0_penceTo_63 (by decide) ?_
            refine lv_istore (lv' := [(6, .int (y26_7 - y26_5)), (0, .ref (B 0)), (1, .int x1), (3, .int x3), (4, .int y26_4), (5, .int y26_5), (7, .int y26_7)]) E.1 E.2.1 dX0_penceTo_68 hl (by decide) rfl (fun ls hl => ?_)
            refine lv_iinc (v := y26_7 + 1) (lv' := [(7, .int (y26_7 + 1)), (6, .int (y26_7 - y26_5)), (0, .ref (B 0)), (1, .int x1), (3, .int x3), (4, .int y26_4), (5, .int y26_5)]) E.1 E.2.1 dX0_penceTo_70 hl (k := 6) rfl rfl (by decide) rfl (fun ls hl => ?_)
            refine lv_goto (tgt := 26) E.1 E.2.1 dX0_penceTo_73 (by decide) ?_
            exact ih y26_4 y26_5 (y26_7 - y26_5) (y26_7 + 1) r49.2 H locs ls hF hP hS (lv_sub hl [2, 3, 4, 5, 6, 1, 0] rfl)
  exact L26 FU ((x1 * (5 : Int32)) + x2) (z0.2.1 3 ((x1 * (5 : Int32)) + x2).toNatClampNeg) (-9 : Int32) ((z0.2.1 3 ((x1 * (5 : Int32)) + x2).toNatClampNeg) + (1 : Int32)) z0 H locs ls hF hP hS (lv_sub hl [4, 5, 7, 3, 2, 1, 0] rfl)
/-! DebtFerry.loan(III)I -/
def c_loan_L75 (k141 : Int32 → Int32 → CZ → Option (Int32 × CZ)) (x1 : Int32) (x2 : Int32) (x3 : Int32) : Nat → Int32 → Int32 → Int32 → CZ → Option (Int32 × CZ)
  | 0, _, _, _, _ => none
  | n + 1, y75_4, y75_5, y75_6, z75 =>
    if (nI (cz_np z75)) ≤ y75_6 then k141 y75_4 y75_5 z75 else jn (fun (v108_0 : Int32) (z108 : CZ) => if v108_0 ≤ 0 then c_loan_L75 k141 x1 x2 x3 n y75_4 y75_5 (y75_6 + 1) z108 else jn (fun  (z127 : CZ) => c_loan_L75 k141 x1 x2 x3 n v108_0 y75_6 (y75_6 + 1) z127) (fun (k127 : CZ → Option (Int32 × CZ)) => if y75_4 < 0 then k127  z108 else if y75_4 ≤ v108_0 then c_loan_L75 k141 x1 x2 x3 n y75_4 y75_5 (y75_6 + 1) z108 else k127  z108)) (fun (k108 : Int32 → CZ → Option (Int32 × CZ)) => if y75_6 = x1 then k108 (-9 : Int32) z75 else (c_penceTo x1 y75_6 x2 z75).bind (fun r105 => k108 r105.1 r105.2))
def c_loan (x1 : Int32) (x2 : Int32) (x3 : Int32) (z0 : CZ) : Option (Int32 × CZ) :=
  (c_noPerson x1 z0).bind (fun r2 => if r2.1 = 0 then (c_isLoad x2 r2.2).bind (fun r12 => if r12.1 = 0 then some ((-2 : Int32), r12.2) else (c_in (x3.toInt64) (0 : Int64) (1 : Int64)).bind (fun r22 => if r22 = 0 then some ((-2 : Int32), r12.2) else (c_isIn x2 x1).bind (fun r33 => if r33 = 0 then some ((-3 : Int32), r12.2) else (c_pulling x2 r12.2).bind (fun r44 => if r44.1 = ((1 : Int32) <<< (x1 &&& 31)) then if x3 = 0 then some ((0 : Int32), r44.2) else some ((-9 : Int32), r44.2) else c_loan_L75 (fun (y75_4 : Int32) (y75_5 : Int32) (z75 : CZ) => if x3 = 0 then some (y75_4, z75) else some (y75_5, z75)) x1 x2 x3 FU (-9 : Int32) (-9 : Int32) (0 : Int32) r44.2)))) else some ((-1 : Int32), r2.2))
abbrev rmX0_loan : Room := { frames := 7, cells := 0, slots := 0, locals := 151 }
set_option maxHeartbeats 4000000 in
set_option maxRecDepth 100000 in
theorem mm_X0_loan (l : Launch) {D : va_G} {K : Nat → ClassId} {s0 : State} {a0 : Array Value} {B : Nat → Nat} {ad : CA} {A : Nat → Prop} (hT : ∀ w ∈ lw_tbl, w.before a0 s0 = true) (hD : ∀ z, va_D A (cW K B ad z)) (x1 : Int32) (x2 : Int32) (x3 : Int32) (z0 : CZ) (res : Int32 × CZ) (hF : c_loan x1 x2 x3 z0 = some res) : Met l yX0_loan (ws_ yX0_loan cX0_loan 8 (some .int)) rmX0_loan (cPc D K s0 B ad z0 [.ref (B 0), .int x1, .int x2, .int x3]) (cQ D K B ad A (some (.int res.1)) res.2) 0 0 A := by
  refine ck_start (A := A) RX0 (by decide) rfl (Nat.le_of_ble_eq_true rfl) ?_
  intro p e s m args below meth c H locs ls E hr hlocks hK hN hP hS hl
  have hl : lv_has ls 8 [(0, .ref (B 0)), (1, .int x1), (2, .int x2), (3, .int x3)] := hl
  unfold c_loan at hF
  refine lv_aload_n E.1 E.2.1 dX0_loan_0 rfl (lv_at hl 0 rfl) ?_
  refine lv_iload_n E.1 E.2.1 dX0_loan_1 rfl (lv_at hl 1 rfl) ?_
  obtain ⟨r2, hq2, hF⟩ := bnd hF
  refine cx_go (va_runV (As := [.int x1]) (rest := []) E (mm_X0_noPerson l hT hD x1 z0 _ hq2) (cwV 1 E.2.2.2.2 (lw_V q163 q165 qs0 q54 q166) rfl rfl rfl (by decide +kernel) ⟨Nat.le_of_ble_eq_true rfl, Nat.le_of_ble_eq_true rfl⟩) (ck_pre hK hN hP (ck_me hK hP)) rfl rfl hl.1 rfl (lv_room (Nat.le_of_ble_eq_true rfl)) dX0_loan_2 ⟨Nat.zero_le _, Nat.zero_le _⟩) hS (fun H locs hP hS => ?_)
  refine lv_if_eq (tgt := 10) E.1 E.2.1 dX0_loan_5 (by decide) (fun h => ?_) (fun h => ?_)
  · have hF := ite_t h hF
    refine lv_aload_n E.1 E.2.1 dX0_loan_10 rfl (lv_at hl 0 rfl) ?_
    refine lv_iload_n E.1 E.2.1 dX0_loan_11 rfl (lv_at hl 2 rfl) ?_
    obtain ⟨r12, hq12, hF⟩ := bnd hF
    refine cx_go (va_runV (As := [.int x2]) (rest := []) E (mm_X0_isLoad l hT hD x2 r2.2 _ hq12) (cwV 1 E.2.2.2.2 (lw_V q258 q260 qs5 q54 q261) rfl rfl rfl (by decide +kernel) ⟨Nat.le_of_ble_eq_true rfl, Nat.le_of_ble_eq_true rfl⟩) (ck_pre hK hN hP (ck_me hK hP)) rfl rfl hl.1 rfl (lv_room (Nat.le_of_ble_eq_true rfl)) dX0_loan_12 ⟨Nat.zero_le _, Nat.zero_le _⟩) hS (fun H locs hP hS => ?_)
    refine lv_if_eq (tgt := 28) E.1 E.2.1 dX0_loan_15 (by decide) (fun h => ?_) (fun h => ?_)
    · have hF := ite_t h hF
      refine lv_bipush (v := (-2 : Int32)) E.1 E.2.1 dX0_loan_28 (by decide) ?_
      exact ck_iret E hr hlocks hP hS hF dX0_loan_30
    · have hF := ite_f h hF
      refine lv_iload_n E.1 E.2.1 dX0_loan_18 rfl (lv_at hl 3 rfl) ?_
      refine lv_i2l E.1 E.2.1 dX0_loan_19 rfl ?_
      refine lv_lconst (v := (0 : Int64)) E.1 E.2.1 dX0_loan_20 (by decide) ?_
      refine lv_lconst (v := (1 : Int64)) E.1 E.2.1 dX0_loan_21 (by decide) ?_
      obtain ⟨r22, hq22, hF⟩ := bnd hF
      refine px_call (As := [.long (x3.toInt64), .long (0 : Int64), .long (1 : Int64)]) (rest := []) (v := .int r22) E (mm_X0_in l (x3.toInt64) (0 : Int64) (1 : Int64) _ hq22) (va_cwS 3 E.2.2.2.2 (lw_S q177 q178 q54 q179) rfl rfl rfl (by decide +kernel) ⟨Nat.le_of_ble_eq_true rfl, Nat.le_of_ble_eq_true rfl⟩) hl rfl rfl (Nat.le_of_ble_eq_true rfl) ⟨Nat.zero_le _, Nat.zero_le _⟩ dX0_loan_22 ?_
      refine lv_if_ne (tgt := 31) E.1 E.2.1 dX0_loan_25 (by decide) (fun h => ?_) (fun h => ?_)
      · have hF := ite_f h hF
        refine lv_iload_n E.1 E.2.1 dX0_loan_31 rfl (lv_at hl 2 rfl) ?_
        refine lv_iload_n E.1 E.2.1 dX0_loan_32 rfl (lv_at hl 1 rfl) ?_
        obtain ⟨r33, hq33, hF⟩ := bnd hF
        refine px_call (As := [.int x2, .int x1]) (rest := []) (v := .int r33) E (mm_X0_isIn l x2 x1 _ hq33) (va_cwS 2 E.2.2.2.2 (lw_S q266 q267 q54 q268) rfl rfl rfl (by decide +kernel) ⟨Nat.le_of_ble_eq_true rfl, Nat.le_of_ble_eq_true rfl⟩) hl rfl rfl (Nat.le_of_ble_eq_true rfl) ⟨Nat.zero_le _, Nat.zero_le _⟩ dX0_loan_33 ?_
        refine lv_if_ne (tgt := 42) E.1 E.2.1 dX0_loan_36 (by decide) (fun h => ?_) (fun h => ?_)
        · have hF := ite_f h hF
          refine lv_aload_n E.1 E.2.1 dX0_loan_42 rfl (lv_at hl 0 rfl) ?_
          refine lv_iload_n E.1 E.2.1 dX0_loan_43 rfl (lv_at hl 2 rfl) ?_
          obtain ⟨r44, hq44, hF⟩ := bnd hF
          refine cx_go (va_runV (As := [.int x2]) (rest := []) E (mm_X0_pulling l hT hD x2 r12.2 _ hq44) (cwV 1 E.2.2.2.2 (lw_V q300 q302 qs7 q54 q303) rfl rfl rfl (by decide +kernel) ⟨Nat.le_of_ble_eq_true rfl, Nat.le_of_ble_eq_true rfl⟩) (ck_pre hK hN hP (ck_me hK hP)) rfl rfl hl.1 rfl (lv_room (Nat.le_of_ble_eq_true rfl)) dX0_loan_44 ⟨Nat.zero_le _, Nat.zero_le _⟩) hS (fun H locs hP hS => ?_)
          refine lv_iconst (v := (1 : Int32)) E.1 E.2.1 dX0_loan_47 (by decide) ?_
          refine lv_iload_n E.1 E.2.1 dX0_loan_48 rfl (lv_at hl 1 rfl) ?_
          refine lv_ishl E.1 E.2.1 dX0_loan_49 ?_
          refine lv_icmp_ne (tgt := 64) E.1 E.2.1 dX0_loan_50 (by decide) (fun h => ?_) (fun h => ?_)
          · have hF := ite_f h hF
            refine lv_bipush (v := (-9 : Int32)) E.1 E.2.1 dX0_loan_64 (by decide) ?_
            refine lv_istore (lv' := [(4, .int (-9 : Int32)), (0, .ref (B 0)), (1, .int x1), (2, .int x2), (3, .int x3)]) E.1 E.2.1 dX0_loan_66 hl (by decide) rfl (fun ls hl => ?_)
            refine lv_bipush (v := (-9 : Int32)) E.1 E.2.1 dX0_loan_68 (by decide) ?_
            refine lv_istore (lv' := [(5, .int (-9 : Int32)), (4, .int (-9 : Int32)), (0, .ref (B 0)), (1, .int x1), (2, .int x2), (3, .int x3)]) E.1 E.2.1 dX0_loan_70 hl (by decide) rfl (fun ls hl => ?_)
            refine lv_iconst (v := (0 : Int32)) E.1 E.2.1 dX0_loan_72 (by decide) ?_
            refine lv_istore (lv' := [(6, .int (0 : Int32)), (5, .int (-9 : Int32)), (4, .int (-9 : Int32)), (0, .ref (B 0)), (1, .int x1), (2, .int x2), (3, .int x3)]) E.1 E.2.1 dX0_loan_73 hl (by decide) rfl (fun ls hl => ?_)
            obtain ⟨k141, hk141, hF⟩ : ∃ k141, k141 = _ ∧ c_loan_L75 k141 x1 x2 x3 FU (-9 : Int32) (-9 : Int32) (0 : Int32) r44.2 = some res := ⟨_, rfl, hF⟩
            have K141 : ∀ (y75_4 : Int32) (y75_5 : Int32) (z75 : CZ) (H : Heap) (locs : List Loc) (ls : Array Slot), k141 y75_4 y75_5 z75 = some res → cP D K B ad z75 H → va_S A s.heap H locs → lv_has ls 8 [(3, .int x3), (4, .int y75_4), (5, .int y75_5)] → W p l e rmX0_loan s m args below meth c H locs 0 0 (MQ below (cQ D K B ad A (some (.int res.1)) res.2) args s 0 0 A) (F0 m 141 ls []) := by
              intro y75_4 y75_5 z75 H locs ls hF hP hS hl
              rw [hk141] at hF
              refine lv_iload_n E.1 E.2.1 dX0_loan_141 rfl (lv_at hl 0 rfl) ?_
              refine lv_if_ne (tgt := 150) E.1 E.2.1 dX0_loan_142 (by decide) (fun h => ?_) (fun h => ?_)
              · have hF := ite_f h hF
                refine lv_iload E.1 E.2.1 dX0_loan_150 (lv_at hl 2 rfl) ?_
                exact ck_iret E hr hlocks hP hS hF dX0_loan_152
              · have hF := ite_t h hF
                refine lv_iload E.1 E.2.1 dX0_loan_145 (lv_at hl 1 rfl) ?_
                refine lv_goto (tgt := 152) E.1 E.2.1 dX0_loan_147 (by decide) ?_
                exact ck_iret E hr hlocks hP hS hF dX0_loan_152
            have L75 : ∀ (n : Nat) (y75_4 : Int32) (y75_5 : Int32) (y75_6 : Int32) (z75 : CZ) (H : Heap) (locs : List Loc) (ls : Array Slot), c_loan_L75 k141 x1 x2 x3 n y75_4 y75_5 y75_6 z75 = some res → cP D K B ad z75 H → va_S A s.heap H locs → lv_has ls 8 [(0, .ref (B 0)), (1, .int x1), (2, .int x2), (3, .int x3), (4, .int y75_4), (5, .int y75_5), (6, .int y75_6)] → W p l e rmX0_loan s m args below meth c H locs 0 0 (MQ below (cQ D K B ad A (some (.int res.1)) res.2) args s 0 0 A) (F0 m 75 ls []) := by
              intro n
              induction n with
              | zero =>
                intro y75_4 y75_5 y75_6 z75 H locs ls hF
                rw [c_loan_L75] at hF
                cases hF
              | succ n ih =>
                intro y75_4 y75_5 y75_6 z75 H locs ls hF hP hS hl
                rw [c_loan_L75] at hF
                refine lv_iload E.1 E.2.1 dX0_loan_75 (lv_at hl 6 rfl) ?_
                refine lv_aload_n E.1 E.2.1 dX0_loan_77 rfl (lv_at hl 0 rfl) ?_
                refine ck_get E hK hP 4 (by decide) q130 rfl (v := .ref (B 4)) rfl dX0_loan_78 ?_
                refine ck_size E hT hN hK hP (q0 := 5) (j := 4) (n := cz_np z75) rfl q168 hl (Nat.le_of_ble_eq_true rfl) ⟨Nat.le_of_ble_eq_true rfl, Nat.le_of_ble_eq_true rfl⟩ ⟨Nat.zero_le _, Nat.zero_le _⟩ dX0_loan_81 ?_
                refine lv_icmp_ge (tgt := 141) E.1 E.2.1 dX0_loan_86 (by decide) (fun h => ?_) (fun h => ?_)
                · have hF := ite_t h hF
                  exact K141 y75_4 y75_5 z75 H locs ls hF hP hS (lv_sub hl [3, 4, 5] rfl)
                · have hF := ite_f h hF
                  refine lv_iload E.1 E.2.1 dX0_loan_89 (lv_at hl 6 rfl) ?_
                  refine lv_iload_n E.1 E.2.1 dX0_loan_91 rfl (lv_at hl 1 rfl) ?_
                  obtain ⟨k108, hk108, hF⟩ := jn_split hF
                  have J108 : ∀ (v108_0 : Int32) (z108 : CZ) (H : Heap) (locs : List Loc) (ls : Array Slot), k108 v108_0 z108 = some res → cP D K B ad z108 H → va_S A s.heap H locs → lv_has ls 8 [(0, .ref (B 0)), (1, .int x1), (2, .int x2), (3, .int x3), (4, .int y75_4), (5, .int y75_5), (6, .int y75_6)] → W p l e rmX0_loan s m args below meth c H locs 0 0 (MQ below (cQ D K B ad A (some (.int res.1)) res.2) args s 0 0 A) (F0 m 108 ls [.int v108_0]) := by
                    intro v108_0 z108 H locs ls hF hP hS hl
                    rw [hk108] at hF
                    refine lv_istore (lv' := [(7, .int v108_0), (0, .ref (B 0)), (1, .int x1), (2, .int x2), (3, .int x3), (4, .int y75_4), (5, .int y75_5), (6, .int y75_6)]) E.1 E.2.1 dX0_loan_108 hl (by decide) rfl (fun ls hl => ?_)
                    refine lv_iload E.1 E.2.1 dX0_loan_110 (lv_at hl 0 rfl) ?_
                    refine lv_if_le (tgt := 135) E.1 E.2.1 dX0_loan_112 (by decide) (fun h => ?_) (fun h => ?_)
                    · have hF := ite_t h hF
                      refine lv_iinc (v := y75_6 + 1) (lv' := [(6, .int (y75_6 + 1)), (7, .int v108_0), (0, .ref (B 0)), (1, .int x1), (2, .int x2), (3, .int x3), (4, .int y75_4), (5, .int y75_5)]) E.1 E.2.1 dX0_loan_135 hl (k := 7) rfl rfl (by decide) rfl (fun ls hl => ?_)
                      refine lv_goto (tgt := 75) E.1 E.2.1 dX0_loan_138 (by decide) ?_
                      exact ih y75_4 y75_5 (y75_6 + 1) z108 H locs ls hF hP hS (lv_sub hl [2, 3, 4, 5, 6, 7, 0] rfl)
                    · have hF := ite_f h hF
                      refine lv_iload E.1 E.2.1 dX0_loan_115 (lv_at hl 5 rfl) ?_
                      obtain ⟨k127, hk127, hF⟩ := jn_split hF
                      have J127 : ∀  (z127 : CZ) (H : Heap) (locs : List Loc) (ls : Array Slot), k127  z127 = some res → cP D K B ad z127 H → va_S A s.heap H locs → lv_has ls 8 [(0, .ref (B 0)), (1, .int x1), (2, .int x2), (3, .int x3), (6, .int y75_6), (7, .int v108_0)] → W p l e rmX0_loan s m args below meth c H locs 0 0 (MQ below (cQ D K B ad A (some (.int res.1)) res.2) args s 0 0 A) (F0 m 127 ls []) := by
                        intro  z127 H locs ls hF hP hS hl
                        rw [hk127] at hF
                        refine lv_iload E.1 E.2.1 dX0_loan_127 (lv_at hl 5 rfl) ?_
                        refine lv_istore (lv' := [(4, .int v108_0), (0, .ref (B 0)), (1, .int x1), (2, .int x2), (3, .int x3), (6, .int y75_6), (7, .int v108_0)]) E.1 E.2.1 dX0_loan_129 hl (by decide) rfl (fun ls hl => ?_)
                        refine lv_iload E.1 E.2.1 dX0_loan_131 (lv_at hl 5 rfl) ?_
                        refine lv_istore (lv' := [(5, .int y75_6), (4, .int v108_0), (0, .ref (B 0)), (1, .int x1), (2, .int x2), (3, .int x3), (6, .int y75_6), (7, .int v108_0)]) E.1 E.2.1 dX0_loan_133 hl (by decide) rfl (fun ls hl => ?_)
                        refine lv_iinc (v := y75_6 + 1) (lv' := [(6, .int (y75_6 + 1)), (5, .int y75_6), (4, .int v108_0), (0, .ref (B 0)), (1, .int x1), (2, .int x2), (3, .int x3), (7, .int v108_0)]) E.1 E.2.1 dX0_loan_135 hl (k := 6) rfl rfl (by decide) rfl (fun ls hl => ?_)
                        refine lv_goto (tgt := 75) E.1 E.2.1 dX0_loan_138 (by decide) ?_
                        exact ih v108_0 y75_6 (y75_6 + 1) z127 H locs ls hF hP hS (lv_sub hl [3, 4, 5, 6, 2, 1, 0] rfl)
                      refine lv_if_lt (tgt := 127) E.1 E.2.1 dX0_loan_117 (by decide) (fun h => ?_) (fun h => ?_)
                      · have hF := ite_t h hF
                        exact J127  z108 H locs ls hF hP hS (lv_sub hl [1, 2, 3, 4, 7, 0] rfl)
                      · have hF := ite_f h hF
                        refine lv_iload E.1 E.2.1 dX0_loan_120 (lv_at hl 0 rfl) ?_
                        refine lv_iload E.1 E.2.1 dX0_loan_122 (lv_at hl 5 rfl) ?_
                        refine lv_icmp_ge (tgt := 135) E.1 E.2.1 dX0_loan_124 (by decide) (fun h => ?_) (fun h => ?_)
                        · have hF := ite_t h hF
                          refine lv_iinc (v := y75_6 + 1) (lv' := [(6, .int (y75_6 + 1)), (7, .int v108_0), (0, .ref (B 0)), (1, .int x1), (2, .int x2), (3, .int x3), (4, .int y75_4), (5, .int y75_5)]) E.1 E.2.1 dX0_loan_135 hl (k := 7) rfl rfl (by decide) rfl (fun ls hl => ?_)
                          refine lv_goto (tgt := 75) E.1 E.2.1 dX0_loan_138 (by decide) ?_
                          exact ih y75_4 y75_5 (y75_6 + 1) z108 H locs ls hF hP hS (lv_sub hl [2, 3, 4, 5, 6, 7, 0] rfl)
                        · have hF := ite_f h hF
                          exact J127  z108 H locs ls hF hP hS (lv_sub hl [1, 2, 3, 4, 7, 0] rfl)
                  refine lv_icmp_ne (tgt := 100) E.1 E.2.1 dX0_loan_92 (by decide) (fun h => ?_) (fun h => ?_)
                  · have hF := ite_f h hF
                    refine lv_aload_n E.1 E.2.1 dX0_loan_100 rfl (lv_at hl 0 rfl) ?_
                    refine lv_iload_n E.1 E.2.1 dX0_loan_101 rfl (lv_at hl 1 rfl) ?_
                    refine lv_iload E.1 E.2.1 dX0_loan_102 (lv_at hl 6 rfl) ?_
                    refine lv_iload_n E.1 E.2.1 dX0_loan_104 rfl (lv_at hl 2 rfl) ?_
                    obtain ⟨r105, hq105, hF⟩ := bnd hF
                    refine cx_go (va_runV (As := [.int x1, .int y75_6, .int x2]) (rest := []) E (mm_X0_penceTo l hT hD x1 y75_6 x2 z75 _ hq105) (cwV 3 E.2.2.2.2 (lw_V q345 q347 qs12 q54 q348) rfl rfl rfl (by decide +kernel) ⟨Nat.le_of_ble_eq_true rfl, Nat.le_of_ble_eq_true rfl⟩) (ck_pre hK hN hP (ck_me hK hP)) rfl rfl hl.1 rfl (lv_room (Nat.le_of_ble_eq_true rfl)) dX0_loan_105 ⟨Nat.zero_le _, Nat.zero_le _⟩) hS (fun H locs hP hS => ?_)
                    exact J108 r105.1 r105.2 H locs ls hF hP hS (lv_sub hl [0, 1, 2, 3, 4, 5, 6] rfl)
                  · have hF := ite_t h hF
                    refine lv_bipush (v := (-9 : Int32)) E.1 E.2.1 dX0_loan_95 (by decide) ?_
                    refine lv_goto (tgt := 108) E.1 E.2.1 dX0_loan_97 (by decide) ?_
                    exact J108 (-9 : Int32) z75 H locs ls hF hP hS (lv_sub hl [0, 1, 2, 3, 4, 5, 6] rfl)
            exact L75 FU (-9 : Int32) (-9 : Int32) (0 : Int32) r44.2 H locs ls hF hP hS (lv_sub hl [3, 4, 5, 6, 2, 1, 0] rfl)
          · have hF := ite_t h hF
            refine lv_iload_n E.1 E.2.1 dX0_loan_53 rfl (lv_at hl 3 rfl) ?_
            refine lv_if_ne (tgt := 61) E.1 E.2.1 dX0_loan_54 (by decide) (fun h => ?_) (fun h => ?_)
            · have hF := ite_f h hF
              refine lv_bipush (v := (-9 : Int32)) E.1 E.2.1 dX0_loan_61 (by decide) ?_
              exact ck_iret E hr hlocks hP hS hF dX0_loan_63
            · have hF := ite_t h hF
              refine lv_iconst (v := (0 : Int32)) E.1 E.2.1 dX0_loan_57 (by decide) ?_
              refine lv_goto (tgt := 63) E.1 E.2.1 dX0_loan_58 (by decide) ?_
              exact ck_iret E hr hlocks hP hS hF dX0_loan_63
        · have hF := ite_t h hF
          refine lv_bipush (v := (-3 : Int32)) E.1 E.2.1 dX0_loan_39 (by decide) ?_
          exact ck_iret E hr hlocks hP hS hF dX0_loan_41
      · have hF := ite_t h hF
        refine lv_bipush (v := (-2 : Int32)) E.1 E.2.1 dX0_loan_28 (by decide) ?_
        exact ck_iret E hr hlocks hP hS hF dX0_loan_30
  · have hF := ite_f h hF
    refine lv_iconst (v := (-1 : Int32)) E.1 E.2.1 dX0_loan_8 (by decide) ?_
    exact ck_iret E hr hlocks hP hS hF dX0_loan_9
/-! DebtFerry.forgave(I)I -/
def c_forgave_L64 (k109 : CZ → Option (Int32 × CZ)) (x1 : Int32) (y30_2 : Int32) (y30_3 : Int32) : Nat → Int32 → CZ → Option (Int32 × CZ)
  | 0, _, _ => none
  | n + 1, y64_4, z64 =>
    if (25 : Int32) ≤ y64_4 then k109  z64 else (c_isIn y30_3 (y64_4 - y64_4 / (5 : Int32) * (5 : Int32))).bind (fun r85 => jn (fun (v102_0 : Int32) (z102 : CZ) => gd (inb y64_4 25) (c_forgave_L64 k109 x1 y30_2 y30_3 n (y64_4 + 1) (cz_a z102 3 y64_4.toNatClampNeg v102_0))) (fun (k102 : Int32 → CZ → Option (Int32 × CZ)) => if r85 = 0 then gd (inb y64_4 25) (k102 (z64.2.1 6 y64_4.toNatClampNeg) z64) else k102 (0 : Int32) z64))
def c_forgave_L30 (x1 : Int32) : Nat → Int32 → Int32 → CZ → Option (Int32 × CZ)
  | 0, _, _, _ => none
  | n + 1, y30_2, y30_3, z30 =>
    (c_everyone  z30).bind (fun r32 => if r32.1 < y30_3 then (c_putBack  r32.2).bind (fun r130 => some (y30_2, r130)) else if (y30_3 &&& (x1 ^^^ (-1 : Int32))) = 0 then jn (fun  (z61 : CZ) => c_forgave_L64 (fun  (z64 : CZ) => (c_pulling x1 z64).bind (fun r111 => jn (fun (v122_0 : Int32) (z122 : CZ) => c_forgave_L30 x1 n v122_0 (y30_3 + 1) z122) (fun (k122 : Int32 → CZ → Option (Int32 × CZ)) => if r111.1 = 0 then k122 y30_3 r111.2 else k122 y30_2 r111.2))) x1 y30_2 y30_3 FU (0 : Int32) z61) (fun (k61 : CZ → Option (Int32 × CZ)) => if y30_2 < 0 then k61  r32.2 else (j16_bitCount y30_3).bind (fun r51 => (j16_bitCount y30_2).bind (fun r55 => if r55 ≤ r51 then c_forgave_L30 x1 n y30_2 (y30_3 + 1) r32.2 else k61  r32.2))) else c_forgave_L30 x1 n y30_2 (y30_3 + 1) r32.2)
def c_forgave (x1 : Int32) (z0 : CZ) : Option (Int32 × CZ) :=
  (c_noRiver  z0).bind (fun r1 => if r1.1 = 0 then (c_isLoad x1 r1.2).bind (fun r12 => if r12.1 = 0 then some ((-2 : Int32), r12.2) else (c_keep  r12.2).bind (fun r22 => c_forgave_L30 x1 FU (-9 : Int32) (0 : Int32) r22)) else some ((-3 : Int32), r1.2))
abbrev rmX0_forgave : Room := { frames := 6, cells := 0, slots := 0, locals := 124 }
set_option maxHeartbeats 4000000 in
set_option maxRecDepth 100000 in
theorem mm_X0_forgave (l : Launch) {D : va_G} {K : Nat → ClassId} {s0 : State} {a0 : Array Value} {B : Nat → Nat} {ad : CA} {A : Nat → Prop} (hT : ∀ w ∈ lw_tbl, w.before a0 s0 = true) (hD : ∀ z, va_D A (cW K B ad z)) (x1 : Int32) (z0 : CZ) (res : Int32 × CZ) (hF : c_forgave x1 z0 = some res) : Met l yX0_forgave (ws_ yX0_forgave cX0_forgave 5 (some .int)) rmX0_forgave (cPc D K s0 B ad z0 [.ref (B 0), .int x1]) (cQ D K B ad A (some (.int res.1)) res.2) 0 0 A := by
  refine ck_start (A := A) RX0 (by decide) rfl (Nat.le_of_ble_eq_true rfl) ?_
  intro p e s m args below meth c H locs ls E hr hlocks hK hN hP hS hl
  have hl : lv_has ls 5 [(0, .ref (B 0)), (1, .int x1)] := hl
  unfold c_forgave at hF
  refine lv_aload_n E.1 E.2.1 dX0_forgave_0 rfl (lv_at hl 0 rfl) ?_
  obtain ⟨r1, hq1, hF⟩ := bnd hF
  refine cx_go (va_runV (As := []) (rest := []) E (mm_X0_noRiver l hT hD  z0 _ hq1) (cwV 0 E.2.2.2.2 (lw_V q237 q239 qs4 q54 q240) rfl rfl rfl (by decide +kernel) ⟨Nat.le_of_ble_eq_true rfl, Nat.le_of_ble_eq_true rfl⟩) (ck_pre hK hN hP (ck_me hK hP)) rfl rfl hl.1 rfl (lv_room (Nat.le_of_ble_eq_true rfl)) dX0_forgave_1 ⟨Nat.zero_le _, Nat.zero_le _⟩) hS (fun H locs hP hS => ?_)
  refine lv_if_eq (tgt := 10) E.1 E.2.1 dX0_forgave_4 (by decide) (fun h => ?_) (fun h => ?_)
  · have hF := ite_t h hF
    refine lv_aload_n E.1 E.2.1 dX0_forgave_10 rfl (lv_at hl 0 rfl) ?_
    refine lv_iload_n E.1 E.2.1 dX0_forgave_11 rfl (lv_at hl 1 rfl) ?_
    obtain ⟨r12, hq12, hF⟩ := bnd hF
    refine cx_go (va_runV (As := [.int x1]) (rest := []) E (mm_X0_isLoad l hT hD x1 r1.2 _ hq12) (cwV 1 E.2.2.2.2 (lw_V q258 q260 qs5 q54 q261) rfl rfl rfl (by decide +kernel) ⟨Nat.le_of_ble_eq_true rfl, Nat.le_of_ble_eq_true rfl⟩) (ck_pre hK hN hP (ck_me hK hP)) rfl rfl hl.1 rfl (lv_room (Nat.le_of_ble_eq_true rfl)) dX0_forgave_12 ⟨Nat.zero_le _, Nat.zero_le _⟩) hS (fun H locs hP hS => ?_)
    refine lv_if_ne (tgt := 21) E.1 E.2.1 dX0_forgave_15 (by decide) (fun h => ?_) (fun h => ?_)
    · have hF := ite_f h hF
      refine lv_aload_n E.1 E.2.1 dX0_forgave_21 rfl (lv_at hl 0 rfl) ?_
      obtain ⟨r22, hq22, hF⟩ := bnd hF
      refine cx_go (va_runV (As := []) (rest := []) E (mm_X0_keep l hT hD  r12.2 _ hq22) (cwV 0 E.2.2.2.2 (lw_V q353 q355 qs13 q54 q356) rfl rfl rfl (by decide +kernel) ⟨Nat.le_of_ble_eq_true rfl, Nat.le_of_ble_eq_true rfl⟩) (ck_pre hK hN hP (ck_me hK hP)) rfl rfl hl.1 rfl (lv_room (Nat.le_of_ble_eq_true rfl)) dX0_forgave_22 ⟨Nat.zero_le _, Nat.zero_le _⟩) hS (fun H locs hP hS => ?_)
      refine lv_bipush (v := (-9 : Int32)) E.1 E.2.1 dX0_forgave_25 (by decide) ?_
      refine lv_istore_n (lv' := [(2, .int (-9 : Int32)), (0, .ref (B 0)), (1, .int x1)]) E.1 E.2.1 dX0_forgave_27 rfl hl (by decide) rfl (fun ls hl => ?_)
      refine lv_iconst (v := (0 : Int32)) E.1 E.2.1 dX0_forgave_28 (by decide) ?_
      refine lv_istore_n (lv' := [(3, .int (0 : Int32)), (2, .int (-9 : Int32)), (0, .ref (B 0)), (1, .int x1)]) E.1 E.2.1 dX0_forgave_29 rfl hl (by decide) rfl (fun ls hl => ?_)
      have L30 : ∀ (n : Nat) (y30_2 : Int32) (y30_3 : Int32) (z30 : CZ) (H : Heap) (locs : List Loc) (ls : Array Slot), c_forgave_L30 x1 n y30_2 y30_3 z30 = some res → cP D K B ad z30 H → va_S A s.heap H locs → lv_has ls 5 [(0, .ref (B 0)), (1, .int x1), (2, .int y30_2), (3, .int y30_3)] → W p l e rmX0_forgave s m args below meth c H locs 0 0 (MQ below (cQ D K B ad A (some (.int res.1)) res.2) args s 0 0 A) (F0 m 30 ls []) := by
        intro n
        induction n with
        | zero =>
          intro y30_2 y30_3 z30 H locs ls hF
          rw [c_forgave_L30] at hF
          cases hF
        | succ n ih =>
          intro y30_2 y30_3 z30 H locs ls hF hP hS hl
          rw [c_forgave_L30] at hF
          refine lv_iload_n E.1 E.2.1 dX0_forgave_30 rfl (lv_at hl 3 rfl) ?_
          refine lv_aload_n E.1 E.2.1 dX0_forgave_31 rfl (lv_at hl 0 rfl) ?_
          obtain ⟨r32, hq32, hF⟩ := bnd hF
          refine cx_go (va_runV (As := []) (rest := [.int y30_3]) E (mm_X0_everyone l hT hD  z30 _ hq32) (cwV 0 E.2.2.2.2 (lw_V q262 q264 qs6 q54 q265) rfl rfl rfl (by decide +kernel) ⟨Nat.le_of_ble_eq_true rfl, Nat.le_of_ble_eq_true rfl⟩) (ck_pre hK hN hP (ck_me hK hP)) rfl rfl hl.1 rfl (lv_room (Nat.le_of_ble_eq_true rfl)) dX0_forgave_32 ⟨Nat.zero_le _, Nat.zero_le _⟩) hS (fun H locs hP hS => ?_)
          refine lv_icmp_gt (tgt := 129) E.1 E.2.1 dX0_forgave_35 (by decide) (fun h => ?_) (fun h => ?_)
          · have hF := ite_t h hF
            refine lv_aload_n E.1 E.2.1 dX0_forgave_129 rfl (lv_at hl 0 rfl) ?_
            obtain ⟨r130, hq130, hF⟩ := bnd hF
            refine cx_go (va_runV (As := []) (rest := []) E (mm_X0_putBack l hT hD  r32.2 _ hq130) (cwV 0 E.2.2.2.2 (lw_V q360 q362 qs14 q54 q363) rfl rfl rfl (by decide +kernel) ⟨Nat.le_of_ble_eq_true rfl, Nat.le_of_ble_eq_true rfl⟩) (ck_pre hK hN hP (ck_me hK hP)) rfl rfl hl.1 rfl (lv_room (Nat.le_of_ble_eq_true rfl)) dX0_forgave_130 ⟨Nat.zero_le _, Nat.zero_le _⟩) hS (fun H locs hP hS => ?_)
            refine lv_iload_n E.1 E.2.1 dX0_forgave_133 rfl (lv_at hl 2 rfl) ?_
            exact ck_iret E hr hlocks hP hS hF dX0_forgave_134
          · have hF := ite_f h hF
            refine lv_iload_n E.1 E.2.1 dX0_forgave_38 rfl (lv_at hl 3 rfl) ?_
            refine lv_iload_n E.1 E.2.1 dX0_forgave_39 rfl (lv_at hl 1 rfl) ?_
            refine lv_iconst (v := (-1 : Int32)) E.1 E.2.1 dX0_forgave_40 (by decide) ?_
            refine lv_ixor E.1 E.2.1 dX0_forgave_41 ?_
            refine lv_iand E.1 E.2.1 dX0_forgave_42 ?_
            refine lv_if_ne (tgt := 123) E.1 E.2.1 dX0_forgave_43 (by decide) (fun h => ?_) (fun h => ?_)
            · have hF := ite_f h hF
              refine lv_iinc (v := y30_3 + 1) (lv' := [(3, .int (y30_3 + 1)), (0, .ref (B 0)), (1, .int x1), (2, .int y30_2)]) E.1 E.2.1 dX0_forgave_123 hl (k := 3) rfl rfl (by decide) rfl (fun ls hl => ?_)
              refine lv_goto (tgt := 30) E.1 E.2.1 dX0_forgave_126 (by decide) ?_
              exact ih y30_2 (y30_3 + 1) r32.2 H locs ls hF hP hS (lv_sub hl [1, 2, 3, 0] rfl)
            · have hF := ite_t h hF
              refine lv_iload_n E.1 E.2.1 dX0_forgave_46 rfl (lv_at hl 2 rfl) ?_
              obtain ⟨k61, hk61, hF⟩ := jn_split hF
              have J61 : ∀  (z61 : CZ) (H : Heap) (locs : List Loc) (ls : Array Slot), k61  z61 = some res → cP D K B ad z61 H → va_S A s.heap H locs → lv_has ls 5 [(0, .ref (B 0)), (1, .int x1), (2, .int y30_2), (3, .int y30_3)] → W p l e rmX0_forgave s m args below meth c H locs 0 0 (MQ below (cQ D K B ad A (some (.int res.1)) res.2) args s 0 0 A) (F0 m 61 ls []) := by
                intro  z61 H locs ls hF hP hS hl
                rw [hk61] at hF
                refine lv_iconst (v := (0 : Int32)) E.1 E.2.1 dX0_forgave_61 (by decide) ?_
                refine lv_istore (lv' := [(4, .int (0 : Int32)), (0, .ref (B 0)), (1, .int x1), (2, .int y30_2), (3, .int y30_3)]) E.1 E.2.1 dX0_forgave_62 hl (by decide) rfl (fun ls hl => ?_)
                obtain ⟨k109, hk109, hF⟩ : ∃ k109, k109 = _ ∧ c_forgave_L64 k109 x1 y30_2 y30_3 FU (0 : Int32) z61 = some res := ⟨_, rfl, hF⟩
                have K109 : ∀  (z64 : CZ) (H : Heap) (locs : List Loc) (ls : Array Slot), k109  z64 = some res → cP D K B ad z64 H → va_S A s.heap H locs → lv_has ls 5 [(0, .ref (B 0)), (1, .int x1), (2, .int y30_2), (3, .int y30_3)] → W p l e rmX0_forgave s m args below meth c H locs 0 0 (MQ below (cQ D K B ad A (some (.int res.1)) res.2) args s 0 0 A) (F0 m 109 ls []) := by
                  intro  z64 H locs ls hF hP hS hl
                  rw [hk109] at hF
                  refine lv_aload_n E.1 E.2.1 dX0_forgave_109 rfl (lv_at hl 0 rfl) ?_
                  refine lv_iload_n E.1 E.2.1 dX0_forgave_110 rfl (lv_at hl 1 rfl) ?_
                  obtain ⟨r111, hq111, hF⟩ := bnd hF
                  refine cx_go (va_runV (As := [.int x1]) (rest := []) E (mm_X0_pulling l hT hD x1 z64 _ hq111) (cwV 1 E.2.2.2.2 (lw_V q300 q302 qs7 q54 q303) rfl rfl rfl (by decide +kernel) ⟨Nat.le_of_ble_eq_true rfl, Nat.le_of_ble_eq_true rfl⟩) (ck_pre hK hN hP (ck_me hK hP)) rfl rfl hl.1 rfl (lv_room (Nat.le_of_ble_eq_true rfl)) dX0_forgave_111 ⟨Nat.zero_le _, Nat.zero_le _⟩) hS (fun H locs hP hS => ?_)
                  obtain ⟨k122, hk122, hF⟩ := jn_split hF
                  have J122 : ∀ (v122_0 : Int32) (z122 : CZ) (H : Heap) (locs : List Loc) (ls : Array Slot), k122 v122_0 z122 = some res → cP D K B ad z122 H → va_S A s.heap H locs → lv_has ls 5 [(0, .ref (B 0)), (1, .int x1), (3, .int y30_3)] → W p l e rmX0_forgave s m args below meth c H locs 0 0 (MQ below (cQ D K B ad A (some (.int res.1)) res.2) args s 0 0 A) (F0 m 122 ls [.int v122_0]) := by
                    intro v122_0 z122 H locs ls hF hP hS hl
                    rw [hk122] at hF
                    refine lv_istore_n (lv' := [(2, .int v122_0), (0, .ref (B 0)), (1, .int x1), (3, .int y30_3)]) E.1 E.2.1 dX0_forgave_122 rfl hl (by decide) rfl (fun ls hl => ?_)
                    refine lv_iinc (v := y30_3 + 1) (lv' := [(3, .int (y30_3 + 1)), (2, .int v122_0), (0, .ref (B 0)), (1, .int x1)]) E.1 E.2.1 dX0_forgave_123 hl (k := 3) rfl rfl (by decide) rfl (fun ls hl => ?_)
                    refine lv_goto (tgt := 30) E.1 E.2.1 dX0_forgave_126 (by decide) ?_
                    exact ih v122_0 (y30_3 + 1) z122 H locs ls hF hP hS (lv_sub hl [2, 3, 1, 0] rfl)
                  refine lv_if_ne (tgt := 121) E.1 E.2.1 dX0_forgave_114 (by decide) (fun h => ?_) (fun h => ?_)
                  · have hF := ite_f h hF
                    refine lv_iload_n E.1 E.2.1 dX0_forgave_121 rfl (lv_at hl 2 rfl) ?_
                    exact J122 y30_2 r111.2 H locs ls hF hP hS (lv_sub hl [0, 1, 3] rfl)
                  · have hF := ite_t h hF
                    refine lv_iload_n E.1 E.2.1 dX0_forgave_117 rfl (lv_at hl 3 rfl) ?_
                    refine lv_goto (tgt := 122) E.1 E.2.1 dX0_forgave_118 (by decide) ?_
                    exact J122 y30_3 r111.2 H locs ls hF hP hS (lv_sub hl [0, 1, 3] rfl)
                have L64 : ∀ (n : Nat) (y64_4 : Int32) (z64 : CZ) (H : Heap) (locs : List Loc) (ls : Array Slot), c_forgave_L64 k109 x1 y30_2 y30_3 n y64_4 z64 = some res → cP D K B ad z64 H → va_S A s.heap H locs → lv_has ls 5 [(0, .ref (B 0)), (1, .int x1), (2, .int y30_2), (3, .int y30_3), (4, .int y64_4)] → W p l e rmX0_forgave s m args below meth c H locs 0 0 (MQ below (cQ D K B ad A (some (.int res.1)) res.2) args s 0 0 A) (F0 m 64 ls []) := by
                  intro n
                  induction n with
                  | zero =>
                    intro y64_4 z64 H locs ls hF
                    rw [c_forgave_L64] at hF
                    cases hF
                  | succ n ih =>
                    intro y64_4 z64 H locs ls hF hP hS hl
                    rw [c_forgave_L64] at hF
                    refine lv_iload E.1 E.2.1 dX0_forgave_64 (lv_at hl 4 rfl) ?_
                    refine lv_aload_n E.1 E.2.1 dX0_forgave_66 rfl (lv_at hl 0 rfl) ?_
                    refine ck_get E hK hP 3 (by decide) q129 rfl (v := .ref (B 3)) rfl dX0_forgave_67 ?_
                    refine ck_alen E hK hP (q := 1) (j := 3) (n := 25) (v := (25 : Int32)) rfl rfl dX0_forgave_70 ?_
                    refine lv_icmp_ge (tgt := 109) E.1 E.2.1 dX0_forgave_71 (by decide) (fun h => ?_) (fun h => ?_)
                    · have hF := ite_t h hF
                      exact K109  z64 H locs ls hF hP hS (lv_sub hl [0, 1, 2, 3] rfl)
                    · have hF := ite_f h hF
                      refine lv_aload_n E.1 E.2.1 dX0_forgave_74 rfl (lv_at hl 0 rfl) ?_
                      refine ck_get E hK hP 3 (by decide) q129 rfl (v := .ref (B 3)) rfl dX0_forgave_75 ?_
                      refine lv_iload E.1 E.2.1 dX0_forgave_78 (lv_at hl 4 rfl) ?_
                      refine lv_iload_n E.1 E.2.1 dX0_forgave_80 rfl (lv_at hl 3 rfl) ?_
                      refine lv_iload E.1 E.2.1 dX0_forgave_81 (lv_at hl 4 rfl) ?_
                      refine lv_iconst (v := (5 : Int32)) E.1 E.2.1 dX0_forgave_83 (by decide) ?_
                      refine lv_irem E.1 E.2.1 dX0_forgave_84 (by decide) ?_
                      obtain ⟨r85, hq85, hF⟩ := bnd hF
                      refine px_call (As := [.int y30_3, .int (y64_4 - y64_4 / (5 : Int32) * (5 : Int32))]) (rest := [.int y64_4, .ref (B 3)]) (v := .int r85) E (mm_X0_isIn l y30_3 (y64_4 - y64_4 / (5 : Int32) * (5 : Int32)) _ hq85) (va_cwS 2 E.2.2.2.2 (lw_S q266 q267 q54 q268) rfl rfl rfl (by decide +kernel) ⟨Nat.le_of_ble_eq_true rfl, Nat.le_of_ble_eq_true rfl⟩) hl rfl rfl (Nat.le_of_ble_eq_true rfl) ⟨Nat.zero_le _, Nat.zero_le _⟩ dX0_forgave_85 ?_
                      obtain ⟨k102, hk102, hF⟩ := jn_split hF
                      have J102 : ∀ (v102_0 : Int32) (z102 : CZ) (H : Heap) (locs : List Loc) (ls : Array Slot), k102 v102_0 z102 = some res → cP D K B ad z102 H → va_S A s.heap H locs → lv_has ls 5 [(0, .ref (B 0)), (1, .int x1), (2, .int y30_2), (3, .int y30_3), (4, .int y64_4)] → W p l e rmX0_forgave s m args below meth c H locs 0 0 (MQ below (cQ D K B ad A (some (.int res.1)) res.2) args s 0 0 A) (F0 m 102 ls [.int v102_0, .int y64_4, .ref (B 3)]) := by
                        intro v102_0 z102 H locs ls hF hP hS hl
                        rw [hk102] at hF
                        obtain ⟨h102, hF⟩ := gd_some hF
                        refine ck_ast E hD hK hP hS (q := 1) (j := 3) (n := 25) rfl h102 dX0_forgave_102 (fun H locs hP hS => ?_)
                        refine lv_iinc (v := y64_4 + 1) (lv' := [(4, .int (y64_4 + 1)), (0, .ref (B 0)), (1, .int x1), (2, .int y30_2), (3, .int y30_3)]) E.1 E.2.1 dX0_forgave_103 hl (k := 4) rfl rfl (by decide) rfl (fun ls hl => ?_)
                        refine lv_goto (tgt := 64) E.1 E.2.1 dX0_forgave_106 (by decide) ?_
                        exact ih (y64_4 + 1) (cz_a z102 3 y64_4.toNatClampNeg v102_0) H locs ls hF hP hS (lv_sub hl [1, 2, 3, 4, 0] rfl)
                      refine lv_if_eq (tgt := 95) E.1 E.2.1 dX0_forgave_88 (by decide) (fun h => ?_) (fun h => ?_)
                      · have hF := ite_t h hF
                        refine lv_aload_n E.1 E.2.1 dX0_forgave_95 rfl (lv_at hl 0 rfl) ?_
                        refine ck_get E hK hP 6 (by decide) q133 rfl (v := .ref (B 6)) rfl dX0_forgave_96 ?_
                        refine lv_iload E.1 E.2.1 dX0_forgave_99 (lv_at hl 4 rfl) ?_
                        obtain ⟨h101, hF⟩ := gd_some hF
                        refine ck_ald E hK hP (q := 3) (j := 6) (n := 25) rfl h101 dX0_forgave_101 ?_
                        exact J102 (z64.2.1 6 y64_4.toNatClampNeg) z64 H locs ls hF hP hS (lv_sub hl [0, 1, 2, 3, 4] rfl)
                      · have hF := ite_f h hF
                        refine lv_iconst (v := (0 : Int32)) E.1 E.2.1 dX0_forgave_91 (by decide) ?_
                        refine lv_goto (tgt := 102) E.1 E.2.1 dX0_forgave_92 (by decide) ?_
                        exact J102 (0 : Int32) z64 H locs ls hF hP hS (lv_sub hl [0, 1, 2, 3, 4] rfl)
                exact L64 FU (0 : Int32) z61 H locs ls hF hP hS (lv_sub hl [1, 2, 3, 4, 0] rfl)
              refine lv_if_lt (tgt := 61) E.1 E.2.1 dX0_forgave_47 (by decide) (fun h => ?_) (fun h => ?_)
              · have hF := ite_t h hF
                exact J61  r32.2 H locs ls hF hP hS (lv_sub hl [0, 1, 2, 3] rfl)
              · have hF := ite_f h hF
                refine lv_iload_n E.1 E.2.1 dX0_forgave_50 rfl (lv_at hl 3 rfl) ?_
                obtain ⟨r51, hq51, hF⟩ := bnd hF
                refine px_call (As := [.int y30_3]) (rest := []) (v := .int r51) E (mm_J16_bitCount l y30_3 _ hq51) (va_cwS 1 E.2.2.2.2 (lw_S q313 q314 q76 q315) rfl rfl rfl (by decide +kernel) ⟨Nat.le_of_ble_eq_true rfl, Nat.le_of_ble_eq_true rfl⟩) hl rfl rfl (Nat.le_of_ble_eq_true rfl) ⟨Nat.zero_le _, Nat.zero_le _⟩ dX0_forgave_51 ?_
                refine lv_iload_n E.1 E.2.1 dX0_forgave_54 rfl (lv_at hl 2 rfl) ?_
                obtain ⟨r55, hq55, hF⟩ := bnd hF
                refine px_call (As := [.int y30_2]) (rest := [.int r51]) (v := .int r55) E (mm_J16_bitCount l y30_2 _ hq55) (va_cwS 1 E.2.2.2.2 (lw_S q313 q314 q76 q315) rfl rfl rfl (by decide +kernel) ⟨Nat.le_of_ble_eq_true rfl, Nat.le_of_ble_eq_true rfl⟩) hl rfl rfl (Nat.le_of_ble_eq_true rfl) ⟨Nat.zero_le _, Nat.zero_le _⟩ dX0_forgave_55 ?_
                refine lv_icmp_ge (tgt := 123) E.1 E.2.1 dX0_forgave_58 (by decide) (fun h => ?_) (fun h => ?_)
                · have hF := ite_t h hF
                  refine lv_iinc (v := y30_3 + 1) (lv' := [(3, .int (y30_3 + 1)), (0, .ref (B 0)), (1, .int x1), (2, .int y30_2)]) E.1 E.2.1 dX0_forgave_123 hl (k := 3) rfl rfl (by decide) rfl (fun ls hl => ?_)
                  refine lv_goto (tgt := 30) E.1 E.2.1 dX0_forgave_126 (by decide) ?_
                  exact ih y30_2 (y30_3 + 1) r32.2 H locs ls hF hP hS (lv_sub hl [1, 2, 3, 0] rfl)
                · have hF := ite_f h hF
                  exact J61  r32.2 H locs ls hF hP hS (lv_sub hl [0, 1, 2, 3] rfl)
      exact L30 FU (-9 : Int32) (0 : Int32) r22 H locs ls hF hP hS (lv_sub hl [2, 3, 1, 0] rfl)
    · have hF := ite_t h hF
      refine lv_bipush (v := (-2 : Int32)) E.1 E.2.1 dX0_forgave_18 (by decide) ?_
      exact ck_iret E hr hlocks hP hS hF dX0_forgave_20
  · have hF := ite_f h hF
    refine lv_bipush (v := (-3 : Int32)) E.1 E.2.1 dX0_forgave_7 (by decide) ?_
    exact ck_iret E hr hlocks hP hS hF dX0_forgave_9
/-! DebtFerry.areSo()Z -/
def c_areSo_L4 : Nat → Int32 → Int32 → CZ → Option (Int32 × CZ)
  | 0, _, _, _ => none
  | n + 1, y4_1, y4_2, z4 =>
    if (nI (cz_nr z4)) ≤ y4_2 then (zr y4_1).bind (fun r => some (r, z4)) else gd (inb y4_2 (cz_nr z4)) (gd (decide (y4_2.toNatClampNeg < cz_nr z4)) (gd (decide (y4_2.toNatClampNeg < cz_nr z4)) ((c_pulling (cz_rl z4 y4_2.toNatClampNeg) z4).bind (fun r35 => gd (inb y4_2 (cz_nr r35.2)) (gd (decide (y4_2.toNatClampNeg < cz_nr r35.2)) (gd (decide (y4_2.toNatClampNeg < cz_nr r35.2)) (jn (fun (v62_0 : Int32) (z62 : CZ) => c_areSo_L4 n (y4_1 &&& v62_0) (y4_2 + 1) z62) (fun (k62 : Int32 → CZ → Option (Int32 × CZ)) => if r35.1 = (cz_rp r35.2 y4_2.toNatClampNeg) then k62 (1 : Int32) r35.2 else k62 (0 : Int32) r35.2))))))))
def c_areSo  (z0 : CZ) : Option (Int32 × CZ) :=
  c_areSo_L4 FU (1 : Int32) (0 : Int32) z0
abbrev rmX0_areSo : Room := { frames := 6, cells := 0, slots := 0, locals := 124 }
set_option maxHeartbeats 4000000 in
set_option maxRecDepth 100000 in
theorem mm_X0_areSo (l : Launch) {D : va_G} {K : Nat → ClassId} {s0 : State} {a0 : Array Value} {B : Nat → Nat} {ad : CA} {A : Nat → Prop} (hT : ∀ w ∈ lw_tbl, w.before a0 s0 = true) (hD : ∀ z, va_D A (cW K B ad z))  (z0 : CZ) (res : Int32 × CZ) (hF : c_areSo  z0 = some res) : Met l yX0_areSo (ws_ yX0_areSo cX0_areSo 3 (some .boolean)) rmX0_areSo (cPc D K s0 B ad z0 [.ref (B 0)]) (cQ D K B ad A (some (.int res.1)) res.2) 0 0 A := by
  refine ck_start (A := A) RX0 (by decide) rfl (Nat.le_of_ble_eq_true rfl) ?_
  intro p e s m args below meth c H locs ls E hr hlocks hK hN hP hS hl
  have hl : lv_has ls 3 [(0, .ref (B 0))] := hl
  unfold c_areSo at hF
  refine lv_iconst (v := (1 : Int32)) E.1 E.2.1 dX0_areSo_0 (by decide) ?_
  refine lv_istore_n (lv' := [(1, .int (1 : Int32)), (0, .ref (B 0))]) E.1 E.2.1 dX0_areSo_1 rfl hl (by decide) rfl (fun ls hl => ?_)
  refine lv_iconst (v := (0 : Int32)) E.1 E.2.1 dX0_areSo_2 (by decide) ?_
  refine lv_istore_n (lv' := [(2, .int (0 : Int32)), (1, .int (1 : Int32)), (0, .ref (B 0))]) E.1 E.2.1 dX0_areSo_3 rfl hl (by decide) rfl (fun ls hl => ?_)
  have L4 : ∀ (n : Nat) (y4_1 : Int32) (y4_2 : Int32) (z4 : CZ) (H : Heap) (locs : List Loc) (ls : Array Slot), c_areSo_L4 n y4_1 y4_2 z4 = some res → cP D K B ad z4 H → va_S A s.heap H locs → lv_has ls 3 [(0, .ref (B 0)), (1, .int y4_1), (2, .int y4_2)] → W p l e rmX0_areSo s m args below meth c H locs 0 0 (MQ below (cQ D K B ad A (some (.int res.1)) res.2) args s 0 0 A) (F0 m 4 ls []) := by
    intro n
    induction n with
    | zero =>
      intro y4_1 y4_2 z4 H locs ls hF
      rw [c_areSo_L4] at hF
      cases hF
    | succ n ih =>
      intro y4_1 y4_2 z4 H locs ls hF hP hS hl
      rw [c_areSo_L4] at hF
      refine lv_iload_n E.1 E.2.1 dX0_areSo_4 rfl (lv_at hl 2 rfl) ?_
      refine lv_aload_n E.1 E.2.1 dX0_areSo_5 rfl (lv_at hl 0 rfl) ?_
      refine ck_get E hK hP 7 (by decide) q134 rfl (v := .ref (B 7)) rfl dX0_areSo_6 ?_
      refine ck_size E hT hN hK hP (q0 := 6) (j := 7) (n := cz_nr z4) rfl q168 hl (Nat.le_of_ble_eq_true rfl) ⟨Nat.le_of_ble_eq_true rfl, Nat.le_of_ble_eq_true rfl⟩ ⟨Nat.zero_le _, Nat.zero_le _⟩ dX0_areSo_9 ?_
      refine lv_icmp_ge (tgt := 70) E.1 E.2.1 dX0_areSo_14 (by decide) (fun h => ?_) (fun h => ?_)
      · have hF := ite_t h hF
        refine lv_iload_n E.1 E.2.1 dX0_areSo_70 rfl (lv_at hl 1 rfl) ?_
        exact ck_zret E hr hlocks hP hS hF dX0_areSo_71
      · have hF := ite_f h hF
        refine lv_iload_n E.1 E.2.1 dX0_areSo_17 rfl (lv_at hl 1 rfl) ?_
        refine lv_aload_n E.1 E.2.1 dX0_areSo_18 rfl (lv_at hl 0 rfl) ?_
        refine lv_aload_n E.1 E.2.1 dX0_areSo_19 rfl (lv_at hl 0 rfl) ?_
        refine ck_get E hK hP 7 (by decide) q134 rfl (v := .ref (B 7)) rfl dX0_areSo_20 ?_
        refine lv_iload_n E.1 E.2.1 dX0_areSo_23 rfl (lv_at hl 2 rfl) ?_
        obtain ⟨h24, hF⟩ := gd_some hF
        refine ck_lget E hT hN hK hP (q0 := 6) (j := 7) (n := cz_nr z4) (o := 200) rfl hP.2.1.2 hP.2.2.2.1 h24 q181 hl (Nat.le_of_ble_eq_true rfl) ⟨Nat.le_of_ble_eq_true rfl, Nat.le_of_ble_eq_true rfl⟩ ⟨Nat.zero_le _, Nat.zero_le _⟩ dX0_areSo_24 ?_
        obtain ⟨h29, hF⟩ := gd_some hF
        have h29 : y4_2.toNatClampNeg < cz_nr z4 := of_decide_eq_true h29
        refine ck_castQ E hK hP h29 q368 dX0_areSo_29 ?_
        obtain ⟨h32, hF⟩ := gd_some hF
        have h32 : y4_2.toNatClampNeg < cz_nr z4 := of_decide_eq_true h32
        refine ck_qfld E hT hN hK hP h32 0 (by decide) (v := .int (cz_rl z4 y4_2.toNatClampNeg)) rfl q375 rfl dX0_areSo_32 ?_
        obtain ⟨r35, hq35, hF⟩ := bnd hF
        refine cx_go (va_runV (As := [.int (cz_rl z4 y4_2.toNatClampNeg)]) (rest := [.int y4_1]) E (mm_X0_pulling l hT hD (cz_rl z4 y4_2.toNatClampNeg) z4 _ hq35) (cwV 1 E.2.2.2.2 (lw_V q300 q302 qs7 q54 q303) rfl rfl rfl (by decide +kernel) ⟨Nat.le_of_ble_eq_true rfl, Nat.le_of_ble_eq_true rfl⟩) (ck_pre hK hN hP (ck_me hK hP)) rfl rfl hl.1 rfl (lv_room (Nat.le_of_ble_eq_true rfl)) dX0_areSo_35 ⟨Nat.zero_le _, Nat.zero_le _⟩) hS (fun H locs hP hS => ?_)
        refine lv_aload_n E.1 E.2.1 dX0_areSo_38 rfl (lv_at hl 0 rfl) ?_
        refine ck_get E hK hP 7 (by decide) q134 rfl (v := .ref (B 7)) rfl dX0_areSo_39 ?_
        refine lv_iload_n E.1 E.2.1 dX0_areSo_42 rfl (lv_at hl 2 rfl) ?_
        obtain ⟨h43, hF⟩ := gd_some hF
        refine ck_lget E hT hN hK hP (q0 := 6) (j := 7) (n := cz_nr r35.2) (o := 200) rfl hP.2.1.2 hP.2.2.2.1 h43 q181 hl (Nat.le_of_ble_eq_true rfl) ⟨Nat.le_of_ble_eq_true rfl, Nat.le_of_ble_eq_true rfl⟩ ⟨Nat.zero_le _, Nat.zero_le _⟩ dX0_areSo_43 ?_
        obtain ⟨h48, hF⟩ := gd_some hF
        have h48 : y4_2.toNatClampNeg < cz_nr r35.2 := of_decide_eq_true h48
        refine ck_castQ E hK hP h48 q368 dX0_areSo_48 ?_
        obtain ⟨h51, hF⟩ := gd_some hF
        have h51 : y4_2.toNatClampNeg < cz_nr r35.2 := of_decide_eq_true h51
        refine ck_qfld E hT hN hK hP h51 1 (by decide) (v := .int (cz_rp r35.2 y4_2.toNatClampNeg)) rfl q377 rfl dX0_areSo_51 ?_
        obtain ⟨k62, hk62, hF⟩ := jn_split hF
        have J62 : ∀ (v62_0 : Int32) (z62 : CZ) (H : Heap) (locs : List Loc) (ls : Array Slot), k62 v62_0 z62 = some res → cP D K B ad z62 H → va_S A s.heap H locs → lv_has ls 3 [(0, .ref (B 0)), (2, .int y4_2)] → W p l e rmX0_areSo s m args below meth c H locs 0 0 (MQ below (cQ D K B ad A (some (.int res.1)) res.2) args s 0 0 A) (F0 m 62 ls [.int v62_0, .int y4_1]) := by
          intro v62_0 z62 H locs ls hF hP hS hl
          rw [hk62] at hF
          refine lv_iand E.1 E.2.1 dX0_areSo_62 ?_
          refine lv_istore_n (lv' := [(1, .int (y4_1 &&& v62_0)), (0, .ref (B 0)), (2, .int y4_2)]) E.1 E.2.1 dX0_areSo_63 rfl hl (by decide) rfl (fun ls hl => ?_)
          refine lv_iinc (v := y4_2 + 1) (lv' := [(2, .int (y4_2 + 1)), (1, .int (y4_1 &&& v62_0)), (0, .ref (B 0))]) E.1 E.2.1 dX0_areSo_64 hl (k := 2) rfl rfl (by decide) rfl (fun ls hl => ?_)
          refine lv_goto (tgt := 4) E.1 E.2.1 dX0_areSo_67 (by decide) ?_
          exact ih (y4_1 &&& v62_0) (y4_2 + 1) z62 H locs ls hF hP hS (lv_sub hl [2, 1, 0] rfl)
        refine lv_icmp_ne (tgt := 61) E.1 E.2.1 dX0_areSo_54 (by decide) (fun h => ?_) (fun h => ?_)
        · have hF := ite_f h hF
          refine lv_iconst (v := (0 : Int32)) E.1 E.2.1 dX0_areSo_61 (by decide) ?_
          exact J62 (0 : Int32) r35.2 H locs ls hF hP hS (lv_sub hl [0, 2] rfl)
        · have hF := ite_t h hF
          refine lv_iconst (v := (1 : Int32)) E.1 E.2.1 dX0_areSo_57 (by decide) ?_
          refine lv_goto (tgt := 62) E.1 E.2.1 dX0_areSo_58 (by decide) ?_
          exact J62 (1 : Int32) r35.2 H locs ls hF hP hS (lv_sub hl [0, 2] rfl)
  exact L4 FU (1 : Int32) (0 : Int32) z0 H locs ls hF hP hS (lv_sub hl [2, 1, 0] rfl)
/-! DebtFerry.notes(II)I -/
def c_notes_L24 (k69 : Int32 → Int32 → CZ → Option (Int32 × CZ)) (x1 : Int32) (x2 : Int32) : Nat → Int32 → Int32 → Int32 → CZ → Option (Int32 × CZ)
  | 0, _, _, _, _ => none
  | n + 1, y24_3, y24_4, y24_5, z24 =>
    if (9 : Int32) < y24_5 then k69 y24_3 y24_4 z24 else gd (inb ((x1 * (5 : Int32)) + x2) 25) ((c_areSo  (cz_a z24 3 ((x1 * (5 : Int32)) + x2).toNatClampNeg y24_5)).bind (fun r46 => jn (fun (v60_0 : Int32) (z60 : CZ) => c_notes_L24 k69 x1 x2 n y24_3 (y24_4 ||| v60_0) (y24_5 + 1) z60) (fun (k60 : Int32 → CZ → Option (Int32 × CZ)) => if r46.1 = 0 then k60 (0 : Int32) r46.2 else k60 ((1 : Int32) <<< (y24_5 &&& 31)) r46.2)))
def c_notes (x1 : Int32) (x2 : Int32) (z0 : CZ) : Option (Int32 × CZ) :=
  (c_isNoNote x1 x2 z0).bind (fun r3 => if r3.1 = 0 then (c_noteOf x1 x2 r3.2).bind (fun r14 => c_notes_L24 (fun (y24_3 : Int32) (y24_4 : Int32) (z24 : CZ) => gd (inb ((x1 * (5 : Int32)) + x2) 25) (some (y24_4, (cz_a z24 3 ((x1 * (5 : Int32)) + x2).toNatClampNeg y24_3)))) x1 x2 FU r14.1 (0 : Int32) (0 : Int32) r14.2) else some ((-1 : Int32), r3.2))
abbrev rmX0_notes : Room := { frames := 7, cells := 0, slots := 0, locals := 146 }
set_option maxHeartbeats 4000000 in
set_option maxRecDepth 100000 in
theorem mm_X0_notes (l : Launch) {D : va_G} {K : Nat → ClassId} {s0 : State} {a0 : Array Value} {B : Nat → Nat} {ad : CA} {A : Nat → Prop} (hT : ∀ w ∈ lw_tbl, w.before a0 s0 = true) (hD : ∀ z, va_D A (cW K B ad z)) (x1 : Int32) (x2 : Int32) (z0 : CZ) (res : Int32 × CZ) (hF : c_notes x1 x2 z0 = some res) : Met l yX0_notes (ws_ yX0_notes cX0_notes 6 (some .int)) rmX0_notes (cPc D K s0 B ad z0 [.ref (B 0), .int x1, .int x2]) (cQ D K B ad A (some (.int res.1)) res.2) 0 0 A := by
  refine ck_start (A := A) RX0 (by decide) rfl (Nat.le_of_ble_eq_true rfl) ?_
  intro p e s m args below meth c H locs ls E hr hlocks hK hN hP hS hl
  have hl : lv_has ls 6 [(0, .ref (B 0)), (1, .int x1), (2, .int x2)] := hl
  unfold c_notes at hF
  refine lv_aload_n E.1 E.2.1 dX0_notes_0 rfl (lv_at hl 0 rfl) ?_
  refine lv_iload_n E.1 E.2.1 dX0_notes_1 rfl (lv_at hl 1 rfl) ?_
  refine lv_iload_n E.1 E.2.1 dX0_notes_2 rfl (lv_at hl 2 rfl) ?_
  obtain ⟨r3, hq3, hF⟩ := bnd hF
  refine cx_go (va_runV (As := [.int x1, .int x2]) (rest := []) E (mm_X0_isNoNote l hT hD x1 x2 z0 _ hq3) (cwV 2 E.2.2.2.2 (lw_V q227 q229 qs3 q54 q230) rfl rfl rfl (by decide +kernel) ⟨Nat.le_of_ble_eq_true rfl, Nat.le_of_ble_eq_true rfl⟩) (ck_pre hK hN hP (ck_me hK hP)) rfl rfl hl.1 rfl (lv_room (Nat.le_of_ble_eq_true rfl)) dX0_notes_3 ⟨Nat.zero_le _, Nat.zero_le _⟩) hS (fun H locs hP hS => ?_)
  refine lv_if_eq (tgt := 11) E.1 E.2.1 dX0_notes_6 (by decide) (fun h => ?_) (fun h => ?_)
  · have hF := ite_t h hF
    refine lv_aload_n E.1 E.2.1 dX0_notes_11 rfl (lv_at hl 0 rfl) ?_
    refine lv_iload_n E.1 E.2.1 dX0_notes_12 rfl (lv_at hl 1 rfl) ?_
    refine lv_iload_n E.1 E.2.1 dX0_notes_13 rfl (lv_at hl 2 rfl) ?_
    obtain ⟨r14, hq14, hF⟩ := bnd hF
    refine cx_go (va_runV (As := [.int x1, .int x2]) (rest := []) E (mm_X0_noteOf l hT hD x1 x2 r3.2 _ hq14) (cwV 2 E.2.2.2.2 (lw_V q215 q217 qs2 q54 q218) rfl rfl rfl (by decide +kernel) ⟨Nat.le_of_ble_eq_true rfl, Nat.le_of_ble_eq_true rfl⟩) (ck_pre hK hN hP (ck_me hK hP)) rfl rfl hl.1 rfl (lv_room (Nat.le_of_ble_eq_true rfl)) dX0_notes_14 ⟨Nat.zero_le _, Nat.zero_le _⟩) hS (fun H locs hP hS => ?_)
    refine lv_istore_n (lv' := [(3, .int r14.1), (0, .ref (B 0)), (1, .int x1), (2, .int x2)]) E.1 E.2.1 dX0_notes_17 rfl hl (by decide) rfl (fun ls hl => ?_)
    refine lv_iconst (v := (0 : Int32)) E.1 E.2.1 dX0_notes_18 (by decide) ?_
    refine lv_istore (lv' := [(4, .int (0 : Int32)), (3, .int r14.1), (0, .ref (B 0)), (1, .int x1), (2, .int x2)]) E.1 E.2.1 dX0_notes_19 hl (by decide) rfl (fun ls hl => ?_)
    refine lv_iconst (v := (0 : Int32)) E.1 E.2.1 dX0_notes_21 (by decide) ?_
    refine lv_istore (lv' := [(5, .int (0 : Int32)), (4, .int (0 : Int32)), (3, .int r14.1), (0, .ref (B 0)), (1, .int x1), (2, .int x2)]) E.1 E.2.1 dX0_notes_22 hl (by decide) rfl (fun ls hl => ?_)
    obtain ⟨k69, hk69, hF⟩ : ∃ k69, k69 = _ ∧ c_notes_L24 k69 x1 x2 FU r14.1 (0 : Int32) (0 : Int32) r14.2 = some res := ⟨_, rfl, hF⟩
    have K69 : ∀ (y24_3 : Int32) (y24_4 : Int32) (z24 : CZ) (H : Heap) (locs : List Loc) (ls : Array Slot), k69 y24_3 y24_4 z24 = some res → cP D K B ad z24 H → va_S A s.heap H locs → lv_has ls 6 [(0, .ref (B 0)), (1, .int x1), (2, .int x2), (3, .int y24_3), (4, .int y24_4)] → W p l e rmX0_notes s m args below meth c H locs 0 0 (MQ below (cQ D K B ad A (some (.int res.1)) res.2) args s 0 0 A) (F0 m 69 ls []) := by
      intro y24_3 y24_4 z24 H locs ls hF hP hS hl
      rw [hk69] at hF
      refine lv_aload_n E.1 E.2.1 dX0_notes_69 rfl (lv_at hl 0 rfl) ?_
      refine ck_get E hK hP 3 (by decide) q129 rfl (v := .ref (B 3)) rfl dX0_notes_70 ?_
      refine lv_iload_n E.1 E.2.1 dX0_notes_73 rfl (lv_at hl 1 rfl) ?_
      refine lv_iconst (v := (5 : Int32)) E.1 E.2.1 dX0_notes_74 (by decide) ?_
      refine lv_imul E.1 E.2.1 dX0_notes_75 ?_
      refine lv_iload_n E.1 E.2.1 dX0_notes_76 rfl (lv_at hl 2 rfl) ?_
      refine lv_iadd E.1 E.2.1 dX0_notes_77 ?_
      refine lv_iload_n E.1 E.2.1 dX0_notes_78 rfl (lv_at hl 3 rfl) ?_
      obtain ⟨h79, hF⟩ := gd_some hF
      refine ck_ast E hD hK hP hS (q := 1) (j := 3) (n := 25) rfl h79 dX0_notes_79 (fun H locs hP hS => ?_)
      refine lv_iload E.1 E.2.1 dX0_notes_80 (lv_at hl 4 rfl) ?_
      exact ck_iret E hr hlocks hP hS hF dX0_notes_82
    have L24 : ∀ (n : Nat) (y24_3 : Int32) (y24_4 : Int32) (y24_5 : Int32) (z24 : CZ) (H : Heap) (locs : List Loc) (ls : Array Slot), c_notes_L24 k69 x1 x2 n y24_3 y24_4 y24_5 z24 = some res → cP D K B ad z24 H → va_S A s.heap H locs → lv_has ls 6 [(0, .ref (B 0)), (1, .int x1), (2, .int x2), (3, .int y24_3), (4, .int y24_4), (5, .int y24_5)] → W p l e rmX0_notes s m args below meth c H locs 0 0 (MQ below (cQ D K B ad A (some (.int res.1)) res.2) args s 0 0 A) (F0 m 24 ls []) := by
      intro n
      induction n with
      | zero =>
        intro y24_3 y24_4 y24_5 z24 H locs ls hF
        rw [c_notes_L24] at hF
        cases hF
      | succ n ih =>
        intro y24_3 y24_4 y24_5 z24 H locs ls hF hP hS hl
        rw [c_notes_L24] at hF
        refine lv_iload E.1 E.2.1 dX0_notes_24 (lv_at hl 5 rfl) ?_
        refine lv_bipush (v := (9 : Int32)) E.1 E.2.1 dX0_notes_26 (by decide) ?_
        refine lv_icmp_gt (tgt := 69) E.1 E.2.1 dX0_notes_28 (by decide) (fun h => ?_) (fun h => ?_)
        · have hF := ite_t h hF
          exact K69 y24_3 y24_4 z24 H locs ls hF hP hS (lv_sub hl [0, 1, 2, 3, 4] rfl)
        · have hF := ite_f h hF
          refine lv_aload_n E.1 E.2.1 dX0_notes_31 rfl (lv_at hl 0 rfl) ?_
          refine ck_get E hK hP 3 (by decide) q129 rfl (v := .ref (B 3)) rfl dX0_notes_32 ?_
          refine lv_iload_n E.1 E.2.1 dX0_notes_35 rfl (lv_at hl 1 rfl) ?_
          refine lv_iconst (v := (5 : Int32)) E.1 E.2.1 dX0_notes_36 (by decide) ?_
          refine lv_imul E.1 E.2.1 dX0_notes_37 ?_
          refine lv_iload_n E.1 E.2.1 dX0_notes_38 rfl (lv_at hl 2 rfl) ?_
          refine lv_iadd E.1 E.2.1 dX0_notes_39 ?_
          refine lv_iload E.1 E.2.1 dX0_notes_40 (lv_at hl 5 rfl) ?_
          obtain ⟨h42, hF⟩ := gd_some hF
          refine ck_ast E hD hK hP hS (q := 1) (j := 3) (n := 25) rfl h42 dX0_notes_42 (fun H locs hP hS => ?_)
          refine lv_iload E.1 E.2.1 dX0_notes_43 (lv_at hl 4 rfl) ?_
          refine lv_aload_n E.1 E.2.1 dX0_notes_45 rfl (lv_at hl 0 rfl) ?_
          obtain ⟨r46, hq46, hF⟩ := bnd hF
          refine cx_go (va_runV (As := []) (rest := [.int y24_4]) E (mm_X0_areSo l hT hD  (cz_a z24 3 ((x1 * (5 : Int32)) + x2).toNatClampNeg y24_5) _ hq46) (cwV 0 E.2.2.2.2 (lw_V q471 q473 qs19 q54 q474) rfl rfl rfl (by decide +kernel) ⟨Nat.le_of_ble_eq_true rfl, Nat.le_of_ble_eq_true rfl⟩) (ck_pre hK hN hP (ck_me hK hP)) rfl rfl hl.1 rfl (lv_room (Nat.le_of_ble_eq_true rfl)) dX0_notes_46 ⟨Nat.zero_le _, Nat.zero_le _⟩) hS (fun H locs hP hS => ?_)
          obtain ⟨k60, hk60, hF⟩ := jn_split hF
          have J60 : ∀ (v60_0 : Int32) (z60 : CZ) (H : Heap) (locs : List Loc) (ls : Array Slot), k60 v60_0 z60 = some res → cP D K B ad z60 H → va_S A s.heap H locs → lv_has ls 6 [(0, .ref (B 0)), (1, .int x1), (2, .int x2), (3, .int y24_3), (5, .int y24_5)] → W p l e rmX0_notes s m args below meth c H locs 0 0 (MQ below (cQ D K B ad A (some (.int res.1)) res.2) args s 0 0 A) (F0 m 60 ls [.int v60_0, .int y24_4]) := by
            intro v60_0 z60 H locs ls hF hP hS hl
            rw [hk60] at hF
            refine lv_ior E.1 E.2.1 dX0_notes_60 ?_
            refine lv_istore (lv' := [(4, .int (y24_4 ||| v60_0)), (0, .ref (B 0)), (1, .int x1), (2, .int x2), (3, .int y24_3), (5, .int y24_5)]) E.1 E.2.1 dX0_notes_61 hl (by decide) rfl (fun ls hl => ?_)
            refine lv_iinc (v := y24_5 + 1) (lv' := [(5, .int (y24_5 + 1)), (4, .int (y24_4 ||| v60_0)), (0, .ref (B 0)), (1, .int x1), (2, .int x2), (3, .int y24_3)]) E.1 E.2.1 dX0_notes_63 hl (k := 5) rfl rfl (by decide) rfl (fun ls hl => ?_)
            refine lv_goto (tgt := 24) E.1 E.2.1 dX0_notes_66 (by decide) ?_
            exact ih y24_3 (y24_4 ||| v60_0) (y24_5 + 1) z60 H locs ls hF hP hS (lv_sub hl [2, 3, 4, 5, 1, 0] rfl)
          refine lv_if_eq (tgt := 59) E.1 E.2.1 dX0_notes_49 (by decide) (fun h => ?_) (fun h => ?_)
          · have hF := ite_t h hF
            refine lv_iconst (v := (0 : Int32)) E.1 E.2.1 dX0_notes_59 (by decide) ?_
            exact J60 (0 : Int32) r46.2 H locs ls hF hP hS (lv_sub hl [0, 1, 2, 3, 5] rfl)
          · have hF := ite_f h hF
            refine lv_iconst (v := (1 : Int32)) E.1 E.2.1 dX0_notes_52 (by decide) ?_
            refine lv_iload E.1 E.2.1 dX0_notes_53 (lv_at hl 5 rfl) ?_
            refine lv_ishl E.1 E.2.1 dX0_notes_55 ?_
            refine lv_goto (tgt := 60) E.1 E.2.1 dX0_notes_56 (by decide) ?_
            exact J60 ((1 : Int32) <<< (y24_5 &&& 31)) r46.2 H locs ls hF hP hS (lv_sub hl [0, 1, 2, 3, 5] rfl)
    exact L24 FU r14.1 (0 : Int32) (0 : Int32) r14.2 H locs ls hF hP hS (lv_sub hl [3, 4, 5, 2, 1, 0] rfl)
  · have hF := ite_f h hF
    refine lv_iconst (v := (-1 : Int32)) E.1 E.2.1 dX0_notes_9 (by decide) ?_
    exact ck_iret E hr hlocks hP hS hF dX0_notes_10
/-! DebtFerry.often()I -/
def c_often_L19 : Nat → Int32 → Int32 → Int32 → CZ → Option (Int32 × CZ)
  | 0, _, _, _, _ => none
  | n + 1, y19_1, y19_2, y19_3, z19 =>
    if (3 : Int32) < y19_3 then some (y19_2, (cz_f z19 2 y19_1)) else (c_areSo  (cz_f z19 2 y19_3)).bind (fun r31 => jn (fun (v44_0 : Int32) (z44 : CZ) => c_often_L19 n y19_1 (y19_2 ||| v44_0) (y19_3 + 1) z44) (fun (k44 : Int32 → CZ → Option (Int32 × CZ)) => if r31.1 = 0 then k44 (0 : Int32) r31.2 else k44 ((1 : Int32) <<< (y19_3 &&& 31)) r31.2))
def c_often  (z0 : CZ) : Option (Int32 × CZ) :=
  (c_noRiver  z0).bind (fun r1 => if r1.1 = 0 then c_often_L19 FU (r1.2.1 2) (0 : Int32) (1 : Int32) r1.2 else some ((-3 : Int32), r1.2))
abbrev rmX0_often : Room := { frames := 7, cells := 0, slots := 0, locals := 146 }
set_option maxHeartbeats 4000000 in
set_option maxRecDepth 100000 in
theorem mm_X0_often (l : Launch) {D : va_G} {K : Nat → ClassId} {s0 : State} {a0 : Array Value} {B : Nat → Nat} {ad : CA} {A : Nat → Prop} (hT : ∀ w ∈ lw_tbl, w.before a0 s0 = true) (hD : ∀ z, va_D A (cW K B ad z))  (z0 : CZ) (res : Int32 × CZ) (hF : c_often  z0 = some res) : Met l yX0_often (ws_ yX0_often cX0_often 4 (some .int)) rmX0_often (cPc D K s0 B ad z0 [.ref (B 0)]) (cQ D K B ad A (some (.int res.1)) res.2) 0 0 A := by
  refine ck_start (A := A) RX0 (by decide) rfl (Nat.le_of_ble_eq_true rfl) ?_
  intro p e s m args below meth c H locs ls E hr hlocks hK hN hP hS hl
  have hl : lv_has ls 4 [(0, .ref (B 0))] := hl
  unfold c_often at hF
  refine lv_aload_n E.1 E.2.1 dX0_often_0 rfl (lv_at hl 0 rfl) ?_
  obtain ⟨r1, hq1, hF⟩ := bnd hF
  refine cx_go (va_runV (As := []) (rest := []) E (mm_X0_noRiver l hT hD  z0 _ hq1) (cwV 0 E.2.2.2.2 (lw_V q237 q239 qs4 q54 q240) rfl rfl rfl (by decide +kernel) ⟨Nat.le_of_ble_eq_true rfl, Nat.le_of_ble_eq_true rfl⟩) (ck_pre hK hN hP (ck_me hK hP)) rfl rfl hl.1 rfl (lv_room (Nat.le_of_ble_eq_true rfl)) dX0_often_1 ⟨Nat.zero_le _, Nat.zero_le _⟩) hS (fun H locs hP hS => ?_)
  refine lv_if_eq (tgt := 10) E.1 E.2.1 dX0_often_4 (by decide) (fun h => ?_) (fun h => ?_)
  · have hF := ite_t h hF
    refine lv_aload_n E.1 E.2.1 dX0_often_10 rfl (lv_at hl 0 rfl) ?_
    refine ck_get E hK hP 2 (by decide) q128 rfl (v := .int (r1.2.1 2)) rfl dX0_often_11 ?_
    refine lv_istore_n (lv' := [(1, .int (r1.2.1 2)), (0, .ref (B 0))]) E.1 E.2.1 dX0_often_14 rfl hl (by decide) rfl (fun ls hl => ?_)
    refine lv_iconst (v := (0 : Int32)) E.1 E.2.1 dX0_often_15 (by decide) ?_
    refine lv_istore_n (lv' := [(2, .int (0 : Int32)), (1, .int (r1.2.1 2)), (0, .ref (B 0))]) E.1 E.2.1 dX0_often_16 rfl hl (by decide) rfl (fun ls hl => ?_)
    refine lv_iconst (v := (1 : Int32)) E.1 E.2.1 dX0_often_17 (by decide) ?_
    refine lv_istore_n (lv' := [(3, .int (1 : Int32)), (2, .int (0 : Int32)), (1, .int (r1.2.1 2)), (0, .ref (B 0))]) E.1 E.2.1 dX0_often_18 rfl hl (by decide) rfl (fun ls hl => ?_)
    have L19 : ∀ (n : Nat) (y19_1 : Int32) (y19_2 : Int32) (y19_3 : Int32) (z19 : CZ) (H : Heap) (locs : List Loc) (ls : Array Slot), c_often_L19 n y19_1 y19_2 y19_3 z19 = some res → cP D K B ad z19 H → va_S A s.heap H locs → lv_has ls 4 [(0, .ref (B 0)), (1, .int y19_1), (2, .int y19_2), (3, .int y19_3)] → W p l e rmX0_often s m args below meth c H locs 0 0 (MQ below (cQ D K B ad A (some (.int res.1)) res.2) args s 0 0 A) (F0 m 19 ls []) := by
      intro n
      induction n with
      | zero =>
        intro y19_1 y19_2 y19_3 z19 H locs ls hF
        rw [c_often_L19] at hF
        cases hF
      | succ n ih =>
        intro y19_1 y19_2 y19_3 z19 H locs ls hF hP hS hl
        rw [c_often_L19] at hF
        refine lv_iload_n E.1 E.2.1 dX0_often_19 rfl (lv_at hl 3 rfl) ?_
        refine lv_iconst (v := (3 : Int32)) E.1 E.2.1 dX0_often_20 (by decide) ?_
        refine lv_icmp_gt (tgt := 52) E.1 E.2.1 dX0_often_21 (by decide) (fun h => ?_) (fun h => ?_)
        · have hF := ite_t h hF
          refine lv_aload_n E.1 E.2.1 dX0_often_52 rfl (lv_at hl 0 rfl) ?_
          refine lv_iload_n E.1 E.2.1 dX0_often_53 rfl (lv_at hl 1 rfl) ?_
          refine ck_put E hD hK hP hS 2 rfl q128 dX0_often_54 (fun H locs hP hS => ?_)
          refine lv_iload_n E.1 E.2.1 dX0_often_57 rfl (lv_at hl 2 rfl) ?_
          exact ck_iret E hr hlocks hP hS hF dX0_often_58
        · have hF := ite_f h hF
          refine lv_aload_n E.1 E.2.1 dX0_often_24 rfl (lv_at hl 0 rfl) ?_
          refine lv_iload_n E.1 E.2.1 dX0_often_25 rfl (lv_at hl 3 rfl) ?_
          refine ck_put E hD hK hP hS 2 rfl q128 dX0_often_26 (fun H locs hP hS => ?_)
          refine lv_iload_n E.1 E.2.1 dX0_often_29 rfl (lv_at hl 2 rfl) ?_
          refine lv_aload_n E.1 E.2.1 dX0_often_30 rfl (lv_at hl 0 rfl) ?_
          obtain ⟨r31, hq31, hF⟩ := bnd hF
          refine cx_go (va_runV (As := []) (rest := [.int y19_2]) E (mm_X0_areSo l hT hD  (cz_f z19 2 y19_3) _ hq31) (cwV 0 E.2.2.2.2 (lw_V q471 q473 qs19 q54 q474) rfl rfl rfl (by decide +kernel) ⟨Nat.le_of_ble_eq_true rfl, Nat.le_of_ble_eq_true rfl⟩) (ck_pre hK hN hP (ck_me hK hP)) rfl rfl hl.1 rfl (lv_room (Nat.le_of_ble_eq_true rfl)) dX0_often_31 ⟨Nat.zero_le _, Nat.zero_le _⟩) hS (fun H locs hP hS => ?_)
          obtain ⟨k44, hk44, hF⟩ := jn_split hF
          have J44 : ∀ (v44_0 : Int32) (z44 : CZ) (H : Heap) (locs : List Loc) (ls : Array Slot), k44 v44_0 z44 = some res → cP D K B ad z44 H → va_S A s.heap H locs → lv_has ls 4 [(0, .ref (B 0)), (1, .int y19_1), (3, .int y19_3)] → W p l e rmX0_often s m args below meth c H locs 0 0 (MQ below (cQ D K B ad A (some (.int res.1)) res.2) args s 0 0 A) (F0 m 44 ls [.int v44_0, .int y19_2]) := by
            intro v44_0 z44 H locs ls hF hP hS hl
            rw [hk44] at hF
            refine lv_ior E.1 E.2.1 dX0_often_44 ?_
            refine lv_istore_n (lv' := [(2, .int (y19_2 ||| v44_0)), (0, .ref (B 0)), (1, .int y19_1), (3, .int y19_3)]) E.1 E.2.1 dX0_often_45 rfl hl (by decide) rfl (fun ls hl => ?_)
            refine lv_iinc (v := y19_3 + 1) (lv' := [(3, .int (y19_3 + 1)), (2, .int (y19_2 ||| v44_0)), (0, .ref (B 0)), (1, .int y19_1)]) E.1 E.2.1 dX0_often_46 hl (k := 3) rfl rfl (by decide) rfl (fun ls hl => ?_)
            refine lv_goto (tgt := 19) E.1 E.2.1 dX0_often_49 (by decide) ?_
            exact ih y19_1 (y19_2 ||| v44_0) (y19_3 + 1) z44 H locs ls hF hP hS (lv_sub hl [2, 3, 1, 0] rfl)
          refine lv_if_eq (tgt := 43) E.1 E.2.1 dX0_often_34 (by decide) (fun h => ?_) (fun h => ?_)
          · have hF := ite_t h hF
            refine lv_iconst (v := (0 : Int32)) E.1 E.2.1 dX0_often_43 (by decide) ?_
            exact J44 (0 : Int32) r31.2 H locs ls hF hP hS (lv_sub hl [0, 1, 3] rfl)
          · have hF := ite_f h hF
            refine lv_iconst (v := (1 : Int32)) E.1 E.2.1 dX0_often_37 (by decide) ?_
            refine lv_iload_n E.1 E.2.1 dX0_often_38 rfl (lv_at hl 3 rfl) ?_
            refine lv_ishl E.1 E.2.1 dX0_often_39 ?_
            refine lv_goto (tgt := 44) E.1 E.2.1 dX0_often_40 (by decide) ?_
            exact J44 ((1 : Int32) <<< (y19_3 &&& 31)) r31.2 H locs ls hF hP hS (lv_sub hl [0, 1, 3] rfl)
    exact L19 FU (r1.2.1 2) (0 : Int32) (1 : Int32) r1.2 H locs ls hF hP hS (lv_sub hl [3, 2, 1, 0] rfl)
  · have hF := ite_f h hF
    refine lv_bipush (v := (-3 : Int32)) E.1 E.2.1 dX0_often_7 (by decide) ?_
    exact ck_iret E hr hlocks hP hS hF dX0_often_9
/-! DebtFerry.ofPerson(II)I -/
def c_ofPerson (x1 : Int32) (x2 : Int32) (z0 : CZ) : Option (Int32 × CZ) :=
  (c_noPerson x1 z0).bind (fun r2 => if r2.1 = 0 then gd (inb x1 (cz_np r2.2)) (gd (decide (x1.toNatClampNeg < cz_np r2.2)) (if x2 = 0 then gd (decide (x1.toNatClampNeg < cz_np r2.2)) ((if cz_k r2.2 x1.toNatClampNeg = 0 then c5_kind x1.toNatClampNeg  r2.2 else if cz_k r2.2 x1.toNatClampNeg = 1 then c6_kind x1.toNatClampNeg  r2.2 else c7_kind x1.toNatClampNeg  r2.2).bind (fun r29 => some (r29.1, r29.2))) else if x2 = (1 : Int32) then gd (decide (x1.toNatClampNeg < cz_np r2.2)) (if (cz_l r2.2 x1.toNatClampNeg) = 0 then some ((0 : Int32), r2.2) else some ((1 : Int32), r2.2)) else if x2 = (2 : Int32) then (c_allOwedBy x1 r2.2).bind (fun r62 => some (r62.1, r62.2)) else some ((-2 : Int32), r2.2))) else some ((-1 : Int32), r2.2))
abbrev rmX0_ofPerson : Room := { frames := 4, cells := 0, slots := 0, locals := 81 }
set_option maxHeartbeats 4000000 in
set_option maxRecDepth 100000 in
theorem mm_X0_ofPerson (l : Launch) {D : va_G} {K : Nat → ClassId} {s0 : State} {a0 : Array Value} {B : Nat → Nat} {ad : CA} {A : Nat → Prop} (hT : ∀ w ∈ lw_tbl, w.before a0 s0 = true) (hD : ∀ z, va_D A (cW K B ad z)) (x1 : Int32) (x2 : Int32) (z0 : CZ) (res : Int32 × CZ) (hF : c_ofPerson x1 x2 z0 = some res) : Met l yX0_ofPerson (ws_ yX0_ofPerson cX0_ofPerson 4 (some .int)) rmX0_ofPerson (cPc D K s0 B ad z0 [.ref (B 0), .int x1, .int x2]) (cQ D K B ad A (some (.int res.1)) res.2) 0 0 A := by
  refine ck_start (A := A) RX0 (by decide) rfl (Nat.le_of_ble_eq_true rfl) ?_
  intro p e s m args below meth c H locs ls E hr hlocks hK hN hP hS hl
  have hl : lv_has ls 4 [(0, .ref (B 0)), (1, .int x1), (2, .int x2)] := hl
  unfold c_ofPerson at hF
  refine lv_aload_n E.1 E.2.1 dX0_ofPerson_0 rfl (lv_at hl 0 rfl) ?_
  refine lv_iload_n E.1 E.2.1 dX0_ofPerson_1 rfl (lv_at hl 1 rfl) ?_
  obtain ⟨r2, hq2, hF⟩ := bnd hF
  refine cx_go (va_runV (As := [.int x1]) (rest := []) E (mm_X0_noPerson l hT hD x1 z0 _ hq2) (cwV 1 E.2.2.2.2 (lw_V q163 q165 qs0 q54 q166) rfl rfl rfl (by decide +kernel) ⟨Nat.le_of_ble_eq_true rfl, Nat.le_of_ble_eq_true rfl⟩) (ck_pre hK hN hP (ck_me hK hP)) rfl rfl hl.1 rfl (lv_room (Nat.le_of_ble_eq_true rfl)) dX0_ofPerson_2 ⟨Nat.zero_le _, Nat.zero_le _⟩) hS (fun H locs hP hS => ?_)
  refine lv_if_eq (tgt := 10) E.1 E.2.1 dX0_ofPerson_5 (by decide) (fun h => ?_) (fun h => ?_)
  · have hF := ite_t h hF
    refine lv_aload_n E.1 E.2.1 dX0_ofPerson_10 rfl (lv_at hl 0 rfl) ?_
    refine ck_get E hK hP 4 (by decide) q130 rfl (v := .ref (B 4)) rfl dX0_ofPerson_11 ?_
    refine lv_iload_n E.1 E.2.1 dX0_ofPerson_14 rfl (lv_at hl 1 rfl) ?_
    obtain ⟨h15, hF⟩ := gd_some hF
    refine ck_lget E hT hN hK hP (q0 := 5) (j := 4) (n := cz_np r2.2) (o := 100) rfl hP.2.1.1 hP.2.2.1 h15 q181 hl (Nat.le_of_ble_eq_true rfl) ⟨Nat.le_of_ble_eq_true rfl, Nat.le_of_ble_eq_true rfl⟩ ⟨Nat.zero_le _, Nat.zero_le _⟩ dX0_ofPerson_15 ?_
    obtain ⟨h20, hF⟩ := gd_some hF
    have h20 : x1.toNatClampNeg < cz_np r2.2 := of_decide_eq_true h20
    refine ck_castR E hT hN hK hP h20 q199 dX0_ofPerson_20 ?_
    refine lv_astore_n (lv' := [(3, .ref (ad.2.1 (100 + x1.toNatClampNeg))), (0, .ref (B 0)), (1, .int x1), (2, .int x2)]) E.1 E.2.1 dX0_ofPerson_23 rfl hl (by decide) rfl (fun ls hl => ?_)
    refine lv_iload_n E.1 E.2.1 dX0_ofPerson_24 rfl (lv_at hl 3 rfl) ?_
    refine lv_if_ne (tgt := 35) E.1 E.2.1 dX0_ofPerson_25 (by decide) (fun h => ?_) (fun h => ?_)
    · have hF := ite_f h hF
      refine lv_iload_n E.1 E.2.1 dX0_ofPerson_35 rfl (lv_at hl 3 rfl) ?_
      refine lv_iconst (v := (1 : Int32)) E.1 E.2.1 dX0_ofPerson_36 (by decide) ?_
      refine lv_icmp_ne (tgt := 55) E.1 E.2.1 dX0_ofPerson_37 (by decide) (fun h => ?_) (fun h => ?_)
      · have hF := ite_f h hF
        refine lv_iload_n E.1 E.2.1 dX0_ofPerson_55 rfl (lv_at hl 3 rfl) ?_
        refine lv_iconst (v := (2 : Int32)) E.1 E.2.1 dX0_ofPerson_56 (by decide) ?_
        refine lv_icmp_ne (tgt := 68) E.1 E.2.1 dX0_ofPerson_57 (by decide) (fun h => ?_) (fun h => ?_)
        · have hF := ite_f h hF
          refine lv_bipush (v := (-2 : Int32)) E.1 E.2.1 dX0_ofPerson_68 (by decide) ?_
          exact ck_iret E hr hlocks hP hS hF dX0_ofPerson_70
        · have hF := ite_t h hF
          refine lv_aload_n E.1 E.2.1 dX0_ofPerson_60 rfl (lv_at hl 1 rfl) ?_
          refine lv_iload_n E.1 E.2.1 dX0_ofPerson_61 rfl (lv_at hl 2 rfl) ?_
          obtain ⟨r62, hq62, hF⟩ := bnd hF
          refine cx_go (va_runV (As := [.int x1]) (rest := []) E (mm_X0_allOwedBy l hT hD x1 r2.2 _ hq62) (cwV 1 E.2.2.2.2 (lw_V q211 q213 qs1 q54 q214) rfl rfl rfl (by decide +kernel) ⟨Nat.le_of_ble_eq_true rfl, Nat.le_of_ble_eq_true rfl⟩) (ck_pre hK hN hP (ck_me hK hP)) rfl rfl hl.1 rfl (lv_room (Nat.le_of_ble_eq_true rfl)) dX0_ofPerson_62 ⟨Nat.zero_le _, Nat.zero_le _⟩) hS (fun H locs hP hS => ?_)
          refine lv_goto (tgt := 70) E.1 E.2.1 dX0_ofPerson_65 (by decide) ?_
          exact ck_iret E hr hlocks hP hS hF dX0_ofPerson_70
      · have hF := ite_t h hF
        refine lv_aload_n E.1 E.2.1 dX0_ofPerson_40 rfl (lv_at hl 0 rfl) ?_
        obtain ⟨h41, hF⟩ := gd_some hF
        have h41 : x1.toNatClampNeg < cz_np r2.2 := of_decide_eq_true h41
        refine ck_rfld E hK hP h41 1 (v := .int (cz_l r2.2 x1.toNatClampNeg)) rfl q495 dX0_ofPerson_41 ?_
        refine lv_if_eq (tgt := 51) E.1 E.2.1 dX0_ofPerson_44 (by decide) (fun h => ?_) (fun h => ?_)
        · have hF := ite_t h hF
          refine lv_iconst (v := (0 : Int32)) E.1 E.2.1 dX0_ofPerson_51 (by decide) ?_
          refine lv_goto (tgt := 70) E.1 E.2.1 dX0_ofPerson_52 (by decide) ?_
          exact ck_iret E hr hlocks hP hS hF dX0_ofPerson_70
        · have hF := ite_f h hF
          refine lv_iconst (v := (1 : Int32)) E.1 E.2.1 dX0_ofPerson_47 (by decide) ?_
          refine lv_goto (tgt := 70) E.1 E.2.1 dX0_ofPerson_48 (by decide) ?_
          exact ck_iret E hr hlocks hP hS hF dX0_ofPerson_70
    · have hF := ite_t h hF
      refine lv_aload_n E.1 E.2.1 dX0_ofPerson_28 rfl (lv_at hl 0 rfl) ?_
      obtain ⟨h29, hF⟩ := gd_some hF
      have h29 : x1.toNatClampNeg < cz_np r2.2 := of_decide_eq_true h29
      obtain ⟨r29, hq29, hF⟩ := bnd hF
      have hrun : va_Run p l e rmX0_ofPerson s m args below meth c H locs 0 0 0 0 (F0 m 29 ls [.ref (ad.2.1 (100 + x1.toNatClampNeg))]) [] (cQ D K B ad A (some (.int r29.1)) r29.2 (Value.ref (ad.2.1 (100 + x1.toNatClampNeg)) :: []).toArray) A := by
        rcases rd_recv hK hP h29 with ⟨hk, hc⟩ | ⟨hk, hc⟩ | ⟨hk, hc⟩
        · exact va_runV (As := []) (rest := []) E (mm_X5_kind l hT hD x1.toNatClampNeg  r2.2 _ (ite_t hk hq29)) (cwV 0 E.2.2.2.2 (lw_V q200 q201 q202 q77 q210) rfl rfl rfl (by decide +kernel) ⟨Nat.le_of_ble_eq_true rfl, Nat.le_of_ble_eq_true rfl⟩) (ck_pre hK hN hP hc) rfl rfl hl.1 rfl (lv_room (Nat.le_of_ble_eq_true rfl)) dX0_ofPerson_29 ⟨Nat.zero_le _, Nat.zero_le _⟩
        · exact va_runU (As := []) (rest := []) E (mm_X6_kind l hT hD x1.toNatClampNeg  r2.2 _ (ite_t hk (ite_f (by rw [hk]; decide) hq29))) (va_cwO (owner := "DebtFerry$Rider") 0 E.2.2.2.2 (lw_O q200 q203 q201 q207 q208 q78 q209) rfl rfl rfl q210 (by decide +kernel) ⟨Nat.le_of_ble_eq_true rfl, Nat.le_of_ble_eq_true rfl⟩) (ck_pre hK hN hP hc) rfl rfl hl.1 rfl (lv_room (Nat.le_of_ble_eq_true rfl)) dX0_ofPerson_29 ⟨Nat.zero_le _, Nat.zero_le _⟩
        · exact va_runU (As := []) (rest := []) E (mm_X7_kind l hT hD x1.toNatClampNeg  r2.2 _ (ite_f (by rw [hk]; decide) (ite_f (by rw [hk]; decide) hq29))) (va_cwO (owner := "DebtFerry$Rider") 0 E.2.2.2.2 (lw_O q200 q203 q201 q204 q205 q79 q206) rfl rfl rfl q210 (by decide +kernel) ⟨Nat.le_of_ble_eq_true rfl, Nat.le_of_ble_eq_true rfl⟩) (ck_pre hK hN hP hc) rfl rfl hl.1 rfl (lv_room (Nat.le_of_ble_eq_true rfl)) dX0_ofPerson_29 ⟨Nat.zero_le _, Nat.zero_le _⟩
      refine cx_go hrun hS (fun H locs hP hS => ?_)
      refine lv_goto (tgt := 70) E.1 E.2.1 dX0_ofPerson_32 (by decide) ?_
      exact ck_iret E hr hlocks hP hS hF dX0_ofPerson_70
  · have hF := ite_f h hF
    refine lv_iconst (v := (-1 : Int32)) E.1 E.2.1 dX0_ofPerson_8 (by decide) ?_
    exact ck_iret E hr hlocks hP hS hF dX0_ofPerson_9
/-! DebtFerry.tell(I)I -/
def c_tell (x1 : Int32) (z0 : CZ) : Option (Int32 × CZ) :=
  (c_noPerson x1 z0).bind (fun r2 => if r2.1 = 0 then gd (inb x1 (cz_np r2.2)) (gd (decide (x1.toNatClampNeg < cz_np r2.2)) (gd (decide (x1.toNatClampNeg < cz_np r2.2)) ((if cz_k r2.2 x1.toNatClampNeg = 0 then c5_said x1.toNatClampNeg  r2.2 else if cz_k r2.2 x1.toNatClampNeg = 1 then c6_said x1.toNatClampNeg  r2.2 else c7_said x1.toNatClampNeg  r2.2).bind (fun r25 => some (r25.1, r25.2))))) else some ((-1 : Int32), r2.2))
abbrev rmX0_tell : Room := { frames := 6, cells := 0, slots := 0, locals := 117 }
set_option maxHeartbeats 4000000 in
set_option maxRecDepth 100000 in
theorem mm_X0_tell (l : Launch) {D : va_G} {K : Nat → ClassId} {s0 : State} {a0 : Array Value} {B : Nat → Nat} {ad : CA} {A : Nat → Prop} (hT : ∀ w ∈ lw_tbl, w.before a0 s0 = true) (hD : ∀ z, va_D A (cW K B ad z)) (x1 : Int32) (z0 : CZ) (res : Int32 × CZ) (hF : c_tell x1 z0 = some res) : Met l yX0_tell (ws_ yX0_tell cX0_tell 2 (some .int)) rmX0_tell (cPc D K s0 B ad z0 [.ref (B 0), .int x1]) (cQ D K B ad A (some (.int res.1)) res.2) 0 0 A := by
  refine ck_start (A := A) RX0 (by decide) rfl (Nat.le_of_ble_eq_true rfl) ?_
  intro p e s m args below meth c H locs ls E hr hlocks hK hN hP hS hl
  have hl : lv_has ls 2 [(0, .ref (B 0)), (1, .int x1)] := hl
  unfold c_tell at hF
  refine lv_aload_n E.1 E.2.1 dX0_tell_0 rfl (lv_at hl 0 rfl) ?_
  refine lv_iload_n E.1 E.2.1 dX0_tell_1 rfl (lv_at hl 1 rfl) ?_
  obtain ⟨r2, hq2, hF⟩ := bnd hF
  refine cx_go (va_runV (As := [.int x1]) (rest := []) E (mm_X0_noPerson l hT hD x1 z0 _ hq2) (cwV 1 E.2.2.2.2 (lw_V q163 q165 qs0 q54 q166) rfl rfl rfl (by decide +kernel) ⟨Nat.le_of_ble_eq_true rfl, Nat.le_of_ble_eq_true rfl⟩) (ck_pre hK hN hP (ck_me hK hP)) rfl rfl hl.1 rfl (lv_room (Nat.le_of_ble_eq_true rfl)) dX0_tell_2 ⟨Nat.zero_le _, Nat.zero_le _⟩) hS (fun H locs hP hS => ?_)
  refine lv_if_eq (tgt := 12) E.1 E.2.1 dX0_tell_5 (by decide) (fun h => ?_) (fun h => ?_)
  · have hF := ite_t h hF
    refine lv_aload_n E.1 E.2.1 dX0_tell_12 rfl (lv_at hl 0 rfl) ?_
    refine ck_get E hK hP 4 (by decide) q130 rfl (v := .ref (B 4)) rfl dX0_tell_13 ?_
    refine lv_iload_n E.1 E.2.1 dX0_tell_16 rfl (lv_at hl 1 rfl) ?_
    obtain ⟨h17, hF⟩ := gd_some hF
    refine ck_lget E hT hN hK hP (q0 := 5) (j := 4) (n := cz_np r2.2) (o := 100) rfl hP.2.1.1 hP.2.2.1 h17 q181 hl (Nat.le_of_ble_eq_true rfl) ⟨Nat.le_of_ble_eq_true rfl, Nat.le_of_ble_eq_true rfl⟩ ⟨Nat.zero_le _, Nat.zero_le _⟩ dX0_tell_17 ?_
    obtain ⟨h22, hF⟩ := gd_some hF
    have h22 : x1.toNatClampNeg < cz_np r2.2 := of_decide_eq_true h22
    refine ck_castR E hT hN hK hP h22 q199 dX0_tell_22 ?_
    obtain ⟨h25, hF⟩ := gd_some hF
    have h25 : x1.toNatClampNeg < cz_np r2.2 := of_decide_eq_true h25
    obtain ⟨r25, hq25, hF⟩ := bnd hF
    have hrun : va_Run p l e rmX0_tell s m args below meth c H locs 0 0 0 0 (F0 m 25 ls [.ref (ad.2.1 (100 + x1.toNatClampNeg))]) [] (cQ D K B ad A (some (.int r25.1)) r25.2 (Value.ref (ad.2.1 (100 + x1.toNatClampNeg)) :: []).toArray) A := by
      rcases rd_recv hK hP h25 with ⟨hk, hc⟩ | ⟨hk, hc⟩ | ⟨hk, hc⟩
      · exact va_runV (As := []) (rest := []) E (mm_X5_said l hT hD x1.toNatClampNeg  r2.2 _ (ite_t hk hq25)) (cwV 0 E.2.2.2.2 (lw_V q991 q992 q993 q77 q1019) rfl rfl rfl (by decide +kernel) ⟨Nat.le_of_ble_eq_true rfl, Nat.le_of_ble_eq_true rfl⟩) (ck_pre hK hN hP hc) rfl rfl hl.1 rfl (lv_room (Nat.le_of_ble_eq_true rfl)) dX0_tell_25 ⟨Nat.zero_le _, Nat.zero_le _⟩
      · exact va_runU (As := []) (rest := []) E (mm_X6_said l hT hD x1.toNatClampNeg  r2.2 _ (ite_t hk (ite_f (by rw [hk]; decide) hq25))) (va_cwO (owner := "DebtFerry$Rider") 0 E.2.2.2.2 (lw_O q991 q994 q992 q1018 q1005 q78 q1006) rfl rfl rfl q1019 (by decide +kernel) ⟨Nat.le_of_ble_eq_true rfl, Nat.le_of_ble_eq_true rfl⟩) (ck_pre hK hN hP hc) rfl rfl hl.1 rfl (lv_room (Nat.le_of_ble_eq_true rfl)) dX0_tell_25 ⟨Nat.zero_le _, Nat.zero_le _⟩
      · exact va_runU (As := []) (rest := []) E (mm_X7_said l hT hD x1.toNatClampNeg  r2.2 _ (ite_f (by rw [hk]; decide) (ite_f (by rw [hk]; decide) hq25))) (va_cwO (owner := "DebtFerry$Rider") 0 E.2.2.2.2 (lw_O q991 q994 q992 q995 q996 q79 q997) rfl rfl rfl q1019 (by decide +kernel) ⟨Nat.le_of_ble_eq_true rfl, Nat.le_of_ble_eq_true rfl⟩) (ck_pre hK hN hP hc) rfl rfl hl.1 rfl (lv_room (Nat.le_of_ble_eq_true rfl)) dX0_tell_25 ⟨Nat.zero_le _, Nat.zero_le _⟩
    refine cx_go hrun hS (fun H locs hP hS => ?_)
    exact ck_iret E hr hlocks hP hS hF dX0_tell_28
  · have hF := ite_f h hF
    refine lv_iconst (v := (-1 : Int32)) E.1 E.2.1 dX0_tell_8 (by decide) ?_
    refine lv_goto (tgt := 28) E.1 E.2.1 dX0_tell_9 (by decide) ?_
    exact ck_iret E hr hlocks hP hS hF dX0_tell_28
