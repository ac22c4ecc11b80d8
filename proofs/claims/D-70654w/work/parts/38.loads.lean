/-! DebtFerry.loadsBarred([I)I -/
def c_loadsBarred_L12 (rn : Nat) (rg : Nat → Int32) : Nat → Int32 → CZ → Option (Int32 × CZ)
  | 0, _, _ => none
  | n + 1, y12_2, z12 =>
    if (nI rn) ≤ y12_2 then some ((0 : Int32), z12) else gd (inb y12_2 rn) ((c_isLoad (rg y12_2.toNatClampNeg) z12).bind (fun r22 => if r22.1 = 0 then some ((-2 : Int32), r22.2) else c_loadsBarred_L12 rn rg n (y12_2 + 1) r22.2))
def c_loadsBarred (rn : Nat) (rg : Nat → Int32)  (z0 : CZ) : Option (Int32 × CZ) :=
  (c_noRiver  z0).bind (fun r1 => if r1.1 = 0 then c_loadsBarred_L12 rn rg FU (0 : Int32) r1.2 else some ((-3 : Int32), r1.2))
abbrev rmX0_loadsBarred : Room := { frames := 4, cells := 0, slots := 0, locals := 73 }
set_option maxHeartbeats 4000000 in
set_option maxRecDepth 100000 in
theorem mm_X0_loadsBarred (l : Launch) {D : va_G} {K : Nat → ClassId} {s0 : State} {a0 : Array Value} {B : Nat → Nat} {ad : CA} {A : Nat → Prop} (hT : ∀ w ∈ lw_tbl, w.before a0 s0 = true) (hD : ∀ z, va_D A (cW K B ad z)) {w : Nat} (rn : Nat) (rg : Nat → Int32)  (hw : rwW K w rn rg ∈ ad.2.2) (z0 : CZ) (res : Int32 × CZ) (hF : c_loadsBarred rn rg  z0 = some res) : Met l yX0_loadsBarred (ws_ yX0_loadsBarred cX0_loadsBarred 3 (some .int)) rmX0_loadsBarred (cPc D K s0 B ad z0 [.ref (B 0), .ref w]) (cQ D K B ad A (some (.int res.1)) res.2) 0 0 A := by
  refine ck_start (A := A) RX0 (by decide) rfl (Nat.le_of_ble_eq_true rfl) ?_
  intro p e s m args below meth c H locs ls E hr hlocks hK hN hP hS hl
  have hl : lv_has ls 3 [(0, .ref (B 0)), (1, .ref w)] := hl
  unfold c_loadsBarred at hF
  refine lv_aload_n E.1 E.2.1 dX0_loadsBarred_0 rfl (lv_at hl 0 rfl) ?_
  obtain ⟨r1, hq1, hF⟩ := bnd hF
  refine cx_go (va_runV (As := []) (rest := []) E (mm_X0_noRiver l hT hD  z0 _ hq1) (cwV 0 E.2.2.2.2 (lw_V q237 q239 qs4 q54 q240) rfl rfl rfl (by decide +kernel) ⟨Nat.le_of_ble_eq_true rfl, Nat.le_of_ble_eq_true rfl⟩) (ck_pre hK hN hP (ck_me hK hP)) rfl rfl hl.1 rfl (lv_room (Nat.le_of_ble_eq_true rfl)) dX0_loadsBarred_1 ⟨Nat.zero_le _, Nat.zero_le _⟩) hS (fun H locs hP hS => ?_)
  refine lv_if_eq (tgt := 10) E.1 E.2.1 dX0_loadsBarred_4 (by decide) (fun h => ?_) (fun h => ?_)
  · have hF := ite_t h hF
    refine lv_iconst (v := (0 : Int32)) E.1 E.2.1 dX0_loadsBarred_10 (by decide) ?_
    refine lv_istore_n (lv' := [(2, .int (0 : Int32)), (0, .ref (B 0)), (1, .ref w)]) E.1 E.2.1 dX0_loadsBarred_11 rfl hl (by decide) rfl (fun ls hl => ?_)
    have L12 : ∀ (n : Nat) (y12_2 : Int32) (z12 : CZ) (H : Heap) (locs : List Loc) (ls : Array Slot), c_loadsBarred_L12 rn rg n y12_2 z12 = some res → cP D K B ad z12 H → va_S A s.heap H locs → lv_has ls 3 [(0, .ref (B 0)), (1, .ref w), (2, .int y12_2)] → W p l e rmX0_loadsBarred s m args below meth c H locs 0 0 (MQ below (cQ D K B ad A (some (.int res.1)) res.2) args s 0 0 A) (F0 m 12 ls []) := by
      intro n
      induction n with
      | zero =>
        intro y12_2 z12 H locs ls hF
        rw [c_loadsBarred_L12] at hF
        cases hF
      | succ n ih =>
        intro y12_2 z12 H locs ls hF hP hS hl
        rw [c_loadsBarred_L12] at hF
        refine lv_iload_n E.1 E.2.1 dX0_loadsBarred_12 rfl (lv_at hl 2 rfl) ?_
        refine lv_aload_n E.1 E.2.1 dX0_loadsBarred_13 rfl (lv_at hl 1 rfl) ?_
        refine ck_ralen E hK hP hw dX0_loadsBarred_14 ?_
        refine lv_icmp_ge (tgt := 37) E.1 E.2.1 dX0_loadsBarred_15 (by decide) (fun h => ?_) (fun h => ?_)
        · have hF := ite_t h hF
          refine lv_iconst (v := (0 : Int32)) E.1 E.2.1 dX0_loadsBarred_37 (by decide) ?_
          exact ck_iret E hr hlocks hP hS hF dX0_loadsBarred_38
        · have hF := ite_f h hF
          refine lv_aload_n E.1 E.2.1 dX0_loadsBarred_18 rfl (lv_at hl 0 rfl) ?_
          refine lv_aload_n E.1 E.2.1 dX0_loadsBarred_19 rfl (lv_at hl 1 rfl) ?_
          refine lv_iload_n E.1 E.2.1 dX0_loadsBarred_20 rfl (lv_at hl 2 rfl) ?_
          obtain ⟨h21, hF⟩ := gd_some hF
          refine ck_rald E hK hP hw h21 dX0_loadsBarred_21 ?_
          obtain ⟨r22, hq22, hF⟩ := bnd hF
          refine cx_go (va_runV (As := [.int (rg y12_2.toNatClampNeg)]) (rest := []) E (mm_X0_isLoad l hT hD (rg y12_2.toNatClampNeg) z12 _ hq22) (cwV 1 E.2.2.2.2 (lw_V q258 q260 qs5 q54 q261) rfl rfl rfl (by decide +kernel) ⟨Nat.le_of_ble_eq_true rfl, Nat.le_of_ble_eq_true rfl⟩) (ck_pre hK hN hP (ck_me hK hP)) rfl rfl hl.1 rfl (lv_room (Nat.le_of_ble_eq_true rfl)) dX0_loadsBarred_22 ⟨Nat.zero_le _, Nat.zero_le _⟩) hS (fun H locs hP hS => ?_)
          refine lv_if_ne (tgt := 31) E.1 E.2.1 dX0_loadsBarred_25 (by decide) (fun h => ?_) (fun h => ?_)
          · have hF := ite_f h hF
            refine lv_iinc (v := y12_2 + 1) (lv' := [(2, .int (y12_2 + 1)), (0, .ref (B 0)), (1, .ref w)]) E.1 E.2.1 dX0_loadsBarred_31 hl (k := 2) rfl rfl (by decide) rfl (fun ls hl => ?_)
            refine lv_goto (tgt := 12) E.1 E.2.1 dX0_loadsBarred_34 (by decide) ?_
            exact ih (y12_2 + 1) r22.2 H locs ls hF hP hS (lv_sub hl [1, 2, 0] rfl)
          · have hF := ite_t h hF
            refine lv_bipush (v := (-2 : Int32)) E.1 E.2.1 dX0_loadsBarred_28 (by decide) ?_
            exact ck_iret E hr hlocks hP hS hF dX0_loadsBarred_30
    exact L12 FU (0 : Int32) r1.2 H locs ls hF hP hS (lv_sub hl [1, 2, 0] rfl)
  · have hF := ite_f h hF
    refine lv_bipush (v := (-3 : Int32)) E.1 E.2.1 dX0_loadsBarred_7 (by decide) ?_
    exact ck_iret E hr hlocks hP hS hF dX0_loadsBarred_9
/-! DebtFerry.loadsBy([II)I -/
def c_loadsBy_L21 (k178 : Int32 → Int32 → Int32 → Int32 → Int32 → Int32 → CZ → Option (Int32 × CZ)) (rn : Nat) (rg : Nat → Int32) (x2 : Int32) : Nat → Int32 → Int32 → Int32 → Int32 → Int32 → Int32 → Int32 → CZ → Option (Int32 × CZ)
  | 0, _, _, _, _, _, _, _, _ => none
  | n + 1, y21_3, y21_4, y21_5, y21_6, y21_7, y21_8, y21_9, z21 =>
    if (nI rn) ≤ y21_9 then k178 y21_3 y21_4 y21_5 y21_6 y21_7 y21_8 z21 else if 0 ≤ y21_8 then k178 y21_3 y21_4 y21_5 y21_6 y21_7 y21_8 z21 else gd (inb y21_9 rn) ((c_pulling (rg y21_9.toNatClampNeg) z21).bind (fun r38 => gd (inb y21_9 rn) (jn (fun (v80_0 : Int32) (z80 : CZ) => gd (inb y21_9 rn) (gd (inb y21_9 rn) ((c_isFair (rg y21_9.toNatClampNeg) z80).bind (fun r96 => jn (fun (v107_0 : Int32) (z107 : CZ) => (j16_bitCount r38.1).bind (fun r114 => jn (fun (v126_0 : Int32) (z126 : CZ) => jn (fun (v141_0 : Int32) (z141 : CZ) => jn (fun (v169_0 : Int32) (z169 : CZ) => c_loadsBy_L21 k178 rn rg x2 n (y21_3 ||| (rg y21_9.toNatClampNeg)) (y21_4 + v107_0) (y21_5 + v126_0) (y21_6 + v141_0) (y21_7 + v169_0) v80_0 (y21_9 + 1) z169) (fun (k169 : Int32 → CZ → Option (Int32 × CZ)) => jn (fun  (z168 : CZ) => k169 (0 : Int32) z168) (fun (k168 : CZ → Option (Int32 × CZ)) => if x2 < (10 : Int32) then k168  z141 else (c_isIn r38.1 (x2 - (10 : Int32))).bind (fun r158 => if r158 = 0 then k168  z141 else k169 (1 : Int32) z141)))) (fun (k141 : Int32 → CZ → Option (Int32 × CZ)) => if r38.1 = 0 then k141 (1 : Int32) z126 else k141 (0 : Int32) z126)) (fun (k126 : Int32 → CZ → Option (Int32 × CZ)) => if r114 ≤ (1 : Int32) then k126 (0 : Int32) z107 else k126 (1 : Int32) z107))) (fun (k107 : Int32 → CZ → Option (Int32 × CZ)) => if r96.1 = 0 then k107 (0 : Int32) r96.2 else k107 (1 : Int32) r96.2))))) (fun (k80 : Int32 → CZ → Option (Int32 × CZ)) => if (rg y21_9.toNatClampNeg) = 0 then k80 y21_9 r38.2 else gd (inb y21_9 rn) ((j16_bitCount (rg y21_9.toNatClampNeg)).bind (fun r54 => if (r38.2.1 1) < r54 then k80 y21_9 r38.2 else gd (inb y21_9 rn) (if ((rg y21_9.toNatClampNeg) &&& y21_3) = 0 then k80 (-9 : Int32) r38.2 else k80 y21_9 r38.2)))))))
def c_loadsBy (rn : Nat) (rg : Nat → Int32) (x2 : Int32) (z0 : CZ) : Option (Int32 × CZ) :=
  c_loadsBy_L21 (fun (y21_3 : Int32) (y21_4 : Int32) (y21_5 : Int32) (y21_6 : Int32) (y21_7 : Int32) (y21_8 : Int32) (z21 : CZ) => if x2 = (1 : Int32) then some (y21_8, z21) else if y21_8 < 0 then jn (fun  (z243 : CZ) => (c_noPerson (x2 - (10 : Int32)) z243).bind (fun r248 => if r248.1 = 0 then some (y21_7, r248.2) else some ((-9 : Int32), r248.2))) (fun (k243 : CZ → Option (Int32 × CZ)) => if x2 = (0 : Int32) then some (y21_4, z21) else if x2 = (1 : Int32) then k243  z21 else if x2 = (2 : Int32) then some (y21_3, z21) else if x2 = (3 : Int32) then some (y21_5, z21) else if x2 = (4 : Int32) then some (y21_6, z21) else k243  z21) else some (((-100 : Int32) - y21_8), z21)) rn rg x2 FU (0 : Int32) (0 : Int32) (0 : Int32) (0 : Int32) (0 : Int32) (-9 : Int32) (0 : Int32) z0
abbrev rmX0_loadsBy : Room := { frames := 7, cells := 0, slots := 0, locals := 146 }
set_option maxHeartbeats 4000000 in
set_option maxRecDepth 100000 in
theorem mm_X0_loadsBy (l : Launch) {D : va_G} {K : Nat → ClassId} {s0 : State} {a0 : Array Value} {B : Nat → Nat} {ad : CA} {A : Nat → Prop} (hT : ∀ w ∈ lw_tbl, w.before a0 s0 = true) (hD : ∀ z, va_D A (cW K B ad z)) {w : Nat} (rn : Nat) (rg : Nat → Int32) (x2 : Int32) (hw : rwW K w rn rg ∈ ad.2.2) (z0 : CZ) (res : Int32 × CZ) (hF : c_loadsBy rn rg x2 z0 = some res) : Met l yX0_loadsBy (ws_ yX0_loadsBy cX0_loadsBy 11 (some .int)) rmX0_loadsBy (cPc D K s0 B ad z0 [.ref (B 0), .ref w, .int x2]) (cQ D K B ad A (some (.int res.1)) res.2) 0 0 A := by
  refine ck_start (A := A) RX0 (by decide) rfl (Nat.le_of_ble_eq_true rfl) ?_
  intro p e s m args below meth c H locs ls E hr hlocks hK hN hP hS hl
  have hl : lv_has ls 11 [(0, .ref (B 0)), (1, .ref w), (2, .int x2)] := hl
  unfold c_loadsBy at hF
  refine lv_iconst (v := (0 : Int32)) E.1 E.2.1 dX0_loadsBy_0 (by decide) ?_
  refine lv_istore_n (lv' := [(3, .int (0 : Int32)), (0, .ref (B 0)), (1, .ref w), (2, .int x2)]) E.1 E.2.1 dX0_loadsBy_1 rfl hl (by decide) rfl (fun ls hl => ?_)
  refine lv_iconst (v := (0 : Int32)) E.1 E.2.1 dX0_loadsBy_2 (by decide) ?_
  refine lv_istore (lv' := [(4, .int (0 : Int32)), (3, .int (0 : Int32)), (0, .ref (B 0)), (1, .ref w), (2, .int x2)]) E.1 E.2.1 dX0_loadsBy_3 hl (by decide) rfl (fun ls hl => ?_)
  refine lv_iconst (v := (0 : Int32)) E.1 E.2.1 dX0_loadsBy_5 (by decide) ?_
  refine lv_istore (lv' := [(5, .int (0 : Int32)), (4, .int (0 : Int32)), (3, .int (0 : Int32)), (0, .ref (B 0)), (1, .ref w), (2, .int x2)]) E.1 E.2.1 dX0_loadsBy_6 hl (by decide) rfl (fun ls hl => ?_)
  refine lv_iconst (v := (0 : Int32)) E.1 E.2.1 dX0_loadsBy_8 (by decide) ?_
  refine lv_istore (lv' := [(6, .int (0 : Int32)), (5, .int (0 : Int32)), (4, .int (0 : Int32)), (3, .int (0 : Int32)), (0, .ref (B 0)), (1, .ref w), (2, .int x2)]) E.1 E.2.1 dX0_loadsBy_9 hl (by decide) rfl (fun ls hl => ?_)
  refine lv_iconst (v := (0 : Int32)) E.1 E.2.1 dX0_loadsBy_11 (by decide) ?_
  refine lv_istore (lv' := [(7, .int (0 : Int32)), (6, .int (0 : Int32)), (5, .int (0 : Int32)), (4, .int (0 : Int32)), (3, .int (0 : Int32)), (0, .ref (B 0)), (1, .ref w), (2, .int x2)]) E.1 E.2.1 dX0_loadsBy_12 hl (by decide) rfl (fun ls hl => ?_)
  refine lv_bipush (v := (-9 : Int32)) E.1 E.2.1 dX0_loadsBy_14 (by decide) ?_
  refine lv_istore (lv' := [(8, .int (-9 : Int32)), (7, .int (0 : Int32)), (6, .int (0 : Int32)), (5, .int (0 : Int32)), (4, .int (0 : Int32)), (3, .int (0 : Int32)), (0, .ref (B 0)), (1, .ref w), (2, .int x2)]) E.1 E.2.1 dX0_loadsBy_16 hl (by decide) rfl (fun ls hl => ?_)
  refine lv_iconst (v := (0 : Int32)) E.1 E.2.1 dX0_loadsBy_18 (by decide) ?_
  refine lv_istore (lv' := [(9, .int (0 : Int32)), (8, .int (-9 : Int32)), (7, .int (0 : Int32)), (6, .int (0 : Int32)), (5, .int (0 : Int32)), (4, .int (0 : Int32)), (3, .int (0 : Int32)), (0, .ref (B 0)), (1, .ref w), (2, .int x2)]) E.1 E.2.1 dX0_loadsBy_19 hl (by decide) rfl (fun ls hl => ?_)
  obtain ⟨k178, hk178, hF⟩ : ∃ k178, k178 = _ ∧ c_loadsBy_L21 k178 rn rg x2 FU (0 : Int32) (0 : Int32) (0 : Int32) (0 : Int32) (0 : Int32) (-9 : Int32) (0 : Int32) z0 = some res := ⟨_, rfl, hF⟩
  have K178 : ∀ (y21_3 : Int32) (y21_4 : Int32) (y21_5 : Int32) (y21_6 : Int32) (y21_7 : Int32) (y21_8 : Int32) (z21 : CZ) (H : Heap) (locs : List Loc) (ls : Array Slot), k178 y21_3 y21_4 y21_5 y21_6 y21_7 y21_8 z21 = some res → cP D K B ad z21 H → va_S A s.heap H locs → lv_has ls 11 [(0, .ref (B 0)), (2, .int x2), (3, .int y21_3), (4, .int y21_4), (5, .int y21_5), (6, .int y21_6), (7, .int y21_7), (8, .int y21_8)] → W p l e rmX0_loadsBy s m args below meth c H locs 0 0 (MQ below (cQ D K B ad A (some (.int res.1)) res.2) args s 0 0 A) (F0 m 178 ls []) := by
    intro y21_3 y21_4 y21_5 y21_6 y21_7 y21_8 z21 H locs ls hF hP hS hl
    rw [hk178] at hF
    refine lv_iload_n E.1 E.2.1 dX0_loadsBy_178 rfl (lv_at hl 1 rfl) ?_
    refine lv_iconst (v := (1 : Int32)) E.1 E.2.1 dX0_loadsBy_179 (by decide) ?_
    refine lv_icmp_ne (tgt := 186) E.1 E.2.1 dX0_loadsBy_180 (by decide) (fun h => ?_) (fun h => ?_)
    · have hF := ite_f h hF
      refine lv_iload E.1 E.2.1 dX0_loadsBy_186 (lv_at hl 7 rfl) ?_
      refine lv_if_lt (tgt := 197) E.1 E.2.1 dX0_loadsBy_188 (by decide) (fun h => ?_) (fun h => ?_)
      · have hF := ite_t h hF
        refine lv_iload_n E.1 E.2.1 dX0_loadsBy_197 rfl (lv_at hl 1 rfl) ?_
        obtain ⟨k243, hk243, hF⟩ := jn_split hF
        have J243 : ∀  (z243 : CZ) (H : Heap) (locs : List Loc) (ls : Array Slot), k243  z243 = some res → cP D K B ad z243 H → va_S A s.heap H locs → lv_has ls 11 [(0, .ref (B 0)), (2, .int x2), (7, .int y21_7)] → W p l e rmX0_loadsBy s m args below meth c H locs 0 0 (MQ below (cQ D K B ad A (some (.int res.1)) res.2) args s 0 0 A) (F0 m 243 ls []) := by
          intro  z243 H locs ls hF hP hS hl
          rw [hk243] at hF
          refine lv_aload_n E.1 E.2.1 dX0_loadsBy_243 rfl (lv_at hl 0 rfl) ?_
          refine lv_iload_n E.1 E.2.1 dX0_loadsBy_244 rfl (lv_at hl 1 rfl) ?_
          refine lv_bipush (v := (10 : Int32)) E.1 E.2.1 dX0_loadsBy_245 (by decide) ?_
          refine lv_isub E.1 E.2.1 dX0_loadsBy_247 ?_
          obtain ⟨r248, hq248, hF⟩ := bnd hF
          refine cx_go (va_runV (As := [.int (x2 - (10 : Int32))]) (rest := []) E (mm_X0_noPerson l hT hD (x2 - (10 : Int32)) z243 _ hq248) (cwV 1 E.2.2.2.2 (lw_V q163 q165 qs0 q54 q166) rfl rfl rfl (by decide +kernel) ⟨Nat.le_of_ble_eq_true rfl, Nat.le_of_ble_eq_true rfl⟩) (ck_pre hK hN hP (ck_me hK hP)) rfl rfl hl.1 rfl (lv_room (Nat.le_of_ble_eq_true rfl)) dX0_loadsBy_248 ⟨Nat.zero_le _, Nat.zero_le _⟩) hS (fun H locs hP hS => ?_)
          refine lv_if_eq (tgt := 259) E.1 E.2.1 dX0_loadsBy_251 (by decide) (fun h => ?_) (fun h => ?_)
          · have hF := ite_t h hF
            refine lv_iload E.1 E.2.1 dX0_loadsBy_259 (lv_at hl 2 rfl) ?_
            exact ck_iret E hr hlocks hP hS hF dX0_loadsBy_261
          · have hF := ite_f h hF
            refine lv_bipush (v := (-9 : Int32)) E.1 E.2.1 dX0_loadsBy_254 (by decide) ?_
            refine lv_goto (tgt := 261) E.1 E.2.1 dX0_loadsBy_256 (by decide) ?_
            exact ck_iret E hr hlocks hP hS hF dX0_loadsBy_261
        rcases Decidable.em (x2 = (0 : Int32)) with h198_0 | h198_0
        · have hF := ite_t h198_0 hF
          refine lv_tableIn (off := 34) (tgt := 232) E.1 E.2.1 dX0_loadsBy_198 (by rw [h198_0]; decide) (by rw [h198_0]; decide) (by rw [h198_0]; decide) (by decide) ?_
          refine lv_iload E.1 E.2.1 dX0_loadsBy_232 (lv_at hl 3 rfl) ?_
          exact ck_iret E hr hlocks hP hS hF dX0_loadsBy_234
        have hF := ite_f h198_0 hF
        rcases Decidable.em (x2 = (1 : Int32)) with h198_1 | h198_1
        · have hF := ite_t h198_1 hF
          refine lv_tableIn (off := 45) (tgt := 243) E.1 E.2.1 dX0_loadsBy_198 (by rw [h198_1]; decide) (by rw [h198_1]; decide) (by rw [h198_1]; decide) (by decide) ?_
          exact J243  z21 H locs ls hF hP hS (lv_sub hl [0, 1, 6] rfl)
        have hF := ite_f h198_1 hF
        rcases Decidable.em (x2 = (2 : Int32)) with h198_2 | h198_2
        · have hF := ite_t h198_2 hF
          refine lv_tableIn (off := 37) (tgt := 235) E.1 E.2.1 dX0_loadsBy_198 (by rw [h198_2]; decide) (by rw [h198_2]; decide) (by rw [h198_2]; decide) (by decide) ?_
          refine lv_iload_n E.1 E.2.1 dX0_loadsBy_235 rfl (lv_at hl 2 rfl) ?_
          exact ck_iret E hr hlocks hP hS hF dX0_loadsBy_236
        have hF := ite_f h198_2 hF
        rcases Decidable.em (x2 = (3 : Int32)) with h198_3 | h198_3
        · have hF := ite_t h198_3 hF
          refine lv_tableIn (off := 39) (tgt := 237) E.1 E.2.1 dX0_loadsBy_198 (by rw [h198_3]; decide) (by rw [h198_3]; decide) (by rw [h198_3]; decide) (by decide) ?_
          refine lv_iload E.1 E.2.1 dX0_loadsBy_237 (lv_at hl 4 rfl) ?_
          exact ck_iret E hr hlocks hP hS hF dX0_loadsBy_239
        have hF := ite_f h198_3 hF
        rcases Decidable.em (x2 = (4 : Int32)) with h198_4 | h198_4
        · have hF := ite_t h198_4 hF
          refine lv_tableIn (off := 42) (tgt := 240) E.1 E.2.1 dX0_loadsBy_198 (by rw [h198_4]; decide) (by rw [h198_4]; decide) (by rw [h198_4]; decide) (by decide) ?_
          refine lv_iload E.1 E.2.1 dX0_loadsBy_240 (lv_at hl 5 rfl) ?_
          exact ck_iret E hr hlocks hP hS hF dX0_loadsBy_242
        have hF := ite_f h198_4 hF
        refine lv_tableOut (tgt := 243) E.1 E.2.1 dX0_loadsBy_198 (by have g0 := lv_neT h198_0 (a := 0) (by decide); have g1 := lv_neT h198_1 (a := 1) (by decide); have g2 := lv_neT h198_2 (a := 2) (by decide); have g3 := lv_neT h198_3 (a := 3) (by decide); have g4 := lv_neT h198_4 (a := 4) (by decide); omega) (by decide) ?_
        exact J243  z21 H locs ls hF hP hS (lv_sub hl [0, 1, 6] rfl)
      · have hF := ite_f h hF
        refine lv_bipush (v := (-100 : Int32)) E.1 E.2.1 dX0_loadsBy_191 (by decide) ?_
        refine lv_iload E.1 E.2.1 dX0_loadsBy_193 (lv_at hl 7 rfl) ?_
        refine lv_isub E.1 E.2.1 dX0_loadsBy_195 ?_
        exact ck_iret E hr hlocks hP hS hF dX0_loadsBy_196
    · have hF := ite_t h hF
      refine lv_iload E.1 E.2.1 dX0_loadsBy_183 (lv_at hl 7 rfl) ?_
      exact ck_iret E hr hlocks hP hS hF dX0_loadsBy_185
  have L21 : ∀ (n : Nat) (y21_3 : Int32) (y21_4 : Int32) (y21_5 : Int32) (y21_6 : Int32) (y21_7 : Int32) (y21_8 : Int32) (y21_9 : Int32) (z21 : CZ) (H : Heap) (locs : List Loc) (ls : Array Slot), c_loadsBy_L21 k178 rn rg x2 n y21_3 y21_4 y21_5 y21_6 y21_7 y21_8 y21_9 z21 = some res → cP D K B ad z21 H → va_S A s.heap H locs → lv_has ls 11 [(0, .ref (B 0)), (1, .ref w), (2, .int x2), (3, .int y21_3), (4, .int y21_4), (5, .int y21_5), (6, .int y21_6), (7, .int y21_7), (8, .int y21_8), (9, .int y21_9)] → W p l e rmX0_loadsBy s m args below meth c H locs 0 0 (MQ below (cQ D K B ad A (some (.int res.1)) res.2) args s 0 0 A) (F0 m 21 ls []) := by
    intro n
    induction n with
    | zero =>
      intro y21_3 y21_4 y21_5 y21_6 y21_7 y21_8 y21_9 z21 H locs ls hF
      rw [c_loadsBy_L21] at hF
      cases hF
    | succ n ih =>
      intro y21_3 y21_4 y21_5 y21_6 y21_7 y21_8 y21_9 z21 H locs ls hF hP hS hl
      rw [c_loadsBy_L21] at hF
      refine lv_iload E.1 E.2.1 dX0_loadsBy_21 (lv_at hl 9 rfl) ?_
      refine lv_aload_n E.1 E.2.1 dX0_loadsBy_23 rfl (lv_at hl 1 rfl) ?_
      refine ck_ralen E hK hP hw dX0_loadsBy_24 ?_
      refine lv_icmp_ge (tgt := 178) E.1 E.2.1 dX0_loadsBy_25 (by decide) (fun h => ?_) (fun h => ?_)
      · have hF := ite_t h hF
        exact K178 y21_3 y21_4 y21_5 y21_6 y21_7 y21_8 z21 H locs ls hF hP hS (lv_sub hl [0, 2, 3, 4, 5, 6, 7, 8] rfl)
      · have hF := ite_f h hF
        refine lv_iload E.1 E.2.1 dX0_loadsBy_28 (lv_at hl 8 rfl) ?_
        refine lv_if_ge (tgt := 178) E.1 E.2.1 dX0_loadsBy_30 (by decide) (fun h => ?_) (fun h => ?_)
        · have hF := ite_t h hF
          exact K178 y21_3 y21_4 y21_5 y21_6 y21_7 y21_8 z21 H locs ls hF hP hS (lv_sub hl [0, 2, 3, 4, 5, 6, 7, 8] rfl)
        · have hF := ite_f h hF
          refine lv_aload_n E.1 E.2.1 dX0_loadsBy_33 rfl (lv_at hl 0 rfl) ?_
          refine lv_aload_n E.1 E.2.1 dX0_loadsBy_34 rfl (lv_at hl 1 rfl) ?_
          refine lv_iload E.1 E.2.1 dX0_loadsBy_35 (lv_at hl 9 rfl) ?_
          obtain ⟨h37, hF⟩ := gd_some hF
          refine ck_rald E hK hP hw h37 dX0_loadsBy_37 ?_
          obtain ⟨r38, hq38, hF⟩ := bnd hF
          refine cx_go (va_runV (As := [.int (rg y21_9.toNatClampNeg)]) (rest := []) E (mm_X0_pulling l hT hD (rg y21_9.toNatClampNeg) z21 _ hq38) (cwV 1 E.2.2.2.2 (lw_V q300 q302 qs7 q54 q303) rfl rfl rfl (by decide +kernel) ⟨Nat.le_of_ble_eq_true rfl, Nat.le_of_ble_eq_true rfl⟩) (ck_pre hK hN hP (ck_me hK hP)) rfl rfl hl.1 rfl (lv_room (Nat.le_of_ble_eq_true rfl)) dX0_loadsBy_38 ⟨Nat.zero_le _, Nat.zero_le _⟩) hS (fun H locs hP hS => ?_)
          refine lv_istore (lv' := [(10, .int r38.1), (0, .ref (B 0)), (1, .ref w), (2, .int x2), (3, .int y21_3), (4, .int y21_4), (5, .int y21_5), (6, .int y21_6), (7, .int y21_7), (8, .int y21_8), (9, .int y21_9)]) E.1 E.2.1 dX0_loadsBy_41 hl (by decide) rfl (fun ls hl => ?_)
          refine lv_aload_n E.1 E.2.1 dX0_loadsBy_43 rfl (lv_at hl 2 rfl) ?_
          refine lv_iload E.1 E.2.1 dX0_loadsBy_44 (lv_at hl 10 rfl) ?_
          obtain ⟨h46, hF⟩ := gd_some hF
          refine ck_rald E hK hP hw h46 dX0_loadsBy_46 ?_
          obtain ⟨k80, hk80, hF⟩ := jn_split hF
          have J80 : ∀ (v80_0 : Int32) (z80 : CZ) (H : Heap) (locs : List Loc) (ls : Array Slot), k80 v80_0 z80 = some res → cP D K B ad z80 H → va_S A s.heap H locs → lv_has ls 11 [(0, .ref (B 0)), (1, .ref w), (2, .int x2), (3, .int y21_3), (4, .int y21_4), (5, .int y21_5), (6, .int y21_6), (7, .int y21_7), (9, .int y21_9), (10, .int r38.1)] → W p l e rmX0_loadsBy s m args below meth c H locs 0 0 (MQ below (cQ D K B ad A (some (.int res.1)) res.2) args s 0 0 A) (F0 m 80 ls [.int v80_0]) := by
            intro v80_0 z80 H locs ls hF hP hS hl
            rw [hk80] at hF
            refine lv_istore (lv' := [(8, .int v80_0), (0, .ref (B 0)), (1, .ref w), (2, .int x2), (3, .int y21_3), (4, .int y21_4), (5, .int y21_5), (6, .int y21_6), (7, .int y21_7), (9, .int y21_9), (10, .int r38.1)]) E.1 E.2.1 dX0_loadsBy_80 hl (by decide) rfl (fun ls hl => ?_)
            refine lv_iload_n E.1 E.2.1 dX0_loadsBy_82 rfl (lv_at hl 4 rfl) ?_
            refine lv_aload_n E.1 E.2.1 dX0_loadsBy_83 rfl (lv_at hl 2 rfl) ?_
            refine lv_iload E.1 E.2.1 dX0_loadsBy_84 (lv_at hl 9 rfl) ?_
            obtain ⟨h86, hF⟩ := gd_some hF
            refine ck_rald E hK hP hw h86 dX0_loadsBy_86 ?_
            refine lv_ior E.1 E.2.1 dX0_loadsBy_87 ?_
            refine lv_istore_n (lv' := [(3, .int (y21_3 ||| (rg y21_9.toNatClampNeg))), (8, .int v80_0), (0, .ref (B 0)), (1, .ref w), (2, .int x2), (4, .int y21_4), (5, .int y21_5), (6, .int y21_6), (7, .int y21_7), (9, .int y21_9), (10, .int r38.1)]) E.1 E.2.1 dX0_loadsBy_88 rfl hl (by decide) rfl (fun ls hl => ?_)
            refine lv_iload E.1 E.2.1 dX0_loadsBy_89 (lv_at hl 5 rfl) ?_
            refine lv_aload_n E.1 E.2.1 dX0_loadsBy_91 rfl (lv_at hl 2 rfl) ?_
            refine lv_aload_n E.1 E.2.1 dX0_loadsBy_92 rfl (lv_at hl 3 rfl) ?_
            refine lv_iload E.1 E.2.1 dX0_loadsBy_93 (lv_at hl 9 rfl) ?_
            obtain ⟨h95, hF⟩ := gd_some hF
            refine ck_rald E hK hP hw h95 dX0_loadsBy_95 ?_
            obtain ⟨r96, hq96, hF⟩ := bnd hF
            refine cx_go (va_runV (As := [.int (rg y21_9.toNatClampNeg)]) (rest := [.int y21_4]) E (mm_X0_isFair l hT hD (rg y21_9.toNatClampNeg) z80 _ hq96) (cwV 1 E.2.2.2.2 (lw_V q309 q311 qs8 q54 q312) rfl rfl rfl (by decide +kernel) ⟨Nat.le_of_ble_eq_true rfl, Nat.le_of_ble_eq_true rfl⟩) (ck_pre hK hN hP (ck_me hK hP)) rfl rfl hl.1 rfl (lv_room (Nat.le_of_ble_eq_true rfl)) dX0_loadsBy_96 ⟨Nat.zero_le _, Nat.zero_le _⟩) hS (fun H locs hP hS => ?_)
            obtain ⟨k107, hk107, hF⟩ := jn_split hF
            have J107 : ∀ (v107_0 : Int32) (z107 : CZ) (H : Heap) (locs : List Loc) (ls : Array Slot), k107 v107_0 z107 = some res → cP D K B ad z107 H → va_S A s.heap H locs → lv_has ls 11 [(0, .ref (B 0)), (1, .ref w), (2, .int x2), (3, .int (y21_3 ||| (rg y21_9.toNatClampNeg))), (5, .int y21_5), (6, .int y21_6), (7, .int y21_7), (8, .int v80_0), (9, .int y21_9), (10, .int r38.1)] → W p l e rmX0_loadsBy s m args below meth c H locs 0 0 (MQ below (cQ D K B ad A (some (.int res.1)) res.2) args s 0 0 A) (F0 m 107 ls [.int v107_0, .int y21_4]) := by
              intro v107_0 z107 H locs ls hF hP hS hl
              rw [hk107] at hF
              refine lv_iadd E.1 E.2.1 dX0_loadsBy_107 ?_
              refine lv_istore (lv' := [(4, .int (y21_4 + v107_0)), (0, .ref (B 0)), (1, .ref w), (2, .int x2), (3, .int (y21_3 ||| (rg y21_9.toNatClampNeg))), (5, .int y21_5), (6, .int y21_6), (7, .int y21_7), (8, .int v80_0), (9, .int y21_9), (10, .int r38.1)]) E.1 E.2.1 dX0_loadsBy_108 hl (by decide) rfl (fun ls hl => ?_)
              refine lv_iload E.1 E.2.1 dX0_loadsBy_110 (lv_at hl 5 rfl) ?_
              refine lv_iload E.1 E.2.1 dX0_loadsBy_112 (lv_at hl 10 rfl) ?_
              obtain ⟨r114, hq114, hF⟩ := bnd hF
              refine px_call (As := [.int r38.1]) (rest := [.int y21_5]) (v := .int r114) E (mm_J16_bitCount l r38.1 _ hq114) (va_cwS 1 E.2.2.2.2 (lw_S q313 q314 q76 q315) rfl rfl rfl (by decide +kernel) ⟨Nat.le_of_ble_eq_true rfl, Nat.le_of_ble_eq_true rfl⟩) hl rfl rfl (Nat.le_of_ble_eq_true rfl) ⟨Nat.zero_le _, Nat.zero_le _⟩ dX0_loadsBy_114 ?_
              refine lv_iconst (v := (1 : Int32)) E.1 E.2.1 dX0_loadsBy_117 (by decide) ?_
              obtain ⟨k126, hk126, hF⟩ := jn_split hF
              have J126 : ∀ (v126_0 : Int32) (z126 : CZ) (H : Heap) (locs : List Loc) (ls : Array Slot), k126 v126_0 z126 = some res → cP D K B ad z126 H → va_S A s.heap H locs → lv_has ls 11 [(0, .ref (B 0)), (1, .ref w), (2, .int x2), (3, .int (y21_3 ||| (rg y21_9.toNatClampNeg))), (4, .int (y21_4 + v107_0)), (6, .int y21_6), (7, .int y21_7), (8, .int v80_0), (9, .int y21_9), (10, .int r38.1)] → W p l e rmX0_loadsBy s m args below meth c H locs 0 0 (MQ below (cQ D K B ad A (some (.int res.1)) res.2) args s 0 0 A) (F0 m 126 ls [.int v126_0, .int y21_5]) := by
                intro v126_0 z126 H locs ls hF hP hS hl
                rw [hk126] at hF
                refine lv_iadd E.1 E.2.1 dX0_loadsBy_126 ?_
                refine lv_istore (lv' := [(5, .int (y21_5 + v126_0)), (0, .ref (B 0)), (1, .ref w), (2, .int x2), (3, .int (y21_3 ||| (rg y21_9.toNatClampNeg))), (4, .int (y21_4 + v107_0)), (6, .int y21_6), (7, .int y21_7), (8, .int v80_0), (9, .int y21_9), (10, .int r38.1)]) E.1 E.2.1 dX0_loadsBy_127 hl (by decide) rfl (fun ls hl => ?_)
                refine lv_iload E.1 E.2.1 dX0_loadsBy_129 (lv_at hl 6 rfl) ?_
                refine lv_iload E.1 E.2.1 dX0_loadsBy_131 (lv_at hl 10 rfl) ?_
                obtain ⟨k141, hk141, hF⟩ := jn_split hF
                have J141 : ∀ (v141_0 : Int32) (z141 : CZ) (H : Heap) (locs : List Loc) (ls : Array Slot), k141 v141_0 z141 = some res → cP D K B ad z141 H → va_S A s.heap H locs → lv_has ls 11 [(0, .ref (B 0)), (1, .ref w), (2, .int x2), (3, .int (y21_3 ||| (rg y21_9.toNatClampNeg))), (4, .int (y21_4 + v107_0)), (5, .int (y21_5 + v126_0)), (7, .int y21_7), (8, .int v80_0), (9, .int y21_9), (10, .int r38.1)] → W p l e rmX0_loadsBy s m args below meth c H locs 0 0 (MQ below (cQ D K B ad A (some (.int res.1)) res.2) args s 0 0 A) (F0 m 141 ls [.int v141_0, .int y21_6]) := by
                  intro v141_0 z141 H locs ls hF hP hS hl
                  rw [hk141] at hF
                  refine lv_iadd E.1 E.2.1 dX0_loadsBy_141 ?_
                  refine lv_istore (lv' := [(6, .int (y21_6 + v141_0)), (0, .ref (B 0)), (1, .ref w), (2, .int x2), (3, .int (y21_3 ||| (rg y21_9.toNatClampNeg))), (4, .int (y21_4 + v107_0)), (5, .int (y21_5 + v126_0)), (7, .int y21_7), (8, .int v80_0), (9, .int y21_9), (10, .int r38.1)]) E.1 E.2.1 dX0_loadsBy_142 hl (by decide) rfl (fun ls hl => ?_)
                  refine lv_iload E.1 E.2.1 dX0_loadsBy_144 (lv_at hl 7 rfl) ?_
                  refine lv_iload_n E.1 E.2.1 dX0_loadsBy_146 rfl (lv_at hl 3 rfl) ?_
                  refine lv_bipush (v := (10 : Int32)) E.1 E.2.1 dX0_loadsBy_147 (by decide) ?_
                  obtain ⟨k169, hk169, hF⟩ := jn_split hF
                  have J169 : ∀ (v169_0 : Int32) (z169 : CZ) (H : Heap) (locs : List Loc) (ls : Array Slot), k169 v169_0 z169 = some res → cP D K B ad z169 H → va_S A s.heap H locs → lv_has ls 11 [(0, .ref (B 0)), (1, .ref w), (2, .int x2), (3, .int (y21_3 ||| (rg y21_9.toNatClampNeg))), (4, .int (y21_4 + v107_0)), (5, .int (y21_5 + v126_0)), (6, .int (y21_6 + v141_0)), (8, .int v80_0), (9, .int y21_9)] → W p l e rmX0_loadsBy s m args below meth c H locs 0 0 (MQ below (cQ D K B ad A (some (.int res.1)) res.2) args s 0 0 A) (F0 m 169 ls [.int v169_0, .int y21_7]) := by
                    intro v169_0 z169 H locs ls hF hP hS hl
                    rw [hk169] at hF
                    refine lv_iadd E.1 E.2.1 dX0_loadsBy_169 ?_
                    refine lv_istore (lv' := [(7, .int (y21_7 + v169_0)), (0, .ref (B 0)), (1, .ref w), (2, .int x2), (3, .int (y21_3 ||| (rg y21_9.toNatClampNeg))), (4, .int (y21_4 + v107_0)), (5, .int (y21_5 + v126_0)), (6, .int (y21_6 + v141_0)), (8, .int v80_0), (9, .int y21_9)]) E.1 E.2.1 dX0_loadsBy_170 hl (by decide) rfl (fun ls hl => ?_)
                    refine lv_iinc (v := y21_9 + 1) (lv' := [(9, .int (y21_9 + 1)), (7, .int (y21_7 + v169_0)), (0, .ref (B 0)), (1, .ref w), (2, .int x2), (3, .int (y21_3 ||| (rg y21_9.toNatClampNeg))), (4, .int (y21_4 + v107_0)), (5, .int (y21_5 + v126_0)), (6, .int (y21_6 + v141_0)), (8, .int v80_0)]) E.1 E.2.1 dX0_loadsBy_172 hl (k := 9) rfl rfl (by decide) rfl (fun ls hl => ?_)
                    refine lv_goto (tgt := 21) E.1 E.2.1 dX0_loadsBy_175 (by decide) ?_
                    exact ih (y21_3 ||| (rg y21_9.toNatClampNeg)) (y21_4 + v107_0) (y21_5 + v126_0) (y21_6 + v141_0) (y21_7 + v169_0) v80_0 (y21_9 + 1) z169 H locs ls hF hP hS (lv_sub hl [2, 3, 4, 5, 6, 7, 8, 1, 9, 0] rfl)
                  obtain ⟨k168, hk168, hF⟩ := jn_split hF
                  have J168 : ∀  (z168 : CZ) (H : Heap) (locs : List Loc) (ls : Array Slot), k168  z168 = some res → cP D K B ad z168 H → va_S A s.heap H locs → lv_has ls 11 [(0, .ref (B 0)), (1, .ref w), (2, .int x2), (3, .int (y21_3 ||| (rg y21_9.toNatClampNeg))), (4, .int (y21_4 + v107_0)), (5, .int (y21_5 + v126_0)), (6, .int (y21_6 + v141_0)), (8, .int v80_0), (9, .int y21_9)] → W p l e rmX0_loadsBy s m args below meth c H locs 0 0 (MQ below (cQ D K B ad A (some (.int res.1)) res.2) args s 0 0 A) (F0 m 168 ls [.int y21_7]) := by
                    intro  z168 H locs ls hF hP hS hl
                    rw [hk168] at hF
                    refine lv_iconst (v := (0 : Int32)) E.1 E.2.1 dX0_loadsBy_168 (by decide) ?_
                    exact J169 (0 : Int32) z168 H locs ls hF hP hS (lv_sub hl [0, 1, 2, 3, 4, 5, 6, 7, 8] rfl)
                  refine lv_icmp_lt (tgt := 168) E.1 E.2.1 dX0_loadsBy_149 (by decide) (fun h => ?_) (fun h => ?_)
                  · have hF := ite_t h hF
                    exact J168  z141 H locs ls hF hP hS (lv_sub hl [1, 2, 3, 4, 5, 6, 0, 8, 9] rfl)
                  · have hF := ite_f h hF
                    refine lv_iload E.1 E.2.1 dX0_loadsBy_152 (lv_at hl 10 rfl) ?_
                    refine lv_iload_n E.1 E.2.1 dX0_loadsBy_154 rfl (lv_at hl 3 rfl) ?_
                    refine lv_bipush (v := (10 : Int32)) E.1 E.2.1 dX0_loadsBy_155 (by decide) ?_
                    refine lv_isub E.1 E.2.1 dX0_loadsBy_157 ?_
                    obtain ⟨r158, hq158, hF⟩ := bnd hF
                    refine px_call (As := [.int r38.1, .int (x2 - (10 : Int32))]) (rest := [.int y21_7]) (v := .int r158) E (mm_X0_isIn l r38.1 (x2 - (10 : Int32)) _ hq158) (va_cwS 2 E.2.2.2.2 (lw_S q266 q267 q54 q268) rfl rfl rfl (by decide +kernel) ⟨Nat.le_of_ble_eq_true rfl, Nat.le_of_ble_eq_true rfl⟩) hl rfl rfl (Nat.le_of_ble_eq_true rfl) ⟨Nat.zero_le _, Nat.zero_le _⟩ dX0_loadsBy_158 ?_
                    refine lv_if_eq (tgt := 168) E.1 E.2.1 dX0_loadsBy_161 (by decide) (fun h => ?_) (fun h => ?_)
                    · have hF := ite_t h hF
                      exact J168  z141 H locs ls hF hP hS (lv_sub hl [1, 2, 3, 4, 5, 6, 0, 8, 9] rfl)
                    · have hF := ite_f h hF
                      refine lv_iconst (v := (1 : Int32)) E.1 E.2.1 dX0_loadsBy_164 (by decide) ?_
                      refine lv_goto (tgt := 169) E.1 E.2.1 dX0_loadsBy_165 (by decide) ?_
                      exact J169 (1 : Int32) z141 H locs ls hF hP hS (lv_sub hl [1, 2, 3, 4, 5, 6, 0, 8, 9] rfl)
                refine lv_if_ne (tgt := 140) E.1 E.2.1 dX0_loadsBy_133 (by decide) (fun h => ?_) (fun h => ?_)
                · have hF := ite_f h hF
                  refine lv_iconst (v := (0 : Int32)) E.1 E.2.1 dX0_loadsBy_140 (by decide) ?_
                  exact J141 (0 : Int32) z126 H locs ls hF hP hS (lv_sub hl [1, 2, 3, 4, 5, 0, 7, 8, 9, 10] rfl)
                · have hF := ite_t h hF
                  refine lv_iconst (v := (1 : Int32)) E.1 E.2.1 dX0_loadsBy_136 (by decide) ?_
                  refine lv_goto (tgt := 141) E.1 E.2.1 dX0_loadsBy_137 (by decide) ?_
                  exact J141 (1 : Int32) z126 H locs ls hF hP hS (lv_sub hl [1, 2, 3, 4, 5, 0, 7, 8, 9, 10] rfl)
              refine lv_icmp_le (tgt := 125) E.1 E.2.1 dX0_loadsBy_118 (by decide) (fun h => ?_) (fun h => ?_)
              · have hF := ite_t h hF
                refine lv_iconst (v := (0 : Int32)) E.1 E.2.1 dX0_loadsBy_125 (by decide) ?_
                exact J126 (0 : Int32) z107 H locs ls hF hP hS (lv_sub hl [1, 2, 3, 4, 0, 6, 7, 8, 9, 10] rfl)
              · have hF := ite_f h hF
                refine lv_iconst (v := (1 : Int32)) E.1 E.2.1 dX0_loadsBy_121 (by decide) ?_
                refine lv_goto (tgt := 126) E.1 E.2.1 dX0_loadsBy_122 (by decide) ?_
                exact J126 (1 : Int32) z107 H locs ls hF hP hS (lv_sub hl [1, 2, 3, 4, 0, 6, 7, 8, 9, 10] rfl)
            refine lv_if_eq (tgt := 106) E.1 E.2.1 dX0_loadsBy_99 (by decide) (fun h => ?_) (fun h => ?_)
            · have hF := ite_t h hF
              refine lv_iconst (v := (0 : Int32)) E.1 E.2.1 dX0_loadsBy_106 (by decide) ?_
              exact J107 (0 : Int32) r96.2 H locs ls hF hP hS (lv_sub hl [2, 3, 4, 0, 6, 7, 8, 1, 9, 10] rfl)
            · have hF := ite_f h hF
              refine lv_iconst (v := (1 : Int32)) E.1 E.2.1 dX0_loadsBy_102 (by decide) ?_
              refine lv_goto (tgt := 107) E.1 E.2.1 dX0_loadsBy_103 (by decide) ?_
              exact J107 (1 : Int32) r96.2 H locs ls hF hP hS (lv_sub hl [2, 3, 4, 0, 6, 7, 8, 1, 9, 10] rfl)
          refine lv_if_eq (tgt := 73) E.1 E.2.1 dX0_loadsBy_47 (by decide) (fun h => ?_) (fun h => ?_)
          · have hF := ite_t h hF
            refine lv_iload E.1 E.2.1 dX0_loadsBy_73 (lv_at hl 10 rfl) ?_
            refine lv_goto (tgt := 80) E.1 E.2.1 dX0_loadsBy_75 (by decide) ?_
            exact J80 y21_9 r38.2 H locs ls hF hP hS (lv_sub hl [1, 2, 3, 4, 5, 6, 7, 8, 10, 0] rfl)
          · have hF := ite_f h hF
            refine lv_aload_n E.1 E.2.1 dX0_loadsBy_50 rfl (lv_at hl 2 rfl) ?_
            refine lv_iload E.1 E.2.1 dX0_loadsBy_51 (lv_at hl 10 rfl) ?_
            obtain ⟨h53, hF⟩ := gd_some hF
            refine ck_rald E hK hP hw h53 dX0_loadsBy_53 ?_
            obtain ⟨r54, hq54, hF⟩ := bnd hF
            refine px_call (As := [.int (rg y21_9.toNatClampNeg)]) (rest := []) (v := .int r54) E (mm_J16_bitCount l (rg y21_9.toNatClampNeg) _ hq54) (va_cwS 1 E.2.2.2.2 (lw_S q313 q314 q76 q315) rfl rfl rfl (by decide +kernel) ⟨Nat.le_of_ble_eq_true rfl, Nat.le_of_ble_eq_true rfl⟩) hl rfl rfl (Nat.le_of_ble_eq_true rfl) ⟨Nat.zero_le _, Nat.zero_le _⟩ dX0_loadsBy_54 ?_
            refine lv_aload_n E.1 E.2.1 dX0_loadsBy_57 rfl (lv_at hl 1 rfl) ?_
            refine ck_get E hK hP 1 (by decide) q126 rfl (v := .int (r38.2.1 1)) rfl dX0_loadsBy_58 ?_
            refine lv_icmp_gt (tgt := 73) E.1 E.2.1 dX0_loadsBy_61 (by decide) (fun h => ?_) (fun h => ?_)
            · have hF := ite_t h hF
              refine lv_iload E.1 E.2.1 dX0_loadsBy_73 (lv_at hl 10 rfl) ?_
              refine lv_goto (tgt := 80) E.1 E.2.1 dX0_loadsBy_75 (by decide) ?_
              exact J80 y21_9 r38.2 H locs ls hF hP hS (lv_sub hl [1, 2, 3, 4, 5, 6, 7, 8, 10, 0] rfl)
            · have hF := ite_f h hF
              refine lv_aload_n E.1 E.2.1 dX0_loadsBy_64 rfl (lv_at hl 2 rfl) ?_
              refine lv_iload E.1 E.2.1 dX0_loadsBy_65 (lv_at hl 10 rfl) ?_
              obtain ⟨h67, hF⟩ := gd_some hF
              refine ck_rald E hK hP hw h67 dX0_loadsBy_67 ?_
              refine lv_iload_n E.1 E.2.1 dX0_loadsBy_68 rfl (lv_at hl 4 rfl) ?_
              refine lv_iand E.1 E.2.1 dX0_loadsBy_69 ?_
              refine lv_if_eq (tgt := 78) E.1 E.2.1 dX0_loadsBy_70 (by decide) (fun h => ?_) (fun h => ?_)
              · have hF := ite_t h hF
                refine lv_bipush (v := (-9 : Int32)) E.1 E.2.1 dX0_loadsBy_78 (by decide) ?_
                exact J80 (-9 : Int32) r38.2 H locs ls hF hP hS (lv_sub hl [1, 2, 3, 4, 5, 6, 7, 8, 10, 0] rfl)
              · have hF := ite_f h hF
                refine lv_iload E.1 E.2.1 dX0_loadsBy_73 (lv_at hl 10 rfl) ?_
                refine lv_goto (tgt := 80) E.1 E.2.1 dX0_loadsBy_75 (by decide) ?_
                exact J80 y21_9 r38.2 H locs ls hF hP hS (lv_sub hl [1, 2, 3, 4, 5, 6, 7, 8, 10, 0] rfl)
  exact L21 FU (0 : Int32) (0 : Int32) (0 : Int32) (0 : Int32) (0 : Int32) (-9 : Int32) (0 : Int32) z0 H locs ls hF hP hS (lv_sub hl [7, 8, 9, 6, 5, 4, 3, 2, 1, 0] rfl)
