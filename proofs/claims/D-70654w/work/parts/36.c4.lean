/-! DebtFerry.greatest(JJ)J: it calls itself -/
def c_gcd : Nat → Int64 → Int64 → Option Int64
  | 0, _, _ => none
  | n + 1, a, b => if lg_cmp b 0 = 0 then some a else gd (decide (¬ b = 0)) ((c_gcd n b (a - a / b * b)).bind (fun r => some r))
abbrev rmG (n : Nat) : Room := { frames := n + 1, cells := 0, slots := 0, locals := 12 + n * 23 }
theorem mm_gcd (l : Launch) (n : Nat) : ∀ (x0 x2 : Int64) (res : Int64) (_ : c_gcd n x0 x2 = some res), Met l yX0_greatest (ws_ yX0_greatest cX0_greatest 4 (some .long)) (rmG n) (pPc [.long x0, .long x2]) (pQ (.long res)) 0 0 (fun _ => False) := by
  induction n with
  | zero => intro x0 x2 res hF; cases hF
  | succ n ih =>
    intro x0 x2 res hF
    refine px_start RX0 (by decide) rfl (Nat.le_of_ble_eq_true rfl) ?_
    intro p e s m args below meth c ls E hr hlocks hl
    have hl : lv_has ls 4 [(0, .long x0), (2, .long x2)] := hl
    unfold c_gcd at hF
    refine lv_lload_n E.1 E.2.1 dX0_greatest_0 rfl (lv_at hl 1 rfl) ?_
    refine lv_lconst (v := (0 : Int64)) E.1 E.2.1 dX0_greatest_1 (by decide) ?_
    refine W.lcmp E.1 E.2.1 dX0_greatest_2 ?_
    refine lv_if_ne (tgt := 10) E.1 E.2.1 dX0_greatest_3 (by decide) (fun h => ?_) (fun h => ?_)
    · have hF := ite_f h hF
      obtain ⟨hb, hF⟩ := gd_some hF
      obtain ⟨r, hq, hF⟩ := bnd hF
      refine lv_lload_n E.1 E.2.1 dX0_greatest_10 rfl (lv_at hl 1 rfl) ?_
      refine lv_lload_n E.1 E.2.1 dX0_greatest_11 rfl (lv_at hl 0 rfl) ?_
      refine lv_lload_n E.1 E.2.1 dX0_greatest_12 rfl (lv_at hl 1 rfl) ?_
      refine lv_lrem E.1 E.2.1 dX0_greatest_13 (of_decide_eq_true hb) ?_
      refine px_call (As := [.long x2, .long (x0 - x0 / x2 * x2)]) (rest := []) (v := .long r) E (ih _ _ _ hq) (va_cwS 2 E.2.2.2.2 (lw_S q548 q549 q54 q550) rfl rfl rfl (by decide +kernel) ⟨by show n + 1 + 1 ≤ n + 1 + 1; omega, by show 8 + (4 + 11) + (12 + n * 23) ≤ 12 + (n + 1) * 23; omega⟩) hl rfl rfl (Nat.le_of_ble_eq_true rfl) ⟨Nat.zero_le _, Nat.zero_le _⟩ dX0_greatest_14 ?_
      exact px_lret E hr hlocks rfl hF dX0_greatest_17
    · have hF := ite_t h hF
      refine lv_lload_n E.1 E.2.1 dX0_greatest_6 rfl (lv_at hl 0 rfl) ?_
      refine lv_goto (tgt := 17) E.1 E.2.1 dX0_greatest_7 (by decide) ?_
      exact px_lret E hr hlocks rfl hF dX0_greatest_17
def c_greatest (x0 x2 : Int64) : Option Int64 := c_gcd 12 x0 x2
abbrev rmX0_greatest : Room := { frames := 13, cells := 0, slots := 0, locals := 288 }
theorem mm_X0_greatest (l : Launch) (x0 x2 : Int64) (res : Int64) (hF : c_greatest x0 x2 = some res) : Met l yX0_greatest (ws_ yX0_greatest cX0_greatest 4 (some .long)) rmX0_greatest (pPc [.long x0, .long x2]) (pQ (.long res)) 0 0 (fun _ => False) := mm_gcd l 12 x0 x2 res hF
/-! DebtFerry.odds(III)J -/
def c_odds_L71 (k117 : CZ → Option (Int64 × CZ)) (x1 : Int32) (x2 : Int32) (x3 : Int32) (y61_4 : Int32) (y61_5 : Int32) (y61_6 : Int32) : Nat → Int32 → CZ → Option (Int64 × CZ)
  | 0, _, _ => none
  | n + 1, y71_7, z71 =>
    if (25 : Int32) ≤ y71_7 then k117  z71 else (c_isIn y61_6 (y71_7 / (5 : Int32))).bind (fun r93 => jn (fun (v110_0 : Int32) (z110 : CZ) => gd (inb y71_7 25) (c_odds_L71 k117 x1 x2 x3 y61_4 y61_5 y61_6 n (y71_7 + 1) (cz_a z110 3 y71_7.toNatClampNeg v110_0))) (fun (k110 : Int32 → CZ → Option (Int64 × CZ)) => if r93 = 0 then gd (inb y71_7 25) (k110 (z71.2.1 6 y71_7.toNatClampNeg) z71) else k110 (0 : Int32) z71))
def c_odds_L61 (k145 : Int32 → Int32 → CZ → Option (Int64 × CZ)) (x1 : Int32) (x2 : Int32) (x3 : Int32) : Nat → Int32 → Int32 → Int32 → CZ → Option (Int64 × CZ)
  | 0, _, _, _, _ => none
  | n + 1, y61_4, y61_5, y61_6, z61 =>
    if y61_4 ≤ y61_6 then k145 y61_4 y61_5 z61 else c_odds_L71 (fun  (z71 : CZ) => (c_pulling x2 z71).bind (fun r121 => (c_isIn r121.1 x1).bind (fun r125 => jn (fun (v136_0 : Int32) (z136 : CZ) => c_odds_L61 k145 x1 x2 x3 n y61_4 (y61_5 + v136_0) (y61_6 + 1) z136) (fun (k136 : Int32 → CZ → Option (Int64 × CZ)) => if r125 = 0 then k136 (0 : Int32) r121.2 else k136 (1 : Int32) r121.2)))) x1 x2 x3 y61_4 y61_5 y61_6 FU (0 : Int32) z61
def c_odds (x1 : Int32) (x2 : Int32) (x3 : Int32) (z0 : CZ) : Option (Int64 × CZ) :=
  (c_noPerson x1 z0).bind (fun r2 => if r2.1 = 0 then (c_isLoad x2 r2.2).bind (fun r10 => if r10.1 = 0 then some ((-9223372036854775808 : Int64), r10.2) else (c_in (x3.toInt64) (0 : Int64) (1 : Int64)).bind (fun r20 => if r20 = 0 then some ((-9223372036854775808 : Int64), r10.2) else (c_isIn x2 x1).bind (fun r28 => if r28 = 0 then some ((-9223372036854775808 : Int64), r10.2) else (c_keep  r10.2).bind (fun r39 => c_odds_L61 (fun (y61_4 : Int32) (y61_5 : Int32) (z61 : CZ) => (c_putBack  z61).bind (fun r146 => jn (fun (v160_0 : Int32) (z160 : CZ) => (c_greatest (y61_4.toInt64) (y61_5.toInt64)).bind (fun r167 => gd (decide (¬ r167 = 0)) (some (((v160_0.toInt64) / r167), z160)))) (fun (k160 : Int32 → CZ → Option (Int64 × CZ)) => if x3 = 0 then k160 y61_5 r146 else k160 y61_4 r146))) x1 x2 x3 FU ((1 : Int32) <<< ((nI (cz_np r39)) &&& 31)) (0 : Int32) (0 : Int32) r39)))) else some ((-9223372036854775808 : Int64), r2.2))
abbrev rmX0_odds : Room := { frames := 14, cells := 0, slots := 0, locals := 311 }
set_option maxHeartbeats 4000000 in
set_option maxRecDepth 100000 in
theorem mm_X0_odds (l : Launch) {D : va_G} {K : Nat → ClassId} {s0 : State} {a0 : Array Value} {B : Nat → Nat} {ad : CA} {A : Nat → Prop} (hT : ∀ w ∈ lw_tbl, w.before a0 s0 = true) (hD : ∀ z, va_D A (cW K B ad z)) (x1 : Int32) (x2 : Int32) (x3 : Int32) (z0 : CZ) (res : Int64 × CZ) (hF : c_odds x1 x2 x3 z0 = some res) : Met l yX0_odds (ws_ yX0_odds cX0_odds 8 (some .long)) rmX0_odds (cPc D K s0 B ad z0 [.ref (B 0), .int x1, .int x2, .int x3]) (cQ D K B ad A (some (.long res.1)) res.2) 0 0 A := by
  refine ck_start (A := A) RX0 (by decide) rfl (Nat.le_of_ble_eq_true rfl) ?_
  intro p e s m args below meth c H locs ls E hr hlocks hK hN hP hS hl
  have hl : lv_has ls 8 [(0, .ref (B 0)), (1, .int x1), (2, .int x2), (3, .int x3)] := hl
  unfold c_odds at hF
  refine lv_aload_n E.1 E.2.1 dX0_odds_0 rfl (lv_at hl 0 rfl) ?_
  refine lv_iload_n E.1 E.2.1 dX0_odds_1 rfl (lv_at hl 1 rfl) ?_
  obtain ⟨r2, hq2, hF⟩ := bnd hF
  refine cx_go (va_runV (As := [.int x1]) (rest := []) E (mm_X0_noPerson l hT hD x1 z0 _ hq2) (cwV 1 E.2.2.2.2 (lw_V q163 q165 qs0 q54 q166) rfl rfl rfl (by decide +kernel) ⟨Nat.le_of_ble_eq_true rfl, Nat.le_of_ble_eq_true rfl⟩) (ck_pre hK hN hP (ck_me hK hP)) rfl rfl hl.1 rfl (lv_room (Nat.le_of_ble_eq_true rfl)) dX0_odds_2 ⟨Nat.zero_le _, Nat.zero_le _⟩) hS (fun H locs hP hS => ?_)
  refine lv_if_ne (tgt := 34) E.1 E.2.1 dX0_odds_5 (by decide) (fun h => ?_) (fun h => ?_)
  · have hF := ite_f h hF
    refine lv_ldc2 (v := (-9223372036854775808 : Int64)) E.1 E.2.1 E.2.2.2.1 (E.2.2.2.2 _ q547) dX0_odds_34 ?_
    exact ck_lret E hr hlocks hP hS hF dX0_odds_37
  · have hF := ite_t h hF
    refine lv_aload_n E.1 E.2.1 dX0_odds_8 rfl (lv_at hl 0 rfl) ?_
    refine lv_iload_n E.1 E.2.1 dX0_odds_9 rfl (lv_at hl 2 rfl) ?_
    obtain ⟨r10, hq10, hF⟩ := bnd hF
    refine cx_go (va_runV (As := [.int x2]) (rest := []) E (mm_X0_isLoad l hT hD x2 r2.2 _ hq10) (cwV 1 E.2.2.2.2 (lw_V q258 q260 qs5 q54 q261) rfl rfl rfl (by decide +kernel) ⟨Nat.le_of_ble_eq_true rfl, Nat.le_of_ble_eq_true rfl⟩) (ck_pre hK hN hP (ck_me hK hP)) rfl rfl hl.1 rfl (lv_room (Nat.le_of_ble_eq_true rfl)) dX0_odds_10 ⟨Nat.zero_le _, Nat.zero_le _⟩) hS (fun H locs hP hS => ?_)
    refine lv_if_eq (tgt := 34) E.1 E.2.1 dX0_odds_13 (by decide) (fun h => ?_) (fun h => ?_)
    · have hF := ite_t h hF
      refine lv_ldc2 (v := (-9223372036854775808 : Int64)) E.1 E.2.1 E.2.2.2.1 (E.2.2.2.2 _ q547) dX0_odds_34 ?_
      exact ck_lret E hr hlocks hP hS hF dX0_odds_37
    · have hF := ite_f h hF
      refine lv_iload_n E.1 E.2.1 dX0_odds_16 rfl (lv_at hl 3 rfl) ?_
      refine lv_i2l E.1 E.2.1 dX0_odds_17 rfl ?_
      refine lv_lconst (v := (0 : Int64)) E.1 E.2.1 dX0_odds_18 (by decide) ?_
      refine lv_lconst (v := (1 : Int64)) E.1 E.2.1 dX0_odds_19 (by decide) ?_
      obtain ⟨r20, hq20, hF⟩ := bnd hF
      refine px_call (As := [.long (x3.toInt64), .long (0 : Int64), .long (1 : Int64)]) (rest := []) (v := .int r20) E (mm_X0_in l (x3.toInt64) (0 : Int64) (1 : Int64) _ hq20) (va_cwS 3 E.2.2.2.2 (lw_S q177 q178 q54 q179) rfl rfl rfl (by decide +kernel) ⟨Nat.le_of_ble_eq_true rfl, Nat.le_of_ble_eq_true rfl⟩) hl rfl rfl (Nat.le_of_ble_eq_true rfl) ⟨Nat.zero_le _, Nat.zero_le _⟩ dX0_odds_20 ?_
      refine lv_if_eq (tgt := 34) E.1 E.2.1 dX0_odds_23 (by decide) (fun h => ?_) (fun h => ?_)
      · have hF := ite_t h hF
        refine lv_ldc2 (v := (-9223372036854775808 : Int64)) E.1 E.2.1 E.2.2.2.1 (E.2.2.2.2 _ q547) dX0_odds_34 ?_
        exact ck_lret E hr hlocks hP hS hF dX0_odds_37
      · have hF := ite_f h hF
        refine lv_iload_n E.1 E.2.1 dX0_odds_26 rfl (lv_at hl 2 rfl) ?_
        refine lv_iload_n E.1 E.2.1 dX0_odds_27 rfl (lv_at hl 1 rfl) ?_
        obtain ⟨r28, hq28, hF⟩ := bnd hF
        refine px_call (As := [.int x2, .int x1]) (rest := []) (v := .int r28) E (mm_X0_isIn l x2 x1 _ hq28) (va_cwS 2 E.2.2.2.2 (lw_S q266 q267 q54 q268) rfl rfl rfl (by decide +kernel) ⟨Nat.le_of_ble_eq_true rfl, Nat.le_of_ble_eq_true rfl⟩) hl rfl rfl (Nat.le_of_ble_eq_true rfl) ⟨Nat.zero_le _, Nat.zero_le _⟩ dX0_odds_28 ?_
        refine lv_if_ne (tgt := 38) E.1 E.2.1 dX0_odds_31 (by decide) (fun h => ?_) (fun h => ?_)
        · have hF := ite_f h hF
          refine lv_aload_n E.1 E.2.1 dX0_odds_38 rfl (lv_at hl 0 rfl) ?_
          obtain ⟨r39, hq39, hF⟩ := bnd hF
          refine cx_go (va_runV (As := []) (rest := []) E (mm_X0_keep l hT hD  r10.2 _ hq39) (cwV 0 E.2.2.2.2 (lw_V q353 q355 qs13 q54 q356) rfl rfl rfl (by decide +kernel) ⟨Nat.le_of_ble_eq_true rfl, Nat.le_of_ble_eq_true rfl⟩) (ck_pre hK hN hP (ck_me hK hP)) rfl rfl hl.1 rfl (lv_room (Nat.le_of_ble_eq_true rfl)) dX0_odds_39 ⟨Nat.zero_le _, Nat.zero_le _⟩) hS (fun H locs hP hS => ?_)
          refine lv_iconst (v := (1 : Int32)) E.1 E.2.1 dX0_odds_42 (by decide) ?_
          refine lv_aload_n E.1 E.2.1 dX0_odds_43 rfl (lv_at hl 0 rfl) ?_
          refine ck_get E hK hP 4 (by decide) q130 rfl (v := .ref (B 4)) rfl dX0_odds_44 ?_
          refine ck_size E hT hN hK hP (q0 := 5) (j := 4) (n := cz_np r39) rfl q168 hl (Nat.le_of_ble_eq_true rfl) ⟨Nat.le_of_ble_eq_true rfl, Nat.le_of_ble_eq_true rfl⟩ ⟨Nat.zero_le _, Nat.zero_le _⟩ dX0_odds_47 ?_
          refine lv_ishl E.1 E.2.1 dX0_odds_52 ?_
          refine lv_istore (lv' := [(4, .int ((1 : Int32) <<< ((nI (cz_np r39)) &&& 31))), (0, .ref (B 0)), (1, .int x1), (2, .int x2), (3, .int x3)]) E.1 E.2.1 dX0_odds_53 hl (by decide) rfl (fun ls hl => ?_)
          refine lv_iconst (v := (0 : Int32)) E.1 E.2.1 dX0_odds_55 (by decide) ?_
          refine lv_istore (lv' := [(5, .int (0 : Int32)), (4, .int ((1 : Int32) <<< ((nI (cz_np r39)) &&& 31))), (0, .ref (B 0)), (1, .int x1), (2, .int x2), (3, .int x3)]) E.1 E.2.1 dX0_odds_56 hl (by decide) rfl (fun ls hl => ?_)
          refine lv_iconst (v := (0 : Int32)) E.1 E.2.1 dX0_odds_58 (by decide) ?_
          refine lv_istore (lv' := [(6, .int (0 : Int32)), (5, .int (0 : Int32)), (4, .int ((1 : Int32) <<< ((nI (cz_np r39)) &&& 31))), (0, .ref (B 0)), (1, .int x1), (2, .int x2), (3, .int x3)]) E.1 E.2.1 dX0_odds_59 hl (by decide) rfl (fun ls hl => ?_)
          obtain ⟨k145, hk145, hF⟩ : ∃ k145, k145 = _ ∧ c_odds_L61 k145 x1 x2 x3 FU ((1 : Int32) <<< ((nI (cz_np r39)) &&& 31)) (0 : Int32) (0 : Int32) r39 = some res := ⟨_, rfl, hF⟩
          have K145 : ∀ (y61_4 : Int32) (y61_5 : Int32) (z61 : CZ) (H : Heap) (locs : List Loc) (ls : Array Slot), k145 y61_4 y61_5 z61 = some res → cP D K B ad z61 H → va_S A s.heap H locs → lv_has ls 8 [(0, .ref (B 0)), (3, .int x3), (4, .int y61_4), (5, .int y61_5)] → W p l e rmX0_odds s m args below meth c H locs 0 0 (MQ below (cQ D K B ad A (some (.long res.1)) res.2) args s 0 0 A) (F0 m 145 ls []) := by
            intro y61_4 y61_5 z61 H locs ls hF hP hS hl
            rw [hk145] at hF
            refine lv_aload_n E.1 E.2.1 dX0_odds_145 rfl (lv_at hl 0 rfl) ?_
            obtain ⟨r146, hq146, hF⟩ := bnd hF
            refine cx_go (va_runV (As := []) (rest := []) E (mm_X0_putBack l hT hD  z61 _ hq146) (cwV 0 E.2.2.2.2 (lw_V q360 q362 qs14 q54 q363) rfl rfl rfl (by decide +kernel) ⟨Nat.le_of_ble_eq_true rfl, Nat.le_of_ble_eq_true rfl⟩) (ck_pre hK hN hP (ck_me hK hP)) rfl rfl hl.1 rfl (lv_room (Nat.le_of_ble_eq_true rfl)) dX0_odds_146 ⟨Nat.zero_le _, Nat.zero_le _⟩) hS (fun H locs hP hS => ?_)
            refine lv_iload_n E.1 E.2.1 dX0_odds_149 rfl (lv_at hl 1 rfl) ?_
            obtain ⟨k160, hk160, hF⟩ := jn_split hF
            have J160 : ∀ (v160_0 : Int32) (z160 : CZ) (H : Heap) (locs : List Loc) (ls : Array Slot), k160 v160_0 z160 = some res → cP D K B ad z160 H → va_S A s.heap H locs → lv_has ls 8 [(4, .int y61_4), (5, .int y61_5)] → W p l e rmX0_odds s m args below meth c H locs 0 0 (MQ below (cQ D K B ad A (some (.long res.1)) res.2) args s 0 0 A) (F0 m 160 ls [.int v160_0]) := by
              intro v160_0 z160 H locs ls hF hP hS hl
              rw [hk160] at hF
              refine lv_i2l E.1 E.2.1 dX0_odds_160 rfl ?_
              refine lv_iload E.1 E.2.1 dX0_odds_161 (lv_at hl 0 rfl) ?_
              refine lv_i2l E.1 E.2.1 dX0_odds_163 rfl ?_
              refine lv_iload E.1 E.2.1 dX0_odds_164 (lv_at hl 1 rfl) ?_
              refine lv_i2l E.1 E.2.1 dX0_odds_166 rfl ?_
              obtain ⟨r167, hq167, hF⟩ := bnd hF
              refine px_call (As := [.long (y61_4.toInt64), .long (y61_5.toInt64)]) (rest := [.long (v160_0.toInt64)]) (v := .long r167) E (mm_X0_greatest l (y61_4.toInt64) (y61_5.toInt64) _ hq167) (va_cwS 2 E.2.2.2.2 (lw_S q548 q549 q54 q550) rfl rfl rfl (by decide +kernel) ⟨Nat.le_of_ble_eq_true rfl, Nat.le_of_ble_eq_true rfl⟩) hl rfl rfl (Nat.le_of_ble_eq_true rfl) ⟨Nat.zero_le _, Nat.zero_le _⟩ dX0_odds_167 ?_
              obtain ⟨h170, hF⟩ := gd_some hF
              refine lv_ldiv E.1 E.2.1 dX0_odds_170 (of_decide_eq_true h170) ?_
              exact ck_lret E hr hlocks hP hS hF dX0_odds_171
            refine lv_if_ne (tgt := 158) E.1 E.2.1 dX0_odds_150 (by decide) (fun h => ?_) (fun h => ?_)
            · have hF := ite_f h hF
              refine lv_iload E.1 E.2.1 dX0_odds_158 (lv_at hl 2 rfl) ?_
              exact J160 y61_4 r146 H locs ls hF hP hS (lv_sub hl [2, 3] rfl)
            · have hF := ite_t h hF
              refine lv_iload E.1 E.2.1 dX0_odds_153 (lv_at hl 3 rfl) ?_
              refine lv_goto (tgt := 160) E.1 E.2.1 dX0_odds_155 (by decide) ?_
              exact J160 y61_5 r146 H locs ls hF hP hS (lv_sub hl [2, 3] rfl)
          have L61 : ∀ (n : Nat) (y61_4 : Int32) (y61_5 : Int32) (y61_6 : Int32) (z61 : CZ) (H : Heap) (locs : List Loc) (ls : Array Slot), c_odds_L61 k145 x1 x2 x3 n y61_4 y61_5 y61_6 z61 = some res → cP D K B ad z61 H → va_S A s.heap H locs → lv_has ls 8 [(0, .ref (B 0)), (1, .int x1), (2, .int x2), (3, .int x3), (4, .int y61_4), (5, .int y61_5), (6, .int y61_6)] → W p l e rmX0_odds s m args below meth c H locs 0 0 (MQ below (cQ D K B ad A (some (.long res.1)) res.2) args s 0 0 A) (F0 m 61 ls []) := by
            intro n
            induction n with
            | zero =>
              intro y61_4 y61_5 y61_6 z61 H locs ls hF
              rw [c_odds_L61] at hF
              cases hF
            | succ n ih =>
              intro y61_4 y61_5 y61_6 z61 H locs ls hF hP hS hl
              rw [c_odds_L61] at hF
              refine lv_iload E.1 E.2.1 dX0_odds_61 (lv_at hl 6 rfl) ?_
              refine lv_iload E.1 E.2.1 dX0_odds_63 (lv_at hl 4 rfl) ?_
              refine lv_icmp_ge (tgt := 145) E.1 E.2.1 dX0_odds_65 (by decide) (fun h => ?_) (fun h => ?_)
              · have hF := ite_t h hF
                exact K145 y61_4 y61_5 z61 H locs ls hF hP hS (lv_sub hl [0, 3, 4, 5] rfl)
              · have hF := ite_f h hF
                refine lv_iconst (v := (0 : Int32)) E.1 E.2.1 dX0_odds_68 (by decide) ?_
                refine lv_istore (lv' := [(7, .int (0 : Int32)), (0, .ref (B 0)), (1, .int x1), (2, .int x2), (3, .int x3), (4, .int y61_4), (5, .int y61_5), (6, .int y61_6)]) E.1 E.2.1 dX0_odds_69 hl (by decide) rfl (fun ls hl => ?_)
                obtain ⟨k117, hk117, hF⟩ : ∃ k117, k117 = _ ∧ c_odds_L71 k117 x1 x2 x3 y61_4 y61_5 y61_6 FU (0 : Int32) z61 = some res := ⟨_, rfl, hF⟩
                have K117 : ∀  (z71 : CZ) (H : Heap) (locs : List Loc) (ls : Array Slot), k117  z71 = some res → cP D K B ad z71 H → va_S A s.heap H locs → lv_has ls 8 [(0, .ref (B 0)), (1, .int x1), (2, .int x2), (3, .int x3), (4, .int y61_4), (5, .int y61_5), (6, .int y61_6)] → W p l e rmX0_odds s m args below meth c H locs 0 0 (MQ below (cQ D K B ad A (some (.long res.1)) res.2) args s 0 0 A) (F0 m 117 ls []) := by
                  intro  z71 H locs ls hF hP hS hl
                  rw [hk117] at hF
                  refine lv_iload E.1 E.2.1 dX0_odds_117 (lv_at hl 5 rfl) ?_
                  refine lv_aload_n E.1 E.2.1 dX0_odds_119 rfl (lv_at hl 0 rfl) ?_
                  refine lv_iload_n E.1 E.2.1 dX0_odds_120 rfl (lv_at hl 2 rfl) ?_
                  obtain ⟨r121, hq121, hF⟩ := bnd hF
                  refine cx_go (va_runV (As := [.int x2]) (rest := [.int y61_5]) E (mm_X0_pulling l hT hD x2 z71 _ hq121) (cwV 1 E.2.2.2.2 (lw_V q300 q302 qs7 q54 q303) rfl rfl rfl (by decide +kernel) ⟨Nat.le_of_ble_eq_true rfl, Nat.le_of_ble_eq_true rfl⟩) (ck_pre hK hN hP (ck_me hK hP)) rfl rfl hl.1 rfl (lv_room (Nat.le_of_ble_eq_true rfl)) dX0_odds_121 ⟨Nat.zero_le _, Nat.zero_le _⟩) hS (fun H locs hP hS => ?_)
                  refine lv_iload_n E.1 E.2.1 dX0_odds_124 rfl (lv_at hl 1 rfl) ?_
                  obtain ⟨r125, hq125, hF⟩ := bnd hF
                  refine px_call (As := [.int r121.1, .int x1]) (rest := [.int y61_5]) (v := .int r125) E (mm_X0_isIn l r121.1 x1 _ hq125) (va_cwS 2 E.2.2.2.2 (lw_S q266 q267 q54 q268) rfl rfl rfl (by decide +kernel) ⟨Nat.le_of_ble_eq_true rfl, Nat.le_of_ble_eq_true rfl⟩) hl rfl rfl (Nat.le_of_ble_eq_true rfl) ⟨Nat.zero_le _, Nat.zero_le _⟩ dX0_odds_125 ?_
                  obtain ⟨k136, hk136, hF⟩ := jn_split hF
                  have J136 : ∀ (v136_0 : Int32) (z136 : CZ) (H : Heap) (locs : List Loc) (ls : Array Slot), k136 v136_0 z136 = some res → cP D K B ad z136 H → va_S A s.heap H locs → lv_has ls 8 [(0, .ref (B 0)), (1, .int x1), (2, .int x2), (3, .int x3), (4, .int y61_4), (6, .int y61_6)] → W p l e rmX0_odds s m args below meth c H locs 0 0 (MQ below (cQ D K B ad A (some (.long res.1)) res.2) args s 0 0 A) (F0 m 136 ls [.int v136_0, .int y61_5]) := by
                    intro v136_0 z136 H locs ls hF hP hS hl
                    rw [hk136] at hF
                    refine lv_iadd E.1 E.2.1 dX0_odds_136 ?_
                    refine lv_istore (lv' := [(5, .int (y61_5 + v136_0)), (0, .ref (B 0)), (1, .int x1), (2, .int x2), (3, .int x3), (4, .int y61_4), (6, .int y61_6)]) E.1 E.2.1 dX0_odds_137 hl (by decide) rfl (fun ls hl => ?_)
                    refine lv_iinc (v := y61_6 + 1) (lv' := [(6, .int (y61_6 + 1)), (5, .int (y61_5 + v136_0)), (0, .ref (B 0)), (1, .int x1), (2, .int x2), (3, .int x3), (4, .int y61_4)]) E.1 E.2.1 dX0_odds_139 hl (k := 6) rfl rfl (by decide) rfl (fun ls hl => ?_)
                    refine lv_goto (tgt := 61) E.1 E.2.1 dX0_odds_142 (by decide) ?_
                    exact ih y61_4 (y61_5 + v136_0) (y61_6 + 1) z136 H locs ls hF hP hS (lv_sub hl [2, 3, 4, 5, 6, 1, 0] rfl)
                  refine lv_if_eq (tgt := 135) E.1 E.2.1 dX0_odds_128 (by decide) (fun h => ?_) (fun h => ?_)
                  · have hF := ite_t h hF
                    refine lv_iconst (v := (0 : Int32)) E.1 E.2.1 dX0_odds_135 (by decide) ?_
                    exact J136 (0 : Int32) r121.2 H locs ls hF hP hS (lv_sub hl [0, 1, 2, 3, 4, 6] rfl)
                  · have hF := ite_f h hF
                    refine lv_iconst (v := (1 : Int32)) E.1 E.2.1 dX0_odds_131 (by decide) ?_
                    refine lv_goto (tgt := 136) E.1 E.2.1 dX0_odds_132 (by decide) ?_
                    exact J136 (1 : Int32) r121.2 H locs ls hF hP hS (lv_sub hl [0, 1, 2, 3, 4, 6] rfl)
                have L71 : ∀ (n : Nat) (y71_7 : Int32) (z71 : CZ) (H : Heap) (locs : List Loc) (ls : Array Slot), c_odds_L71 k117 x1 x2 x3 y61_4 y61_5 y61_6 n y71_7 z71 = some res → cP D K B ad z71 H → va_S A s.heap H locs → lv_has ls 8 [(0, .ref (B 0)), (1, .int x1), (2, .int x2), (3, .int x3), (4, .int y61_4), (5, .int y61_5), (6, .int y61_6), (7, .int y71_7)] → W p l e rmX0_odds s m args below meth c H locs 0 0 (MQ below (cQ D K B ad A (some (.long res.1)) res.2) args s 0 0 A) (F0 m 71 ls []) := by
                  intro n
                  induction n with
                  | zero =>
                    intro y71_7 z71 H locs ls hF
                    rw [c_odds_L71] at hF
                    cases hF
                  | succ n ih =>
                    intro y71_7 z71 H locs ls hF hP hS hl
                    rw [c_odds_L71] at hF
                    refine lv_iload E.1 E.2.1 dX0_odds_71 (lv_at hl 7 rfl) ?_
                    refine lv_aload_n E.1 E.2.1 dX0_odds_73 rfl (lv_at hl 0 rfl) ?_
                    refine ck_get E hK hP 3 (by decide) q129 rfl (v := .ref (B 3)) rfl dX0_odds_74 ?_
                    refine ck_alen E hK hP (q := 1) (j := 3) (n := 25) (v := (25 : Int32)) rfl rfl dX0_odds_77 ?_
                    refine lv_icmp_ge (tgt := 117) E.1 E.2.1 dX0_odds_78 (by decide) (fun h => ?_) (fun h => ?_)
                    · have hF := ite_t h hF
                      exact K117  z71 H locs ls hF hP hS (lv_sub hl [0, 1, 2, 3, 4, 5, 6] rfl)
                    · have hF := ite_f h hF
                      refine lv_aload_n E.1 E.2.1 dX0_odds_81 rfl (lv_at hl 0 rfl) ?_
                      refine ck_get E hK hP 3 (by decide) q129 rfl (v := .ref (B 3)) rfl dX0_odds_82 ?_
                      refine lv_iload E.1 E.2.1 dX0_odds_85 (lv_at hl 7 rfl) ?_
                      refine lv_iload E.1 E.2.1 dX0_odds_87 (lv_at hl 6 rfl) ?_
                      refine lv_iload E.1 E.2.1 dX0_odds_89 (lv_at hl 7 rfl) ?_
                      refine lv_iconst (v := (5 : Int32)) E.1 E.2.1 dX0_odds_91 (by decide) ?_
                      refine lv_idiv E.1 E.2.1 dX0_odds_92 (by decide) ?_
                      obtain ⟨r93, hq93, hF⟩ := bnd hF
                      refine px_call (As := [.int y61_6, .int (y71_7 / (5 : Int32))]) (rest := [.int y71_7, .ref (B 3)]) (v := .int r93) E (mm_X0_isIn l y61_6 (y71_7 / (5 : Int32)) _ hq93) (va_cwS 2 E.2.2.2.2 (lw_S q266 q267 q54 q268) rfl rfl rfl (by decide +kernel) ⟨Nat.le_of_ble_eq_true rfl, Nat.le_of_ble_eq_true rfl⟩) hl rfl rfl (Nat.le_of_ble_eq_true rfl) ⟨Nat.zero_le _, Nat.zero_le _⟩ dX0_odds_93 ?_
                      obtain ⟨k110, hk110, hF⟩ := jn_split hF
                      have J110 : ∀ (v110_0 : Int32) (z110 : CZ) (H : Heap) (locs : List Loc) (ls : Array Slot), k110 v110_0 z110 = some res → cP D K B ad z110 H → va_S A s.heap H locs → lv_has ls 8 [(0, .ref (B 0)), (1, .int x1), (2, .int x2), (3, .int x3), (4, .int y61_4), (5, .int y61_5), (6, .int y61_6), (7, .int y71_7)] → W p l e rmX0_odds s m args below meth c H locs 0 0 (MQ below (cQ D K B ad A (some (.long res.1)) res.2) args s 0 0 A) (F0 m 110 ls [.int v110_0, .int y71_7, .ref (B 3)]) := by
                        intro v110_0 z110 H locs ls hF hP hS hl
                        rw [hk110] at hF
                        obtain ⟨h110, hF⟩ := gd_some hF
                        refine ck_ast E hD hK hP hS (q := 1) (j := 3) (n := 25) rfl h110 dX0_odds_110 (fun H locs hP hS => ?_)
                        refine lv_iinc (v := y71_7 + 1) (lv' := [(7, .int (y71_7 + 1)), (0, .ref (B 0)), (1, .int x1), (2, .int x2), (3, .int x3), (4, .int y61_4), (5, .int y61_5), (6, .int y61_6)]) E.1 E.2.1 dX0_odds_111 hl (k := 7) rfl rfl (by decide) rfl (fun ls hl => ?_)
                        refine lv_goto (tgt := 71) E.1 E.2.1 dX0_odds_114 (by decide) ?_
                        exact ih (y71_7 + 1) (cz_a z110 3 y71_7.toNatClampNeg v110_0) H locs ls hF hP hS (lv_sub hl [1, 2, 3, 4, 5, 6, 7, 0] rfl)
                      refine lv_if_eq (tgt := 103) E.1 E.2.1 dX0_odds_96 (by decide) (fun h => ?_) (fun h => ?_)
                      · have hF := ite_t h hF
                        refine lv_aload_n E.1 E.2.1 dX0_odds_103 rfl (lv_at hl 0 rfl) ?_
                        refine ck_get E hK hP 6 (by decide) q133 rfl (v := .ref (B 6)) rfl dX0_odds_104 ?_
                        refine lv_iload E.1 E.2.1 dX0_odds_107 (lv_at hl 7 rfl) ?_
                        obtain ⟨h109, hF⟩ := gd_some hF
                        refine ck_ald E hK hP (q := 3) (j := 6) (n := 25) rfl h109 dX0_odds_109 ?_
                        exact J110 (z71.2.1 6 y71_7.toNatClampNeg) z71 H locs ls hF hP hS (lv_sub hl [0, 1, 2, 3, 4, 5, 6, 7] rfl)
                      · have hF := ite_f h hF
                        refine lv_iconst (v := (0 : Int32)) E.1 E.2.1 dX0_odds_99 (by decide) ?_
                        refine lv_goto (tgt := 110) E.1 E.2.1 dX0_odds_100 (by decide) ?_
                        exact J110 (0 : Int32) z71 H locs ls hF hP hS (lv_sub hl [0, 1, 2, 3, 4, 5, 6, 7] rfl)
                exact L71 FU (0 : Int32) z61 H locs ls hF hP hS (lv_sub hl [1, 2, 3, 4, 5, 6, 7, 0] rfl)
          exact L61 FU ((1 : Int32) <<< ((nI (cz_np r39)) &&& 31)) (0 : Int32) (0 : Int32) r39 H locs ls hF hP hS (lv_sub hl [3, 4, 5, 6, 2, 1, 0] rfl)
        · have hF := ite_t h hF
          refine lv_ldc2 (v := (-9223372036854775808 : Int64)) E.1 E.2.1 E.2.2.2.1 (E.2.2.2.2 _ q547) dX0_odds_34 ?_
          exact ck_lret E hr hlocks hP hS hF dX0_odds_37
