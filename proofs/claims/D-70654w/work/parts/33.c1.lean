/-! DebtFerry.noRiver()Z -/
def c_noRiver  (z0 : CZ) : Option (Int32 × CZ) :=
  (zr (if nI (cz_np z0) = 0 then (1 : Int32) else 0)).bind (fun r => some (r, z0))
abbrev rmX0_noRiver : Room := { frames := 2, cells := 0, slots := 0, locals := 32 }
set_option maxHeartbeats 4000000 in
set_option maxRecDepth 100000 in
theorem mm_X0_noRiver (l : Launch) {D : va_G} {K : Nat → ClassId} {s0 : State} {a0 : Array Value} {B : Nat → Nat} {ad : CA} {A : Nat → Prop} (hT : ∀ w ∈ lw_tbl, w.before a0 s0 = true) (hD : ∀ z, va_D A (cW K B ad z))  (z0 : CZ) (res : Int32 × CZ) (hF : c_noRiver  z0 = some res) : Met l yX0_noRiver (ws_ yX0_noRiver cX0_noRiver 1 (some .boolean)) rmX0_noRiver (cPc D K s0 B ad z0 [.ref (B 0)]) (cQ D K B ad A (some (.int res.1)) res.2) 0 0 A := by
  refine ck_start (A := A) RX0 (by decide) rfl (Nat.le_of_ble_eq_true rfl) ?_
  intro p e s m args below meth c H locs ls E hr hlocks hK hN hP hS hl
  have hl : lv_has ls 1 [(0, .ref (B 0))] := hl
  unfold c_noRiver at hF
  refine lv_aload_n E.1 E.2.1 dX0_noRiver_0 rfl (lv_at hl 0 rfl) ?_
  refine ck_get E hK hP 4 (by decide) q130 rfl (v := .ref (B 4)) rfl dX0_noRiver_1 ?_
  refine ck_empty E hT hN hK hP (q0 := 5) (j := 4) (n := cz_np z0) rfl q242 hl (Nat.le_of_ble_eq_true rfl) ⟨Nat.le_of_ble_eq_true rfl, Nat.le_of_ble_eq_true rfl⟩ ⟨Nat.zero_le _, Nat.zero_le _⟩ dX0_noRiver_4 ?_
  exact ck_zret E hr hlocks hP hS hF dX0_noRiver_9
/-! DebtFerry.noPerson(I)Z -/
def c_noPerson (x1 : Int32) (z0 : CZ) : Option (Int32 × CZ) :=
  (c_in (x1.toInt64) (0 : Int64) (((nI (cz_np z0)) - (1 : Int32)).toInt64)).bind (fun r15 => if r15 = 0 then (zr (1 : Int32)).bind (fun r => some (r, z0)) else (zr (0 : Int32)).bind (fun r => some (r, z0)))
abbrev rmX0_noPerson : Room := { frames := 2, cells := 0, slots := 0, locals := 37 }
set_option maxHeartbeats 4000000 in
set_option maxRecDepth 100000 in
theorem mm_X0_noPerson (l : Launch) {D : va_G} {K : Nat → ClassId} {s0 : State} {a0 : Array Value} {B : Nat → Nat} {ad : CA} {A : Nat → Prop} (hT : ∀ w ∈ lw_tbl, w.before a0 s0 = true) (hD : ∀ z, va_D A (cW K B ad z)) (x1 : Int32) (z0 : CZ) (res : Int32 × CZ) (hF : c_noPerson x1 z0 = some res) : Met l yX0_noPerson (ws_ yX0_noPerson cX0_noPerson 2 (some .boolean)) rmX0_noPerson (cPc D K s0 B ad z0 [.ref (B 0), .int x1]) (cQ D K B ad A (some (.int res.1)) res.2) 0 0 A := by
  refine ck_start (A := A) RX0 (by decide) rfl (Nat.le_of_ble_eq_true rfl) ?_
  intro p e s m args below meth c H locs ls E hr hlocks hK hN hP hS hl
  have hl : lv_has ls 2 [(0, .ref (B 0)), (1, .int x1)] := hl
  unfold c_noPerson at hF
  refine lv_iload_n E.1 E.2.1 dX0_noPerson_0 rfl (lv_at hl 1 rfl) ?_
  refine lv_i2l E.1 E.2.1 dX0_noPerson_1 rfl ?_
  refine lv_lconst (v := (0 : Int64)) E.1 E.2.1 dX0_noPerson_2 (by decide) ?_
  refine lv_aload_n E.1 E.2.1 dX0_noPerson_3 rfl (lv_at hl 0 rfl) ?_
  refine ck_get E hK hP 4 (by decide) q130 rfl (v := .ref (B 4)) rfl dX0_noPerson_4 ?_
  refine ck_size E hT hN hK hP (q0 := 5) (j := 4) (n := cz_np z0) rfl q168 hl (Nat.le_of_ble_eq_true rfl) ⟨Nat.le_of_ble_eq_true rfl, Nat.le_of_ble_eq_true rfl⟩ ⟨Nat.zero_le _, Nat.zero_le _⟩ dX0_noPerson_7 ?_
  refine lv_iconst (v := (1 : Int32)) E.1 E.2.1 dX0_noPerson_12 (by decide) ?_
  refine lv_isub E.1 E.2.1 dX0_noPerson_13 ?_
  refine lv_i2l E.1 E.2.1 dX0_noPerson_14 rfl ?_
  obtain ⟨r15, hq15, hF⟩ := bnd hF
  refine px_call (As := [.long (x1.toInt64), .long (0 : Int64), .long (((nI (cz_np z0)) - (1 : Int32)).toInt64)]) (rest := []) (v := .int r15) E (mm_X0_in l (x1.toInt64) (0 : Int64) (((nI (cz_np z0)) - (1 : Int32)).toInt64) _ hq15) (va_cwS 3 E.2.2.2.2 (lw_S q177 q178 q54 q179) rfl rfl rfl (by decide +kernel) ⟨Nat.le_of_ble_eq_true rfl, Nat.le_of_ble_eq_true rfl⟩) hl rfl rfl (Nat.le_of_ble_eq_true rfl) ⟨Nat.zero_le _, Nat.zero_le _⟩ dX0_noPerson_15 ?_
  refine lv_if_ne (tgt := 25) E.1 E.2.1 dX0_noPerson_18 (by decide) (fun h => ?_) (fun h => ?_)
  · have hF := ite_f h hF
    refine lv_iconst (v := (0 : Int32)) E.1 E.2.1 dX0_noPerson_25 (by decide) ?_
    exact ck_zret E hr hlocks hP hS hF dX0_noPerson_26
  · have hF := ite_t h hF
    refine lv_iconst (v := (1 : Int32)) E.1 E.2.1 dX0_noPerson_21 (by decide) ?_
    refine lv_goto (tgt := 26) E.1 E.2.1 dX0_noPerson_22 (by decide) ?_
    exact ck_zret E hr hlocks hP hS hF dX0_noPerson_26
/-! DebtFerry.isNoNote(II)Z -/
def c_isNoNote (x1 : Int32) (x2 : Int32) (z0 : CZ) : Option (Int32 × CZ) :=
  (c_noPerson x1 z0).bind (fun r2 => if r2.1 = 0 then (c_noPerson x2 r2.2).bind (fun r10 => if r10.1 = 0 then if x1 = x2 then (zr (1 : Int32)).bind (fun r => some (r, r10.2)) else (zr (0 : Int32)).bind (fun r => some (r, r10.2)) else (zr (1 : Int32)).bind (fun r => some (r, r10.2))) else (zr (1 : Int32)).bind (fun r => some (r, r2.2)))
abbrev rmX0_isNoNote : Room := { frames := 3, cells := 0, slots := 0, locals := 58 }
set_option maxHeartbeats 4000000 in
set_option maxRecDepth 100000 in
theorem mm_X0_isNoNote (l : Launch) {D : va_G} {K : Nat → ClassId} {s0 : State} {a0 : Array Value} {B : Nat → Nat} {ad : CA} {A : Nat → Prop} (hT : ∀ w ∈ lw_tbl, w.before a0 s0 = true) (hD : ∀ z, va_D A (cW K B ad z)) (x1 : Int32) (x2 : Int32) (z0 : CZ) (res : Int32 × CZ) (hF : c_isNoNote x1 x2 z0 = some res) : Met l yX0_isNoNote (ws_ yX0_isNoNote cX0_isNoNote 3 (some .boolean)) rmX0_isNoNote (cPc D K s0 B ad z0 [.ref (B 0), .int x1, .int x2]) (cQ D K B ad A (some (.int res.1)) res.2) 0 0 A := by
  refine ck_start (A := A) RX0 (by decide) rfl (Nat.le_of_ble_eq_true rfl) ?_
  intro p e s m args below meth c H locs ls E hr hlocks hK hN hP hS hl
  have hl : lv_has ls 3 [(0, .ref (B 0)), (1, .int x1), (2, .int x2)] := hl
  unfold c_isNoNote at hF
  refine lv_aload_n E.1 E.2.1 dX0_isNoNote_0 rfl (lv_at hl 0 rfl) ?_
  refine lv_iload_n E.1 E.2.1 dX0_isNoNote_1 rfl (lv_at hl 1 rfl) ?_
  obtain ⟨r2, hq2, hF⟩ := bnd hF
  refine cx_go (va_runV (As := [.int x1]) (rest := []) E (mm_X0_noPerson l hT hD x1 z0 _ hq2) (cwV 1 E.2.2.2.2 (lw_V q163 q165 qs0 q54 q166) rfl rfl rfl (by decide +kernel) ⟨Nat.le_of_ble_eq_true rfl, Nat.le_of_ble_eq_true rfl⟩) (ck_pre hK hN hP (ck_me hK hP)) rfl rfl hl.1 rfl (lv_room (Nat.le_of_ble_eq_true rfl)) dX0_isNoNote_2 ⟨Nat.zero_le _, Nat.zero_le _⟩) hS (fun H locs hP hS => ?_)
  refine lv_if_ne (tgt := 21) E.1 E.2.1 dX0_isNoNote_5 (by decide) (fun h => ?_) (fun h => ?_)
  · have hF := ite_f h hF
    refine lv_iconst (v := (1 : Int32)) E.1 E.2.1 dX0_isNoNote_21 (by decide) ?_
    refine lv_goto (tgt := 26) E.1 E.2.1 dX0_isNoNote_22 (by decide) ?_
    exact ck_zret E hr hlocks hP hS hF dX0_isNoNote_26
  · have hF := ite_t h hF
    refine lv_aload_n E.1 E.2.1 dX0_isNoNote_8 rfl (lv_at hl 0 rfl) ?_
    refine lv_iload_n E.1 E.2.1 dX0_isNoNote_9 rfl (lv_at hl 2 rfl) ?_
    obtain ⟨r10, hq10, hF⟩ := bnd hF
    refine cx_go (va_runV (As := [.int x2]) (rest := []) E (mm_X0_noPerson l hT hD x2 r2.2 _ hq10) (cwV 1 E.2.2.2.2 (lw_V q163 q165 qs0 q54 q166) rfl rfl rfl (by decide +kernel) ⟨Nat.le_of_ble_eq_true rfl, Nat.le_of_ble_eq_true rfl⟩) (ck_pre hK hN hP (ck_me hK hP)) rfl rfl hl.1 rfl (lv_room (Nat.le_of_ble_eq_true rfl)) dX0_isNoNote_10 ⟨Nat.zero_le _, Nat.zero_le _⟩) hS (fun H locs hP hS => ?_)
    refine lv_if_ne (tgt := 21) E.1 E.2.1 dX0_isNoNote_13 (by decide) (fun h => ?_) (fun h => ?_)
    · have hF := ite_f h hF
      refine lv_iconst (v := (1 : Int32)) E.1 E.2.1 dX0_isNoNote_21 (by decide) ?_
      refine lv_goto (tgt := 26) E.1 E.2.1 dX0_isNoNote_22 (by decide) ?_
      exact ck_zret E hr hlocks hP hS hF dX0_isNoNote_26
    · have hF := ite_t h hF
      refine lv_iload_n E.1 E.2.1 dX0_isNoNote_16 rfl (lv_at hl 1 rfl) ?_
      refine lv_iload_n E.1 E.2.1 dX0_isNoNote_17 rfl (lv_at hl 2 rfl) ?_
      refine lv_icmp_ne (tgt := 25) E.1 E.2.1 dX0_isNoNote_18 (by decide) (fun h => ?_) (fun h => ?_)
      · have hF := ite_f h hF
        refine lv_iconst (v := (0 : Int32)) E.1 E.2.1 dX0_isNoNote_25 (by decide) ?_
        exact ck_zret E hr hlocks hP hS hF dX0_isNoNote_26
      · have hF := ite_t h hF
        refine lv_iconst (v := (1 : Int32)) E.1 E.2.1 dX0_isNoNote_21 (by decide) ?_
        refine lv_goto (tgt := 26) E.1 E.2.1 dX0_isNoNote_22 (by decide) ?_
        exact ck_zret E hr hlocks hP hS hF dX0_isNoNote_26
/-! DebtFerry.everyone()I -/
def c_everyone  (z0 : CZ) : Option (Int32 × CZ) :=
  some ((((1 : Int32) <<< ((nI (cz_np z0)) &&& 31)) - (1 : Int32)), z0)
abbrev rmX0_everyone : Room := { frames := 2, cells := 0, slots := 0, locals := 32 }
set_option maxHeartbeats 4000000 in
set_option maxRecDepth 100000 in
theorem mm_X0_everyone (l : Launch) {D : va_G} {K : Nat → ClassId} {s0 : State} {a0 : Array Value} {B : Nat → Nat} {ad : CA} {A : Nat → Prop} (hT : ∀ w ∈ lw_tbl, w.before a0 s0 = true) (hD : ∀ z, va_D A (cW K B ad z))  (z0 : CZ) (res : Int32 × CZ) (hF : c_everyone  z0 = some res) : Met l yX0_everyone (ws_ yX0_everyone cX0_everyone 1 (some .int)) rmX0_everyone (cPc D K s0 B ad z0 [.ref (B 0)]) (cQ D K B ad A (some (.int res.1)) res.2) 0 0 A := by
  refine ck_start (A := A) RX0 (by decide) rfl (Nat.le_of_ble_eq_true rfl) ?_
  intro p e s m args below meth c H locs ls E hr hlocks hK hN hP hS hl
  have hl : lv_has ls 1 [(0, .ref (B 0))] := hl
  unfold c_everyone at hF
  refine lv_iconst (v := (1 : Int32)) E.1 E.2.1 dX0_everyone_0 (by decide) ?_
  refine lv_aload_n E.1 E.2.1 dX0_everyone_1 rfl (lv_at hl 0 rfl) ?_
  refine ck_get E hK hP 4 (by decide) q130 rfl (v := .ref (B 4)) rfl dX0_everyone_2 ?_
  refine ck_size E hT hN hK hP (q0 := 5) (j := 4) (n := cz_np z0) rfl q168 hl (Nat.le_of_ble_eq_true rfl) ⟨Nat.le_of_ble_eq_true rfl, Nat.le_of_ble_eq_true rfl⟩ ⟨Nat.zero_le _, Nat.zero_le _⟩ dX0_everyone_5 ?_
  refine lv_ishl E.1 E.2.1 dX0_everyone_10 ?_
  refine lv_iconst (v := (1 : Int32)) E.1 E.2.1 dX0_everyone_11 (by decide) ?_
  refine lv_isub E.1 E.2.1 dX0_everyone_12 ?_
  exact ck_iret E hr hlocks hP hS hF dX0_everyone_13
/-! DebtFerry.isLoad(I)Z -/
def c_isLoad (x1 : Int32) (z0 : CZ) : Option (Int32 × CZ) :=
  (c_everyone  z0).bind (fun r4 => (c_in (x1.toInt64) (0 : Int64) (r4.1.toInt64)).bind (fun r8 => (zr r8).bind (fun r => some (r, r4.2))))
abbrev rmX0_isLoad : Room := { frames := 3, cells := 0, slots := 0, locals := 52 }
set_option maxHeartbeats 4000000 in
set_option maxRecDepth 100000 in
theorem mm_X0_isLoad (l : Launch) {D : va_G} {K : Nat → ClassId} {s0 : State} {a0 : Array Value} {B : Nat → Nat} {ad : CA} {A : Nat → Prop} (hT : ∀ w ∈ lw_tbl, w.before a0 s0 = true) (hD : ∀ z, va_D A (cW K B ad z)) (x1 : Int32) (z0 : CZ) (res : Int32 × CZ) (hF : c_isLoad x1 z0 = some res) : Met l yX0_isLoad (ws_ yX0_isLoad cX0_isLoad 2 (some .boolean)) rmX0_isLoad (cPc D K s0 B ad z0 [.ref (B 0), .int x1]) (cQ D K B ad A (some (.int res.1)) res.2) 0 0 A := by
  refine ck_start (A := A) RX0 (by decide) rfl (Nat.le_of_ble_eq_true rfl) ?_
  intro p e s m args below meth c H locs ls E hr hlocks hK hN hP hS hl
  have hl : lv_has ls 2 [(0, .ref (B 0)), (1, .int x1)] := hl
  unfold c_isLoad at hF
  refine lv_iload_n E.1 E.2.1 dX0_isLoad_0 rfl (lv_at hl 1 rfl) ?_
  refine lv_i2l E.1 E.2.1 dX0_isLoad_1 rfl ?_
  refine lv_lconst (v := (0 : Int64)) E.1 E.2.1 dX0_isLoad_2 (by decide) ?_
  refine lv_aload_n E.1 E.2.1 dX0_isLoad_3 rfl (lv_at hl 0 rfl) ?_
  obtain ⟨r4, hq4, hF⟩ := bnd hF
  refine cx_go (va_runV (As := []) (rest := [.long (0 : Int64), .long (x1.toInt64)]) E (mm_X0_everyone l hT hD  z0 _ hq4) (cwV 0 E.2.2.2.2 (lw_V q262 q264 qs6 q54 q265) rfl rfl rfl (by decide +kernel) ⟨Nat.le_of_ble_eq_true rfl, Nat.le_of_ble_eq_true rfl⟩) (ck_pre hK hN hP (ck_me hK hP)) rfl rfl hl.1 rfl (lv_room (Nat.le_of_ble_eq_true rfl)) dX0_isLoad_4 ⟨Nat.zero_le _, Nat.zero_le _⟩) hS (fun H locs hP hS => ?_)
  refine lv_i2l E.1 E.2.1 dX0_isLoad_7 rfl ?_
  obtain ⟨r8, hq8, hF⟩ := bnd hF
  refine px_call (As := [.long (x1.toInt64), .long (0 : Int64), .long (r4.1.toInt64)]) (rest := []) (v := .int r8) E (mm_X0_in l (x1.toInt64) (0 : Int64) (r4.1.toInt64) _ hq8) (va_cwS 3 E.2.2.2.2 (lw_S q177 q178 q54 q179) rfl rfl rfl (by decide +kernel) ⟨Nat.le_of_ble_eq_true rfl, Nat.le_of_ble_eq_true rfl⟩) hl rfl rfl (Nat.le_of_ble_eq_true rfl) ⟨Nat.zero_le _, Nat.zero_le _⟩ dX0_isLoad_8 ?_
  exact ck_zret E hr hlocks hP hS hF dX0_isLoad_11
/-! DebtFerry.noteOf(II)I -/
def c_noteOf (x1 : Int32) (x2 : Int32) (z0 : CZ) : Option (Int32 × CZ) :=
  gd (inb ((x1 * (5 : Int32)) + x2) 25) (some ((z0.2.1 3 ((x1 * (5 : Int32)) + x2).toNatClampNeg), z0))
abbrev rmX0_noteOf : Room := { frames := 1, cells := 0, slots := 0, locals := 12 }
set_option maxHeartbeats 4000000 in
set_option maxRecDepth 100000 in
theorem mm_X0_noteOf (l : Launch) {D : va_G} {K : Nat → ClassId} {s0 : State} {a0 : Array Value} {B : Nat → Nat} {ad : CA} {A : Nat → Prop} (hT : ∀ w ∈ lw_tbl, w.before a0 s0 = true) (hD : ∀ z, va_D A (cW K B ad z)) (x1 : Int32) (x2 : Int32) (z0 : CZ) (res : Int32 × CZ) (hF : c_noteOf x1 x2 z0 = some res) : Met l yX0_noteOf (ws_ yX0_noteOf cX0_noteOf 3 (some .int)) rmX0_noteOf (cPc D K s0 B ad z0 [.ref (B 0), .int x1, .int x2]) (cQ D K B ad A (some (.int res.1)) res.2) 0 0 A := by
  refine ck_start (A := A) RX0 (by decide) rfl (Nat.le_of_ble_eq_true rfl) ?_
  intro p e s m args below meth c H locs ls E hr hlocks hK hN hP hS hl
  have hl : lv_has ls 3 [(0, .ref (B 0)), (1, .int x1), (2, .int x2)] := hl
  unfold c_noteOf at hF
  refine lv_aload_n E.1 E.2.1 dX0_noteOf_0 rfl (lv_at hl 0 rfl) ?_
  refine ck_get E hK hP 3 (by decide) q129 rfl (v := .ref (B 3)) rfl dX0_noteOf_1 ?_
  refine lv_iload_n E.1 E.2.1 dX0_noteOf_4 rfl (lv_at hl 1 rfl) ?_
  refine lv_iconst (v := (5 : Int32)) E.1 E.2.1 dX0_noteOf_5 (by decide) ?_
  refine lv_imul E.1 E.2.1 dX0_noteOf_6 ?_
  refine lv_iload_n E.1 E.2.1 dX0_noteOf_7 rfl (lv_at hl 2 rfl) ?_
  refine lv_iadd E.1 E.2.1 dX0_noteOf_8 ?_
  obtain ⟨h9, hF⟩ := gd_some hF
  refine ck_ald E hK hP (q := 1) (j := 3) (n := 25) rfl h9 dX0_noteOf_9 ?_
  exact ck_iret E hr hlocks hP hS hF dX0_noteOf_10
/-! DebtFerry.allOwedBy(I)I -/
def c_allOwedBy_L4 (x1 : Int32) : Nat → Int32 → Int32 → CZ → Option (Int32 × CZ)
  | 0, _, _, _ => none
  | n + 1, y4_2, y4_3, z4 =>
    if (nI (cz_np z4)) ≤ y4_3 then some (y4_2, z4) else (c_noteOf x1 y4_3 z4).bind (fun r21 => c_allOwedBy_L4 x1 n (y4_2 + r21.1) (y4_3 + 1) r21.2)
def c_allOwedBy (x1 : Int32) (z0 : CZ) : Option (Int32 × CZ) :=
  c_allOwedBy_L4 x1 FU (0 : Int32) (0 : Int32) z0
abbrev rmX0_allOwedBy : Room := { frames := 2, cells := 0, slots := 0, locals := 34 }
set_option maxHeartbeats 4000000 in
set_option maxRecDepth 100000 in
theorem mm_X0_allOwedBy (l : Launch) {D : va_G} {K : Nat → ClassId} {s0 : State} {a0 : Array Value} {B : Nat → Nat} {ad : CA} {A : Nat → Prop} (hT : ∀ w ∈ lw_tbl, w.before a0 s0 = true) (hD : ∀ z, va_D A (cW K B ad z)) (x1 : Int32) (z0 : CZ) (res : Int32 × CZ) (hF : c_allOwedBy x1 z0 = some res) : Met l yX0_allOwedBy (ws_ yX0_allOwedBy cX0_allOwedBy 4 (some .int)) rmX0_allOwedBy (cPc D K s0 B ad z0 [.ref (B 0), .int x1]) (cQ D K B ad A (some (.int res.1)) res.2) 0 0 A := by
  refine ck_start (A := A) RX0 (by decide) rfl (Nat.le_of_ble_eq_true rfl) ?_
  intro p e s m args below meth c H locs ls E hr hlocks hK hN hP hS hl
  have hl : lv_has ls 4 [(0, .ref (B 0)), (1, .int x1)] := hl
  unfold c_allOwedBy at hF
  refine lv_iconst (v := (0 : Int32)) E.1 E.2.1 dX0_allOwedBy_0 (by decide) ?_
  refine lv_istore_n (lv' := [(2, .int (0 : Int32)), (0, .ref (B 0)), (1, .int x1)]) E.1 E.2.1 dX0_allOwedBy_1 rfl hl (by decide) rfl (fun ls hl => ?_)
  refine lv_iconst (v := (0 : Int32)) E.1 E.2.1 dX0_allOwedBy_2 (by decide) ?_
  refine lv_istore_n (lv' := [(3, .int (0 : Int32)), (2, .int (0 : Int32)), (0, .ref (B 0)), (1, .int x1)]) E.1 E.2.1 dX0_allOwedBy_3 rfl hl (by decide) rfl (fun ls hl => ?_)
  have L4 : ∀ (n : Nat) (y4_2 : Int32) (y4_3 : Int32) (z4 : CZ) (H : Heap) (locs : List Loc) (ls : Array Slot), c_allOwedBy_L4 x1 n y4_2 y4_3 z4 = some res → cP D K B ad z4 H → va_S A s.heap H locs → lv_has ls 4 [(0, .ref (B 0)), (1, .int x1), (2, .int y4_2), (3, .int y4_3)] → W p l e rmX0_allOwedBy s m args below meth c H locs 0 0 (MQ below (cQ D K B ad A (some (.int res.1)) res.2) args s 0 0 A) (F0 m 4 ls []) := by
    intro n
    induction n with
    | zero =>
      intro y4_2 y4_3 z4 H locs ls hF
      rw [c_allOwedBy_L4] at hF
      cases hF
    | succ n ih =>
      intro y4_2 y4_3 z4 H locs ls hF hP hS hl
      rw [c_allOwedBy_L4] at hF
      refine lv_iload_n E.1 E.2.1 dX0_allOwedBy_4 rfl (lv_at hl 3 rfl) ?_
      refine lv_aload_n E.1 E.2.1 dX0_allOwedBy_5 rfl (lv_at hl 0 rfl) ?_
      refine ck_get E hK hP 4 (by decide) q130 rfl (v := .ref (B 4)) rfl dX0_allOwedBy_6 ?_
      refine ck_size E hT hN hK hP (q0 := 5) (j := 4) (n := cz_np z4) rfl q168 hl (Nat.le_of_ble_eq_true rfl) ⟨Nat.le_of_ble_eq_true rfl, Nat.le_of_ble_eq_true rfl⟩ ⟨Nat.zero_le _, Nat.zero_le _⟩ dX0_allOwedBy_9 ?_
      refine lv_icmp_ge (tgt := 32) E.1 E.2.1 dX0_allOwedBy_14 (by decide) (fun h => ?_) (fun h => ?_)
      · have hF := ite_t h hF
        refine lv_iload_n E.1 E.2.1 dX0_allOwedBy_32 rfl (lv_at hl 2 rfl) ?_
        exact ck_iret E hr hlocks hP hS hF dX0_allOwedBy_33
      · have hF := ite_f h hF
        refine lv_iload_n E.1 E.2.1 dX0_allOwedBy_17 rfl (lv_at hl 2 rfl) ?_
        refine lv_aload_n E.1 E.2.1 dX0_allOwedBy_18 rfl (lv_at hl 0 rfl) ?_
        refine lv_iload_n E.1 E.2.1 dX0_allOwedBy_19 rfl (lv_at hl 1 rfl) ?_
        refine lv_iload_n E.1 E.2.1 dX0_allOwedBy_20 rfl (lv_at hl 3 rfl) ?_
        obtain ⟨r21, hq21, hF⟩ := bnd hF
        refine cx_go (va_runV (As := [.int x1, .int y4_3]) (rest := [.int y4_2]) E (mm_X0_noteOf l hT hD x1 y4_3 z4 _ hq21) (cwV 2 E.2.2.2.2 (lw_V q215 q217 qs2 q54 q218) rfl rfl rfl (by decide +kernel) ⟨Nat.le_of_ble_eq_true rfl, Nat.le_of_ble_eq_true rfl⟩) (ck_pre hK hN hP (ck_me hK hP)) rfl rfl hl.1 rfl (lv_room (Nat.le_of_ble_eq_true rfl)) dX0_allOwedBy_21 ⟨Nat.zero_le _, Nat.zero_le _⟩) hS (fun H locs hP hS => ?_)
        refine lv_iadd E.1 E.2.1 dX0_allOwedBy_24 ?_
        refine lv_istore_n (lv' := [(2, .int (y4_2 + r21.1)), (0, .ref (B 0)), (1, .int x1), (3, .int y4_3)]) E.1 E.2.1 dX0_allOwedBy_25 rfl hl (by decide) rfl (fun ls hl => ?_)
        refine lv_iinc (v := y4_3 + 1) (lv' := [(3, .int (y4_3 + 1)), (2, .int (y4_2 + r21.1)), (0, .ref (B 0)), (1, .int x1)]) E.1 E.2.1 dX0_allOwedBy_26 hl (k := 3) rfl rfl (by decide) rfl (fun ls hl => ?_)
        refine lv_goto (tgt := 4) E.1 E.2.1 dX0_allOwedBy_29 (by decide) ?_
        exact ih (y4_2 + r21.1) (y4_3 + 1) r21.2 H locs ls hF hP hS (lv_sub hl [2, 3, 1, 0] rfl)
  exact L4 FU (0 : Int32) (0 : Int32) z0 H locs ls hF hP hS (lv_sub hl [2, 3, 1, 0] rfl)
/-! DebtFerry.owes(II)I -/
def c_owes (x1 : Int32) (x2 : Int32) (z0 : CZ) : Option (Int32 × CZ) :=
  (c_noPerson x1 z0).bind (fun r2 => if r2.1 = 0 then (c_noPerson x2 r2.2).bind (fun r10 => if r10.1 = 0 then (c_noteOf x1 x2 r10.2).bind (fun r23 => some (r23.1, r23.2)) else some ((-1 : Int32), r10.2)) else some ((-1 : Int32), r2.2))
abbrev rmX0_owes : Room := { frames := 3, cells := 0, slots := 0, locals := 58 }
set_option maxHeartbeats 4000000 in
set_option maxRecDepth 100000 in
theorem mm_X0_owes (l : Launch) {D : va_G} {K : Nat → ClassId} {s0 : State} {a0 : Array Value} {B : Nat → Nat} {ad : CA} {A : Nat → Prop} (hT : ∀ w ∈ lw_tbl, w.before a0 s0 = true) (hD : ∀ z, va_D A (cW K B ad z)) (x1 : Int32) (x2 : Int32) (z0 : CZ) (res : Int32 × CZ) (hF : c_owes x1 x2 z0 = some res) : Met l yX0_owes (ws_ yX0_owes cX0_owes 3 (some .int)) rmX0_owes (cPc D K s0 B ad z0 [.ref (B 0), .int x1, .int x2]) (cQ D K B ad A (some (.int res.1)) res.2) 0 0 A := by
  refine ck_start (A := A) RX0 (by decide) rfl (Nat.le_of_ble_eq_true rfl) ?_
  intro p e s m args below meth c H locs ls E hr hlocks hK hN hP hS hl
  have hl : lv_has ls 3 [(0, .ref (B 0)), (1, .int x1), (2, .int x2)] := hl
  unfold c_owes at hF
  refine lv_aload_n E.1 E.2.1 dX0_owes_0 rfl (lv_at hl 0 rfl) ?_
  refine lv_iload_n E.1 E.2.1 dX0_owes_1 rfl (lv_at hl 1 rfl) ?_
  obtain ⟨r2, hq2, hF⟩ := bnd hF
  refine cx_go (va_runV (As := [.int x1]) (rest := []) E (mm_X0_noPerson l hT hD x1 z0 _ hq2) (cwV 1 E.2.2.2.2 (lw_V q163 q165 qs0 q54 q166) rfl rfl rfl (by decide +kernel) ⟨Nat.le_of_ble_eq_true rfl, Nat.le_of_ble_eq_true rfl⟩) (ck_pre hK hN hP (ck_me hK hP)) rfl rfl hl.1 rfl (lv_room (Nat.le_of_ble_eq_true rfl)) dX0_owes_2 ⟨Nat.zero_le _, Nat.zero_le _⟩) hS (fun H locs hP hS => ?_)
  refine lv_if_ne (tgt := 16) E.1 E.2.1 dX0_owes_5 (by decide) (fun h => ?_) (fun h => ?_)
  · have hF := ite_f h hF
    refine lv_iconst (v := (-1 : Int32)) E.1 E.2.1 dX0_owes_16 (by decide) ?_
    refine lv_goto (tgt := 26) E.1 E.2.1 dX0_owes_17 (by decide) ?_
    exact ck_iret E hr hlocks hP hS hF dX0_owes_26
  · have hF := ite_t h hF
    refine lv_aload_n E.1 E.2.1 dX0_owes_8 rfl (lv_at hl 0 rfl) ?_
    refine lv_iload_n E.1 E.2.1 dX0_owes_9 rfl (lv_at hl 2 rfl) ?_
    obtain ⟨r10, hq10, hF⟩ := bnd hF
    refine cx_go (va_runV (As := [.int x2]) (rest := []) E (mm_X0_noPerson l hT hD x2 r2.2 _ hq10) (cwV 1 E.2.2.2.2 (lw_V q163 q165 qs0 q54 q166) rfl rfl rfl (by decide +kernel) ⟨Nat.le_of_ble_eq_true rfl, Nat.le_of_ble_eq_true rfl⟩) (ck_pre hK hN hP (ck_me hK hP)) rfl rfl hl.1 rfl (lv_room (Nat.le_of_ble_eq_true rfl)) dX0_owes_10 ⟨Nat.zero_le _, Nat.zero_le _⟩) hS (fun H locs hP hS => ?_)
    refine lv_if_eq (tgt := 20) E.1 E.2.1 dX0_owes_13 (by decide) (fun h => ?_) (fun h => ?_)
    · have hF := ite_t h hF
      refine lv_aload_n E.1 E.2.1 dX0_owes_20 rfl (lv_at hl 0 rfl) ?_
      refine lv_iload_n E.1 E.2.1 dX0_owes_21 rfl (lv_at hl 1 rfl) ?_
      refine lv_iload_n E.1 E.2.1 dX0_owes_22 rfl (lv_at hl 2 rfl) ?_
      obtain ⟨r23, hq23, hF⟩ := bnd hF
      refine cx_go (va_runV (As := [.int x1, .int x2]) (rest := []) E (mm_X0_noteOf l hT hD x1 x2 r10.2 _ hq23) (cwV 2 E.2.2.2.2 (lw_V q215 q217 qs2 q54 q218) rfl rfl rfl (by decide +kernel) ⟨Nat.le_of_ble_eq_true rfl, Nat.le_of_ble_eq_true rfl⟩) (ck_pre hK hN hP (ck_me hK hP)) rfl rfl hl.1 rfl (lv_room (Nat.le_of_ble_eq_true rfl)) dX0_owes_23 ⟨Nat.zero_le _, Nat.zero_le _⟩) hS (fun H locs hP hS => ?_)
      exact ck_iret E hr hlocks hP hS hF dX0_owes_26
    · have hF := ite_f h hF
      refine lv_iconst (v := (-1 : Int32)) E.1 E.2.1 dX0_owes_16 (by decide) ?_
      refine lv_goto (tgt := 26) E.1 E.2.1 dX0_owes_17 (by decide) ?_
      exact ck_iret E hr hlocks hP hS hF dX0_owes_26
/-! DebtFerry.lend(III)I -/
def c_lend (x1 : Int32) (x2 : Int32) (x3 : Int32) (z0 : CZ) : Option (Int32 × CZ) :=
  (c_isNoNote x1 x2 z0).bind (fun r3 => if r3.1 = 0 then (c_in (x3.toInt64) (0 : Int64) (9 : Int64)).bind (fun r17 => if r17 = 0 then some ((-2 : Int32), r3.2) else (c_noteOf x1 x2 r3.2).bind (fun r29 => gd (inb ((x1 * (5 : Int32)) + x2) 25) (some (r29.1, (cz_a r29.2 3 ((x1 * (5 : Int32)) + x2).toNatClampNeg x3))))) else some ((-1 : Int32), r3.2))
abbrev rmX0_lend : Room := { frames := 4, cells := 0, slots := 0, locals := 80 }
set_option maxHeartbeats 4000000 in
set_option maxRecDepth 100000 in
theorem mm_X0_lend (l : Launch) {D : va_G} {K : Nat → ClassId} {s0 : State} {a0 : Array Value} {B : Nat → Nat} {ad : CA} {A : Nat → Prop} (hT : ∀ w ∈ lw_tbl, w.before a0 s0 = true) (hD : ∀ z, va_D A (cW K B ad z)) (x1 : Int32) (x2 : Int32) (x3 : Int32) (z0 : CZ) (res : Int32 × CZ) (hF : c_lend x1 x2 x3 z0 = some res) : Met l yX0_lend (ws_ yX0_lend cX0_lend 5 (some .int)) rmX0_lend (cPc D K s0 B ad z0 [.ref (B 0), .int x1, .int x2, .int x3]) (cQ D K B ad A (some (.int res.1)) res.2) 0 0 A := by
  refine ck_start (A := A) RX0 (by decide) rfl (Nat.le_of_ble_eq_true rfl) ?_
  intro p e s m args below meth c H locs ls E hr hlocks hK hN hP hS hl
  have hl : lv_has ls 5 [(0, .ref (B 0)), (1, .int x1), (2, .int x2), (3, .int x3)] := hl
  unfold c_lend at hF
  refine lv_aload_n E.1 E.2.1 dX0_lend_0 rfl (lv_at hl 0 rfl) ?_
  refine lv_iload_n E.1 E.2.1 dX0_lend_1 rfl (lv_at hl 1 rfl) ?_
  refine lv_iload_n E.1 E.2.1 dX0_lend_2 rfl (lv_at hl 2 rfl) ?_
  obtain ⟨r3, hq3, hF⟩ := bnd hF
  refine cx_go (va_runV (As := [.int x1, .int x2]) (rest := []) E (mm_X0_isNoNote l hT hD x1 x2 z0 _ hq3) (cwV 2 E.2.2.2.2 (lw_V q227 q229 qs3 q54 q230) rfl rfl rfl (by decide +kernel) ⟨Nat.le_of_ble_eq_true rfl, Nat.le_of_ble_eq_true rfl⟩) (ck_pre hK hN hP (ck_me hK hP)) rfl rfl hl.1 rfl (lv_room (Nat.le_of_ble_eq_true rfl)) dX0_lend_3 ⟨Nat.zero_le _, Nat.zero_le _⟩) hS (fun H locs hP hS => ?_)
  refine lv_if_eq (tgt := 11) E.1 E.2.1 dX0_lend_6 (by decide) (fun h => ?_) (fun h => ?_)
  · have hF := ite_t h hF
    refine lv_iload_n E.1 E.2.1 dX0_lend_11 rfl (lv_at hl 3 rfl) ?_
    refine lv_i2l E.1 E.2.1 dX0_lend_12 rfl ?_
    refine lv_lconst (v := (0 : Int64)) E.1 E.2.1 dX0_lend_13 (by decide) ?_
    refine lv_ldc2 (v := (9 : Int64)) E.1 E.2.1 E.2.2.2.1 (E.2.2.2.2 _ q231) dX0_lend_14 ?_
    obtain ⟨r17, hq17, hF⟩ := bnd hF
    refine px_call (As := [.long (x3.toInt64), .long (0 : Int64), .long (9 : Int64)]) (rest := []) (v := .int r17) E (mm_X0_in l (x3.toInt64) (0 : Int64) (9 : Int64) _ hq17) (va_cwS 3 E.2.2.2.2 (lw_S q177 q178 q54 q179) rfl rfl rfl (by decide +kernel) ⟨Nat.le_of_ble_eq_true rfl, Nat.le_of_ble_eq_true rfl⟩) hl rfl rfl (Nat.le_of_ble_eq_true rfl) ⟨Nat.zero_le _, Nat.zero_le _⟩ dX0_lend_17 ?_
    refine lv_if_ne (tgt := 26) E.1 E.2.1 dX0_lend_20 (by decide) (fun h => ?_) (fun h => ?_)
    · have hF := ite_f h hF
      refine lv_aload_n E.1 E.2.1 dX0_lend_26 rfl (lv_at hl 0 rfl) ?_
      refine lv_iload_n E.1 E.2.1 dX0_lend_27 rfl (lv_at hl 1 rfl) ?_
      refine lv_iload_n E.1 E.2.1 dX0_lend_28 rfl (lv_at hl 2 rfl) ?_
      obtain ⟨r29, hq29, hF⟩ := bnd hF
      refine cx_go (va_runV (As := [.int x1, .int x2]) (rest := []) E (mm_X0_noteOf l hT hD x1 x2 r3.2 _ hq29) (cwV 2 E.2.2.2.2 (lw_V q215 q217 qs2 q54 q218) rfl rfl rfl (by decide +kernel) ⟨Nat.le_of_ble_eq_true rfl, Nat.le_of_ble_eq_true rfl⟩) (ck_pre hK hN hP (ck_me hK hP)) rfl rfl hl.1 rfl (lv_room (Nat.le_of_ble_eq_true rfl)) dX0_lend_29 ⟨Nat.zero_le _, Nat.zero_le _⟩) hS (fun H locs hP hS => ?_)
      refine lv_istore (lv' := [(4, .int r29.1), (0, .ref (B 0)), (1, .int x1), (2, .int x2), (3, .int x3)]) E.1 E.2.1 dX0_lend_32 hl (by decide) rfl (fun ls hl => ?_)
      refine lv_aload_n E.1 E.2.1 dX0_lend_34 rfl (lv_at hl 1 rfl) ?_
      refine ck_get E hK hP 3 (by decide) q129 rfl (v := .ref (B 3)) rfl dX0_lend_35 ?_
      refine lv_iload_n E.1 E.2.1 dX0_lend_38 rfl (lv_at hl 2 rfl) ?_
      refine lv_iconst (v := (5 : Int32)) E.1 E.2.1 dX0_lend_39 (by decide) ?_
      refine lv_imul E.1 E.2.1 dX0_lend_40 ?_
      refine lv_iload_n E.1 E.2.1 dX0_lend_41 rfl (lv_at hl 3 rfl) ?_
      refine lv_iadd E.1 E.2.1 dX0_lend_42 ?_
      refine lv_iload_n E.1 E.2.1 dX0_lend_43 rfl (lv_at hl 4 rfl) ?_
      obtain ⟨h44, hF⟩ := gd_some hF
      refine ck_ast E hD hK hP hS (q := 1) (j := 3) (n := 25) rfl h44 dX0_lend_44 (fun H locs hP hS => ?_)
      refine lv_iload E.1 E.2.1 dX0_lend_45 (lv_at hl 0 rfl) ?_
      exact ck_iret E hr hlocks hP hS hF dX0_lend_47
    · have hF := ite_t h hF
      refine lv_bipush (v := (-2 : Int32)) E.1 E.2.1 dX0_lend_23 (by decide) ?_
      exact ck_iret E hr hlocks hP hS hF dX0_lend_25
  · have hF := ite_f h hF
    refine lv_iconst (v := (-1 : Int32)) E.1 E.2.1 dX0_lend_9 (by decide) ?_
    exact ck_iret E hr hlocks hP hS hF dX0_lend_10
/-! DebtFerry.count(I)I -/
def c_count (x1 : Int32) (z0 : CZ) : Option (Int32 × CZ) :=
  (c_in (x1.toInt64) (1 : Int64) (3 : Int64)).bind (fun r6 => if r6 = 0 then some ((-2 : Int32), z0) else (c_noRiver  z0).bind (fun r16 => if r16.1 = 0 then some ((r16.2.1 2), (cz_f r16.2 2 x1)) else some ((-3 : Int32), r16.2)))
abbrev rmX0_count : Room := { frames := 3, cells := 0, slots := 0, locals := 52 }
set_option maxHeartbeats 4000000 in
set_option maxRecDepth 100000 in
theorem mm_X0_count (l : Launch) {D : va_G} {K : Nat → ClassId} {s0 : State} {a0 : Array Value} {B : Nat → Nat} {ad : CA} {A : Nat → Prop} (hT : ∀ w ∈ lw_tbl, w.before a0 s0 = true) (hD : ∀ z, va_D A (cW K B ad z)) (x1 : Int32) (z0 : CZ) (res : Int32 × CZ) (hF : c_count x1 z0 = some res) : Met l yX0_count (ws_ yX0_count cX0_count 3 (some .int)) rmX0_count (cPc D K s0 B ad z0 [.ref (B 0), .int x1]) (cQ D K B ad A (some (.int res.1)) res.2) 0 0 A := by
  refine ck_start (A := A) RX0 (by decide) rfl (Nat.le_of_ble_eq_true rfl) ?_
  intro p e s m args below meth c H locs ls E hr hlocks hK hN hP hS hl
  have hl : lv_has ls 3 [(0, .ref (B 0)), (1, .int x1)] := hl
  unfold c_count at hF
  refine lv_iload_n E.1 E.2.1 dX0_count_0 rfl (lv_at hl 1 rfl) ?_
  refine lv_i2l E.1 E.2.1 dX0_count_1 rfl ?_
  refine lv_lconst (v := (1 : Int64)) E.1 E.2.1 dX0_count_2 (by decide) ?_
  refine lv_ldc2 (v := (3 : Int64)) E.1 E.2.1 E.2.2.2.1 (E.2.2.2.2 _ q236) dX0_count_3 ?_
  obtain ⟨r6, hq6, hF⟩ := bnd hF
  refine px_call (As := [.long (x1.toInt64), .long (1 : Int64), .long (3 : Int64)]) (rest := []) (v := .int r6) E (mm_X0_in l (x1.toInt64) (1 : Int64) (3 : Int64) _ hq6) (va_cwS 3 E.2.2.2.2 (lw_S q177 q178 q54 q179) rfl rfl rfl (by decide +kernel) ⟨Nat.le_of_ble_eq_true rfl, Nat.le_of_ble_eq_true rfl⟩) hl rfl rfl (Nat.le_of_ble_eq_true rfl) ⟨Nat.zero_le _, Nat.zero_le _⟩ dX0_count_6 ?_
  refine lv_if_ne (tgt := 15) E.1 E.2.1 dX0_count_9 (by decide) (fun h => ?_) (fun h => ?_)
  · have hF := ite_f h hF
    refine lv_aload_n E.1 E.2.1 dX0_count_15 rfl (lv_at hl 0 rfl) ?_
    obtain ⟨r16, hq16, hF⟩ := bnd hF
    refine cx_go (va_runV (As := []) (rest := []) E (mm_X0_noRiver l hT hD  z0 _ hq16) (cwV 0 E.2.2.2.2 (lw_V q237 q239 qs4 q54 q240) rfl rfl rfl (by decide +kernel) ⟨Nat.le_of_ble_eq_true rfl, Nat.le_of_ble_eq_true rfl⟩) (ck_pre hK hN hP (ck_me hK hP)) rfl rfl hl.1 rfl (lv_room (Nat.le_of_ble_eq_true rfl)) dX0_count_16 ⟨Nat.zero_le _, Nat.zero_le _⟩) hS (fun H locs hP hS => ?_)
    refine lv_if_eq (tgt := 25) E.1 E.2.1 dX0_count_19 (by decide) (fun h => ?_) (fun h => ?_)
    · have hF := ite_t h hF
      refine lv_aload_n E.1 E.2.1 dX0_count_25 rfl (lv_at hl 0 rfl) ?_
      refine ck_get E hK hP 2 (by decide) q128 rfl (v := .int (r16.2.1 2)) rfl dX0_count_26 ?_
      refine lv_istore_n (lv' := [(2, .int (r16.2.1 2)), (0, .ref (B 0)), (1, .int x1)]) E.1 E.2.1 dX0_count_29 rfl hl (by decide) rfl (fun ls hl => ?_)
      refine lv_aload_n E.1 E.2.1 dX0_count_30 rfl (lv_at hl 1 rfl) ?_
      refine lv_iload_n E.1 E.2.1 dX0_count_31 rfl (lv_at hl 2 rfl) ?_
      refine ck_put E hD hK hP hS 2 rfl q128 dX0_count_32 (fun H locs hP hS => ?_)
      refine lv_iload_n E.1 E.2.1 dX0_count_35 rfl (lv_at hl 0 rfl) ?_
      exact ck_iret E hr hlocks hP hS hF dX0_count_36
    · have hF := ite_f h hF
      refine lv_bipush (v := (-3 : Int32)) E.1 E.2.1 dX0_count_22 (by decide) ?_
      exact ck_iret E hr hlocks hP hS hF dX0_count_24
  · have hF := ite_t h hF
    refine lv_bipush (v := (-2 : Int32)) E.1 E.2.1 dX0_count_12 (by decide) ?_
    exact ck_iret E hr hlocks hP hS hF dX0_count_14
/-! DebtFerry.build(I)I -/
def c_build (x1 : Int32) (z0 : CZ) : Option (Int32 × CZ) :=
  (c_in (x1.toInt64) (1 : Int64) (3 : Int64)).bind (fun r6 => if r6 = 0 then some ((-2 : Int32), z0) else (c_noRiver  z0).bind (fun r16 => if r16.1 = 0 then some ((r16.2.1 1), (cz_f r16.2 1 x1)) else some ((-3 : Int32), r16.2)))
abbrev rmX0_build : Room := { frames := 3, cells := 0, slots := 0, locals := 52 }
set_option maxHeartbeats 4000000 in
set_option maxRecDepth 100000 in
theorem mm_X0_build (l : Launch) {D : va_G} {K : Nat → ClassId} {s0 : State} {a0 : Array Value} {B : Nat → Nat} {ad : CA} {A : Nat → Prop} (hT : ∀ w ∈ lw_tbl, w.before a0 s0 = true) (hD : ∀ z, va_D A (cW K B ad z)) (x1 : Int32) (z0 : CZ) (res : Int32 × CZ) (hF : c_build x1 z0 = some res) : Met l yX0_build (ws_ yX0_build cX0_build 3 (some .int)) rmX0_build (cPc D K s0 B ad z0 [.ref (B 0), .int x1]) (cQ D K B ad A (some (.int res.1)) res.2) 0 0 A := by
  refine ck_start (A := A) RX0 (by decide) rfl (Nat.le_of_ble_eq_true rfl) ?_
  intro p e s m args below meth c H locs ls E hr hlocks hK hN hP hS hl
  have hl : lv_has ls 3 [(0, .ref (B 0)), (1, .int x1)] := hl
  unfold c_build at hF
  refine lv_iload_n E.1 E.2.1 dX0_build_0 rfl (lv_at hl 1 rfl) ?_
  refine lv_i2l E.1 E.2.1 dX0_build_1 rfl ?_
  refine lv_lconst (v := (1 : Int64)) E.1 E.2.1 dX0_build_2 (by decide) ?_
  refine lv_ldc2 (v := (3 : Int64)) E.1 E.2.1 E.2.2.2.1 (E.2.2.2.2 _ q236) dX0_build_3 ?_
  obtain ⟨r6, hq6, hF⟩ := bnd hF
  refine px_call (As := [.long (x1.toInt64), .long (1 : Int64), .long (3 : Int64)]) (rest := []) (v := .int r6) E (mm_X0_in l (x1.toInt64) (1 : Int64) (3 : Int64) _ hq6) (va_cwS 3 E.2.2.2.2 (lw_S q177 q178 q54 q179) rfl rfl rfl (by decide +kernel) ⟨Nat.le_of_ble_eq_true rfl, Nat.le_of_ble_eq_true rfl⟩) hl rfl rfl (Nat.le_of_ble_eq_true rfl) ⟨Nat.zero_le _, Nat.zero_le _⟩ dX0_build_6 ?_
  refine lv_if_ne (tgt := 15) E.1 E.2.1 dX0_build_9 (by decide) (fun h => ?_) (fun h => ?_)
  · have hF := ite_f h hF
    refine lv_aload_n E.1 E.2.1 dX0_build_15 rfl (lv_at hl 0 rfl) ?_
    obtain ⟨r16, hq16, hF⟩ := bnd hF
    refine cx_go (va_runV (As := []) (rest := []) E (mm_X0_noRiver l hT hD  z0 _ hq16) (cwV 0 E.2.2.2.2 (lw_V q237 q239 qs4 q54 q240) rfl rfl rfl (by decide +kernel) ⟨Nat.le_of_ble_eq_true rfl, Nat.le_of_ble_eq_true rfl⟩) (ck_pre hK hN hP (ck_me hK hP)) rfl rfl hl.1 rfl (lv_room (Nat.le_of_ble_eq_true rfl)) dX0_build_16 ⟨Nat.zero_le _, Nat.zero_le _⟩) hS (fun H locs hP hS => ?_)
    refine lv_if_eq (tgt := 25) E.1 E.2.1 dX0_build_19 (by decide) (fun h => ?_) (fun h => ?_)
    · have hF := ite_t h hF
      refine lv_aload_n E.1 E.2.1 dX0_build_25 rfl (lv_at hl 0 rfl) ?_
      refine ck_get E hK hP 1 (by decide) q126 rfl (v := .int (r16.2.1 1)) rfl dX0_build_26 ?_
      refine lv_istore_n (lv' := [(2, .int (r16.2.1 1)), (0, .ref (B 0)), (1, .int x1)]) E.1 E.2.1 dX0_build_29 rfl hl (by decide) rfl (fun ls hl => ?_)
      refine lv_aload_n E.1 E.2.1 dX0_build_30 rfl (lv_at hl 1 rfl) ?_
      refine lv_iload_n E.1 E.2.1 dX0_build_31 rfl (lv_at hl 2 rfl) ?_
      refine ck_put E hD hK hP hS 1 rfl q126 dX0_build_32 (fun H locs hP hS => ?_)
      refine lv_iload_n E.1 E.2.1 dX0_build_35 rfl (lv_at hl 0 rfl) ?_
      exact ck_iret E hr hlocks hP hS hF dX0_build_36
    · have hF := ite_f h hF
      refine lv_bipush (v := (-3 : Int32)) E.1 E.2.1 dX0_build_22 (by decide) ?_
      exact ck_iret E hr hlocks hP hS hF dX0_build_24
  · have hF := ite_t h hF
    refine lv_bipush (v := (-2 : Int32)) E.1 E.2.1 dX0_build_12 (by decide) ?_
    exact ck_iret E hr hlocks hP hS hF dX0_build_14
/-! DebtFerry.trace()I -/
def c_trace  (z0 : CZ) : Option (Int32 × CZ) :=
  some ((z0.1 0), z0)
abbrev rmX0_trace : Room := { frames := 1, cells := 0, slots := 0, locals := 12 }
set_option maxHeartbeats 4000000 in
set_option maxRecDepth 100000 in
theorem mm_X0_trace (l : Launch) {D : va_G} {K : Nat → ClassId} {s0 : State} {a0 : Array Value} {B : Nat → Nat} {ad : CA} {A : Nat → Prop} (hT : ∀ w ∈ lw_tbl, w.before a0 s0 = true) (hD : ∀ z, va_D A (cW K B ad z))  (z0 : CZ) (res : Int32 × CZ) (hF : c_trace  z0 = some res) : Met l yX0_trace (ws_ yX0_trace cX0_trace 1 (some .int)) rmX0_trace (cPc D K s0 B ad z0 [.ref (B 0)]) (cQ D K B ad A (some (.int res.1)) res.2) 0 0 A := by
  refine ck_start (A := A) RX0 (by decide) rfl (Nat.le_of_ble_eq_true rfl) ?_
  intro p e s m args below meth c H locs ls E hr hlocks hK hN hP hS hl
  have hl : lv_has ls 1 [(0, .ref (B 0))] := hl
  unfold c_trace at hF
  refine lv_aload_n E.1 E.2.1 dX0_trace_0 rfl (lv_at hl 0 rfl) ?_
  refine ck_get E hK hP 0 (by decide) q125 rfl (v := .int (z0.1 0)) rfl dX0_trace_1 ?_
  exact ck_iret E hr hlocks hP hS hF dX0_trace_4
/-! DebtFerry.fault()I -/
def c_fault  (z0 : CZ) : Option (Int32 × CZ) :=
  some ((z0.1 8), z0)
abbrev rmX0_fault : Room := { frames := 1, cells := 0, slots := 0, locals := 12 }
set_option maxHeartbeats 4000000 in
set_option maxRecDepth 100000 in
theorem mm_X0_fault (l : Launch) {D : va_G} {K : Nat → ClassId} {s0 : State} {a0 : Array Value} {B : Nat → Nat} {ad : CA} {A : Nat → Prop} (hT : ∀ w ∈ lw_tbl, w.before a0 s0 = true) (hD : ∀ z, va_D A (cW K B ad z))  (z0 : CZ) (res : Int32 × CZ) (hF : c_fault  z0 = some res) : Met l yX0_fault (ws_ yX0_fault cX0_fault 1 (some .int)) rmX0_fault (cPc D K s0 B ad z0 [.ref (B 0)]) (cQ D K B ad A (some (.int res.1)) res.2) 0 0 A := by
  refine ck_start (A := A) RX0 (by decide) rfl (Nat.le_of_ble_eq_true rfl) ?_
  intro p e s m args below meth c H locs ls E hr hlocks hK hN hP hS hl
  have hl : lv_has ls 1 [(0, .ref (B 0))] := hl
  unfold c_fault at hF
  refine lv_aload_n E.1 E.2.1 dX0_fault_0 rfl (lv_at hl 0 rfl) ?_
  refine ck_get E hK hP 8 (by decide) q136 rfl (v := .int (z0.1 8)) rfl dX0_fault_1 ?_
  exact ck_iret E hr hlocks hP hS hF dX0_fault_4
/-! DebtFerry.many(I)I -/
def c_many (x1 : Int32) (z0 : CZ) : Option (Int32 × CZ) :=
  if x1 = (0 : Int32) then some ((nI (cz_np z0)), z0) else if x1 = (1 : Int32) then some ((z0.1 1), z0) else if x1 = (2 : Int32) then some ((z0.1 2), z0) else if x1 = (3 : Int32) then some ((nI (cz_nr z0)), z0) else some ((-2 : Int32), z0)
abbrev rmX0_many : Room := { frames := 2, cells := 0, slots := 0, locals := 32 }
set_option maxHeartbeats 4000000 in
set_option maxRecDepth 100000 in
theorem mm_X0_many (l : Launch) {D : va_G} {K : Nat → ClassId} {s0 : State} {a0 : Array Value} {B : Nat → Nat} {ad : CA} {A : Nat → Prop} (hT : ∀ w ∈ lw_tbl, w.before a0 s0 = true) (hD : ∀ z, va_D A (cW K B ad z)) (x1 : Int32) (z0 : CZ) (res : Int32 × CZ) (hF : c_many x1 z0 = some res) : Met l yX0_many (ws_ yX0_many cX0_many 2 (some .int)) rmX0_many (cPc D K s0 B ad z0 [.ref (B 0), .int x1]) (cQ D K B ad A (some (.int res.1)) res.2) 0 0 A := by
  refine ck_start (A := A) RX0 (by decide) rfl (Nat.le_of_ble_eq_true rfl) ?_
  intro p e s m args below meth c H locs ls E hr hlocks hK hN hP hS hl
  have hl : lv_has ls 2 [(0, .ref (B 0)), (1, .int x1)] := hl
  unfold c_many at hF
  refine lv_iload_n E.1 E.2.1 dX0_many_0 rfl (lv_at hl 1 rfl) ?_
  rcases Decidable.em (x1 = (0 : Int32)) with h1_0 | h1_0
  · have hF := ite_t h1_0 hF
    refine lv_tableIn (off := 31) (tgt := 32) E.1 E.2.1 dX0_many_1 (by rw [h1_0]; decide) (by rw [h1_0]; decide) (by rw [h1_0]; decide) (by decide) ?_
    refine lv_aload_n E.1 E.2.1 dX0_many_32 rfl (lv_at hl 0 rfl) ?_
    refine ck_get E hK hP 4 (by decide) q130 rfl (v := .ref (B 4)) rfl dX0_many_33 ?_
    refine ck_size E hT hN hK hP (q0 := 5) (j := 4) (n := cz_np z0) rfl q168 hl (Nat.le_of_ble_eq_true rfl) ⟨Nat.le_of_ble_eq_true rfl, Nat.le_of_ble_eq_true rfl⟩ ⟨Nat.zero_le _, Nat.zero_le _⟩ dX0_many_36 ?_
    exact ck_iret E hr hlocks hP hS hF dX0_many_41
  have hF := ite_f h1_0 hF
  rcases Decidable.em (x1 = (1 : Int32)) with h1_1 | h1_1
  · have hF := ite_t h1_1 hF
    refine lv_tableIn (off := 41) (tgt := 42) E.1 E.2.1 dX0_many_1 (by rw [h1_1]; decide) (by rw [h1_1]; decide) (by rw [h1_1]; decide) (by decide) ?_
    refine lv_aload_n E.1 E.2.1 dX0_many_42 rfl (lv_at hl 0 rfl) ?_
    refine ck_get E hK hP 1 (by decide) q126 rfl (v := .int (z0.1 1)) rfl dX0_many_43 ?_
    exact ck_iret E hr hlocks hP hS hF dX0_many_46
  have hF := ite_f h1_1 hF
  rcases Decidable.em (x1 = (2 : Int32)) with h1_2 | h1_2
  · have hF := ite_t h1_2 hF
    refine lv_tableIn (off := 46) (tgt := 47) E.1 E.2.1 dX0_many_1 (by rw [h1_2]; decide) (by rw [h1_2]; decide) (by rw [h1_2]; decide) (by decide) ?_
    refine lv_aload_n E.1 E.2.1 dX0_many_47 rfl (lv_at hl 0 rfl) ?_
    refine ck_get E hK hP 2 (by decide) q128 rfl (v := .int (z0.1 2)) rfl dX0_many_48 ?_
    exact ck_iret E hr hlocks hP hS hF dX0_many_51
  have hF := ite_f h1_2 hF
  rcases Decidable.em (x1 = (3 : Int32)) with h1_3 | h1_3
  · have hF := ite_t h1_3 hF
    refine lv_tableIn (off := 51) (tgt := 52) E.1 E.2.1 dX0_many_1 (by rw [h1_3]; decide) (by rw [h1_3]; decide) (by rw [h1_3]; decide) (by decide) ?_
    refine lv_aload_n E.1 E.2.1 dX0_many_52 rfl (lv_at hl 0 rfl) ?_
    refine ck_get E hK hP 7 (by decide) q134 rfl (v := .ref (B 7)) rfl dX0_many_53 ?_
    refine ck_size E hT hN hK hP (q0 := 6) (j := 7) (n := cz_nr z0) rfl q168 hl (Nat.le_of_ble_eq_true rfl) ⟨Nat.le_of_ble_eq_true rfl, Nat.le_of_ble_eq_true rfl⟩ ⟨Nat.zero_le _, Nat.zero_le _⟩ dX0_many_56 ?_
    exact ck_iret E hr hlocks hP hS hF dX0_many_61
  have hF := ite_f h1_3 hF
  refine lv_tableOut (tgt := 62) E.1 E.2.1 dX0_many_1 (by have g0 := lv_neT h1_0 (a := 0) (by decide); have g1 := lv_neT h1_1 (a := 1) (by decide); have g2 := lv_neT h1_2 (a := 2) (by decide); have g3 := lv_neT h1_3 (a := 3) (by decide); omega) (by decide) ?_
  refine lv_bipush (v := (-2 : Int32)) E.1 E.2.1 dX0_many_62 (by decide) ?_
  exact ck_iret E hr hlocks hP hS hF dX0_many_64
/-! DebtFerry.refused(I)I -/
def c_refused (x1 : Int32) (z0 : CZ) : Option (Int32 × CZ) :=
  some (x1, (cz_f z0 8 (0 : Int32)))
abbrev rmX0_refused : Room := { frames := 1, cells := 0, slots := 0, locals := 12 }
set_option maxHeartbeats 4000000 in
set_option maxRecDepth 100000 in
theorem mm_X0_refused (l : Launch) {D : va_G} {K : Nat → ClassId} {s0 : State} {a0 : Array Value} {B : Nat → Nat} {ad : CA} {A : Nat → Prop} (hT : ∀ w ∈ lw_tbl, w.before a0 s0 = true) (hD : ∀ z, va_D A (cW K B ad z)) (x1 : Int32) (z0 : CZ) (res : Int32 × CZ) (hF : c_refused x1 z0 = some res) : Met l yX0_refused (ws_ yX0_refused cX0_refused 2 (some .int)) rmX0_refused (cPc D K s0 B ad z0 [.ref (B 0), .int x1]) (cQ D K B ad A (some (.int res.1)) res.2) 0 0 A := by
  refine ck_start (A := A) RX0 (by decide) rfl (Nat.le_of_ble_eq_true rfl) ?_
  intro p e s m args below meth c H locs ls E hr hlocks hK hN hP hS hl
  have hl : lv_has ls 2 [(0, .ref (B 0)), (1, .int x1)] := hl
  unfold c_refused at hF
  refine lv_aload_n E.1 E.2.1 dX0_refused_0 rfl (lv_at hl 0 rfl) ?_
  refine lv_iconst (v := (0 : Int32)) E.1 E.2.1 dX0_refused_1 (by decide) ?_
  refine ck_put E hD hK hP hS 8 rfl q136 dX0_refused_2 (fun H locs hP hS => ?_)
  refine lv_iload_n E.1 E.2.1 dX0_refused_5 rfl (lv_at hl 1 rfl) ?_
  exact ck_iret E hr hlocks hP hS hF dX0_refused_6
/-! DebtFerry.fails(I)I -/
def c_fails (x1 : Int32) (z0 : CZ) : Option (Int32 × CZ) :=
  some (((-10 : Int32) - x1), (cz_f z0 8 x1))
abbrev rmX0_fails : Room := { frames := 1, cells := 0, slots := 0, locals := 12 }
set_option maxHeartbeats 4000000 in
set_option maxRecDepth 100000 in
theorem mm_X0_fails (l : Launch) {D : va_G} {K : Nat → ClassId} {s0 : State} {a0 : Array Value} {B : Nat → Nat} {ad : CA} {A : Nat → Prop} (hT : ∀ w ∈ lw_tbl, w.before a0 s0 = true) (hD : ∀ z, va_D A (cW K B ad z)) (x1 : Int32) (z0 : CZ) (res : Int32 × CZ) (hF : c_fails x1 z0 = some res) : Met l yX0_fails (ws_ yX0_fails cX0_fails 2 (some .int)) rmX0_fails (cPc D K s0 B ad z0 [.ref (B 0), .int x1]) (cQ D K B ad A (some (.int res.1)) res.2) 0 0 A := by
  refine ck_start (A := A) RX0 (by decide) rfl (Nat.le_of_ble_eq_true rfl) ?_
  intro p e s m args below meth c H locs ls E hr hlocks hK hN hP hS hl
  have hl : lv_has ls 2 [(0, .ref (B 0)), (1, .int x1)] := hl
  unfold c_fails at hF
  refine lv_aload_n E.1 E.2.1 dX0_fails_0 rfl (lv_at hl 0 rfl) ?_
  refine lv_iload_n E.1 E.2.1 dX0_fails_1 rfl (lv_at hl 1 rfl) ?_
  refine ck_put E hD hK hP hS 8 rfl q136 dX0_fails_2 (fun H locs hP hS => ?_)
  refine lv_bipush (v := (-10 : Int32)) E.1 E.2.1 dX0_fails_5 (by decide) ?_
  refine lv_iload_n E.1 E.2.1 dX0_fails_7 rfl (lv_at hl 1 rfl) ?_
  refine lv_isub E.1 E.2.1 dX0_fails_8 ?_
  exact ck_iret E hr hlocks hP hS hF dX0_fails_9
/-! DebtFerry.failsLong(I)J -/
def c_failsLong (x1 : Int32) (z0 : CZ) : Option (Int64 × CZ) :=
  some ((-9223372036854775808 : Int64), (cz_f z0 8 x1))
abbrev rmX0_failsLong : Room := { frames := 1, cells := 0, slots := 0, locals := 12 }
set_option maxHeartbeats 4000000 in
set_option maxRecDepth 100000 in
theorem mm_X0_failsLong (l : Launch) {D : va_G} {K : Nat → ClassId} {s0 : State} {a0 : Array Value} {B : Nat → Nat} {ad : CA} {A : Nat → Prop} (hT : ∀ w ∈ lw_tbl, w.before a0 s0 = true) (hD : ∀ z, va_D A (cW K B ad z)) (x1 : Int32) (z0 : CZ) (res : Int64 × CZ) (hF : c_failsLong x1 z0 = some res) : Met l yX0_failsLong (ws_ yX0_failsLong cX0_failsLong 2 (some .long)) rmX0_failsLong (cPc D K s0 B ad z0 [.ref (B 0), .int x1]) (cQ D K B ad A (some (.long res.1)) res.2) 0 0 A := by
  refine ck_start (A := A) RX0 (by decide) rfl (Nat.le_of_ble_eq_true rfl) ?_
  intro p e s m args below meth c H locs ls E hr hlocks hK hN hP hS hl
  have hl : lv_has ls 2 [(0, .ref (B 0)), (1, .int x1)] := hl
  unfold c_failsLong at hF
  refine lv_aload_n E.1 E.2.1 dX0_failsLong_0 rfl (lv_at hl 0 rfl) ?_
  refine lv_iload_n E.1 E.2.1 dX0_failsLong_1 rfl (lv_at hl 1 rfl) ?_
  refine ck_put E hD hK hP hS 8 rfl q136 dX0_failsLong_2 (fun H locs hP hS => ?_)
  refine lv_ldc2 (v := (-9223372036854775808 : Int64)) E.1 E.2.1 E.2.2.2.1 (E.2.2.2.2 _ q547) dX0_failsLong_5 ?_
  exact ck_lret E hr hlocks hP hS hF dX0_failsLong_8
/-! DebtFerry.keep()V -/
def c_keep  (z0 : CZ) : Option CZ :=
  some (cz_w z0 6 (va_cpy (z0.2.1 3) (z0.2.1 6) 0 0 25))
abbrev rmX0_keep : Room := { frames := 2, cells := 0, slots := 0, locals := 60 }
set_option maxHeartbeats 4000000 in
set_option maxRecDepth 100000 in
theorem mm_X0_keep (l : Launch) {D : va_G} {K : Nat → ClassId} {s0 : State} {a0 : Array Value} {B : Nat → Nat} {ad : CA} {A : Nat → Prop} (hT : ∀ w ∈ lw_tbl, w.before a0 s0 = true) (hD : ∀ z, va_D A (cW K B ad z))  (z0 : CZ) (res : CZ) (hF : c_keep  z0 = some res) : Met l yX0_keep (ws_ yX0_keep cX0_keep 1 none) rmX0_keep (cPc D K s0 B ad z0 [.ref (B 0)]) (cQ D K B ad A none res) 0 0 A := by
  refine ck_start (A := A) RX0 (by decide) rfl (Nat.le_of_ble_eq_true rfl) ?_
  intro p e s m args below meth c H locs ls E hr hlocks hK hN hP hS hl
  have hl : lv_has ls 1 [(0, .ref (B 0))] := hl
  unfold c_keep at hF
  refine lv_aload_n E.1 E.2.1 dX0_keep_0 rfl (lv_at hl 0 rfl) ?_
  refine ck_get E hK hP 3 (by decide) q129 rfl (v := .ref (B 3)) rfl dX0_keep_1 ?_
  refine lv_iconst (v := (0 : Int32)) E.1 E.2.1 dX0_keep_4 (by decide) ?_
  refine lv_aload_n E.1 E.2.1 dX0_keep_5 rfl (lv_at hl 0 rfl) ?_
  refine ck_get E hK hP 6 (by decide) q133 rfl (v := .ref (B 6)) rfl dX0_keep_6 ?_
  refine lv_iconst (v := (0 : Int32)) E.1 E.2.1 dX0_keep_9 (by decide) ?_
  refine lv_aload_n E.1 E.2.1 dX0_keep_10 rfl (lv_at hl 0 rfl) ?_
  refine ck_get E hK hP 6 (by decide) q133 rfl (v := .ref (B 6)) rfl dX0_keep_11 ?_
  refine ck_alen E hK hP (q := 3) (j := 6) (n := 25) (v := (25 : Int32)) rfl rfl dX0_keep_14 ?_
  refine ck_copy E hD hK hP hS (q0 := 1) (q1 := 3) (i := 3) (j := 6) (n := 25) rfl rfl (v := (25 : Int32)) rfl (by decide) q357 hl (by decide) dX0_keep_15 (fun H locs hP hS => ?_)
  exact ck_vret E hr hlocks hP hS hF dX0_keep_18
/-! DebtFerry.putBack()V -/
def c_putBack  (z0 : CZ) : Option CZ :=
  some (cz_w z0 3 (va_cpy (z0.2.1 6) (z0.2.1 3) 0 0 25))
abbrev rmX0_putBack : Room := { frames := 2, cells := 0, slots := 0, locals := 60 }
set_option maxHeartbeats 4000000 in
set_option maxRecDepth 100000 in
theorem mm_X0_putBack (l : Launch) {D : va_G} {K : Nat → ClassId} {s0 : State} {a0 : Array Value} {B : Nat → Nat} {ad : CA} {A : Nat → Prop} (hT : ∀ w ∈ lw_tbl, w.before a0 s0 = true) (hD : ∀ z, va_D A (cW K B ad z))  (z0 : CZ) (res : CZ) (hF : c_putBack  z0 = some res) : Met l yX0_putBack (ws_ yX0_putBack cX0_putBack 1 none) rmX0_putBack (cPc D K s0 B ad z0 [.ref (B 0)]) (cQ D K B ad A none res) 0 0 A := by
  refine ck_start (A := A) RX0 (by decide) rfl (Nat.le_of_ble_eq_true rfl) ?_
  intro p e s m args below meth c H locs ls E hr hlocks hK hN hP hS hl
  have hl : lv_has ls 1 [(0, .ref (B 0))] := hl
  unfold c_putBack at hF
  refine lv_aload_n E.1 E.2.1 dX0_putBack_0 rfl (lv_at hl 0 rfl) ?_
  refine ck_get E hK hP 6 (by decide) q133 rfl (v := .ref (B 6)) rfl dX0_putBack_1 ?_
  refine lv_iconst (v := (0 : Int32)) E.1 E.2.1 dX0_putBack_4 (by decide) ?_
  refine lv_aload_n E.1 E.2.1 dX0_putBack_5 rfl (lv_at hl 0 rfl) ?_
  refine ck_get E hK hP 3 (by decide) q129 rfl (v := .ref (B 3)) rfl dX0_putBack_6 ?_
  refine lv_iconst (v := (0 : Int32)) E.1 E.2.1 dX0_putBack_9 (by decide) ?_
  refine lv_aload_n E.1 E.2.1 dX0_putBack_10 rfl (lv_at hl 0 rfl) ?_
  refine ck_get E hK hP 6 (by decide) q133 rfl (v := .ref (B 6)) rfl dX0_putBack_11 ?_
  refine ck_alen E hK hP (q := 3) (j := 6) (n := 25) (v := (25 : Int32)) rfl rfl dX0_putBack_14 ?_
  refine ck_copy E hD hK hP hS (q0 := 3) (q1 := 1) (i := 6) (j := 3) (n := 25) rfl rfl (v := (25 : Int32)) rfl (by decide) q357 hl (by decide) dX0_putBack_15 (fun H locs hP hS => ?_)
  exact ck_vret E hr hlocks hP hS hF dX0_putBack_18
