/-! DebtFerryModel.within(III)Z -/
def m_within (x0 : Int32) (x1 : Int32) (x2 : Int32) : Option Int32 :=
  if x0 < x1 then zr (0 : Int32) else if x2 < x0 then zr (0 : Int32) else zr (1 : Int32)
abbrev rmX1_within : Room := { frames := 1, cells := 0, slots := 0, locals := 12 }
set_option maxHeartbeats 4000000 in
set_option maxRecDepth 100000 in
theorem mm_X1_within (l : Launch) (x0 : Int32) (x1 : Int32) (x2 : Int32) (res : Int32) (hF : m_within x0 x1 x2 = some res) : Met l yX1_within (ws_ yX1_within cX1_within 3 (some .boolean)) rmX1_within (pPc [.int x0, .int x1, .int x2]) (pQ (.int res)) 0 0 (fun _ => False) := by
  refine px_start RX1 (by decide) rfl (Nat.le_of_ble_eq_true rfl) ?_
  intro p e s m args below meth c ls E hr hlocks hl
  have hl : lv_has ls 3 [(0, .int x0), (1, .int x1), (2, .int x2)] := hl
  unfold m_within at hF
  refine lv_iload_n E.1 E.2.1 dX1_within_0 rfl (lv_at hl 0 rfl) ?_
  refine lv_iload_n E.1 E.2.1 dX1_within_1 rfl (lv_at hl 1 rfl) ?_
  refine lv_icmp_lt (tgt := 14) E.1 E.2.1 dX1_within_2 (by decide) (fun h => ?_) (fun h => ?_)
  · have hF := ite_t h hF
    refine lv_iconst (v := (0 : Int32)) E.1 E.2.1 dX1_within_14 (by decide) ?_
    exact px_zret E hr hlocks rfl hF dX1_within_15
  · have hF := ite_f h hF
    refine lv_iload_n E.1 E.2.1 dX1_within_5 rfl (lv_at hl 0 rfl) ?_
    refine lv_iload_n E.1 E.2.1 dX1_within_6 rfl (lv_at hl 2 rfl) ?_
    refine lv_icmp_gt (tgt := 14) E.1 E.2.1 dX1_within_7 (by decide) (fun h => ?_) (fun h => ?_)
    · have hF := ite_t h hF
      refine lv_iconst (v := (0 : Int32)) E.1 E.2.1 dX1_within_14 (by decide) ?_
      exact px_zret E hr hlocks rfl hF dX1_within_15
    · have hF := ite_f h hF
      refine lv_iconst (v := (1 : Int32)) E.1 E.2.1 dX1_within_10 (by decide) ?_
      refine lv_goto (tgt := 15) E.1 E.2.1 dX1_within_11 (by decide) ?_
      exact px_zret E hr hlocks rfl hF dX1_within_15
/-! DebtFerryModel.isSheet(I)Z -/
def m_isSheet (x0 : Int32) : Option Int32 :=
  (m_within x0 (0 : Int32) (3 : Int32)).bind (fun r3 => zr r3)
abbrev rmX1_isSheet : Room := { frames := 2, cells := 0, slots := 0, locals := 34 }
set_option maxHeartbeats 4000000 in
set_option maxRecDepth 100000 in
theorem mm_X1_isSheet (l : Launch) (x0 : Int32) (res : Int32) (hF : m_isSheet x0 = some res) : Met l yX1_isSheet (ws_ yX1_isSheet cX1_isSheet 1 (some .boolean)) rmX1_isSheet (pPc [.int x0]) (pQ (.int res)) 0 0 (fun _ => False) := by
  refine px_start RX1 (by decide) rfl (Nat.le_of_ble_eq_true rfl) ?_
  intro p e s m args below meth c ls E hr hlocks hl
  have hl : lv_has ls 1 [(0, .int x0)] := hl
  unfold m_isSheet at hF
  refine lv_iload_n E.1 E.2.1 dX1_isSheet_0 rfl (lv_at hl 0 rfl) ?_
  refine lv_iconst (v := (0 : Int32)) E.1 E.2.1 dX1_isSheet_1 (by decide) ?_
  refine lv_iconst (v := (3 : Int32)) E.1 E.2.1 dX1_isSheet_2 (by decide) ?_
  obtain ⟨r3, hq3, hF⟩ := bnd hF
  refine px_call (As := [.int x0, .int (0 : Int32), .int (3 : Int32)]) (rest := []) (v := .int r3) E (mm_X1_within l x0 (0 : Int32) (3 : Int32) _ hq3) (va_cwS 3 E.2.2.2.2 (lw_S q1205 q1206 q58 q1207) rfl rfl rfl (by decide +kernel) ⟨Nat.le_of_ble_eq_true rfl, Nat.le_of_ble_eq_true rfl⟩) hl rfl rfl (Nat.le_of_ble_eq_true rfl) ⟨Nat.zero_le _, Nat.zero_le _⟩ dX1_isSheet_3 ?_
  exact px_zret E hr hlocks rfl hF dX1_isSheet_6
/-! DebtFerryModel.isSort(I)Z -/
def m_isSort (x0 : Int32) : Option Int32 :=
  (m_within x0 (0 : Int32) (2 : Int32)).bind (fun r3 => zr r3)
abbrev rmX1_isSort : Room := { frames := 2, cells := 0, slots := 0, locals := 34 }
set_option maxHeartbeats 4000000 in
set_option maxRecDepth 100000 in
theorem mm_X1_isSort (l : Launch) (x0 : Int32) (res : Int32) (hF : m_isSort x0 = some res) : Met l yX1_isSort (ws_ yX1_isSort cX1_isSort 1 (some .boolean)) rmX1_isSort (pPc [.int x0]) (pQ (.int res)) 0 0 (fun _ => False) := by
  refine px_start RX1 (by decide) rfl (Nat.le_of_ble_eq_true rfl) ?_
  intro p e s m args below meth c ls E hr hlocks hl
  have hl : lv_has ls 1 [(0, .int x0)] := hl
  unfold m_isSort at hF
  refine lv_iload_n E.1 E.2.1 dX1_isSort_0 rfl (lv_at hl 0 rfl) ?_
  refine lv_iconst (v := (0 : Int32)) E.1 E.2.1 dX1_isSort_1 (by decide) ?_
  refine lv_iconst (v := (2 : Int32)) E.1 E.2.1 dX1_isSort_2 (by decide) ?_
  obtain ⟨r3, hq3, hF⟩ := bnd hF
  refine px_call (As := [.int x0, .int (0 : Int32), .int (2 : Int32)]) (rest := []) (v := .int r3) E (mm_X1_within l x0 (0 : Int32) (2 : Int32) _ hq3) (va_cwS 3 E.2.2.2.2 (lw_S q1205 q1206 q58 q1207) rfl rfl rfl (by decide +kernel) ⟨Nat.le_of_ble_eq_true rfl, Nat.le_of_ble_eq_true rfl⟩) hl rfl rfl (Nat.le_of_ble_eq_true rfl) ⟨Nat.zero_le _, Nat.zero_le _⟩ dX1_isSort_3 ?_
  exact px_zret E hr hlocks rfl hF dX1_isSort_6
/-! DebtFerryModel.against(IIII)I -/
def m_against (x1 : Int32) (x2 : Int32) (x3 : Int32) (x4 : Int32) (z0 : MZ) : Option (Int32 × MZ) :=
  gd (inb x1 4) (jn (fun  (z23 : MZ) => gd (inb x1 4) (if (z23.2 2 x1.toNatClampNeg) = (-9 : Int32) then some ((1 : Int32), z23) else if 0 ≤ x4 then if x3 < 0 then some ((3 : Int32), z23) else gd (inb x1 4) (if (z23.2 3 x1.toNatClampNeg) < x3 then some ((3 : Int32), z23) else gd (inb x1 4) (if x4 ≤ ((z23.2 3 x1.toNatClampNeg) - x3) then some ((0 : Int32), z23) else some ((3 : Int32), z23))) else some ((4 : Int32), z23))) (fun (k23 : MZ → Option (Int32 × MZ)) => if (z0.2 2 x1.toNatClampNeg) = (-9 : Int32) then k23  z0 else gd (inb x1 4) (if (z0.2 2 x1.toNatClampNeg) = x2 then k23  z0 else some ((2 : Int32), z0))))
abbrev rmX1_against : Room := { frames := 1, cells := 0, slots := 0, locals := 12 }
set_option maxHeartbeats 4000000 in
set_option maxRecDepth 100000 in
theorem mm_X1_against (l : Launch) {D : va_G} {cl : List vw_C} {ci : Nat} {d : ClassId} {B : Nat → Nat} {A : Nat → Prop} (hcl : cl[ci]? = some (RX1, TX1, 29)) (hB : ∀ z, va_D A (mW ci d B z)) (x1 : Int32) (x2 : Int32) (x3 : Int32) (x4 : Int32) (z0 : MZ) (res : Int32 × MZ) (hF : m_against x1 x2 x3 x4 z0 = some res) : Met l yX1_against (ws_ yX1_against cX1_against 5 (some .int)) rmX1_against (mPc D cl ci d B z0 [.int x1, .int x2, .int x3, .int x4]) (mQ D cl ci d B A (some (.int res.1)) res.2) 0 0 A := by
  refine mk_start (A := A) (by decide) rfl (Nat.le_of_ble_eq_true rfl) ?_
  intro p e s m args below meth c H locs ls E hr hlocks hK hP hS hl
  have hl : lv_has ls 5 [(0, .ref (B 0)), (1, .int x1), (2, .int x2), (3, .int x3), (4, .int x4)] := hl
  unfold m_against at hF
  refine lv_aload_n E.1 E.2.1 dX1_against_0 rfl (lv_at hl 0 rfl) ?_
  refine mk_get E hcl hK hP 2 (by decide) q1112 rfl (v := .ref (B 2)) rfl dX1_against_1 ?_
  refine lv_iload_n E.1 E.2.1 dX1_against_4 rfl (lv_at hl 1 rfl) ?_
  obtain ⟨h5, hF⟩ := gd_some hF
  refine mk_ald E hK hP (q := 1) (j := 2) (n := 4) rfl h5 dX1_against_5 ?_
  refine lv_bipush (v := (-9 : Int32)) E.1 E.2.1 dX1_against_6 (by decide) ?_
  obtain ⟨k23, hk23, hF⟩ := jn_split hF
  have J23 : ∀  (z23 : MZ) (H : Heap) (locs : List Loc) (ls : Array Slot), k23  z23 = some res → va_P D cl (mW ci d B z23) H → va_S A s.heap H locs → lv_has ls 5 [(0, .ref (B 0)), (1, .int x1), (3, .int x3), (4, .int x4)] → W p l e rmX1_against s m args below meth c H locs 0 0 (MQ below (mQ D cl ci d B A (some (.int res.1)) res.2) args s 0 0 A) (F0 m 23 ls []) := by
    intro  z23 H locs ls hF hP hS hl
    rw [hk23] at hF
    refine lv_aload_n E.1 E.2.1 dX1_against_23 rfl (lv_at hl 0 rfl) ?_
    refine mk_get E hcl hK hP 2 (by decide) q1112 rfl (v := .ref (B 2)) rfl dX1_against_24 ?_
    refine lv_iload_n E.1 E.2.1 dX1_against_27 rfl (lv_at hl 1 rfl) ?_
    obtain ⟨h28, hF⟩ := gd_some hF
    refine mk_ald E hK hP (q := 1) (j := 2) (n := 4) rfl h28 dX1_against_28 ?_
    refine lv_bipush (v := (-9 : Int32)) E.1 E.2.1 dX1_against_29 (by decide) ?_
    refine lv_icmp_ne (tgt := 36) E.1 E.2.1 dX1_against_31 (by decide) (fun h => ?_) (fun h => ?_)
    · have hF := ite_f h hF
      refine lv_iload E.1 E.2.1 dX1_against_36 (lv_at hl 3 rfl) ?_
      refine lv_if_ge (tgt := 43) E.1 E.2.1 dX1_against_38 (by decide) (fun h => ?_) (fun h => ?_)
      · have hF := ite_t h hF
        refine lv_iload_n E.1 E.2.1 dX1_against_43 rfl (lv_at hl 2 rfl) ?_
        refine lv_if_lt (tgt := 70) E.1 E.2.1 dX1_against_44 (by decide) (fun h => ?_) (fun h => ?_)
        · have hF := ite_t h hF
          refine lv_iconst (v := (3 : Int32)) E.1 E.2.1 dX1_against_70 (by decide) ?_
          refine lv_goto (tgt := 75) E.1 E.2.1 dX1_against_71 (by decide) ?_
          exact mk_iret E hr hlocks hP hS hF dX1_against_75
        · have hF := ite_f h hF
          refine lv_iload_n E.1 E.2.1 dX1_against_47 rfl (lv_at hl 2 rfl) ?_
          refine lv_aload_n E.1 E.2.1 dX1_against_48 rfl (lv_at hl 0 rfl) ?_
          refine mk_get E hcl hK hP 3 (by decide) q1113 rfl (v := .ref (B 3)) rfl dX1_against_49 ?_
          refine lv_iload_n E.1 E.2.1 dX1_against_52 rfl (lv_at hl 1 rfl) ?_
          obtain ⟨h53, hF⟩ := gd_some hF
          refine mk_ald E hK hP (q := 2) (j := 3) (n := 4) rfl h53 dX1_against_53 ?_
          refine lv_icmp_gt (tgt := 70) E.1 E.2.1 dX1_against_54 (by decide) (fun h => ?_) (fun h => ?_)
          · have hF := ite_t h hF
            refine lv_iconst (v := (3 : Int32)) E.1 E.2.1 dX1_against_70 (by decide) ?_
            refine lv_goto (tgt := 75) E.1 E.2.1 dX1_against_71 (by decide) ?_
            exact mk_iret E hr hlocks hP hS hF dX1_against_75
          · have hF := ite_f h hF
            refine lv_iload E.1 E.2.1 dX1_against_57 (lv_at hl 3 rfl) ?_
            refine lv_aload_n E.1 E.2.1 dX1_against_59 rfl (lv_at hl 0 rfl) ?_
            refine mk_get E hcl hK hP 3 (by decide) q1113 rfl (v := .ref (B 3)) rfl dX1_against_60 ?_
            refine lv_iload_n E.1 E.2.1 dX1_against_63 rfl (lv_at hl 1 rfl) ?_
            obtain ⟨h64, hF⟩ := gd_some hF
            refine mk_ald E hK hP (q := 2) (j := 3) (n := 4) rfl h64 dX1_against_64 ?_
            refine lv_iload_n E.1 E.2.1 dX1_against_65 rfl (lv_at hl 2 rfl) ?_
            refine lv_isub E.1 E.2.1 dX1_against_66 ?_
            refine lv_icmp_le (tgt := 74) E.1 E.2.1 dX1_against_67 (by decide) (fun h => ?_) (fun h => ?_)
            · have hF := ite_t h hF
              refine lv_iconst (v := (0 : Int32)) E.1 E.2.1 dX1_against_74 (by decide) ?_
              exact mk_iret E hr hlocks hP hS hF dX1_against_75
            · have hF := ite_f h hF
              refine lv_iconst (v := (3 : Int32)) E.1 E.2.1 dX1_against_70 (by decide) ?_
              refine lv_goto (tgt := 75) E.1 E.2.1 dX1_against_71 (by decide) ?_
              exact mk_iret E hr hlocks hP hS hF dX1_against_75
      · have hF := ite_f h hF
        refine lv_iconst (v := (4 : Int32)) E.1 E.2.1 dX1_against_41 (by decide) ?_
        exact mk_iret E hr hlocks hP hS hF dX1_against_42
    · have hF := ite_t h hF
      refine lv_iconst (v := (1 : Int32)) E.1 E.2.1 dX1_against_34 (by decide) ?_
      exact mk_iret E hr hlocks hP hS hF dX1_against_35
  refine lv_icmp_eq (tgt := 23) E.1 E.2.1 dX1_against_8 (by decide) (fun h => ?_) (fun h => ?_)
  · have hF := ite_t h hF
    exact J23  z0 H locs ls hF hP hS (lv_sub hl [0, 1, 3, 4] rfl)
  · have hF := ite_f h hF
    refine lv_aload_n E.1 E.2.1 dX1_against_11 rfl (lv_at hl 0 rfl) ?_
    refine mk_get E hcl hK hP 2 (by decide) q1112 rfl (v := .ref (B 2)) rfl dX1_against_12 ?_
    refine lv_iload_n E.1 E.2.1 dX1_against_15 rfl (lv_at hl 1 rfl) ?_
    obtain ⟨h16, hF⟩ := gd_some hF
    refine mk_ald E hK hP (q := 1) (j := 2) (n := 4) rfl h16 dX1_against_16 ?_
    refine lv_iload_n E.1 E.2.1 dX1_against_17 rfl (lv_at hl 2 rfl) ?_
    refine lv_icmp_eq (tgt := 23) E.1 E.2.1 dX1_against_18 (by decide) (fun h => ?_) (fun h => ?_)
    · have hF := ite_t h hF
      exact J23  z0 H locs ls hF hP hS (lv_sub hl [0, 1, 3, 4] rfl)
    · have hF := ite_f h hF
      refine lv_iconst (v := (2 : Int32)) E.1 E.2.1 dX1_against_21 (by decide) ?_
      exact mk_iret E hr hlocks hP hS hF dX1_against_22
/-! DebtFerryModel.fails(I)I -/
def m_fails (x1 : Int32) (z0 : MZ) : Option (Int32 × MZ) :=
  some (((-10 : Int32) - x1), (mz_f z0 0 x1))
abbrev rmX1_fails : Room := { frames := 1, cells := 0, slots := 0, locals := 12 }
set_option maxHeartbeats 4000000 in
set_option maxRecDepth 100000 in
theorem mm_X1_fails (l : Launch) {D : va_G} {cl : List vw_C} {ci : Nat} {d : ClassId} {B : Nat → Nat} {A : Nat → Prop} (hcl : cl[ci]? = some (RX1, TX1, 29)) (hB : ∀ z, va_D A (mW ci d B z)) (x1 : Int32) (z0 : MZ) (res : Int32 × MZ) (hF : m_fails x1 z0 = some res) : Met l yX1_fails (ws_ yX1_fails cX1_fails 2 (some .int)) rmX1_fails (mPc D cl ci d B z0 [.int x1]) (mQ D cl ci d B A (some (.int res.1)) res.2) 0 0 A := by
  refine mk_start (A := A) (by decide) rfl (Nat.le_of_ble_eq_true rfl) ?_
  intro p e s m args below meth c H locs ls E hr hlocks hK hP hS hl
  have hl : lv_has ls 2 [(0, .ref (B 0)), (1, .int x1)] := hl
  unfold m_fails at hF
  refine lv_aload_n E.1 E.2.1 dX1_fails_0 rfl (lv_at hl 0 rfl) ?_
  refine lv_iload_n E.1 E.2.1 dX1_fails_1 rfl (lv_at hl 1 rfl) ?_
  refine mk_put E hcl hB hK hP hS 0 rfl q1110 rfl dX1_fails_2 (fun H locs hP hS => ?_)
  refine lv_bipush (v := (-10 : Int32)) E.1 E.2.1 dX1_fails_5 (by decide) ?_
  refine lv_iload_n E.1 E.2.1 dX1_fails_7 rfl (lv_at hl 1 rfl) ?_
  refine lv_isub E.1 E.2.1 dX1_fails_8 ?_
  exact mk_iret E hr hlocks hP hS hF dX1_fails_9
/-! DebtFerryModel.isSign(II)Z -/
def m_isSign (x1 : Int32) (x2 : Int32) (z0 : MZ) : Option (Int32 × MZ) :=
  if x1 ≤ (z0.1 11) then (zr (0 : Int32)).bind (fun r => some (r, z0)) else gd (inb (z0.1 11) 240) (if (z0.2 4 (z0.1 11).toNatClampNeg) = x2 then (zr (1 : Int32)).bind (fun r => some (r, (mz_f z0 11 ((z0.1 11) + (1 : Int32))))) else (zr (0 : Int32)).bind (fun r => some (r, z0)))
abbrev rmX1_isSign : Room := { frames := 1, cells := 0, slots := 0, locals := 12 }
set_option maxHeartbeats 4000000 in
set_option maxRecDepth 100000 in
theorem mm_X1_isSign (l : Launch) {D : va_G} {cl : List vw_C} {ci : Nat} {d : ClassId} {B : Nat → Nat} {A : Nat → Prop} (hcl : cl[ci]? = some (RX1, TX1, 29)) (hB : ∀ z, va_D A (mW ci d B z)) (x1 : Int32) (x2 : Int32) (z0 : MZ) (res : Int32 × MZ) (hF : m_isSign x1 x2 z0 = some res) : Met l yX1_isSign (ws_ yX1_isSign cX1_isSign 3 (some .boolean)) rmX1_isSign (mPc D cl ci d B z0 [.int x1, .int x2]) (mQ D cl ci d B A (some (.int res.1)) res.2) 0 0 A := by
  refine mk_start (A := A) (by decide) rfl (Nat.le_of_ble_eq_true rfl) ?_
  intro p e s m args below meth c H locs ls E hr hlocks hK hP hS hl
  have hl : lv_has ls 3 [(0, .ref (B 0)), (1, .int x1), (2, .int x2)] := hl
  unfold m_isSign at hF
  refine lv_aload_n E.1 E.2.1 dX1_isSign_0 rfl (lv_at hl 0 rfl) ?_
  refine mk_get E hcl hK hP 11 (by decide) q1121 rfl (v := .int (z0.1 11)) rfl dX1_isSign_1 ?_
  refine lv_iload_n E.1 E.2.1 dX1_isSign_4 rfl (lv_at hl 1 rfl) ?_
  refine lv_icmp_ge (tgt := 21) E.1 E.2.1 dX1_isSign_5 (by decide) (fun h => ?_) (fun h => ?_)
  · have hF := ite_t h hF
    refine lv_iconst (v := (0 : Int32)) E.1 E.2.1 dX1_isSign_21 (by decide) ?_
    exact mk_zret E hr hlocks hP hS hF dX1_isSign_22
  · have hF := ite_f h hF
    refine lv_aload_n E.1 E.2.1 dX1_isSign_8 rfl (lv_at hl 0 rfl) ?_
    refine mk_get E hcl hK hP 4 (by decide) q1114 rfl (v := .ref (B 4)) rfl dX1_isSign_9 ?_
    refine lv_aload_n E.1 E.2.1 dX1_isSign_12 rfl (lv_at hl 0 rfl) ?_
    refine mk_get E hcl hK hP 11 (by decide) q1121 rfl (v := .int (z0.1 11)) rfl dX1_isSign_13 ?_
    obtain ⟨h16, hF⟩ := gd_some hF
    refine mk_ald E hK hP (q := 3) (j := 4) (n := 240) rfl h16 dX1_isSign_16 ?_
    refine lv_iload_n E.1 E.2.1 dX1_isSign_17 rfl (lv_at hl 2 rfl) ?_
    refine lv_icmp_eq (tgt := 23) E.1 E.2.1 dX1_isSign_18 (by decide) (fun h => ?_) (fun h => ?_)
    · have hF := ite_t h hF
      refine lv_aload_n E.1 E.2.1 dX1_isSign_23 rfl (lv_at hl 0 rfl) ?_
      refine lv_dup E.1 E.2.1 dX1_isSign_24 rfl ?_
      refine mk_get E hcl hK hP 11 (by decide) q1121 rfl (v := .int (z0.1 11)) rfl dX1_isSign_25 ?_
      refine lv_iconst (v := (1 : Int32)) E.1 E.2.1 dX1_isSign_28 (by decide) ?_
      refine lv_iadd E.1 E.2.1 dX1_isSign_29 ?_
      refine mk_put E hcl hB hK hP hS 11 rfl q1121 rfl dX1_isSign_30 (fun H locs hP hS => ?_)
      refine lv_iconst (v := (1 : Int32)) E.1 E.2.1 dX1_isSign_33 (by decide) ?_
      exact mk_zret E hr hlocks hP hS hF dX1_isSign_34
    · have hF := ite_f h hF
      refine lv_iconst (v := (0 : Int32)) E.1 E.2.1 dX1_isSign_21 (by decide) ?_
      exact mk_zret E hr hlocks hP hS hF dX1_isSign_22
/-! DebtFerryModel.digit(III)I -/
def m_digit (x1 : Int32) (x2 : Int32) (x3 : Int32) (z0 : MZ) : Option (Int32 × MZ) :=
  if x1 ≤ (z0.1 11) then some ((-9 : Int32), z0) else gd (inb (z0.1 11) 240) ((m_within (z0.2 4 (z0.1 11).toNatClampNeg) ((48 : Int32) + x2) ((48 : Int32) + x3)).bind (fun r25 => if r25 = 0 then some ((-9 : Int32), z0) else gd (inb (((mz_f z0 11 ((z0.1 11) + (1 : Int32))).1 11) - (1 : Int32)) 240) (some ((((mz_f z0 11 ((z0.1 11) + (1 : Int32))).2 4 (((mz_f z0 11 ((z0.1 11) + (1 : Int32))).1 11) - (1 : Int32)).toNatClampNeg) - (48 : Int32)), (mz_f z0 11 ((z0.1 11) + (1 : Int32)))))))
abbrev rmX1_digit : Room := { frames := 2, cells := 0, slots := 0, locals := 34 }
set_option maxHeartbeats 4000000 in
set_option maxRecDepth 100000 in
theorem mm_X1_digit (l : Launch) {D : va_G} {cl : List vw_C} {ci : Nat} {d : ClassId} {B : Nat → Nat} {A : Nat → Prop} (hcl : cl[ci]? = some (RX1, TX1, 29)) (hB : ∀ z, va_D A (mW ci d B z)) (x1 : Int32) (x2 : Int32) (x3 : Int32) (z0 : MZ) (res : Int32 × MZ) (hF : m_digit x1 x2 x3 z0 = some res) : Met l yX1_digit (ws_ yX1_digit cX1_digit 4 (some .int)) rmX1_digit (mPc D cl ci d B z0 [.int x1, .int x2, .int x3]) (mQ D cl ci d B A (some (.int res.1)) res.2) 0 0 A := by
  refine mk_start (A := A) (by decide) rfl (Nat.le_of_ble_eq_true rfl) ?_
  intro p e s m args below meth c H locs ls E hr hlocks hK hP hS hl
  have hl : lv_has ls 4 [(0, .ref (B 0)), (1, .int x1), (2, .int x2), (3, .int x3)] := hl
  unfold m_digit at hF
  refine lv_aload_n E.1 E.2.1 dX1_digit_0 rfl (lv_at hl 0 rfl) ?_
  refine mk_get E hcl hK hP 11 (by decide) q1121 rfl (v := .int (z0.1 11)) rfl dX1_digit_1 ?_
  refine lv_iload_n E.1 E.2.1 dX1_digit_4 rfl (lv_at hl 1 rfl) ?_
  refine lv_icmp_ge (tgt := 31) E.1 E.2.1 dX1_digit_5 (by decide) (fun h => ?_) (fun h => ?_)
  · have hF := ite_t h hF
    refine lv_bipush (v := (-9 : Int32)) E.1 E.2.1 dX1_digit_31 (by decide) ?_
    exact mk_iret E hr hlocks hP hS hF dX1_digit_33
  · have hF := ite_f h hF
    refine lv_aload_n E.1 E.2.1 dX1_digit_8 rfl (lv_at hl 0 rfl) ?_
    refine mk_get E hcl hK hP 4 (by decide) q1114 rfl (v := .ref (B 4)) rfl dX1_digit_9 ?_
    refine lv_aload_n E.1 E.2.1 dX1_digit_12 rfl (lv_at hl 0 rfl) ?_
    refine mk_get E hcl hK hP 11 (by decide) q1121 rfl (v := .int (z0.1 11)) rfl dX1_digit_13 ?_
    obtain ⟨h16, hF⟩ := gd_some hF
    refine mk_ald E hK hP (q := 3) (j := 4) (n := 240) rfl h16 dX1_digit_16 ?_
    refine lv_bipush (v := (48 : Int32)) E.1 E.2.1 dX1_digit_17 (by decide) ?_
    refine lv_iload_n E.1 E.2.1 dX1_digit_19 rfl (lv_at hl 2 rfl) ?_
    refine lv_iadd E.1 E.2.1 dX1_digit_20 ?_
    refine lv_bipush (v := (48 : Int32)) E.1 E.2.1 dX1_digit_21 (by decide) ?_
    refine lv_iload_n E.1 E.2.1 dX1_digit_23 rfl (lv_at hl 3 rfl) ?_
    refine lv_iadd E.1 E.2.1 dX1_digit_24 ?_
    obtain ⟨r25, hq25, hF⟩ := bnd hF
    refine px_call (As := [.int (z0.2 4 (z0.1 11).toNatClampNeg), .int ((48 : Int32) + x2), .int ((48 : Int32) + x3)]) (rest := []) (v := .int r25) E (mm_X1_within l (z0.2 4 (z0.1 11).toNatClampNeg) ((48 : Int32) + x2) ((48 : Int32) + x3) _ hq25) (va_cwS 3 E.2.2.2.2 (lw_S q1205 q1206 q58 q1207) rfl rfl rfl (by decide +kernel) ⟨Nat.le_of_ble_eq_true rfl, Nat.le_of_ble_eq_true rfl⟩) hl rfl rfl (Nat.le_of_ble_eq_true rfl) ⟨Nat.zero_le _, Nat.zero_le _⟩ dX1_digit_25 ?_
    refine lv_if_ne (tgt := 34) E.1 E.2.1 dX1_digit_28 (by decide) (fun h => ?_) (fun h => ?_)
    · have hF := ite_f h hF
      refine lv_aload_n E.1 E.2.1 dX1_digit_34 rfl (lv_at hl 0 rfl) ?_
      refine lv_dup E.1 E.2.1 dX1_digit_35 rfl ?_
      refine mk_get E hcl hK hP 11 (by decide) q1121 rfl (v := .int (z0.1 11)) rfl dX1_digit_36 ?_
      refine lv_iconst (v := (1 : Int32)) E.1 E.2.1 dX1_digit_39 (by decide) ?_
      refine lv_iadd E.1 E.2.1 dX1_digit_40 ?_
      refine mk_put E hcl hB hK hP hS 11 rfl q1121 rfl dX1_digit_41 (fun H locs hP hS => ?_)
      refine lv_aload_n E.1 E.2.1 dX1_digit_44 rfl (lv_at hl 0 rfl) ?_
      refine mk_get E hcl hK hP 4 (by decide) q1114 rfl (v := .ref (B 4)) rfl dX1_digit_45 ?_
      refine lv_aload_n E.1 E.2.1 dX1_digit_48 rfl (lv_at hl 0 rfl) ?_
      refine mk_get E hcl hK hP 11 (by decide) q1121 rfl (v := .int ((mz_f z0 11 ((z0.1 11) + (1 : Int32))).1 11)) rfl dX1_digit_49 ?_
      refine lv_iconst (v := (1 : Int32)) E.1 E.2.1 dX1_digit_52 (by decide) ?_
      refine lv_isub E.1 E.2.1 dX1_digit_53 ?_
      obtain ⟨h54, hF⟩ := gd_some hF
      refine mk_ald E hK hP (q := 3) (j := 4) (n := 240) rfl h54 dX1_digit_54 ?_
      refine lv_bipush (v := (48 : Int32)) E.1 E.2.1 dX1_digit_55 (by decide) ?_
      refine lv_isub E.1 E.2.1 dX1_digit_57 ?_
      exact mk_iret E hr hlocks hP hS hF dX1_digit_58
    · have hF := ite_t h hF
      refine lv_bipush (v := (-9 : Int32)) E.1 E.2.1 dX1_digit_31 (by decide) ?_
      exact mk_iret E hr hlocks hP hS hF dX1_digit_33
/-! DebtFerryModel.readPerson(II)Z -/
def m_readPerson_L112 (x1 : Int32) (x2 : Int32) : Nat → Int32 → MZ → Option (Int32 × MZ)
  | 0, _, _ => none
  | n + 1, y112_4, z112 =>
    if (z112.1 14) ≤ y112_4 then (zr (1 : Int32)).bind (fun r => some (r, z112)) else jn (fun (v146_0 : Int32) (z146 : MZ) => (m_digit x1 (0 : Int32) v146_0 z146).bind (fun r146 => gd (inb (((5 : Int32) * x2) + y112_4) 25) (gd (inb (((5 : Int32) * x2) + y112_4) 25) (if ((mz_a r146.2 17 (((5 : Int32) * x2) + y112_4).toNatClampNeg r146.1).2 17 (((5 : Int32) * x2) + y112_4).toNatClampNeg) = (-9 : Int32) then (zr (0 : Int32)).bind (fun r => some (r, (mz_a r146.2 17 (((5 : Int32) * x2) + y112_4).toNatClampNeg r146.1))) else m_readPerson_L112 x1 x2 n (y112_4 + 1) (mz_a r146.2 17 (((5 : Int32) * x2) + y112_4).toNatClampNeg r146.1))))) (fun (k146 : Int32 → MZ → Option (Int32 × MZ)) => if y112_4 = x2 then k146 (0 : Int32) z112 else k146 (9 : Int32) z112)
def m_readPerson (x1 : Int32) (x2 : Int32) (z0 : MZ) : Option (Int32 × MZ) :=
  jn (fun (v21_0 : Int32) (z21 : MZ) => jn (fun (v59_0 : Int32) (z59 : MZ) => gd (inb x2 5) (gd (inb x2 5) (if ((mz_a z59 15 x2.toNatClampNeg v59_0).2 15 x2.toNatClampNeg) = (-9 : Int32) then (zr (0 : Int32)).bind (fun r => some (r, (mz_a z59 15 x2.toNatClampNeg v59_0))) else (m_digit x1 (0 : Int32) (1 : Int32) (mz_f (mz_a z59 15 x2.toNatClampNeg v59_0) 11 (((mz_a z59 15 x2.toNatClampNeg v59_0).1 11) + (1 : Int32)))).bind (fun r92 => gd (inb x2 5) (gd (inb x2 5) (if ((mz_a r92.2 16 x2.toNatClampNeg r92.1).2 16 x2.toNatClampNeg) = (-9 : Int32) then (zr (0 : Int32)).bind (fun r => some (r, (mz_a r92.2 16 x2.toNatClampNeg r92.1))) else m_readPerson_L112 x1 x2 FU (0 : Int32) (mz_a r92.2 16 x2.toNatClampNeg r92.1))))))) (fun (k59 : Int32 → MZ → Option (Int32 × MZ)) => if v21_0 = (114 : Int32) then k59 (0 : Int32) z21 else if v21_0 = (102 : Int32) then k59 (1 : Int32) z21 else if v21_0 = (98 : Int32) then k59 (2 : Int32) z21 else k59 (-9 : Int32) z21)) (fun (k21 : Int32 → MZ → Option (Int32 × MZ)) => if x1 ≤ (z0.1 11) then k21 (0 : Int32) z0 else gd (inb (z0.1 11) 240) (k21 (z0.2 4 (z0.1 11).toNatClampNeg) z0))
abbrev rmX1_readPerson : Room := { frames := 3, cells := 0, slots := 0, locals := 57 }
set_option maxHeartbeats 4000000 in
set_option maxRecDepth 100000 in
theorem mm_X1_readPerson (l : Launch) {D : va_G} {cl : List vw_C} {ci : Nat} {d : ClassId} {B : Nat → Nat} {A : Nat → Prop} (hcl : cl[ci]? = some (RX1, TX1, 29)) (hB : ∀ z, va_D A (mW ci d B z)) (x1 : Int32) (x2 : Int32) (z0 : MZ) (res : Int32 × MZ) (hF : m_readPerson x1 x2 z0 = some res) : Met l yX1_readPerson (ws_ yX1_readPerson cX1_readPerson 5 (some .boolean)) rmX1_readPerson (mPc D cl ci d B z0 [.int x1, .int x2]) (mQ D cl ci d B A (some (.int res.1)) res.2) 0 0 A := by
  refine mk_start (A := A) (by decide) rfl (Nat.le_of_ble_eq_true rfl) ?_
  intro p e s m args below meth c H locs ls E hr hlocks hK hP hS hl
  have hl : lv_has ls 5 [(0, .ref (B 0)), (1, .int x1), (2, .int x2)] := hl
  unfold m_readPerson at hF
  refine lv_aload_n E.1 E.2.1 dX1_readPerson_0 rfl (lv_at hl 0 rfl) ?_
  refine mk_get E hcl hK hP 11 (by decide) q1121 rfl (v := .int (z0.1 11)) rfl dX1_readPerson_1 ?_
  refine lv_iload_n E.1 E.2.1 dX1_readPerson_4 rfl (lv_at hl 1 rfl) ?_
  obtain ⟨k21, hk21, hF⟩ := jn_split hF
  have J21 : ∀ (v21_0 : Int32) (z21 : MZ) (H : Heap) (locs : List Loc) (ls : Array Slot), k21 v21_0 z21 = some res → va_P D cl (mW ci d B z21) H → va_S A s.heap H locs → lv_has ls 5 [(0, .ref (B 0)), (1, .int x1), (2, .int x2)] → W p l e rmX1_readPerson s m args below meth c H locs 0 0 (MQ below (mQ D cl ci d B A (some (.int res.1)) res.2) args s 0 0 A) (F0 m 21 ls [.int v21_0]) := by
    intro v21_0 z21 H locs ls hF hP hS hl
    rw [hk21] at hF
    refine lv_istore_n (lv' := [(3, .int v21_0), (0, .ref (B 0)), (1, .int x1), (2, .int x2)]) E.1 E.2.1 dX1_readPerson_21 rfl hl (by decide) rfl (fun ls hl => ?_)
    refine lv_aload_n E.1 E.2.1 dX1_readPerson_22 rfl (lv_at hl 1 rfl) ?_
    refine mk_get E hcl hK hP 15 (by decide) q1125 rfl (v := .ref (B 15)) rfl dX1_readPerson_23 ?_
    refine lv_iload_n E.1 E.2.1 dX1_readPerson_26 rfl (lv_at hl 3 rfl) ?_
    refine lv_iload_n E.1 E.2.1 dX1_readPerson_27 rfl (lv_at hl 0 rfl) ?_
    refine lv_bipush (v := (114 : Int32)) E.1 E.2.1 dX1_readPerson_28 (by decide) ?_
    obtain ⟨k59, hk59, hF⟩ := jn_split hF
    have J59 : ∀ (v59_0 : Int32) (z59 : MZ) (H : Heap) (locs : List Loc) (ls : Array Slot), k59 v59_0 z59 = some res → va_P D cl (mW ci d B z59) H → va_S A s.heap H locs → lv_has ls 5 [(0, .ref (B 0)), (1, .int x1), (2, .int x2)] → W p l e rmX1_readPerson s m args below meth c H locs 0 0 (MQ below (mQ D cl ci d B A (some (.int res.1)) res.2) args s 0 0 A) (F0 m 59 ls [.int v59_0, .int x2, .ref (B 15)]) := by
      intro v59_0 z59 H locs ls hF hP hS hl
      rw [hk59] at hF
      obtain ⟨h59, hF⟩ := gd_some hF
      refine mk_ast E hB hK hP hS (q := 7) (j := 15) (n := 5) rfl h59 dX1_readPerson_59 (fun H locs hP hS => ?_)
      refine lv_aload_n E.1 E.2.1 dX1_readPerson_60 rfl (lv_at hl 0 rfl) ?_
      refine mk_get E hcl hK hP 15 (by decide) q1125 rfl (v := .ref (B 15)) rfl dX1_readPerson_61 ?_
      refine lv_iload_n E.1 E.2.1 dX1_readPerson_64 rfl (lv_at hl 2 rfl) ?_
      obtain ⟨h65, hF⟩ := gd_some hF
      refine mk_ald E hK hP (q := 7) (j := 15) (n := 5) rfl h65 dX1_readPerson_65 ?_
      refine lv_bipush (v := (-9 : Int32)) E.1 E.2.1 dX1_readPerson_66 (by decide) ?_
      refine lv_icmp_ne (tgt := 73) E.1 E.2.1 dX1_readPerson_68 (by decide) (fun h => ?_) (fun h => ?_)
      · have hF := ite_f h hF
        refine lv_aload_n E.1 E.2.1 dX1_readPerson_73 rfl (lv_at hl 0 rfl) ?_
        refine lv_dup E.1 E.2.1 dX1_readPerson_74 rfl ?_
        refine mk_get E hcl hK hP 11 (by decide) q1121 rfl (v := .int ((mz_a z59 15 x2.toNatClampNeg v59_0).1 11)) rfl dX1_readPerson_75 ?_
        refine lv_iconst (v := (1 : Int32)) E.1 E.2.1 dX1_readPerson_78 (by decide) ?_
        refine lv_iadd E.1 E.2.1 dX1_readPerson_79 ?_
        refine mk_put E hcl hB hK hP hS 11 rfl q1121 rfl dX1_readPerson_80 (fun H locs hP hS => ?_)
        refine lv_aload_n E.1 E.2.1 dX1_readPerson_83 rfl (lv_at hl 0 rfl) ?_
        refine mk_get E hcl hK hP 16 (by decide) q1126 rfl (v := .ref (B 16)) rfl dX1_readPerson_84 ?_
        refine lv_iload_n E.1 E.2.1 dX1_readPerson_87 rfl (lv_at hl 2 rfl) ?_
        refine lv_aload_n E.1 E.2.1 dX1_readPerson_88 rfl (lv_at hl 0 rfl) ?_
        refine lv_iload_n E.1 E.2.1 dX1_readPerson_89 rfl (lv_at hl 1 rfl) ?_
        refine lv_iconst (v := (0 : Int32)) E.1 E.2.1 dX1_readPerson_90 (by decide) ?_
        refine lv_iconst (v := (1 : Int32)) E.1 E.2.1 dX1_readPerson_91 (by decide) ?_
        obtain ⟨r92, hq92, hF⟩ := bnd hF
        refine mk_call (As := [.int x1, .int (0 : Int32), .int (1 : Int32)]) (rest := [.int x2, .ref (B 16)]) (v := (some (.int r92.1))) E hcl hK hP hS (mm_X1_digit l hcl hB x1 (0 : Int32) (1 : Int32) (mz_f (mz_a z59 15 x2.toNatClampNeg v59_0) 11 (((mz_a z59 15 x2.toNatClampNeg v59_0).1 11) + (1 : Int32))) _ hq92) (cwV 3 E.2.2.2.2 (lw_V q1227 q1229 qs35 q58 q1230) rfl rfl rfl (by decide +kernel) ⟨Nat.le_of_ble_eq_true rfl, Nat.le_of_ble_eq_true rfl⟩) hl rfl rfl (Nat.le_of_ble_eq_true rfl) ⟨Nat.zero_le _, Nat.zero_le _⟩ dX1_readPerson_92 (fun H locs hP hS => ?_)
        obtain ⟨h95, hF⟩ := gd_some hF
        refine mk_ast E hB hK hP hS (q := 8) (j := 16) (n := 5) rfl h95 dX1_readPerson_95 (fun H locs hP hS => ?_)
        refine lv_aload_n E.1 E.2.1 dX1_readPerson_96 rfl (lv_at hl 0 rfl) ?_
        refine mk_get E hcl hK hP 16 (by decide) q1126 rfl (v := .ref (B 16)) rfl dX1_readPerson_97 ?_
        refine lv_iload_n E.1 E.2.1 dX1_readPerson_100 rfl (lv_at hl 2 rfl) ?_
        obtain ⟨h101, hF⟩ := gd_some hF
        refine mk_ald E hK hP (q := 8) (j := 16) (n := 5) rfl h101 dX1_readPerson_101 ?_
        refine lv_bipush (v := (-9 : Int32)) E.1 E.2.1 dX1_readPerson_102 (by decide) ?_
        refine lv_icmp_ne (tgt := 109) E.1 E.2.1 dX1_readPerson_104 (by decide) (fun h => ?_) (fun h => ?_)
        · have hF := ite_f h hF
          refine lv_iconst (v := (0 : Int32)) E.1 E.2.1 dX1_readPerson_109 (by decide) ?_
          refine lv_istore (lv' := [(4, .int (0 : Int32)), (0, .ref (B 0)), (1, .int x1), (2, .int x2)]) E.1 E.2.1 dX1_readPerson_110 hl (by decide) rfl (fun ls hl => ?_)
          have L112 : ∀ (n : Nat) (y112_4 : Int32) (z112 : MZ) (H : Heap) (locs : List Loc) (ls : Array Slot), m_readPerson_L112 x1 x2 n y112_4 z112 = some res → va_P D cl (mW ci d B z112) H → va_S A s.heap H locs → lv_has ls 5 [(0, .ref (B 0)), (1, .int x1), (2, .int x2), (4, .int y112_4)] → W p l e rmX1_readPerson s m args below meth c H locs 0 0 (MQ below (mQ D cl ci d B A (some (.int res.1)) res.2) args s 0 0 A) (F0 m 112 ls []) := by
            intro n
            induction n with
            | zero =>
              intro y112_4 z112 H locs ls hF
              rw [m_readPerson_L112] at hF
              cases hF
            | succ n ih =>
              intro y112_4 z112 H locs ls hF hP hS hl
              rw [m_readPerson_L112] at hF
              refine lv_iload E.1 E.2.1 dX1_readPerson_112 (lv_at hl 3 rfl) ?_
              refine lv_aload_n E.1 E.2.1 dX1_readPerson_114 rfl (lv_at hl 0 rfl) ?_
              refine mk_get E hcl hK hP 14 (by decide) q1124 rfl (v := .int (z112.1 14)) rfl dX1_readPerson_115 ?_
              refine lv_icmp_ge (tgt := 174) E.1 E.2.1 dX1_readPerson_118 (by decide) (fun h => ?_) (fun h => ?_)
              · have hF := ite_t h hF
                refine lv_iconst (v := (1 : Int32)) E.1 E.2.1 dX1_readPerson_174 (by decide) ?_
                exact mk_zret E hr hlocks hP hS hF dX1_readPerson_175
              · have hF := ite_f h hF
                refine lv_aload_n E.1 E.2.1 dX1_readPerson_121 rfl (lv_at hl 0 rfl) ?_
                refine mk_get E hcl hK hP 17 (by decide) q1127 rfl (v := .ref (B 17)) rfl dX1_readPerson_122 ?_
                refine lv_iconst (v := (5 : Int32)) E.1 E.2.1 dX1_readPerson_125 (by decide) ?_
                refine lv_iload_n E.1 E.2.1 dX1_readPerson_126 rfl (lv_at hl 2 rfl) ?_
                refine lv_imul E.1 E.2.1 dX1_readPerson_127 ?_
                refine lv_iload E.1 E.2.1 dX1_readPerson_128 (lv_at hl 3 rfl) ?_
                refine lv_iadd E.1 E.2.1 dX1_readPerson_130 ?_
                refine lv_aload_n E.1 E.2.1 dX1_readPerson_131 rfl (lv_at hl 0 rfl) ?_
                refine lv_iload_n E.1 E.2.1 dX1_readPerson_132 rfl (lv_at hl 1 rfl) ?_
                refine lv_iconst (v := (0 : Int32)) E.1 E.2.1 dX1_readPerson_133 (by decide) ?_
                refine lv_iload E.1 E.2.1 dX1_readPerson_134 (lv_at hl 3 rfl) ?_
                refine lv_iload_n E.1 E.2.1 dX1_readPerson_136 rfl (lv_at hl 2 rfl) ?_
                obtain ⟨k146, hk146, hF⟩ := jn_split hF
                have J146 : ∀ (v146_0 : Int32) (z146 : MZ) (H : Heap) (locs : List Loc) (ls : Array Slot), k146 v146_0 z146 = some res → va_P D cl (mW ci d B z146) H → va_S A s.heap H locs → lv_has ls 5 [(0, .ref (B 0)), (1, .int x1), (2, .int x2), (4, .int y112_4)] → W p l e rmX1_readPerson s m args below meth c H locs 0 0 (MQ below (mQ D cl ci d B A (some (.int res.1)) res.2) args s 0 0 A) (F0 m 146 ls [.int v146_0, .int (0 : Int32), .int x1, .ref (B 0), .int (((5 : Int32) * x2) + y112_4), .ref (B 17)]) := by
                  intro v146_0 z146 H locs ls hF hP hS hl
                  rw [hk146] at hF
                  obtain ⟨r146, hq146, hF⟩ := bnd hF
                  refine mk_call (As := [.int x1, .int (0 : Int32), .int v146_0]) (rest := [.int (((5 : Int32) * x2) + y112_4), .ref (B 17)]) (v := (some (.int r146.1))) E hcl hK hP hS (mm_X1_digit l hcl hB x1 (0 : Int32) v146_0 z146 _ hq146) (cwV 3 E.2.2.2.2 (lw_V q1227 q1229 qs35 q58 q1230) rfl rfl rfl (by decide +kernel) ⟨Nat.le_of_ble_eq_true rfl, Nat.le_of_ble_eq_true rfl⟩) hl rfl rfl (Nat.le_of_ble_eq_true rfl) ⟨Nat.zero_le _, Nat.zero_le _⟩ dX1_readPerson_146 (fun H locs hP hS => ?_)
                  obtain ⟨h149, hF⟩ := gd_some hF
                  refine mk_ast E hB hK hP hS (q := 9) (j := 17) (n := 25) rfl h149 dX1_readPerson_149 (fun H locs hP hS => ?_)
                  refine lv_aload_n E.1 E.2.1 dX1_readPerson_150 rfl (lv_at hl 0 rfl) ?_
                  refine mk_get E hcl hK hP 17 (by decide) q1127 rfl (v := .ref (B 17)) rfl dX1_readPerson_151 ?_
                  refine lv_iconst (v := (5 : Int32)) E.1 E.2.1 dX1_readPerson_154 (by decide) ?_
                  refine lv_iload_n E.1 E.2.1 dX1_readPerson_155 rfl (lv_at hl 2 rfl) ?_
                  refine lv_imul E.1 E.2.1 dX1_readPerson_156 ?_
                  refine lv_iload E.1 E.2.1 dX1_readPerson_157 (lv_at hl 3 rfl) ?_
                  refine lv_iadd E.1 E.2.1 dX1_readPerson_159 ?_
                  obtain ⟨h160, hF⟩ := gd_some hF
                  refine mk_ald E hK hP (q := 9) (j := 17) (n := 25) rfl h160 dX1_readPerson_160 ?_
                  refine lv_bipush (v := (-9 : Int32)) E.1 E.2.1 dX1_readPerson_161 (by decide) ?_
                  refine lv_icmp_ne (tgt := 168) E.1 E.2.1 dX1_readPerson_163 (by decide) (fun h => ?_) (fun h => ?_)
                  · have hF := ite_f h hF
                    refine lv_iinc (v := y112_4 + 1) (lv' := [(4, .int (y112_4 + 1)), (0, .ref (B 0)), (1, .int x1), (2, .int x2)]) E.1 E.2.1 dX1_readPerson_168 hl (k := 3) rfl rfl (by decide) rfl (fun ls hl => ?_)
                    refine lv_goto (tgt := 112) E.1 E.2.1 dX1_readPerson_171 (by decide) ?_
                    exact ih (y112_4 + 1) (mz_a r146.2 17 (((5 : Int32) * x2) + y112_4).toNatClampNeg r146.1) H locs ls hF hP hS (lv_sub hl [1, 2, 3, 0] rfl)
                  · have hF := ite_t h hF
                    refine lv_iconst (v := (0 : Int32)) E.1 E.2.1 dX1_readPerson_166 (by decide) ?_
                    exact mk_zret E hr hlocks hP hS hF dX1_readPerson_167
                refine lv_icmp_ne (tgt := 144) E.1 E.2.1 dX1_readPerson_137 (by decide) (fun h => ?_) (fun h => ?_)
                · have hF := ite_f h hF
                  refine lv_bipush (v := (9 : Int32)) E.1 E.2.1 dX1_readPerson_144 (by decide) ?_
                  exact J146 (9 : Int32) z112 H locs ls hF hP hS (lv_sub hl [0, 1, 2, 3] rfl)
                · have hF := ite_t h hF
                  refine lv_iconst (v := (0 : Int32)) E.1 E.2.1 dX1_readPerson_140 (by decide) ?_
                  refine lv_goto (tgt := 146) E.1 E.2.1 dX1_readPerson_141 (by decide) ?_
                  exact J146 (0 : Int32) z112 H locs ls hF hP hS (lv_sub hl [0, 1, 2, 3] rfl)
          exact L112 FU (0 : Int32) (mz_a r92.2 16 x2.toNatClampNeg r92.1) H locs ls hF hP hS (lv_sub hl [1, 2, 3, 0] rfl)
        · have hF := ite_t h hF
          refine lv_iconst (v := (0 : Int32)) E.1 E.2.1 dX1_readPerson_107 (by decide) ?_
          exact mk_zret E hr hlocks hP hS hF dX1_readPerson_108
      · have hF := ite_t h hF
        refine lv_iconst (v := (0 : Int32)) E.1 E.2.1 dX1_readPerson_71 (by decide) ?_
        exact mk_zret E hr hlocks hP hS hF dX1_readPerson_72
    refine lv_icmp_ne (tgt := 37) E.1 E.2.1 dX1_readPerson_30 (by decide) (fun h => ?_) (fun h => ?_)
    · have hF := ite_f h hF
      refine lv_iload_n E.1 E.2.1 dX1_readPerson_37 rfl (lv_at hl 0 rfl) ?_
      refine lv_bipush (v := (102 : Int32)) E.1 E.2.1 dX1_readPerson_38 (by decide) ?_
      refine lv_icmp_ne (tgt := 47) E.1 E.2.1 dX1_readPerson_40 (by decide) (fun h => ?_) (fun h => ?_)
      · have hF := ite_f h hF
        refine lv_iload_n E.1 E.2.1 dX1_readPerson_47 rfl (lv_at hl 0 rfl) ?_
        refine lv_bipush (v := (98 : Int32)) E.1 E.2.1 dX1_readPerson_48 (by decide) ?_
        refine lv_icmp_ne (tgt := 57) E.1 E.2.1 dX1_readPerson_50 (by decide) (fun h => ?_) (fun h => ?_)
        · have hF := ite_f h hF
          refine lv_bipush (v := (-9 : Int32)) E.1 E.2.1 dX1_readPerson_57 (by decide) ?_
          exact J59 (-9 : Int32) z21 H locs ls hF hP hS (lv_sub hl [1, 2, 3] rfl)
        · have hF := ite_t h hF
          refine lv_iconst (v := (2 : Int32)) E.1 E.2.1 dX1_readPerson_53 (by decide) ?_
          refine lv_goto (tgt := 59) E.1 E.2.1 dX1_readPerson_54 (by decide) ?_
          exact J59 (2 : Int32) z21 H locs ls hF hP hS (lv_sub hl [1, 2, 3] rfl)
      · have hF := ite_t h hF
        refine lv_iconst (v := (1 : Int32)) E.1 E.2.1 dX1_readPerson_43 (by decide) ?_
        refine lv_goto (tgt := 59) E.1 E.2.1 dX1_readPerson_44 (by decide) ?_
        exact J59 (1 : Int32) z21 H locs ls hF hP hS (lv_sub hl [1, 2, 3] rfl)
    · have hF := ite_t h hF
      refine lv_iconst (v := (0 : Int32)) E.1 E.2.1 dX1_readPerson_33 (by decide) ?_
      refine lv_goto (tgt := 59) E.1 E.2.1 dX1_readPerson_34 (by decide) ?_
      exact J59 (0 : Int32) z21 H locs ls hF hP hS (lv_sub hl [1, 2, 3] rfl)
  refine lv_icmp_ge (tgt := 20) E.1 E.2.1 dX1_readPerson_5 (by decide) (fun h => ?_) (fun h => ?_)
  · have hF := ite_t h hF
    refine lv_iconst (v := (0 : Int32)) E.1 E.2.1 dX1_readPerson_20 (by decide) ?_
    exact J21 (0 : Int32) z0 H locs ls hF hP hS (lv_sub hl [0, 1, 2] rfl)
  · have hF := ite_f h hF
    refine lv_aload_n E.1 E.2.1 dX1_readPerson_8 rfl (lv_at hl 0 rfl) ?_
    refine mk_get E hcl hK hP 4 (by decide) q1114 rfl (v := .ref (B 4)) rfl dX1_readPerson_9 ?_
    refine lv_aload_n E.1 E.2.1 dX1_readPerson_12 rfl (lv_at hl 0 rfl) ?_
    refine mk_get E hcl hK hP 11 (by decide) q1121 rfl (v := .int (z0.1 11)) rfl dX1_readPerson_13 ?_
    obtain ⟨h16, hF⟩ := gd_some hF
    refine mk_ald E hK hP (q := 3) (j := 4) (n := 240) rfl h16 dX1_readPerson_16 ?_
    refine lv_goto (tgt := 21) E.1 E.2.1 dX1_readPerson_17 (by decide) ?_
    exact J21 (z0.2 4 (z0.1 11).toNatClampNeg) z0 H locs ls hF hP hS (lv_sub hl [0, 1, 2] rfl)
/-! DebtFerryModel.readRiver(I)Z -/
def m_readRiver_L80 (k115 : MZ → Option (Int32 × MZ)) (x1 : Int32) : Nat → Int32 → MZ → Option (Int32 × MZ)
  | 0, _, _ => none
  | n + 1, y80_2, z80 =>
    if (z80.1 14) ≤ y80_2 then k115  z80 else (m_isSign x1 (44 : Int32) z80).bind (fun r92 => if r92.1 = 0 then (zr (0 : Int32)).bind (fun r => some (r, r92.2)) else (m_readPerson x1 y80_2 r92.2).bind (fun r101 => if r101.1 = 0 then (zr (0 : Int32)).bind (fun r => some (r, r101.2)) else m_readRiver_L80 k115 x1 n (y80_2 + 1) r101.2))
def m_readRiver (x1 : Int32) (z0 : MZ) : Option (Int32 × MZ) :=
  (m_isSign x1 (111 : Int32) z0).bind (fun r4 => if r4.1 = 0 then (zr (0 : Int32)).bind (fun r => some (r, r4.2)) else (m_digit x1 (1 : Int32) (3 : Int32) r4.2).bind (fun r17 => if ((mz_f r17.2 12 r17.1).1 12) = (-9 : Int32) then (zr (0 : Int32)).bind (fun r => some (r, (mz_f r17.2 12 r17.1))) else (m_digit x1 (1 : Int32) (3 : Int32) (mz_f r17.2 12 r17.1)).bind (fun r39 => if ((mz_f r39.2 13 r39.1).1 13) = (-9 : Int32) then (zr (0 : Int32)).bind (fun r => some (r, (mz_f r39.2 13 r39.1))) else (m_digit x1 (2 : Int32) (5 : Int32) (mz_f r39.2 13 r39.1)).bind (fun r61 => if ((mz_f r61.2 14 r61.1).1 14) = (-9 : Int32) then (zr (0 : Int32)).bind (fun r => some (r, (mz_f r61.2 14 r61.1))) else m_readRiver_L80 (fun  (z80 : MZ) => if (z80.1 11) = x1 then (zr (1 : Int32)).bind (fun r => some (r, z80)) else (zr (0 : Int32)).bind (fun r => some (r, z80))) x1 FU (0 : Int32) (mz_f r61.2 14 r61.1)))))
abbrev rmX1_readRiver : Room := { frames := 4, cells := 0, slots := 0, locals := 81 }
set_option maxHeartbeats 4000000 in
set_option maxRecDepth 100000 in
theorem mm_X1_readRiver (l : Launch) {D : va_G} {cl : List vw_C} {ci : Nat} {d : ClassId} {B : Nat → Nat} {A : Nat → Prop} (hcl : cl[ci]? = some (RX1, TX1, 29)) (hB : ∀ z, va_D A (mW ci d B z)) (x1 : Int32) (z0 : MZ) (res : Int32 × MZ) (hF : m_readRiver x1 z0 = some res) : Met l yX1_readRiver (ws_ yX1_readRiver cX1_readRiver 3 (some .boolean)) rmX1_readRiver (mPc D cl ci d B z0 [.int x1]) (mQ D cl ci d B A (some (.int res.1)) res.2) 0 0 A := by
  refine mk_start (A := A) (by decide) rfl (Nat.le_of_ble_eq_true rfl) ?_
  intro p e s m args below meth c H locs ls E hr hlocks hK hP hS hl
  have hl : lv_has ls 3 [(0, .ref (B 0)), (1, .int x1)] := hl
  unfold m_readRiver at hF
  refine lv_aload_n E.1 E.2.1 dX1_readRiver_0 rfl (lv_at hl 0 rfl) ?_
  refine lv_iload_n E.1 E.2.1 dX1_readRiver_1 rfl (lv_at hl 1 rfl) ?_
  refine lv_bipush (v := (111 : Int32)) E.1 E.2.1 dX1_readRiver_2 (by decide) ?_
  obtain ⟨r4, hq4, hF⟩ := bnd hF
  refine mk_call (As := [.int x1, .int (111 : Int32)]) (rest := []) (v := (some (.int r4.1))) E hcl hK hP hS (mm_X1_isSign l hcl hB x1 (111 : Int32) z0 _ hq4) (cwV 2 E.2.2.2.2 (lw_V q1223 q1225 qs34 q58 q1226) rfl rfl rfl (by decide +kernel) ⟨Nat.le_of_ble_eq_true rfl, Nat.le_of_ble_eq_true rfl⟩) hl rfl rfl (Nat.le_of_ble_eq_true rfl) ⟨Nat.zero_le _, Nat.zero_le _⟩ dX1_readRiver_4 (fun H locs hP hS => ?_)
  refine lv_if_ne (tgt := 12) E.1 E.2.1 dX1_readRiver_7 (by decide) (fun h => ?_) (fun h => ?_)
  · have hF := ite_f h hF
    refine lv_aload_n E.1 E.2.1 dX1_readRiver_12 rfl (lv_at hl 0 rfl) ?_
    refine lv_aload_n E.1 E.2.1 dX1_readRiver_13 rfl (lv_at hl 0 rfl) ?_
    refine lv_iload_n E.1 E.2.1 dX1_readRiver_14 rfl (lv_at hl 1 rfl) ?_
    refine lv_iconst (v := (1 : Int32)) E.1 E.2.1 dX1_readRiver_15 (by decide) ?_
    refine lv_iconst (v := (3 : Int32)) E.1 E.2.1 dX1_readRiver_16 (by decide) ?_
    obtain ⟨r17, hq17, hF⟩ := bnd hF
    refine mk_call (As := [.int x1, .int (1 : Int32), .int (3 : Int32)]) (rest := [.ref (B 0)]) (v := (some (.int r17.1))) E hcl hK hP hS (mm_X1_digit l hcl hB x1 (1 : Int32) (3 : Int32) r4.2 _ hq17) (cwV 3 E.2.2.2.2 (lw_V q1227 q1229 qs35 q58 q1230) rfl rfl rfl (by decide +kernel) ⟨Nat.le_of_ble_eq_true rfl, Nat.le_of_ble_eq_true rfl⟩) hl rfl rfl (Nat.le_of_ble_eq_true rfl) ⟨Nat.zero_le _, Nat.zero_le _⟩ dX1_readRiver_17 (fun H locs hP hS => ?_)
    refine mk_put E hcl hB hK hP hS 12 rfl q1122 rfl dX1_readRiver_20 (fun H locs hP hS => ?_)
    refine lv_aload_n E.1 E.2.1 dX1_readRiver_23 rfl (lv_at hl 0 rfl) ?_
    refine mk_get E hcl hK hP 12 (by decide) q1122 rfl (v := .int ((mz_f r17.2 12 r17.1).1 12)) rfl dX1_readRiver_24 ?_
    refine lv_bipush (v := (-9 : Int32)) E.1 E.2.1 dX1_readRiver_27 (by decide) ?_
    refine lv_icmp_ne (tgt := 34) E.1 E.2.1 dX1_readRiver_29 (by decide) (fun h => ?_) (fun h => ?_)
    · have hF := ite_f h hF
      refine lv_aload_n E.1 E.2.1 dX1_readRiver_34 rfl (lv_at hl 0 rfl) ?_
      refine lv_aload_n E.1 E.2.1 dX1_readRiver_35 rfl (lv_at hl 0 rfl) ?_
      refine lv_iload_n E.1 E.2.1 dX1_readRiver_36 rfl (lv_at hl 1 rfl) ?_
      refine lv_iconst (v := (1 : Int32)) E.1 E.2.1 dX1_readRiver_37 (by decide) ?_
      refine lv_iconst (v := (3 : Int32)) E.1 E.2.1 dX1_readRiver_38 (by decide) ?_
      obtain ⟨r39, hq39, hF⟩ := bnd hF
      refine mk_call (As := [.int x1, .int (1 : Int32), .int (3 : Int32)]) (rest := [.ref (B 0)]) (v := (some (.int r39.1))) E hcl hK hP hS (mm_X1_digit l hcl hB x1 (1 : Int32) (3 : Int32) (mz_f r17.2 12 r17.1) _ hq39) (cwV 3 E.2.2.2.2 (lw_V q1227 q1229 qs35 q58 q1230) rfl rfl rfl (by decide +kernel) ⟨Nat.le_of_ble_eq_true rfl, Nat.le_of_ble_eq_true rfl⟩) hl rfl rfl (Nat.le_of_ble_eq_true rfl) ⟨Nat.zero_le _, Nat.zero_le _⟩ dX1_readRiver_39 (fun H locs hP hS => ?_)
      refine mk_put E hcl hB hK hP hS 13 rfl q1123 rfl dX1_readRiver_42 (fun H locs hP hS => ?_)
      refine lv_aload_n E.1 E.2.1 dX1_readRiver_45 rfl (lv_at hl 0 rfl) ?_
      refine mk_get E hcl hK hP 13 (by decide) q1123 rfl (v := .int ((mz_f r39.2 13 r39.1).1 13)) rfl dX1_readRiver_46 ?_
      refine lv_bipush (v := (-9 : Int32)) E.1 E.2.1 dX1_readRiver_49 (by decide) ?_
      refine lv_icmp_ne (tgt := 56) E.1 E.2.1 dX1_readRiver_51 (by decide) (fun h => ?_) (fun h => ?_)
      · have hF := ite_f h hF
        refine lv_aload_n E.1 E.2.1 dX1_readRiver_56 rfl (lv_at hl 0 rfl) ?_
        refine lv_aload_n E.1 E.2.1 dX1_readRiver_57 rfl (lv_at hl 0 rfl) ?_
        refine lv_iload_n E.1 E.2.1 dX1_readRiver_58 rfl (lv_at hl 1 rfl) ?_
        refine lv_iconst (v := (2 : Int32)) E.1 E.2.1 dX1_readRiver_59 (by decide) ?_
        refine lv_iconst (v := (5 : Int32)) E.1 E.2.1 dX1_readRiver_60 (by decide) ?_
        obtain ⟨r61, hq61, hF⟩ := bnd hF
        refine mk_call (As := [.int x1, .int (2 : Int32), .int (5 : Int32)]) (rest := [.ref (B 0)]) (v := (some (.int r61.1))) E hcl hK hP hS (mm_X1_digit l hcl hB x1 (2 : Int32) (5 : Int32) (mz_f r39.2 13 r39.1) _ hq61) (cwV 3 E.2.2.2.2 (lw_V q1227 q1229 qs35 q58 q1230) rfl rfl rfl (by decide +kernel) ⟨Nat.le_of_ble_eq_true rfl, Nat.le_of_ble_eq_true rfl⟩) hl rfl rfl (Nat.le_of_ble_eq_true rfl) ⟨Nat.zero_le _, Nat.zero_le _⟩ dX1_readRiver_61 (fun H locs hP hS => ?_)
        refine mk_put E hcl hB hK hP hS 14 rfl q1124 rfl dX1_readRiver_64 (fun H locs hP hS => ?_)
        refine lv_aload_n E.1 E.2.1 dX1_readRiver_67 rfl (lv_at hl 0 rfl) ?_
        refine mk_get E hcl hK hP 14 (by decide) q1124 rfl (v := .int ((mz_f r61.2 14 r61.1).1 14)) rfl dX1_readRiver_68 ?_
        refine lv_bipush (v := (-9 : Int32)) E.1 E.2.1 dX1_readRiver_71 (by decide) ?_
        refine lv_icmp_ne (tgt := 78) E.1 E.2.1 dX1_readRiver_73 (by decide) (fun h => ?_) (fun h => ?_)
        · have hF := ite_f h hF
          refine lv_iconst (v := (0 : Int32)) E.1 E.2.1 dX1_readRiver_78 (by decide) ?_
          refine lv_istore_n (lv' := [(2, .int (0 : Int32)), (0, .ref (B 0)), (1, .int x1)]) E.1 E.2.1 dX1_readRiver_79 rfl hl (by decide) rfl (fun ls hl => ?_)
          obtain ⟨k115, hk115, hF⟩ : ∃ k115, k115 = _ ∧ m_readRiver_L80 k115 x1 FU (0 : Int32) (mz_f r61.2 14 r61.1) = some res := ⟨_, rfl, hF⟩
          have K115 : ∀  (z80 : MZ) (H : Heap) (locs : List Loc) (ls : Array Slot), k115  z80 = some res → va_P D cl (mW ci d B z80) H → va_S A s.heap H locs → lv_has ls 3 [(0, .ref (B 0)), (1, .int x1)] → W p l e rmX1_readRiver s m args below meth c H locs 0 0 (MQ below (mQ D cl ci d B A (some (.int res.1)) res.2) args s 0 0 A) (F0 m 115 ls []) := by
            intro  z80 H locs ls hF hP hS hl
            rw [hk115] at hF
            refine lv_aload_n E.1 E.2.1 dX1_readRiver_115 rfl (lv_at hl 0 rfl) ?_
            refine mk_get E hcl hK hP 11 (by decide) q1121 rfl (v := .int (z80.1 11)) rfl dX1_readRiver_116 ?_
            refine lv_iload_n E.1 E.2.1 dX1_readRiver_119 rfl (lv_at hl 1 rfl) ?_
            refine lv_icmp_ne (tgt := 127) E.1 E.2.1 dX1_readRiver_120 (by decide) (fun h => ?_) (fun h => ?_)
            · have hF := ite_f h hF
              refine lv_iconst (v := (0 : Int32)) E.1 E.2.1 dX1_readRiver_127 (by decide) ?_
              exact mk_zret E hr hlocks hP hS hF dX1_readRiver_128
            · have hF := ite_t h hF
              refine lv_iconst (v := (1 : Int32)) E.1 E.2.1 dX1_readRiver_123 (by decide) ?_
              refine lv_goto (tgt := 128) E.1 E.2.1 dX1_readRiver_124 (by decide) ?_
              exact mk_zret E hr hlocks hP hS hF dX1_readRiver_128
          have L80 : ∀ (n : Nat) (y80_2 : Int32) (z80 : MZ) (H : Heap) (locs : List Loc) (ls : Array Slot), m_readRiver_L80 k115 x1 n y80_2 z80 = some res → va_P D cl (mW ci d B z80) H → va_S A s.heap H locs → lv_has ls 3 [(0, .ref (B 0)), (1, .int x1), (2, .int y80_2)] → W p l e rmX1_readRiver s m args below meth c H locs 0 0 (MQ below (mQ D cl ci d B A (some (.int res.1)) res.2) args s 0 0 A) (F0 m 80 ls []) := by
            intro n
            induction n with
            | zero =>
              intro y80_2 z80 H locs ls hF
              rw [m_readRiver_L80] at hF
              cases hF
            | succ n ih =>
              intro y80_2 z80 H locs ls hF hP hS hl
              rw [m_readRiver_L80] at hF
              refine lv_iload_n E.1 E.2.1 dX1_readRiver_80 rfl (lv_at hl 2 rfl) ?_
              refine lv_aload_n E.1 E.2.1 dX1_readRiver_81 rfl (lv_at hl 0 rfl) ?_
              refine mk_get E hcl hK hP 14 (by decide) q1124 rfl (v := .int (z80.1 14)) rfl dX1_readRiver_82 ?_
              refine lv_icmp_ge (tgt := 115) E.1 E.2.1 dX1_readRiver_85 (by decide) (fun h => ?_) (fun h => ?_)
              · have hF := ite_t h hF
                exact K115  z80 H locs ls hF hP hS (lv_sub hl [0, 1] rfl)
              · have hF := ite_f h hF
                refine lv_aload_n E.1 E.2.1 dX1_readRiver_88 rfl (lv_at hl 0 rfl) ?_
                refine lv_iload_n E.1 E.2.1 dX1_readRiver_89 rfl (lv_at hl 1 rfl) ?_
                refine lv_bipush (v := (44 : Int32)) E.1 E.2.1 dX1_readRiver_90 (by decide) ?_
                obtain ⟨r92, hq92, hF⟩ := bnd hF
                refine mk_call (As := [.int x1, .int (44 : Int32)]) (rest := []) (v := (some (.int r92.1))) E hcl hK hP hS (mm_X1_isSign l hcl hB x1 (44 : Int32) z80 _ hq92) (cwV 2 E.2.2.2.2 (lw_V q1223 q1225 qs34 q58 q1226) rfl rfl rfl (by decide +kernel) ⟨Nat.le_of_ble_eq_true rfl, Nat.le_of_ble_eq_true rfl⟩) hl rfl rfl (Nat.le_of_ble_eq_true rfl) ⟨Nat.zero_le _, Nat.zero_le _⟩ dX1_readRiver_92 (fun H locs hP hS => ?_)
                refine lv_if_eq (tgt := 107) E.1 E.2.1 dX1_readRiver_95 (by decide) (fun h => ?_) (fun h => ?_)
                · have hF := ite_t h hF
                  refine lv_iconst (v := (0 : Int32)) E.1 E.2.1 dX1_readRiver_107 (by decide) ?_
                  exact mk_zret E hr hlocks hP hS hF dX1_readRiver_108
                · have hF := ite_f h hF
                  refine lv_aload_n E.1 E.2.1 dX1_readRiver_98 rfl (lv_at hl 0 rfl) ?_
                  refine lv_iload_n E.1 E.2.1 dX1_readRiver_99 rfl (lv_at hl 1 rfl) ?_
                  refine lv_iload_n E.1 E.2.1 dX1_readRiver_100 rfl (lv_at hl 2 rfl) ?_
                  obtain ⟨r101, hq101, hF⟩ := bnd hF
                  refine mk_call (As := [.int x1, .int y80_2]) (rest := []) (v := (some (.int r101.1))) E hcl hK hP hS (mm_X1_readPerson l hcl hB x1 y80_2 r92.2 _ hq101) (cwV 2 E.2.2.2.2 (lw_V q1231 q1233 qs36 q58 q1234) rfl rfl rfl (by decide +kernel) ⟨Nat.le_of_ble_eq_true rfl, Nat.le_of_ble_eq_true rfl⟩) hl rfl rfl (Nat.le_of_ble_eq_true rfl) ⟨Nat.zero_le _, Nat.zero_le _⟩ dX1_readRiver_101 (fun H locs hP hS => ?_)
                  refine lv_if_ne (tgt := 109) E.1 E.2.1 dX1_readRiver_104 (by decide) (fun h => ?_) (fun h => ?_)
                  · have hF := ite_f h hF
                    refine lv_iinc (v := y80_2 + 1) (lv' := [(2, .int (y80_2 + 1)), (0, .ref (B 0)), (1, .int x1)]) E.1 E.2.1 dX1_readRiver_109 hl (k := 2) rfl rfl (by decide) rfl (fun ls hl => ?_)
                    refine lv_goto (tgt := 80) E.1 E.2.1 dX1_readRiver_112 (by decide) ?_
                    exact ih (y80_2 + 1) r101.2 H locs ls hF hP hS (lv_sub hl [1, 2, 0] rfl)
                  · have hF := ite_t h hF
                    refine lv_iconst (v := (0 : Int32)) E.1 E.2.1 dX1_readRiver_107 (by decide) ?_
                    exact mk_zret E hr hlocks hP hS hF dX1_readRiver_108
          exact L80 FU (0 : Int32) (mz_f r61.2 14 r61.1) H locs ls hF hP hS (lv_sub hl [1, 2, 0] rfl)
        · have hF := ite_t h hF
          refine lv_iconst (v := (0 : Int32)) E.1 E.2.1 dX1_readRiver_76 (by decide) ?_
          exact mk_zret E hr hlocks hP hS hF dX1_readRiver_77
      · have hF := ite_t h hF
        refine lv_iconst (v := (0 : Int32)) E.1 E.2.1 dX1_readRiver_54 (by decide) ?_
        exact mk_zret E hr hlocks hP hS hF dX1_readRiver_55
    · have hF := ite_t h hF
      refine lv_iconst (v := (0 : Int32)) E.1 E.2.1 dX1_readRiver_32 (by decide) ?_
      exact mk_zret E hr hlocks hP hS hF dX1_readRiver_33
  · have hF := ite_t h hF
    refine lv_iconst (v := (0 : Int32)) E.1 E.2.1 dX1_readRiver_10 (by decide) ?_
    exact mk_zret E hr hlocks hP hS hF dX1_readRiver_11
/-! DebtFerryModel.takeRiver()V -/
def m_takeRiver_L60 (k94 : MZ → Option MZ) (y26_1 : Int32) : Nat → Int32 → MZ → Option MZ
  | 0, _, _ => none
  | n + 1, y60_2, z60 =>
    if (z60.1 5) ≤ y60_2 then k94  z60 else gd (inb (((5 : Int32) * y26_1) + y60_2) 25) (gd (inb (((5 : Int32) * y26_1) + y60_2) 25) (m_takeRiver_L60 k94 y26_1 n (y60_2 + 1) (mz_a z60 10 (((5 : Int32) * y26_1) + y60_2).toNatClampNeg (z60.2 17 (((5 : Int32) * y26_1) + y60_2).toNatClampNeg))))
def m_takeRiver_L26 : Nat → Int32 → MZ → Option MZ
  | 0, _, _ => none
  | n + 1, y26_1, z26 =>
    if (z26.1 5) ≤ y26_1 then some (mz_f z26 26 (0 : Int32)) else gd (inb y26_1 5) (gd (inb y26_1 5) (gd (inb y26_1 5) (gd (inb y26_1 5) (m_takeRiver_L60 (fun  (z60 : MZ) => m_takeRiver_L26 n (y26_1 + 1) z60) y26_1 FU (0 : Int32) (mz_a (mz_a z26 8 y26_1.toNatClampNeg (z26.2 15 y26_1.toNatClampNeg)) 9 y26_1.toNatClampNeg ((mz_a z26 8 y26_1.toNatClampNeg (z26.2 15 y26_1.toNatClampNeg)).2 16 y26_1.toNatClampNeg))))))
def m_takeRiver  (z0 : MZ) : Option MZ :=
  m_takeRiver_L26 FU (0 : Int32) (mz_f (mz_f (mz_f z0 5 (z0.1 14)) 6 ((mz_f z0 5 (z0.1 14)).1 12)) 7 ((mz_f (mz_f z0 5 (z0.1 14)) 6 ((mz_f z0 5 (z0.1 14)).1 12)).1 13))
abbrev rmX1_takeRiver : Room := { frames := 1, cells := 0, slots := 0, locals := 12 }
set_option maxHeartbeats 4000000 in
set_option maxRecDepth 100000 in
theorem mm_X1_takeRiver (l : Launch) {D : va_G} {cl : List vw_C} {ci : Nat} {d : ClassId} {B : Nat → Nat} {A : Nat → Prop} (hcl : cl[ci]? = some (RX1, TX1, 29)) (hB : ∀ z, va_D A (mW ci d B z))  (z0 : MZ) (res : MZ) (hF : m_takeRiver  z0 = some res) : Met l yX1_takeRiver (ws_ yX1_takeRiver cX1_takeRiver 3 none) rmX1_takeRiver (mPc D cl ci d B z0 []) (mQ D cl ci d B A none res) 0 0 A := by
  refine mk_start (A := A) (by decide) rfl (Nat.le_of_ble_eq_true rfl) ?_
  intro p e s m args below meth c H locs ls E hr hlocks hK hP hS hl
  have hl : lv_has ls 3 [(0, .ref (B 0))] := hl
  unfold m_takeRiver at hF
  refine lv_aload_n E.1 E.2.1 dX1_takeRiver_0 rfl (lv_at hl 0 rfl) ?_
  refine lv_aload_n E.1 E.2.1 dX1_takeRiver_1 rfl (lv_at hl 0 rfl) ?_
  refine mk_get E hcl hK hP 14 (by decide) q1124 rfl (v := .int (z0.1 14)) rfl dX1_takeRiver_2 ?_
  refine mk_put E hcl hB hK hP hS 5 rfl q1115 rfl dX1_takeRiver_5 (fun H locs hP hS => ?_)
  refine lv_aload_n E.1 E.2.1 dX1_takeRiver_8 rfl (lv_at hl 0 rfl) ?_
  refine lv_aload_n E.1 E.2.1 dX1_takeRiver_9 rfl (lv_at hl 0 rfl) ?_
  refine mk_get E hcl hK hP 12 (by decide) q1122 rfl (v := .int ((mz_f z0 5 (z0.1 14)).1 12)) rfl dX1_takeRiver_10 ?_
  refine mk_put E hcl hB hK hP hS 6 rfl q1116 rfl dX1_takeRiver_13 (fun H locs hP hS => ?_)
  refine lv_aload_n E.1 E.2.1 dX1_takeRiver_16 rfl (lv_at hl 0 rfl) ?_
  refine lv_aload_n E.1 E.2.1 dX1_takeRiver_17 rfl (lv_at hl 0 rfl) ?_
  refine mk_get E hcl hK hP 13 (by decide) q1123 rfl (v := .int ((mz_f (mz_f z0 5 (z0.1 14)) 6 ((mz_f z0 5 (z0.1 14)).1 12)).1 13)) rfl dX1_takeRiver_18 ?_
  refine mk_put E hcl hB hK hP hS 7 rfl q1117 rfl dX1_takeRiver_21 (fun H locs hP hS => ?_)
  refine lv_iconst (v := (0 : Int32)) E.1 E.2.1 dX1_takeRiver_24 (by decide) ?_
  refine lv_istore_n (lv' := [(1, .int (0 : Int32)), (0, .ref (B 0))]) E.1 E.2.1 dX1_takeRiver_25 rfl hl (by decide) rfl (fun ls hl => ?_)
  have L26 : ∀ (n : Nat) (y26_1 : Int32) (z26 : MZ) (H : Heap) (locs : List Loc) (ls : Array Slot), m_takeRiver_L26 n y26_1 z26 = some res → va_P D cl (mW ci d B z26) H → va_S A s.heap H locs → lv_has ls 3 [(0, .ref (B 0)), (1, .int y26_1)] → W p l e rmX1_takeRiver s m args below meth c H locs 0 0 (MQ below (mQ D cl ci d B A none res) args s 0 0 A) (F0 m 26 ls []) := by
    intro n
    induction n with
    | zero =>
      intro y26_1 z26 H locs ls hF
      rw [m_takeRiver_L26] at hF
      cases hF
    | succ n ih =>
      intro y26_1 z26 H locs ls hF hP hS hl
      rw [m_takeRiver_L26] at hF
      refine lv_iload_n E.1 E.2.1 dX1_takeRiver_26 rfl (lv_at hl 1 rfl) ?_
      refine lv_aload_n E.1 E.2.1 dX1_takeRiver_27 rfl (lv_at hl 0 rfl) ?_
      refine mk_get E hcl hK hP 5 (by decide) q1115 rfl (v := .int (z26.1 5)) rfl dX1_takeRiver_28 ?_
      refine lv_icmp_ge (tgt := 100) E.1 E.2.1 dX1_takeRiver_31 (by decide) (fun h => ?_) (fun h => ?_)
      · have hF := ite_t h hF
        refine lv_aload_n E.1 E.2.1 dX1_takeRiver_100 rfl (lv_at hl 0 rfl) ?_
        refine lv_iconst (v := (0 : Int32)) E.1 E.2.1 dX1_takeRiver_101 (by decide) ?_
        refine mk_put E hcl hB hK hP hS 26 rfl q1136 rfl dX1_takeRiver_102 (fun H locs hP hS => ?_)
        exact mk_vret E hr hlocks hP hS hF dX1_takeRiver_105
      · have hF := ite_f h hF
        refine lv_aload_n E.1 E.2.1 dX1_takeRiver_34 rfl (lv_at hl 0 rfl) ?_
        refine mk_get E hcl hK hP 8 (by decide) q1118 rfl (v := .ref (B 8)) rfl dX1_takeRiver_35 ?_
        refine lv_iload_n E.1 E.2.1 dX1_takeRiver_38 rfl (lv_at hl 1 rfl) ?_
        refine lv_aload_n E.1 E.2.1 dX1_takeRiver_39 rfl (lv_at hl 0 rfl) ?_
        refine mk_get E hcl hK hP 15 (by decide) q1125 rfl (v := .ref (B 15)) rfl dX1_takeRiver_40 ?_
        refine lv_iload_n E.1 E.2.1 dX1_takeRiver_43 rfl (lv_at hl 1 rfl) ?_
        obtain ⟨h44, hF⟩ := gd_some hF
        refine mk_ald E hK hP (q := 7) (j := 15) (n := 5) rfl h44 dX1_takeRiver_44 ?_
        obtain ⟨h45, hF⟩ := gd_some hF
        refine mk_ast E hB hK hP hS (q := 4) (j := 8) (n := 5) rfl h45 dX1_takeRiver_45 (fun H locs hP hS => ?_)
        refine lv_aload_n E.1 E.2.1 dX1_takeRiver_46 rfl (lv_at hl 0 rfl) ?_
        refine mk_get E hcl hK hP 9 (by decide) q1119 rfl (v := .ref (B 9)) rfl dX1_takeRiver_47 ?_
        refine lv_iload_n E.1 E.2.1 dX1_takeRiver_50 rfl (lv_at hl 1 rfl) ?_
        refine lv_aload_n E.1 E.2.1 dX1_takeRiver_51 rfl (lv_at hl 0 rfl) ?_
        refine mk_get E hcl hK hP 16 (by decide) q1126 rfl (v := .ref (B 16)) rfl dX1_takeRiver_52 ?_
        refine lv_iload_n E.1 E.2.1 dX1_takeRiver_55 rfl (lv_at hl 1 rfl) ?_
        obtain ⟨h56, hF⟩ := gd_some hF
        refine mk_ald E hK hP (q := 8) (j := 16) (n := 5) rfl h56 dX1_takeRiver_56 ?_
        obtain ⟨h57, hF⟩ := gd_some hF
        refine mk_ast E hB hK hP hS (q := 5) (j := 9) (n := 5) rfl h57 dX1_takeRiver_57 (fun H locs hP hS => ?_)
        refine lv_iconst (v := (0 : Int32)) E.1 E.2.1 dX1_takeRiver_58 (by decide) ?_
        refine lv_istore_n (lv' := [(2, .int (0 : Int32)), (0, .ref (B 0)), (1, .int y26_1)]) E.1 E.2.1 dX1_takeRiver_59 rfl hl (by decide) rfl (fun ls hl => ?_)
        obtain ⟨k94, hk94, hF⟩ : ∃ k94, k94 = _ ∧ m_takeRiver_L60 k94 y26_1 FU (0 : Int32) (mz_a (mz_a z26 8 y26_1.toNatClampNeg (z26.2 15 y26_1.toNatClampNeg)) 9 y26_1.toNatClampNeg ((mz_a z26 8 y26_1.toNatClampNeg (z26.2 15 y26_1.toNatClampNeg)).2 16 y26_1.toNatClampNeg)) = some res := ⟨_, rfl, hF⟩
        have K94 : ∀  (z60 : MZ) (H : Heap) (locs : List Loc) (ls : Array Slot), k94  z60 = some res → va_P D cl (mW ci d B z60) H → va_S A s.heap H locs → lv_has ls 3 [(0, .ref (B 0)), (1, .int y26_1)] → W p l e rmX1_takeRiver s m args below meth c H locs 0 0 (MQ below (mQ D cl ci d B A none res) args s 0 0 A) (F0 m 94 ls []) := by
          intro  z60 H locs ls hF hP hS hl
          rw [hk94] at hF
          refine lv_iinc (v := y26_1 + 1) (lv' := [(1, .int (y26_1 + 1)), (0, .ref (B 0))]) E.1 E.2.1 dX1_takeRiver_94 hl (k := 1) rfl rfl (by decide) rfl (fun ls hl => ?_)
          refine lv_goto (tgt := 26) E.1 E.2.1 dX1_takeRiver_97 (by decide) ?_
          exact ih (y26_1 + 1) z60 H locs ls hF hP hS (lv_sub hl [1, 0] rfl)
        have L60 : ∀ (n : Nat) (y60_2 : Int32) (z60 : MZ) (H : Heap) (locs : List Loc) (ls : Array Slot), m_takeRiver_L60 k94 y26_1 n y60_2 z60 = some res → va_P D cl (mW ci d B z60) H → va_S A s.heap H locs → lv_has ls 3 [(0, .ref (B 0)), (1, .int y26_1), (2, .int y60_2)] → W p l e rmX1_takeRiver s m args below meth c H locs 0 0 (MQ below (mQ D cl ci d B A none res) args s 0 0 A) (F0 m 60 ls []) := by
          intro n
          induction n with
          | zero =>
            intro y60_2 z60 H locs ls hF
            rw [m_takeRiver_L60] at hF
            cases hF
          | succ n ih =>
            intro y60_2 z60 H locs ls hF hP hS hl
            rw [m_takeRiver_L60] at hF
            refine lv_iload_n E.1 E.2.1 dX1_takeRiver_60 rfl (lv_at hl 2 rfl) ?_
            refine lv_aload_n E.1 E.2.1 dX1_takeRiver_61 rfl (lv_at hl 0 rfl) ?_
            refine mk_get E hcl hK hP 5 (by decide) q1115 rfl (v := .int (z60.1 5)) rfl dX1_takeRiver_62 ?_
            refine lv_icmp_ge (tgt := 94) E.1 E.2.1 dX1_takeRiver_65 (by decide) (fun h => ?_) (fun h => ?_)
            · have hF := ite_t h hF
              exact K94  z60 H locs ls hF hP hS (lv_sub hl [0, 1] rfl)
            · have hF := ite_f h hF
              refine lv_aload_n E.1 E.2.1 dX1_takeRiver_68 rfl (lv_at hl 0 rfl) ?_
              refine mk_get E hcl hK hP 10 (by decide) q1120 rfl (v := .ref (B 10)) rfl dX1_takeRiver_69 ?_
              refine lv_iconst (v := (5 : Int32)) E.1 E.2.1 dX1_takeRiver_72 (by decide) ?_
              refine lv_iload_n E.1 E.2.1 dX1_takeRiver_73 rfl (lv_at hl 1 rfl) ?_
              refine lv_imul E.1 E.2.1 dX1_takeRiver_74 ?_
              refine lv_iload_n E.1 E.2.1 dX1_takeRiver_75 rfl (lv_at hl 2 rfl) ?_
              refine lv_iadd E.1 E.2.1 dX1_takeRiver_76 ?_
              refine lv_aload_n E.1 E.2.1 dX1_takeRiver_77 rfl (lv_at hl 0 rfl) ?_
              refine mk_get E hcl hK hP 17 (by decide) q1127 rfl (v := .ref (B 17)) rfl dX1_takeRiver_78 ?_
              refine lv_iconst (v := (5 : Int32)) E.1 E.2.1 dX1_takeRiver_81 (by decide) ?_
              refine lv_iload_n E.1 E.2.1 dX1_takeRiver_82 rfl (lv_at hl 1 rfl) ?_
              refine lv_imul E.1 E.2.1 dX1_takeRiver_83 ?_
              refine lv_iload_n E.1 E.2.1 dX1_takeRiver_84 rfl (lv_at hl 2 rfl) ?_
              refine lv_iadd E.1 E.2.1 dX1_takeRiver_85 ?_
              obtain ⟨h86, hF⟩ := gd_some hF
              refine mk_ald E hK hP (q := 9) (j := 17) (n := 25) rfl h86 dX1_takeRiver_86 ?_
              obtain ⟨h87, hF⟩ := gd_some hF
              refine mk_ast E hB hK hP hS (q := 6) (j := 10) (n := 25) rfl h87 dX1_takeRiver_87 (fun H locs hP hS => ?_)
              refine lv_iinc (v := y60_2 + 1) (lv' := [(2, .int (y60_2 + 1)), (0, .ref (B 0)), (1, .int y26_1)]) E.1 E.2.1 dX1_takeRiver_88 hl (k := 2) rfl rfl (by decide) rfl (fun ls hl => ?_)
              refine lv_goto (tgt := 60) E.1 E.2.1 dX1_takeRiver_91 (by decide) ?_
              exact ih (y60_2 + 1) (mz_a z60 10 (((5 : Int32) * y26_1) + y60_2).toNatClampNeg (z60.2 17 (((5 : Int32) * y26_1) + y60_2).toNatClampNeg)) H locs ls hF hP hS (lv_sub hl [1, 2, 0] rfl)
        exact L60 FU (0 : Int32) (mz_a (mz_a z26 8 y26_1.toNatClampNeg (z26.2 15 y26_1.toNatClampNeg)) 9 y26_1.toNatClampNeg ((mz_a z26 8 y26_1.toNatClampNeg (z26.2 15 y26_1.toNatClampNeg)).2 16 y26_1.toNatClampNeg)) H locs ls hF hP hS (lv_sub hl [1, 2, 0] rfl)
  exact L26 FU (0 : Int32) (mz_f (mz_f (mz_f z0 5 (z0.1 14)) 6 ((mz_f z0 5 (z0.1 14)).1 12)) 7 ((mz_f (mz_f z0 5 (z0.1 14)) 6 ((mz_f z0 5 (z0.1 14)).1 12)).1 13)) H locs ls hF hP hS (lv_sub hl [1, 0] rfl)
/-! DebtFerryModel.river(IIII)I -/
def m_river (x1 : Int32) (x2 : Int32) (x3 : Int32) (x4 : Int32) (z0 : MZ) : Option (Int32 × MZ) :=
  (m_isSheet x1).bind (fun r6 => if r6 = 0 then some ((-1 : Int32), (mz_f z0 0 (0 : Int32))) else (m_isSort x2).bind (fun r15 => if r15 = 0 then some ((-2 : Int32), (mz_f z0 0 (0 : Int32))) else (m_against x1 x2 x3 x4 (mz_f z0 0 (0 : Int32))).bind (fun r30 => if r30.1 = 0 then (m_readRiver ((((60 : Int32) * x1) + x3) + x4) (mz_f r30.2 11 (((60 : Int32) * x1) + x3))).bind (fun r67 => if r67.1 = 0 then some (((-100 : Int32) - ((r67.2.1 11) - (((60 : Int32) * x1) + x3))), r67.2) else (m_takeRiver  r67.2).bind (fun r85 => some ((r85.1 5), r85))) else (m_fails r30.1 r30.2).bind (fun r43 => some (r43.1, r43.2)))))
abbrev rmX1_river : Room := { frames := 5, cells := 0, slots := 0, locals := 103 }
set_option maxHeartbeats 4000000 in
set_option maxRecDepth 100000 in
theorem mm_X1_river (l : Launch) {D : va_G} {cl : List vw_C} {ci : Nat} {d : ClassId} {B : Nat → Nat} {A : Nat → Prop} (hcl : cl[ci]? = some (RX1, TX1, 29)) (hB : ∀ z, va_D A (mW ci d B z)) (x1 : Int32) (x2 : Int32) (x3 : Int32) (x4 : Int32) (z0 : MZ) (res : Int32 × MZ) (hF : m_river x1 x2 x3 x4 z0 = some res) : Met l yX1_river (ws_ yX1_river cX1_river 7 (some .int)) rmX1_river (mPc D cl ci d B z0 [.int x1, .int x2, .int x3, .int x4]) (mQ D cl ci d B A (some (.int res.1)) res.2) 0 0 A := by
  refine mk_start (A := A) (by decide) rfl (Nat.le_of_ble_eq_true rfl) ?_
  intro p e s m args below meth c H locs ls E hr hlocks hK hP hS hl
  have hl : lv_has ls 7 [(0, .ref (B 0)), (1, .int x1), (2, .int x2), (3, .int x3), (4, .int x4)] := hl
  unfold m_river at hF
  refine lv_aload_n E.1 E.2.1 dX1_river_0 rfl (lv_at hl 0 rfl) ?_
  refine lv_iconst (v := (0 : Int32)) E.1 E.2.1 dX1_river_1 (by decide) ?_
  refine mk_put E hcl hB hK hP hS 0 rfl q1110 rfl dX1_river_2 (fun H locs hP hS => ?_)
  refine lv_iload_n E.1 E.2.1 dX1_river_5 rfl (lv_at hl 1 rfl) ?_
  obtain ⟨r6, hq6, hF⟩ := bnd hF
  refine px_call (As := [.int x1]) (rest := []) (v := .int r6) E (mm_X1_isSheet l x1 _ hq6) (va_cwS 1 E.2.2.2.2 (lw_S q1202 q1203 q58 q1204) rfl rfl rfl (by decide +kernel) ⟨Nat.le_of_ble_eq_true rfl, Nat.le_of_ble_eq_true rfl⟩) hl rfl rfl (Nat.le_of_ble_eq_true rfl) ⟨Nat.zero_le _, Nat.zero_le _⟩ dX1_river_6 ?_
  refine lv_if_ne (tgt := 14) E.1 E.2.1 dX1_river_9 (by decide) (fun h => ?_) (fun h => ?_)
  · have hF := ite_f h hF
    refine lv_iload_n E.1 E.2.1 dX1_river_14 rfl (lv_at hl 2 rfl) ?_
    obtain ⟨r15, hq15, hF⟩ := bnd hF
    refine px_call (As := [.int x2]) (rest := []) (v := .int r15) E (mm_X1_isSort l x2 _ hq15) (va_cwS 1 E.2.2.2.2 (lw_S q1208 q1209 q58 q1210) rfl rfl rfl (by decide +kernel) ⟨Nat.le_of_ble_eq_true rfl, Nat.le_of_ble_eq_true rfl⟩) hl rfl rfl (Nat.le_of_ble_eq_true rfl) ⟨Nat.zero_le _, Nat.zero_le _⟩ dX1_river_15 ?_
    refine lv_if_ne (tgt := 24) E.1 E.2.1 dX1_river_18 (by decide) (fun h => ?_) (fun h => ?_)
    · have hF := ite_f h hF
      refine lv_aload_n E.1 E.2.1 dX1_river_24 rfl (lv_at hl 0 rfl) ?_
      refine lv_iload_n E.1 E.2.1 dX1_river_25 rfl (lv_at hl 1 rfl) ?_
      refine lv_iload_n E.1 E.2.1 dX1_river_26 rfl (lv_at hl 2 rfl) ?_
      refine lv_iload_n E.1 E.2.1 dX1_river_27 rfl (lv_at hl 3 rfl) ?_
      refine lv_iload E.1 E.2.1 dX1_river_28 (lv_at hl 4 rfl) ?_
      obtain ⟨r30, hq30, hF⟩ := bnd hF
      refine mk_call (As := [.int x1, .int x2, .int x3, .int x4]) (rest := []) (v := (some (.int r30.1))) E hcl hK hP hS (mm_X1_against l hcl hB x1 x2 x3 x4 (mz_f z0 0 (0 : Int32)) _ hq30) (cwV 4 E.2.2.2.2 (lw_V q1211 q1213 qs31 q58 q1214) rfl rfl rfl (by decide +kernel) ⟨Nat.le_of_ble_eq_true rfl, Nat.le_of_ble_eq_true rfl⟩) hl rfl rfl (Nat.le_of_ble_eq_true rfl) ⟨Nat.zero_le _, Nat.zero_le _⟩ dX1_river_30 (fun H locs hP hS => ?_)
      refine lv_istore (lv' := [(5, .int r30.1), (0, .ref (B 0)), (1, .int x1), (2, .int x2), (3, .int x3), (4, .int x4)]) E.1 E.2.1 dX1_river_33 hl (by decide) rfl (fun ls hl => ?_)
      refine lv_iload E.1 E.2.1 dX1_river_35 (lv_at hl 0 rfl) ?_
      refine lv_if_eq (tgt := 47) E.1 E.2.1 dX1_river_37 (by decide) (fun h => ?_) (fun h => ?_)
      · have hF := ite_t h hF
        refine lv_bipush (v := (60 : Int32)) E.1 E.2.1 dX1_river_47 (by decide) ?_
        refine lv_iload_n E.1 E.2.1 dX1_river_49 rfl (lv_at hl 2 rfl) ?_
        refine lv_imul E.1 E.2.1 dX1_river_50 ?_
        refine lv_iload_n E.1 E.2.1 dX1_river_51 rfl (lv_at hl 4 rfl) ?_
        refine lv_iadd E.1 E.2.1 dX1_river_52 ?_
        refine lv_istore (lv' := [(6, .int (((60 : Int32) * x1) + x3)), (5, .int r30.1), (0, .ref (B 0)), (1, .int x1), (2, .int x2), (3, .int x3), (4, .int x4)]) E.1 E.2.1 dX1_river_53 hl (by decide) rfl (fun ls hl => ?_)
        refine lv_aload_n E.1 E.2.1 dX1_river_55 rfl (lv_at hl 2 rfl) ?_
        refine lv_iload E.1 E.2.1 dX1_river_56 (lv_at hl 0 rfl) ?_
        refine mk_put E hcl hB hK hP hS 11 rfl q1121 rfl dX1_river_58 (fun H locs hP hS => ?_)
        refine lv_aload_n E.1 E.2.1 dX1_river_61 rfl (lv_at hl 2 rfl) ?_
        refine lv_iload E.1 E.2.1 dX1_river_62 (lv_at hl 0 rfl) ?_
        refine lv_iload E.1 E.2.1 dX1_river_64 (lv_at hl 6 rfl) ?_
        refine lv_iadd E.1 E.2.1 dX1_river_66 ?_
        obtain ⟨r67, hq67, hF⟩ := bnd hF
        refine mk_call (As := [.int ((((60 : Int32) * x1) + x3) + x4)]) (rest := []) (v := (some (.int r67.1))) E hcl hK hP hS (mm_X1_readRiver l hcl hB ((((60 : Int32) * x1) + x3) + x4) (mz_f r30.2 11 (((60 : Int32) * x1) + x3)) _ hq67) (cwV 1 E.2.2.2.2 (lw_V q1219 q1221 qs33 q58 q1222) rfl rfl rfl (by decide +kernel) ⟨Nat.le_of_ble_eq_true rfl, Nat.le_of_ble_eq_true rfl⟩) hl rfl rfl (Nat.le_of_ble_eq_true rfl) ⟨Nat.zero_le _, Nat.zero_le _⟩ dX1_river_67 (fun H locs hP hS => ?_)
        refine lv_if_ne (tgt := 84) E.1 E.2.1 dX1_river_70 (by decide) (fun h => ?_) (fun h => ?_)
        · have hF := ite_f h hF
          refine lv_aload_n E.1 E.2.1 dX1_river_84 rfl (lv_at hl 2 rfl) ?_
          obtain ⟨r85, hq85, hF⟩ := bnd hF
          refine mk_call (As := []) (rest := []) (v := none) E hcl hK hP hS (mm_X1_takeRiver l hcl hB  r67.2 _ hq85) (cwV 0 E.2.2.2.2 (lw_V q1235 q1237 qs37 q58 q1238) rfl rfl rfl (by decide +kernel) ⟨Nat.le_of_ble_eq_true rfl, Nat.le_of_ble_eq_true rfl⟩) hl rfl rfl (Nat.le_of_ble_eq_true rfl) ⟨Nat.zero_le _, Nat.zero_le _⟩ dX1_river_85 (fun H locs hP hS => ?_)
          refine lv_aload_n E.1 E.2.1 dX1_river_88 rfl (lv_at hl 2 rfl) ?_
          refine mk_get E hcl hK hP 5 (by decide) q1115 rfl (v := .int (r85.1 5)) rfl dX1_river_89 ?_
          exact mk_iret E hr hlocks hP hS hF dX1_river_92
        · have hF := ite_t h hF
          refine lv_bipush (v := (-100 : Int32)) E.1 E.2.1 dX1_river_73 (by decide) ?_
          refine lv_aload_n E.1 E.2.1 dX1_river_75 rfl (lv_at hl 2 rfl) ?_
          refine mk_get E hcl hK hP 11 (by decide) q1121 rfl (v := .int (r67.2.1 11)) rfl dX1_river_76 ?_
          refine lv_iload E.1 E.2.1 dX1_river_79 (lv_at hl 0 rfl) ?_
          refine lv_isub E.1 E.2.1 dX1_river_81 ?_
          refine lv_isub E.1 E.2.1 dX1_river_82 ?_
          exact mk_iret E hr hlocks hP hS hF dX1_river_83
      · have hF := ite_f h hF
        refine lv_aload_n E.1 E.2.1 dX1_river_40 rfl (lv_at hl 1 rfl) ?_
        refine lv_iload E.1 E.2.1 dX1_river_41 (lv_at hl 0 rfl) ?_
        obtain ⟨r43, hq43, hF⟩ := bnd hF
        refine mk_call (As := [.int r30.1]) (rest := []) (v := (some (.int r43.1))) E hcl hK hP hS (mm_X1_fails l hcl hB r30.1 r30.2 _ hq43) (cwV 1 E.2.2.2.2 (lw_V q1215 q1217 qs32 q58 q1218) rfl rfl rfl (by decide +kernel) ⟨Nat.le_of_ble_eq_true rfl, Nat.le_of_ble_eq_true rfl⟩) hl rfl rfl (Nat.le_of_ble_eq_true rfl) ⟨Nat.zero_le _, Nat.zero_le _⟩ dX1_river_43 (fun H locs hP hS => ?_)
        exact mk_iret E hr hlocks hP hS hF dX1_river_46
    · have hF := ite_t h hF
      refine lv_bipush (v := (-2 : Int32)) E.1 E.2.1 dX1_river_21 (by decide) ?_
      exact mk_iret E hr hlocks hP hS hF dX1_river_23
  · have hF := ite_t h hF
    refine lv_iconst (v := (-1 : Int32)) E.1 E.2.1 dX1_river_12 (by decide) ?_
    exact mk_iret E hr hlocks hP hS hF dX1_river_13
/-! DebtFerryModel.isPerson(I)Z -/
def m_isPerson (x1 : Int32) (z0 : MZ) : Option (Int32 × MZ) :=
  if x1 < 0 then (zr (0 : Int32)).bind (fun r => some (r, z0)) else if (z0.1 5) ≤ x1 then (zr (0 : Int32)).bind (fun r => some (r, z0)) else (zr (1 : Int32)).bind (fun r => some (r, z0))
abbrev rmX1_isPerson : Room := { frames := 1, cells := 0, slots := 0, locals := 12 }
set_option maxHeartbeats 4000000 in
set_option maxRecDepth 100000 in
theorem mm_X1_isPerson (l : Launch) {D : va_G} {cl : List vw_C} {ci : Nat} {d : ClassId} {B : Nat → Nat} {A : Nat → Prop} (hcl : cl[ci]? = some (RX1, TX1, 29)) (hB : ∀ z, va_D A (mW ci d B z)) (x1 : Int32) (z0 : MZ) (res : Int32 × MZ) (hF : m_isPerson x1 z0 = some res) : Met l yX1_isPerson (ws_ yX1_isPerson cX1_isPerson 2 (some .boolean)) rmX1_isPerson (mPc D cl ci d B z0 [.int x1]) (mQ D cl ci d B A (some (.int res.1)) res.2) 0 0 A := by
  refine mk_start (A := A) (by decide) rfl (Nat.le_of_ble_eq_true rfl) ?_
  intro p e s m args below meth c H locs ls E hr hlocks hK hP hS hl
  have hl : lv_has ls 2 [(0, .ref (B 0)), (1, .int x1)] := hl
  unfold m_isPerson at hF
  refine lv_iload_n E.1 E.2.1 dX1_isPerson_0 rfl (lv_at hl 1 rfl) ?_
  refine lv_if_lt (tgt := 16) E.1 E.2.1 dX1_isPerson_1 (by decide) (fun h => ?_) (fun h => ?_)
  · have hF := ite_t h hF
    refine lv_iconst (v := (0 : Int32)) E.1 E.2.1 dX1_isPerson_16 (by decide) ?_
    exact mk_zret E hr hlocks hP hS hF dX1_isPerson_17
  · have hF := ite_f h hF
    refine lv_iload_n E.1 E.2.1 dX1_isPerson_4 rfl (lv_at hl 1 rfl) ?_
    refine lv_aload_n E.1 E.2.1 dX1_isPerson_5 rfl (lv_at hl 0 rfl) ?_
    refine mk_get E hcl hK hP 5 (by decide) q1115 rfl (v := .int (z0.1 5)) rfl dX1_isPerson_6 ?_
    refine lv_icmp_ge (tgt := 16) E.1 E.2.1 dX1_isPerson_9 (by decide) (fun h => ?_) (fun h => ?_)
    · have hF := ite_t h hF
      refine lv_iconst (v := (0 : Int32)) E.1 E.2.1 dX1_isPerson_16 (by decide) ?_
      exact mk_zret E hr hlocks hP hS hF dX1_isPerson_17
    · have hF := ite_f h hF
      refine lv_iconst (v := (1 : Int32)) E.1 E.2.1 dX1_isPerson_12 (by decide) ?_
      refine lv_goto (tgt := 17) E.1 E.2.1 dX1_isPerson_13 (by decide) ?_
      exact mk_zret E hr hlocks hP hS hF dX1_isPerson_17
/-! DebtFerryModel.allOf(I)I -/
def m_allOf_L4 (x1 : Int32) : Nat → Int32 → Int32 → MZ → Option (Int32 × MZ)
  | 0, _, _, _ => none
  | n + 1, y4_2, y4_3, z4 =>
    if (z4.1 5) ≤ y4_3 then some (y4_2, z4) else gd (inb (((5 : Int32) * x1) + y4_3) 25) (m_allOf_L4 x1 n (y4_2 + (z4.2 10 (((5 : Int32) * x1) + y4_3).toNatClampNeg)) (y4_3 + 1) z4)
def m_allOf (x1 : Int32) (z0 : MZ) : Option (Int32 × MZ) :=
  m_allOf_L4 x1 FU (0 : Int32) (0 : Int32) z0
abbrev rmX1_allOf : Room := { frames := 1, cells := 0, slots := 0, locals := 12 }
set_option maxHeartbeats 4000000 in
set_option maxRecDepth 100000 in
theorem mm_X1_allOf (l : Launch) {D : va_G} {cl : List vw_C} {ci : Nat} {d : ClassId} {B : Nat → Nat} {A : Nat → Prop} (hcl : cl[ci]? = some (RX1, TX1, 29)) (hB : ∀ z, va_D A (mW ci d B z)) (x1 : Int32) (z0 : MZ) (res : Int32 × MZ) (hF : m_allOf x1 z0 = some res) : Met l yX1_allOf (ws_ yX1_allOf cX1_allOf 4 (some .int)) rmX1_allOf (mPc D cl ci d B z0 [.int x1]) (mQ D cl ci d B A (some (.int res.1)) res.2) 0 0 A := by
  refine mk_start (A := A) (by decide) rfl (Nat.le_of_ble_eq_true rfl) ?_
  intro p e s m args below meth c H locs ls E hr hlocks hK hP hS hl
  have hl : lv_has ls 4 [(0, .ref (B 0)), (1, .int x1)] := hl
  unfold m_allOf at hF
  refine lv_iconst (v := (0 : Int32)) E.1 E.2.1 dX1_allOf_0 (by decide) ?_
  refine lv_istore_n (lv' := [(2, .int (0 : Int32)), (0, .ref (B 0)), (1, .int x1)]) E.1 E.2.1 dX1_allOf_1 rfl hl (by decide) rfl (fun ls hl => ?_)
  refine lv_iconst (v := (0 : Int32)) E.1 E.2.1 dX1_allOf_2 (by decide) ?_
  refine lv_istore_n (lv' := [(3, .int (0 : Int32)), (2, .int (0 : Int32)), (0, .ref (B 0)), (1, .int x1)]) E.1 E.2.1 dX1_allOf_3 rfl hl (by decide) rfl (fun ls hl => ?_)
  have L4 : ∀ (n : Nat) (y4_2 : Int32) (y4_3 : Int32) (z4 : MZ) (H : Heap) (locs : List Loc) (ls : Array Slot), m_allOf_L4 x1 n y4_2 y4_3 z4 = some res → va_P D cl (mW ci d B z4) H → va_S A s.heap H locs → lv_has ls 4 [(0, .ref (B 0)), (1, .int x1), (2, .int y4_2), (3, .int y4_3)] → W p l e rmX1_allOf s m args below meth c H locs 0 0 (MQ below (mQ D cl ci d B A (some (.int res.1)) res.2) args s 0 0 A) (F0 m 4 ls []) := by
    intro n
    induction n with
    | zero =>
      intro y4_2 y4_3 z4 H locs ls hF
      rw [m_allOf_L4] at hF
      cases hF
    | succ n ih =>
      intro y4_2 y4_3 z4 H locs ls hF hP hS hl
      rw [m_allOf_L4] at hF
      refine lv_iload_n E.1 E.2.1 dX1_allOf_4 rfl (lv_at hl 3 rfl) ?_
      refine lv_aload_n E.1 E.2.1 dX1_allOf_5 rfl (lv_at hl 0 rfl) ?_
      refine mk_get E hcl hK hP 5 (by decide) q1115 rfl (v := .int (z4.1 5)) rfl dX1_allOf_6 ?_
      refine lv_icmp_ge (tgt := 31) E.1 E.2.1 dX1_allOf_9 (by decide) (fun h => ?_) (fun h => ?_)
      · have hF := ite_t h hF
        refine lv_iload_n E.1 E.2.1 dX1_allOf_31 rfl (lv_at hl 2 rfl) ?_
        exact mk_iret E hr hlocks hP hS hF dX1_allOf_32
      · have hF := ite_f h hF
        refine lv_iload_n E.1 E.2.1 dX1_allOf_12 rfl (lv_at hl 2 rfl) ?_
        refine lv_aload_n E.1 E.2.1 dX1_allOf_13 rfl (lv_at hl 0 rfl) ?_
        refine mk_get E hcl hK hP 10 (by decide) q1120 rfl (v := .ref (B 10)) rfl dX1_allOf_14 ?_
        refine lv_iconst (v := (5 : Int32)) E.1 E.2.1 dX1_allOf_17 (by decide) ?_
        refine lv_iload_n E.1 E.2.1 dX1_allOf_18 rfl (lv_at hl 1 rfl) ?_
        refine lv_imul E.1 E.2.1 dX1_allOf_19 ?_
        refine lv_iload_n E.1 E.2.1 dX1_allOf_20 rfl (lv_at hl 3 rfl) ?_
        refine lv_iadd E.1 E.2.1 dX1_allOf_21 ?_
        obtain ⟨h22, hF⟩ := gd_some hF
        refine mk_ald E hK hP (q := 6) (j := 10) (n := 25) rfl h22 dX1_allOf_22 ?_
        refine lv_iadd E.1 E.2.1 dX1_allOf_23 ?_
        refine lv_istore_n (lv' := [(2, .int (y4_2 + (z4.2 10 (((5 : Int32) * x1) + y4_3).toNatClampNeg))), (0, .ref (B 0)), (1, .int x1), (3, .int y4_3)]) E.1 E.2.1 dX1_allOf_24 rfl hl (by decide) rfl (fun ls hl => ?_)
        refine lv_iinc (v := y4_3 + 1) (lv' := [(3, .int (y4_3 + 1)), (2, .int (y4_2 + (z4.2 10 (((5 : Int32) * x1) + y4_3).toNatClampNeg))), (0, .ref (B 0)), (1, .int x1)]) E.1 E.2.1 dX1_allOf_25 hl (k := 3) rfl rfl (by decide) rfl (fun ls hl => ?_)
        refine lv_goto (tgt := 4) E.1 E.2.1 dX1_allOf_28 (by decide) ?_
        exact ih (y4_2 + (z4.2 10 (((5 : Int32) * x1) + y4_3).toNatClampNeg)) (y4_3 + 1) z4 H locs ls hF hP hS (lv_sub hl [2, 3, 1, 0] rfl)
  exact L4 FU (0 : Int32) (0 : Int32) z0 H locs ls hF hP hS (lv_sub hl [2, 3, 1, 0] rfl)
/-! DebtFerryModel.ofPerson(II)I -/
def m_ofPerson (x1 : Int32) (x2 : Int32) (z0 : MZ) : Option (Int32 × MZ) :=
  (m_isPerson x1 z0).bind (fun r2 => if r2.1 = 0 then some ((-1 : Int32), r2.2) else if x2 = 0 then gd (inb x1 5) (some ((r2.2.2 8 x1.toNatClampNeg), r2.2)) else if x2 = (1 : Int32) then gd (inb x1 5) (some ((r2.2.2 9 x1.toNatClampNeg), r2.2)) else if x2 = (2 : Int32) then (m_allOf x1 r2.2).bind (fun r44 => some (r44.1, r44.2)) else some ((-2 : Int32), r2.2))
abbrev rmX1_ofPerson : Room := { frames := 2, cells := 0, slots := 0, locals := 35 }
set_option maxHeartbeats 4000000 in
set_option maxRecDepth 100000 in
theorem mm_X1_ofPerson (l : Launch) {D : va_G} {cl : List vw_C} {ci : Nat} {d : ClassId} {B : Nat → Nat} {A : Nat → Prop} (hcl : cl[ci]? = some (RX1, TX1, 29)) (hB : ∀ z, va_D A (mW ci d B z)) (x1 : Int32) (x2 : Int32) (z0 : MZ) (res : Int32 × MZ) (hF : m_ofPerson x1 x2 z0 = some res) : Met l yX1_ofPerson (ws_ yX1_ofPerson cX1_ofPerson 3 (some .int)) rmX1_ofPerson (mPc D cl ci d B z0 [.int x1, .int x2]) (mQ D cl ci d B A (some (.int res.1)) res.2) 0 0 A := by
  refine mk_start (A := A) (by decide) rfl (Nat.le_of_ble_eq_true rfl) ?_
  intro p e s m args below meth c H locs ls E hr hlocks hK hP hS hl
  have hl : lv_has ls 3 [(0, .ref (B 0)), (1, .int x1), (2, .int x2)] := hl
  unfold m_ofPerson at hF
  refine lv_aload_n E.1 E.2.1 dX1_ofPerson_0 rfl (lv_at hl 0 rfl) ?_
  refine lv_iload_n E.1 E.2.1 dX1_ofPerson_1 rfl (lv_at hl 1 rfl) ?_
  obtain ⟨r2, hq2, hF⟩ := bnd hF
  refine mk_call (As := [.int x1]) (rest := []) (v := (some (.int r2.1))) E hcl hK hP hS (mm_X1_isPerson l hcl hB x1 z0 _ hq2) (cwV 1 E.2.2.2.2 (lw_V q1243 q1245 qs38 q58 q1246) rfl rfl rfl (by decide +kernel) ⟨Nat.le_of_ble_eq_true rfl, Nat.le_of_ble_eq_true rfl⟩) hl rfl rfl (Nat.le_of_ble_eq_true rfl) ⟨Nat.zero_le _, Nat.zero_le _⟩ dX1_ofPerson_2 (fun H locs hP hS => ?_)
  refine lv_if_ne (tgt := 10) E.1 E.2.1 dX1_ofPerson_5 (by decide) (fun h => ?_) (fun h => ?_)
  · have hF := ite_f h hF
    refine lv_iload_n E.1 E.2.1 dX1_ofPerson_10 rfl (lv_at hl 2 rfl) ?_
    refine lv_if_ne (tgt := 23) E.1 E.2.1 dX1_ofPerson_11 (by decide) (fun h => ?_) (fun h => ?_)
    · have hF := ite_f h hF
      refine lv_iload_n E.1 E.2.1 dX1_ofPerson_23 rfl (lv_at hl 2 rfl) ?_
      refine lv_iconst (v := (1 : Int32)) E.1 E.2.1 dX1_ofPerson_24 (by decide) ?_
      refine lv_icmp_ne (tgt := 37) E.1 E.2.1 dX1_ofPerson_25 (by decide) (fun h => ?_) (fun h => ?_)
      · have hF := ite_f h hF
        refine lv_iload_n E.1 E.2.1 dX1_ofPerson_37 rfl (lv_at hl 2 rfl) ?_
        refine lv_iconst (v := (2 : Int32)) E.1 E.2.1 dX1_ofPerson_38 (by decide) ?_
        refine lv_icmp_ne (tgt := 50) E.1 E.2.1 dX1_ofPerson_39 (by decide) (fun h => ?_) (fun h => ?_)
        · have hF := ite_f h hF
          refine lv_bipush (v := (-2 : Int32)) E.1 E.2.1 dX1_ofPerson_50 (by decide) ?_
          exact mk_iret E hr hlocks hP hS hF dX1_ofPerson_52
        · have hF := ite_t h hF
          refine lv_aload_n E.1 E.2.1 dX1_ofPerson_42 rfl (lv_at hl 0 rfl) ?_
          refine lv_iload_n E.1 E.2.1 dX1_ofPerson_43 rfl (lv_at hl 1 rfl) ?_
          obtain ⟨r44, hq44, hF⟩ := bnd hF
          refine mk_call (As := [.int x1]) (rest := []) (v := (some (.int r44.1))) E hcl hK hP hS (mm_X1_allOf l hcl hB x1 r2.2 _ hq44) (cwV 1 E.2.2.2.2 (lw_V q1247 q1249 qs39 q58 q1250) rfl rfl rfl (by decide +kernel) ⟨Nat.le_of_ble_eq_true rfl, Nat.le_of_ble_eq_true rfl⟩) hl rfl rfl (Nat.le_of_ble_eq_true rfl) ⟨Nat.zero_le _, Nat.zero_le _⟩ dX1_ofPerson_44 (fun H locs hP hS => ?_)
          refine lv_goto (tgt := 52) E.1 E.2.1 dX1_ofPerson_47 (by decide) ?_
          exact mk_iret E hr hlocks hP hS hF dX1_ofPerson_52
      · have hF := ite_t h hF
        refine lv_aload_n E.1 E.2.1 dX1_ofPerson_28 rfl (lv_at hl 0 rfl) ?_
        refine mk_get E hcl hK hP 9 (by decide) q1119 rfl (v := .ref (B 9)) rfl dX1_ofPerson_29 ?_
        refine lv_iload_n E.1 E.2.1 dX1_ofPerson_32 rfl (lv_at hl 1 rfl) ?_
        obtain ⟨h33, hF⟩ := gd_some hF
        refine mk_ald E hK hP (q := 5) (j := 9) (n := 5) rfl h33 dX1_ofPerson_33 ?_
        refine lv_goto (tgt := 52) E.1 E.2.1 dX1_ofPerson_34 (by decide) ?_
        exact mk_iret E hr hlocks hP hS hF dX1_ofPerson_52
    · have hF := ite_t h hF
      refine lv_aload_n E.1 E.2.1 dX1_ofPerson_14 rfl (lv_at hl 0 rfl) ?_
      refine mk_get E hcl hK hP 8 (by decide) q1118 rfl (v := .ref (B 8)) rfl dX1_ofPerson_15 ?_
      refine lv_iload_n E.1 E.2.1 dX1_ofPerson_18 rfl (lv_at hl 1 rfl) ?_
      obtain ⟨h19, hF⟩ := gd_some hF
      refine mk_ald E hK hP (q := 4) (j := 8) (n := 5) rfl h19 dX1_ofPerson_19 ?_
      refine lv_goto (tgt := 52) E.1 E.2.1 dX1_ofPerson_20 (by decide) ?_
      exact mk_iret E hr hlocks hP hS hF dX1_ofPerson_52
  · have hF := ite_t h hF
    refine lv_iconst (v := (-1 : Int32)) E.1 E.2.1 dX1_ofPerson_8 (by decide) ?_
    exact mk_iret E hr hlocks hP hS hF dX1_ofPerson_9
/-! DebtFerryModel.owes(II)I -/
def m_owes (x1 : Int32) (x2 : Int32) (z0 : MZ) : Option (Int32 × MZ) :=
  (m_isPerson x1 z0).bind (fun r2 => if r2.1 = 0 then some ((-1 : Int32), r2.2) else (m_isPerson x2 r2.2).bind (fun r10 => if r10.1 = 0 then some ((-1 : Int32), r10.2) else gd (inb (((5 : Int32) * x1) + x2) 25) (some ((r10.2.2 10 (((5 : Int32) * x1) + x2).toNatClampNeg), r10.2))))
abbrev rmX1_owes : Room := { frames := 2, cells := 0, slots := 0, locals := 33 }
set_option maxHeartbeats 4000000 in
set_option maxRecDepth 100000 in
theorem mm_X1_owes (l : Launch) {D : va_G} {cl : List vw_C} {ci : Nat} {d : ClassId} {B : Nat → Nat} {A : Nat → Prop} (hcl : cl[ci]? = some (RX1, TX1, 29)) (hB : ∀ z, va_D A (mW ci d B z)) (x1 : Int32) (x2 : Int32) (z0 : MZ) (res : Int32 × MZ) (hF : m_owes x1 x2 z0 = some res) : Met l yX1_owes (ws_ yX1_owes cX1_owes 3 (some .int)) rmX1_owes (mPc D cl ci d B z0 [.int x1, .int x2]) (mQ D cl ci d B A (some (.int res.1)) res.2) 0 0 A := by
  refine mk_start (A := A) (by decide) rfl (Nat.le_of_ble_eq_true rfl) ?_
  intro p e s m args below meth c H locs ls E hr hlocks hK hP hS hl
  have hl : lv_has ls 3 [(0, .ref (B 0)), (1, .int x1), (2, .int x2)] := hl
  unfold m_owes at hF
  refine lv_aload_n E.1 E.2.1 dX1_owes_0 rfl (lv_at hl 0 rfl) ?_
  refine lv_iload_n E.1 E.2.1 dX1_owes_1 rfl (lv_at hl 1 rfl) ?_
  obtain ⟨r2, hq2, hF⟩ := bnd hF
  refine mk_call (As := [.int x1]) (rest := []) (v := (some (.int r2.1))) E hcl hK hP hS (mm_X1_isPerson l hcl hB x1 z0 _ hq2) (cwV 1 E.2.2.2.2 (lw_V q1243 q1245 qs38 q58 q1246) rfl rfl rfl (by decide +kernel) ⟨Nat.le_of_ble_eq_true rfl, Nat.le_of_ble_eq_true rfl⟩) hl rfl rfl (Nat.le_of_ble_eq_true rfl) ⟨Nat.zero_le _, Nat.zero_le _⟩ dX1_owes_2 (fun H locs hP hS => ?_)
  refine lv_if_eq (tgt := 29) E.1 E.2.1 dX1_owes_5 (by decide) (fun h => ?_) (fun h => ?_)
  · have hF := ite_t h hF
    refine lv_iconst (v := (-1 : Int32)) E.1 E.2.1 dX1_owes_29 (by decide) ?_
    exact mk_iret E hr hlocks hP hS hF dX1_owes_30
  · have hF := ite_f h hF
    refine lv_aload_n E.1 E.2.1 dX1_owes_8 rfl (lv_at hl 0 rfl) ?_
    refine lv_iload_n E.1 E.2.1 dX1_owes_9 rfl (lv_at hl 2 rfl) ?_
    obtain ⟨r10, hq10, hF⟩ := bnd hF
    refine mk_call (As := [.int x2]) (rest := []) (v := (some (.int r10.1))) E hcl hK hP hS (mm_X1_isPerson l hcl hB x2 r2.2 _ hq10) (cwV 1 E.2.2.2.2 (lw_V q1243 q1245 qs38 q58 q1246) rfl rfl rfl (by decide +kernel) ⟨Nat.le_of_ble_eq_true rfl, Nat.le_of_ble_eq_true rfl⟩) hl rfl rfl (Nat.le_of_ble_eq_true rfl) ⟨Nat.zero_le _, Nat.zero_le _⟩ dX1_owes_10 (fun H locs hP hS => ?_)
    refine lv_if_eq (tgt := 29) E.1 E.2.1 dX1_owes_13 (by decide) (fun h => ?_) (fun h => ?_)
    · have hF := ite_t h hF
      refine lv_iconst (v := (-1 : Int32)) E.1 E.2.1 dX1_owes_29 (by decide) ?_
      exact mk_iret E hr hlocks hP hS hF dX1_owes_30
    · have hF := ite_f h hF
      refine lv_aload_n E.1 E.2.1 dX1_owes_16 rfl (lv_at hl 0 rfl) ?_
      refine mk_get E hcl hK hP 10 (by decide) q1120 rfl (v := .ref (B 10)) rfl dX1_owes_17 ?_
      refine lv_iconst (v := (5 : Int32)) E.1 E.2.1 dX1_owes_20 (by decide) ?_
      refine lv_iload_n E.1 E.2.1 dX1_owes_21 rfl (lv_at hl 1 rfl) ?_
      refine lv_imul E.1 E.2.1 dX1_owes_22 ?_
      refine lv_iload_n E.1 E.2.1 dX1_owes_23 rfl (lv_at hl 2 rfl) ?_
      refine lv_iadd E.1 E.2.1 dX1_owes_24 ?_
      obtain ⟨h25, hF⟩ := gd_some hF
      refine mk_ald E hK hP (q := 6) (j := 10) (n := 25) rfl h25 dX1_owes_25 ?_
      refine lv_goto (tgt := 30) E.1 E.2.1 dX1_owes_26 (by decide) ?_
      exact mk_iret E hr hlocks hP hS hF dX1_owes_30
/-! DebtFerryModel.isNote(II)Z -/
def m_isNote (x1 : Int32) (x2 : Int32) (z0 : MZ) : Option (Int32 × MZ) :=
  (m_isPerson x1 z0).bind (fun r2 => if r2.1 = 0 then (zr (0 : Int32)).bind (fun r => some (r, r2.2)) else (m_isPerson x2 r2.2).bind (fun r10 => if r10.1 = 0 then (zr (0 : Int32)).bind (fun r => some (r, r10.2)) else if x1 = x2 then (zr (0 : Int32)).bind (fun r => some (r, r10.2)) else (zr (1 : Int32)).bind (fun r => some (r, r10.2))))
abbrev rmX1_isNote : Room := { frames := 2, cells := 0, slots := 0, locals := 33 }
set_option maxHeartbeats 4000000 in
set_option maxRecDepth 100000 in
theorem mm_X1_isNote (l : Launch) {D : va_G} {cl : List vw_C} {ci : Nat} {d : ClassId} {B : Nat → Nat} {A : Nat → Prop} (hcl : cl[ci]? = some (RX1, TX1, 29)) (hB : ∀ z, va_D A (mW ci d B z)) (x1 : Int32) (x2 : Int32) (z0 : MZ) (res : Int32 × MZ) (hF : m_isNote x1 x2 z0 = some res) : Met l yX1_isNote (ws_ yX1_isNote cX1_isNote 3 (some .boolean)) rmX1_isNote (mPc D cl ci d B z0 [.int x1, .int x2]) (mQ D cl ci d B A (some (.int res.1)) res.2) 0 0 A := by
  refine mk_start (A := A) (by decide) rfl (Nat.le_of_ble_eq_true rfl) ?_
  intro p e s m args below meth c H locs ls E hr hlocks hK hP hS hl
  have hl : lv_has ls 3 [(0, .ref (B 0)), (1, .int x1), (2, .int x2)] := hl
  unfold m_isNote at hF
  refine lv_aload_n E.1 E.2.1 dX1_isNote_0 rfl (lv_at hl 0 rfl) ?_
  refine lv_iload_n E.1 E.2.1 dX1_isNote_1 rfl (lv_at hl 1 rfl) ?_
  obtain ⟨r2, hq2, hF⟩ := bnd hF
  refine mk_call (As := [.int x1]) (rest := []) (v := (some (.int r2.1))) E hcl hK hP hS (mm_X1_isPerson l hcl hB x1 z0 _ hq2) (cwV 1 E.2.2.2.2 (lw_V q1243 q1245 qs38 q58 q1246) rfl rfl rfl (by decide +kernel) ⟨Nat.le_of_ble_eq_true rfl, Nat.le_of_ble_eq_true rfl⟩) hl rfl rfl (Nat.le_of_ble_eq_true rfl) ⟨Nat.zero_le _, Nat.zero_le _⟩ dX1_isNote_2 (fun H locs hP hS => ?_)
  refine lv_if_eq (tgt := 25) E.1 E.2.1 dX1_isNote_5 (by decide) (fun h => ?_) (fun h => ?_)
  · have hF := ite_t h hF
    refine lv_iconst (v := (0 : Int32)) E.1 E.2.1 dX1_isNote_25 (by decide) ?_
    exact mk_zret E hr hlocks hP hS hF dX1_isNote_26
  · have hF := ite_f h hF
    refine lv_aload_n E.1 E.2.1 dX1_isNote_8 rfl (lv_at hl 0 rfl) ?_
    refine lv_iload_n E.1 E.2.1 dX1_isNote_9 rfl (lv_at hl 2 rfl) ?_
    obtain ⟨r10, hq10, hF⟩ := bnd hF
    refine mk_call (As := [.int x2]) (rest := []) (v := (some (.int r10.1))) E hcl hK hP hS (mm_X1_isPerson l hcl hB x2 r2.2 _ hq10) (cwV 1 E.2.2.2.2 (lw_V q1243 q1245 qs38 q58 q1246) rfl rfl rfl (by decide +kernel) ⟨Nat.le_of_ble_eq_true rfl, Nat.le_of_ble_eq_true rfl⟩) hl rfl rfl (Nat.le_of_ble_eq_true rfl) ⟨Nat.zero_le _, Nat.zero_le _⟩ dX1_isNote_10 (fun H locs hP hS => ?_)
    refine lv_if_eq (tgt := 25) E.1 E.2.1 dX1_isNote_13 (by decide) (fun h => ?_) (fun h => ?_)
    · have hF := ite_t h hF
      refine lv_iconst (v := (0 : Int32)) E.1 E.2.1 dX1_isNote_25 (by decide) ?_
      exact mk_zret E hr hlocks hP hS hF dX1_isNote_26
    · have hF := ite_f h hF
      refine lv_iload_n E.1 E.2.1 dX1_isNote_16 rfl (lv_at hl 1 rfl) ?_
      refine lv_iload_n E.1 E.2.1 dX1_isNote_17 rfl (lv_at hl 2 rfl) ?_
      refine lv_icmp_eq (tgt := 25) E.1 E.2.1 dX1_isNote_18 (by decide) (fun h => ?_) (fun h => ?_)
      · have hF := ite_t h hF
        refine lv_iconst (v := (0 : Int32)) E.1 E.2.1 dX1_isNote_25 (by decide) ?_
        exact mk_zret E hr hlocks hP hS hF dX1_isNote_26
      · have hF := ite_f h hF
        refine lv_iconst (v := (1 : Int32)) E.1 E.2.1 dX1_isNote_21 (by decide) ?_
        refine lv_goto (tgt := 26) E.1 E.2.1 dX1_isNote_22 (by decide) ?_
        exact mk_zret E hr hlocks hP hS hF dX1_isNote_26
/-! DebtFerryModel.lend(III)I -/
def m_lend (x1 : Int32) (x2 : Int32) (x3 : Int32) (z0 : MZ) : Option (Int32 × MZ) :=
  (m_isNote x1 x2 z0).bind (fun r3 => if r3.1 = 0 then some ((-1 : Int32), r3.2) else (m_within x3 (0 : Int32) (9 : Int32)).bind (fun r15 => if r15 = 0 then some ((-2 : Int32), r3.2) else gd (inb (((5 : Int32) * x1) + x2) 25) (gd (inb (((5 : Int32) * x1) + x2) 25) (some ((r3.2.2 10 (((5 : Int32) * x1) + x2).toNatClampNeg), (mz_a r3.2 10 (((5 : Int32) * x1) + x2).toNatClampNeg x3))))))
abbrev rmX1_lend : Room := { frames := 3, cells := 0, slots := 0, locals := 55 }
set_option maxHeartbeats 4000000 in
set_option maxRecDepth 100000 in
theorem mm_X1_lend (l : Launch) {D : va_G} {cl : List vw_C} {ci : Nat} {d : ClassId} {B : Nat → Nat} {A : Nat → Prop} (hcl : cl[ci]? = some (RX1, TX1, 29)) (hB : ∀ z, va_D A (mW ci d B z)) (x1 : Int32) (x2 : Int32) (x3 : Int32) (z0 : MZ) (res : Int32 × MZ) (hF : m_lend x1 x2 x3 z0 = some res) : Met l yX1_lend (ws_ yX1_lend cX1_lend 5 (some .int)) rmX1_lend (mPc D cl ci d B z0 [.int x1, .int x2, .int x3]) (mQ D cl ci d B A (some (.int res.1)) res.2) 0 0 A := by
  refine mk_start (A := A) (by decide) rfl (Nat.le_of_ble_eq_true rfl) ?_
  intro p e s m args below meth c H locs ls E hr hlocks hK hP hS hl
  have hl : lv_has ls 5 [(0, .ref (B 0)), (1, .int x1), (2, .int x2), (3, .int x3)] := hl
  unfold m_lend at hF
  refine lv_aload_n E.1 E.2.1 dX1_lend_0 rfl (lv_at hl 0 rfl) ?_
  refine lv_iload_n E.1 E.2.1 dX1_lend_1 rfl (lv_at hl 1 rfl) ?_
  refine lv_iload_n E.1 E.2.1 dX1_lend_2 rfl (lv_at hl 2 rfl) ?_
  obtain ⟨r3, hq3, hF⟩ := bnd hF
  refine mk_call (As := [.int x1, .int x2]) (rest := []) (v := (some (.int r3.1))) E hcl hK hP hS (mm_X1_isNote l hcl hB x1 x2 z0 _ hq3) (cwV 2 E.2.2.2.2 (lw_V q1259 q1261 qs40 q58 q1262) rfl rfl rfl (by decide +kernel) ⟨Nat.le_of_ble_eq_true rfl, Nat.le_of_ble_eq_true rfl⟩) hl rfl rfl (Nat.le_of_ble_eq_true rfl) ⟨Nat.zero_le _, Nat.zero_le _⟩ dX1_lend_3 (fun H locs hP hS => ?_)
  refine lv_if_ne (tgt := 11) E.1 E.2.1 dX1_lend_6 (by decide) (fun h => ?_) (fun h => ?_)
  · have hF := ite_f h hF
    refine lv_iload_n E.1 E.2.1 dX1_lend_11 rfl (lv_at hl 3 rfl) ?_
    refine lv_iconst (v := (0 : Int32)) E.1 E.2.1 dX1_lend_12 (by decide) ?_
    refine lv_bipush (v := (9 : Int32)) E.1 E.2.1 dX1_lend_13 (by decide) ?_
    obtain ⟨r15, hq15, hF⟩ := bnd hF
    refine px_call (As := [.int x3, .int (0 : Int32), .int (9 : Int32)]) (rest := []) (v := .int r15) E (mm_X1_within l x3 (0 : Int32) (9 : Int32) _ hq15) (va_cwS 3 E.2.2.2.2 (lw_S q1205 q1206 q58 q1207) rfl rfl rfl (by decide +kernel) ⟨Nat.le_of_ble_eq_true rfl, Nat.le_of_ble_eq_true rfl⟩) hl rfl rfl (Nat.le_of_ble_eq_true rfl) ⟨Nat.zero_le _, Nat.zero_le _⟩ dX1_lend_15 ?_
    refine lv_if_ne (tgt := 24) E.1 E.2.1 dX1_lend_18 (by decide) (fun h => ?_) (fun h => ?_)
    · have hF := ite_f h hF
      refine lv_aload_n E.1 E.2.1 dX1_lend_24 rfl (lv_at hl 0 rfl) ?_
      refine mk_get E hcl hK hP 10 (by decide) q1120 rfl (v := .ref (B 10)) rfl dX1_lend_25 ?_
      refine lv_iconst (v := (5 : Int32)) E.1 E.2.1 dX1_lend_28 (by decide) ?_
      refine lv_iload_n E.1 E.2.1 dX1_lend_29 rfl (lv_at hl 1 rfl) ?_
      refine lv_imul E.1 E.2.1 dX1_lend_30 ?_
      refine lv_iload_n E.1 E.2.1 dX1_lend_31 rfl (lv_at hl 2 rfl) ?_
      refine lv_iadd E.1 E.2.1 dX1_lend_32 ?_
      obtain ⟨h33, hF⟩ := gd_some hF
      refine mk_ald E hK hP (q := 6) (j := 10) (n := 25) rfl h33 dX1_lend_33 ?_
      refine lv_istore (lv' := [(4, .int (r3.2.2 10 (((5 : Int32) * x1) + x2).toNatClampNeg)), (0, .ref (B 0)), (1, .int x1), (2, .int x2), (3, .int x3)]) E.1 E.2.1 dX1_lend_34 hl (by decide) rfl (fun ls hl => ?_)
      refine lv_aload_n E.1 E.2.1 dX1_lend_36 rfl (lv_at hl 1 rfl) ?_
      refine mk_get E hcl hK hP 10 (by decide) q1120 rfl (v := .ref (B 10)) rfl dX1_lend_37 ?_
      refine lv_iconst (v := (5 : Int32)) E.1 E.2.1 dX1_lend_40 (by decide) ?_
      refine lv_iload_n E.1 E.2.1 dX1_lend_41 rfl (lv_at hl 2 rfl) ?_
      refine lv_imul E.1 E.2.1 dX1_lend_42 ?_
      refine lv_iload_n E.1 E.2.1 dX1_lend_43 rfl (lv_at hl 3 rfl) ?_
      refine lv_iadd E.1 E.2.1 dX1_lend_44 ?_
      refine lv_iload_n E.1 E.2.1 dX1_lend_45 rfl (lv_at hl 4 rfl) ?_
      obtain ⟨h46, hF⟩ := gd_some hF
      refine mk_ast E hB hK hP hS (q := 6) (j := 10) (n := 25) rfl h46 dX1_lend_46 (fun H locs hP hS => ?_)
      refine lv_iload E.1 E.2.1 dX1_lend_47 (lv_at hl 0 rfl) ?_
      exact mk_iret E hr hlocks hP hS hF dX1_lend_49
    · have hF := ite_t h hF
      refine lv_bipush (v := (-2 : Int32)) E.1 E.2.1 dX1_lend_21 (by decide) ?_
      exact mk_iret E hr hlocks hP hS hF dX1_lend_23
  · have hF := ite_t h hF
    refine lv_iconst (v := (-1 : Int32)) E.1 E.2.1 dX1_lend_9 (by decide) ?_
    exact mk_iret E hr hlocks hP hS hF dX1_lend_10
/-! DebtFerryModel.count(I)I -/
def m_count (x1 : Int32) (z0 : MZ) : Option (Int32 × MZ) :=
  (m_within x1 (1 : Int32) (3 : Int32)).bind (fun r3 => if r3 = 0 then some ((-2 : Int32), z0) else if (z0.1 5) = 0 then some ((-3 : Int32), z0) else some ((z0.1 7), (mz_f z0 7 x1)))
abbrev rmX1_count : Room := { frames := 2, cells := 0, slots := 0, locals := 34 }
set_option maxHeartbeats 4000000 in
set_option maxRecDepth 100000 in
theorem mm_X1_count (l : Launch) {D : va_G} {cl : List vw_C} {ci : Nat} {d : ClassId} {B : Nat → Nat} {A : Nat → Prop} (hcl : cl[ci]? = some (RX1, TX1, 29)) (hB : ∀ z, va_D A (mW ci d B z)) (x1 : Int32) (z0 : MZ) (res : Int32 × MZ) (hF : m_count x1 z0 = some res) : Met l yX1_count (ws_ yX1_count cX1_count 3 (some .int)) rmX1_count (mPc D cl ci d B z0 [.int x1]) (mQ D cl ci d B A (some (.int res.1)) res.2) 0 0 A := by
  refine mk_start (A := A) (by decide) rfl (Nat.le_of_ble_eq_true rfl) ?_
  intro p e s m args below meth c H locs ls E hr hlocks hK hP hS hl
  have hl : lv_has ls 3 [(0, .ref (B 0)), (1, .int x1)] := hl
  unfold m_count at hF
  refine lv_iload_n E.1 E.2.1 dX1_count_0 rfl (lv_at hl 1 rfl) ?_
  refine lv_iconst (v := (1 : Int32)) E.1 E.2.1 dX1_count_1 (by decide) ?_
  refine lv_iconst (v := (3 : Int32)) E.1 E.2.1 dX1_count_2 (by decide) ?_
  obtain ⟨r3, hq3, hF⟩ := bnd hF
  refine px_call (As := [.int x1, .int (1 : Int32), .int (3 : Int32)]) (rest := []) (v := .int r3) E (mm_X1_within l x1 (1 : Int32) (3 : Int32) _ hq3) (va_cwS 3 E.2.2.2.2 (lw_S q1205 q1206 q58 q1207) rfl rfl rfl (by decide +kernel) ⟨Nat.le_of_ble_eq_true rfl, Nat.le_of_ble_eq_true rfl⟩) hl rfl rfl (Nat.le_of_ble_eq_true rfl) ⟨Nat.zero_le _, Nat.zero_le _⟩ dX1_count_3 ?_
  refine lv_if_ne (tgt := 12) E.1 E.2.1 dX1_count_6 (by decide) (fun h => ?_) (fun h => ?_)
  · have hF := ite_f h hF
    refine lv_aload_n E.1 E.2.1 dX1_count_12 rfl (lv_at hl 0 rfl) ?_
    refine mk_get E hcl hK hP 5 (by decide) q1115 rfl (v := .int (z0.1 5)) rfl dX1_count_13 ?_
    refine lv_if_ne (tgt := 22) E.1 E.2.1 dX1_count_16 (by decide) (fun h => ?_) (fun h => ?_)
    · have hF := ite_f h hF
      refine lv_aload_n E.1 E.2.1 dX1_count_22 rfl (lv_at hl 0 rfl) ?_
      refine mk_get E hcl hK hP 7 (by decide) q1117 rfl (v := .int (z0.1 7)) rfl dX1_count_23 ?_
      refine lv_istore_n (lv' := [(2, .int (z0.1 7)), (0, .ref (B 0)), (1, .int x1)]) E.1 E.2.1 dX1_count_26 rfl hl (by decide) rfl (fun ls hl => ?_)
      refine lv_aload_n E.1 E.2.1 dX1_count_27 rfl (lv_at hl 1 rfl) ?_
      refine lv_iload_n E.1 E.2.1 dX1_count_28 rfl (lv_at hl 2 rfl) ?_
      refine mk_put E hcl hB hK hP hS 7 rfl q1117 rfl dX1_count_29 (fun H locs hP hS => ?_)
      refine lv_iload_n E.1 E.2.1 dX1_count_32 rfl (lv_at hl 0 rfl) ?_
      exact mk_iret E hr hlocks hP hS hF dX1_count_33
    · have hF := ite_t h hF
      refine lv_bipush (v := (-3 : Int32)) E.1 E.2.1 dX1_count_19 (by decide) ?_
      exact mk_iret E hr hlocks hP hS hF dX1_count_21
  · have hF := ite_t h hF
    refine lv_bipush (v := (-2 : Int32)) E.1 E.2.1 dX1_count_9 (by decide) ?_
    exact mk_iret E hr hlocks hP hS hF dX1_count_11
/-! DebtFerryModel.build(I)I -/
def m_build (x1 : Int32) (z0 : MZ) : Option (Int32 × MZ) :=
  (m_within x1 (1 : Int32) (3 : Int32)).bind (fun r3 => if r3 = 0 then some ((-2 : Int32), z0) else if (z0.1 5) = 0 then some ((-3 : Int32), z0) else some ((z0.1 6), (mz_f z0 6 x1)))
abbrev rmX1_build : Room := { frames := 2, cells := 0, slots := 0, locals := 34 }
set_option maxHeartbeats 4000000 in
set_option maxRecDepth 100000 in
theorem mm_X1_build (l : Launch) {D : va_G} {cl : List vw_C} {ci : Nat} {d : ClassId} {B : Nat → Nat} {A : Nat → Prop} (hcl : cl[ci]? = some (RX1, TX1, 29)) (hB : ∀ z, va_D A (mW ci d B z)) (x1 : Int32) (z0 : MZ) (res : Int32 × MZ) (hF : m_build x1 z0 = some res) : Met l yX1_build (ws_ yX1_build cX1_build 3 (some .int)) rmX1_build (mPc D cl ci d B z0 [.int x1]) (mQ D cl ci d B A (some (.int res.1)) res.2) 0 0 A := by
  refine mk_start (A := A) (by decide) rfl (Nat.le_of_ble_eq_true rfl) ?_
  intro p e s m args below meth c H locs ls E hr hlocks hK hP hS hl
  have hl : lv_has ls 3 [(0, .ref (B 0)), (1, .int x1)] := hl
  unfold m_build at hF
  refine lv_iload_n E.1 E.2.1 dX1_build_0 rfl (lv_at hl 1 rfl) ?_
  refine lv_iconst (v := (1 : Int32)) E.1 E.2.1 dX1_build_1 (by decide) ?_
  refine lv_iconst (v := (3 : Int32)) E.1 E.2.1 dX1_build_2 (by decide) ?_
  obtain ⟨r3, hq3, hF⟩ := bnd hF
  refine px_call (As := [.int x1, .int (1 : Int32), .int (3 : Int32)]) (rest := []) (v := .int r3) E (mm_X1_within l x1 (1 : Int32) (3 : Int32) _ hq3) (va_cwS 3 E.2.2.2.2 (lw_S q1205 q1206 q58 q1207) rfl rfl rfl (by decide +kernel) ⟨Nat.le_of_ble_eq_true rfl, Nat.le_of_ble_eq_true rfl⟩) hl rfl rfl (Nat.le_of_ble_eq_true rfl) ⟨Nat.zero_le _, Nat.zero_le _⟩ dX1_build_3 ?_
  refine lv_if_ne (tgt := 12) E.1 E.2.1 dX1_build_6 (by decide) (fun h => ?_) (fun h => ?_)
  · have hF := ite_f h hF
    refine lv_aload_n E.1 E.2.1 dX1_build_12 rfl (lv_at hl 0 rfl) ?_
    refine mk_get E hcl hK hP 5 (by decide) q1115 rfl (v := .int (z0.1 5)) rfl dX1_build_13 ?_
    refine lv_if_ne (tgt := 22) E.1 E.2.1 dX1_build_16 (by decide) (fun h => ?_) (fun h => ?_)
    · have hF := ite_f h hF
      refine lv_aload_n E.1 E.2.1 dX1_build_22 rfl (lv_at hl 0 rfl) ?_
      refine mk_get E hcl hK hP 6 (by decide) q1116 rfl (v := .int (z0.1 6)) rfl dX1_build_23 ?_
      refine lv_istore_n (lv' := [(2, .int (z0.1 6)), (0, .ref (B 0)), (1, .int x1)]) E.1 E.2.1 dX1_build_26 rfl hl (by decide) rfl (fun ls hl => ?_)
      refine lv_aload_n E.1 E.2.1 dX1_build_27 rfl (lv_at hl 1 rfl) ?_
      refine lv_iload_n E.1 E.2.1 dX1_build_28 rfl (lv_at hl 2 rfl) ?_
      refine mk_put E hcl hB hK hP hS 6 rfl q1116 rfl dX1_build_29 (fun H locs hP hS => ?_)
      refine lv_iload_n E.1 E.2.1 dX1_build_32 rfl (lv_at hl 0 rfl) ?_
      exact mk_iret E hr hlocks hP hS hF dX1_build_33
    · have hF := ite_t h hF
      refine lv_bipush (v := (-3 : Int32)) E.1 E.2.1 dX1_build_19 (by decide) ?_
      exact mk_iret E hr hlocks hP hS hF dX1_build_21
  · have hF := ite_t h hF
    refine lv_bipush (v := (-2 : Int32)) E.1 E.2.1 dX1_build_9 (by decide) ?_
    exact mk_iret E hr hlocks hP hS hF dX1_build_11
/-! DebtFerryModel.isSet(I)Z -/
def m_isSet (x1 : Int32) (z0 : MZ) : Option (Int32 × MZ) :=
  if x1 < 0 then (zr (0 : Int32)).bind (fun r => some (r, z0)) else if ((1 : Int32) <<< ((z0.1 5) &&& 31)) ≤ x1 then (zr (0 : Int32)).bind (fun r => some (r, z0)) else (zr (1 : Int32)).bind (fun r => some (r, z0))
abbrev rmX1_isSet : Room := { frames := 1, cells := 0, slots := 0, locals := 12 }
set_option maxHeartbeats 4000000 in
set_option maxRecDepth 100000 in
theorem mm_X1_isSet (l : Launch) {D : va_G} {cl : List vw_C} {ci : Nat} {d : ClassId} {B : Nat → Nat} {A : Nat → Prop} (hcl : cl[ci]? = some (RX1, TX1, 29)) (hB : ∀ z, va_D A (mW ci d B z)) (x1 : Int32) (z0 : MZ) (res : Int32 × MZ) (hF : m_isSet x1 z0 = some res) : Met l yX1_isSet (ws_ yX1_isSet cX1_isSet 2 (some .boolean)) rmX1_isSet (mPc D cl ci d B z0 [.int x1]) (mQ D cl ci d B A (some (.int res.1)) res.2) 0 0 A := by
  refine mk_start (A := A) (by decide) rfl (Nat.le_of_ble_eq_true rfl) ?_
  intro p e s m args below meth c H locs ls E hr hlocks hK hP hS hl
  have hl : lv_has ls 2 [(0, .ref (B 0)), (1, .int x1)] := hl
  unfold m_isSet at hF
  refine lv_iload_n E.1 E.2.1 dX1_isSet_0 rfl (lv_at hl 1 rfl) ?_
  refine lv_if_lt (tgt := 18) E.1 E.2.1 dX1_isSet_1 (by decide) (fun h => ?_) (fun h => ?_)
  · have hF := ite_t h hF
    refine lv_iconst (v := (0 : Int32)) E.1 E.2.1 dX1_isSet_18 (by decide) ?_
    exact mk_zret E hr hlocks hP hS hF dX1_isSet_19
  · have hF := ite_f h hF
    refine lv_iload_n E.1 E.2.1 dX1_isSet_4 rfl (lv_at hl 1 rfl) ?_
    refine lv_iconst (v := (1 : Int32)) E.1 E.2.1 dX1_isSet_5 (by decide) ?_
    refine lv_aload_n E.1 E.2.1 dX1_isSet_6 rfl (lv_at hl 0 rfl) ?_
    refine mk_get E hcl hK hP 5 (by decide) q1115 rfl (v := .int (z0.1 5)) rfl dX1_isSet_7 ?_
    refine lv_ishl E.1 E.2.1 dX1_isSet_10 ?_
    refine lv_icmp_ge (tgt := 18) E.1 E.2.1 dX1_isSet_11 (by decide) (fun h => ?_) (fun h => ?_)
    · have hF := ite_t h hF
      refine lv_iconst (v := (0 : Int32)) E.1 E.2.1 dX1_isSet_18 (by decide) ?_
      exact mk_zret E hr hlocks hP hS hF dX1_isSet_19
    · have hF := ite_f h hF
      refine lv_iconst (v := (1 : Int32)) E.1 E.2.1 dX1_isSet_14 (by decide) ?_
      refine lv_goto (tgt := 19) E.1 E.2.1 dX1_isSet_15 (by decide) ?_
      exact mk_zret E hr hlocks hP hS hF dX1_isSet_19
/-! DebtFerryModel.isOf(II)Z -/
def m_isOf (x0 : Int32) (x1 : Int32) : Option Int32 :=
  if ((x0 >>> (x1 &&& 31)) &&& (1 : Int32)) = (1 : Int32) then zr (1 : Int32) else zr (0 : Int32)
abbrev rmX1_isOf : Room := { frames := 1, cells := 0, slots := 0, locals := 12 }
set_option maxHeartbeats 4000000 in
set_option maxRecDepth 100000 in
theorem mm_X1_isOf (l : Launch) (x0 : Int32) (x1 : Int32) (res : Int32) (hF : m_isOf x0 x1 = some res) : Met l yX1_isOf (ws_ yX1_isOf cX1_isOf 2 (some .boolean)) rmX1_isOf (pPc [.int x0, .int x1]) (pQ (.int res)) 0 0 (fun _ => False) := by
  refine px_start RX1 (by decide) rfl (Nat.le_of_ble_eq_true rfl) ?_
  intro p e s m args below meth c ls E hr hlocks hl
  have hl : lv_has ls 2 [(0, .int x0), (1, .int x1)] := hl
  unfold m_isOf at hF
  refine lv_iload_n E.1 E.2.1 dX1_isOf_0 rfl (lv_at hl 0 rfl) ?_
  refine lv_iload_n E.1 E.2.1 dX1_isOf_1 rfl (lv_at hl 1 rfl) ?_
  refine lv_ishr E.1 E.2.1 dX1_isOf_2 ?_
  refine lv_iconst (v := (1 : Int32)) E.1 E.2.1 dX1_isOf_3 (by decide) ?_
  refine lv_iand E.1 E.2.1 dX1_isOf_4 ?_
  refine lv_iconst (v := (1 : Int32)) E.1 E.2.1 dX1_isOf_5 (by decide) ?_
  refine lv_icmp_ne (tgt := 13) E.1 E.2.1 dX1_isOf_6 (by decide) (fun h => ?_) (fun h => ?_)
  · have hF := ite_f h hF
    refine lv_iconst (v := (0 : Int32)) E.1 E.2.1 dX1_isOf_13 (by decide) ?_
    exact px_zret E hr hlocks rfl hF dX1_isOf_14
  · have hF := ite_t h hF
    refine lv_iconst (v := (1 : Int32)) E.1 E.2.1 dX1_isOf_9 (by decide) ?_
    refine lv_goto (tgt := 14) E.1 E.2.1 dX1_isOf_10 (by decide) ?_
    exact px_zret E hr hlocks rfl hF dX1_isOf_14
/-! DebtFerryModel.debtOf(II)I -/
def m_debtOf_L5 (k84 : Int32 → MZ → Option (Int32 × MZ)) (x1 : Int32) (x2 : Int32) : Nat → Int32 → Int32 → MZ → Option (Int32 × MZ)
  | 0, _, _, _ => none
  | n + 1, y5_3, y5_4, z5 =>
    if (z5.1 5) ≤ y5_4 then k84 y5_3 z5 else (m_isOf (z5.1 18) x1).bind (fun r19 => jn (fun (v52_0 : Int32) (z52 : MZ) => (m_isOf x2 y5_4).bind (fun r58 => jn (fun (v76_0 : Int32) (z76 : MZ) => m_debtOf_L5 k84 x1 x2 n (y5_3 + v76_0) (y5_4 + 1) z76) (fun (k76 : Int32 → MZ → Option (Int32 × MZ)) => if r58 = 0 then k76 v52_0 z52 else k76 ((z52.1 7) * v52_0) z52))) (fun (k52 : Int32 → MZ → Option (Int32 × MZ)) => if r19 = 0 then (m_isOf (z5.1 19) y5_4).bind (fun r31 => if r31 = 0 then gd (inb (((5 : Int32) * x1) + y5_4) 25) (k52 (z5.2 10 (((5 : Int32) * x1) + y5_4).toNatClampNeg) z5) else k52 (0 : Int32) z5) else k52 (0 : Int32) z5))
def m_debtOf (x1 : Int32) (x2 : Int32) (z0 : MZ) : Option (Int32 × MZ) :=
  m_debtOf_L5 (fun (y5_3 : Int32) (z5 : MZ) => gd (inb x1 5) (if (z5.2 8 x1.toNatClampNeg) = (1 : Int32) then if y5_3 ≤ 0 then some ((0 : Int32), z5) else some ((y5_3 - (1 : Int32)), z5) else gd (inb x1 5) (if (z5.2 8 x1.toNatClampNeg) = 0 then some (y5_3, z5) else some ((y5_3 / (2 : Int32)), z5)))) x1 x2 FU (0 : Int32) (0 : Int32) z0
abbrev rmX1_debtOf : Room := { frames := 2, cells := 0, slots := 0, locals := 33 }
set_option maxHeartbeats 4000000 in
set_option maxRecDepth 100000 in
theorem mm_X1_debtOf (l : Launch) {D : va_G} {cl : List vw_C} {ci : Nat} {d : ClassId} {B : Nat → Nat} {A : Nat → Prop} (hcl : cl[ci]? = some (RX1, TX1, 29)) (hB : ∀ z, va_D A (mW ci d B z)) (x1 : Int32) (x2 : Int32) (z0 : MZ) (res : Int32 × MZ) (hF : m_debtOf x1 x2 z0 = some res) : Met l yX1_debtOf (ws_ yX1_debtOf cX1_debtOf 6 (some .int)) rmX1_debtOf (mPc D cl ci d B z0 [.int x1, .int x2]) (mQ D cl ci d B A (some (.int res.1)) res.2) 0 0 A := by
  refine mk_start (A := A) (by decide) rfl (Nat.le_of_ble_eq_true rfl) ?_
  intro p e s m args below meth c H locs ls E hr hlocks hK hP hS hl
  have hl : lv_has ls 6 [(0, .ref (B 0)), (1, .int x1), (2, .int x2)] := hl
  unfold m_debtOf at hF
  refine lv_iconst (v := (0 : Int32)) E.1 E.2.1 dX1_debtOf_0 (by decide) ?_
  refine lv_istore_n (lv' := [(3, .int (0 : Int32)), (0, .ref (B 0)), (1, .int x1), (2, .int x2)]) E.1 E.2.1 dX1_debtOf_1 rfl hl (by decide) rfl (fun ls hl => ?_)
  refine lv_iconst (v := (0 : Int32)) E.1 E.2.1 dX1_debtOf_2 (by decide) ?_
  refine lv_istore (lv' := [(4, .int (0 : Int32)), (3, .int (0 : Int32)), (0, .ref (B 0)), (1, .int x1), (2, .int x2)]) E.1 E.2.1 dX1_debtOf_3 hl (by decide) rfl (fun ls hl => ?_)
  obtain ⟨k84, hk84, hF⟩ : ∃ k84, k84 = _ ∧ m_debtOf_L5 k84 x1 x2 FU (0 : Int32) (0 : Int32) z0 = some res := ⟨_, rfl, hF⟩
  have K84 : ∀ (y5_3 : Int32) (z5 : MZ) (H : Heap) (locs : List Loc) (ls : Array Slot), k84 y5_3 z5 = some res → va_P D cl (mW ci d B z5) H → va_S A s.heap H locs → lv_has ls 6 [(0, .ref (B 0)), (1, .int x1), (3, .int y5_3)] → W p l e rmX1_debtOf s m args below meth c H locs 0 0 (MQ below (mQ D cl ci d B A (some (.int res.1)) res.2) args s 0 0 A) (F0 m 84 ls []) := by
    intro y5_3 z5 H locs ls hF hP hS hl
    rw [hk84] at hF
    refine lv_aload_n E.1 E.2.1 dX1_debtOf_84 rfl (lv_at hl 0 rfl) ?_
    refine mk_get E hcl hK hP 8 (by decide) q1118 rfl (v := .ref (B 8)) rfl dX1_debtOf_85 ?_
    refine lv_iload_n E.1 E.2.1 dX1_debtOf_88 rfl (lv_at hl 1 rfl) ?_
    obtain ⟨h89, hF⟩ := gd_some hF
    refine mk_ald E hK hP (q := 4) (j := 8) (n := 5) rfl h89 dX1_debtOf_89 ?_
    refine lv_iconst (v := (1 : Int32)) E.1 E.2.1 dX1_debtOf_90 (by decide) ?_
    refine lv_icmp_ne (tgt := 106) E.1 E.2.1 dX1_debtOf_91 (by decide) (fun h => ?_) (fun h => ?_)
    · have hF := ite_f h hF
      refine lv_aload_n E.1 E.2.1 dX1_debtOf_106 rfl (lv_at hl 0 rfl) ?_
      refine mk_get E hcl hK hP 8 (by decide) q1118 rfl (v := .ref (B 8)) rfl dX1_debtOf_107 ?_
      refine lv_iload_n E.1 E.2.1 dX1_debtOf_110 rfl (lv_at hl 1 rfl) ?_
      obtain ⟨h111, hF⟩ := gd_some hF
      refine mk_ald E hK hP (q := 4) (j := 8) (n := 5) rfl h111 dX1_debtOf_111 ?_
      refine lv_if_ne (tgt := 119) E.1 E.2.1 dX1_debtOf_112 (by decide) (fun h => ?_) (fun h => ?_)
      · have hF := ite_f h hF
        refine lv_iload_n E.1 E.2.1 dX1_debtOf_119 rfl (lv_at hl 2 rfl) ?_
        refine lv_iconst (v := (2 : Int32)) E.1 E.2.1 dX1_debtOf_120 (by decide) ?_
        refine lv_idiv E.1 E.2.1 dX1_debtOf_121 (by decide) ?_
        exact mk_iret E hr hlocks hP hS hF dX1_debtOf_122
      · have hF := ite_t h hF
        refine lv_iload_n E.1 E.2.1 dX1_debtOf_115 rfl (lv_at hl 2 rfl) ?_
        refine lv_goto (tgt := 122) E.1 E.2.1 dX1_debtOf_116 (by decide) ?_
        exact mk_iret E hr hlocks hP hS hF dX1_debtOf_122
    · have hF := ite_t h hF
      refine lv_iload_n E.1 E.2.1 dX1_debtOf_94 rfl (lv_at hl 2 rfl) ?_
      refine lv_if_le (tgt := 104) E.1 E.2.1 dX1_debtOf_95 (by decide) (fun h => ?_) (fun h => ?_)
      · have hF := ite_t h hF
        refine lv_iconst (v := (0 : Int32)) E.1 E.2.1 dX1_debtOf_104 (by decide) ?_
        exact mk_iret E hr hlocks hP hS hF dX1_debtOf_105
      · have hF := ite_f h hF
        refine lv_iload_n E.1 E.2.1 dX1_debtOf_98 rfl (lv_at hl 2 rfl) ?_
        refine lv_iconst (v := (1 : Int32)) E.1 E.2.1 dX1_debtOf_99 (by decide) ?_
        refine lv_isub E.1 E.2.1 dX1_debtOf_100 ?_
        refine lv_goto (tgt := 105) E.1 E.2.1 dX1_debtOf_101 (by decide) ?_
        exact mk_iret E hr hlocks hP hS hF dX1_debtOf_105
  have L5 : ∀ (n : Nat) (y5_3 : Int32) (y5_4 : Int32) (z5 : MZ) (H : Heap) (locs : List Loc) (ls : Array Slot), m_debtOf_L5 k84 x1 x2 n y5_3 y5_4 z5 = some res → va_P D cl (mW ci d B z5) H → va_S A s.heap H locs → lv_has ls 6 [(0, .ref (B 0)), (1, .int x1), (2, .int x2), (3, .int y5_3), (4, .int y5_4)] → W p l e rmX1_debtOf s m args below meth c H locs 0 0 (MQ below (mQ D cl ci d B A (some (.int res.1)) res.2) args s 0 0 A) (F0 m 5 ls []) := by
    intro n
    induction n with
    | zero =>
      intro y5_3 y5_4 z5 H locs ls hF
      rw [m_debtOf_L5] at hF
      cases hF
    | succ n ih =>
      intro y5_3 y5_4 z5 H locs ls hF hP hS hl
      rw [m_debtOf_L5] at hF
      refine lv_iload E.1 E.2.1 dX1_debtOf_5 (lv_at hl 4 rfl) ?_
      refine lv_aload_n E.1 E.2.1 dX1_debtOf_7 rfl (lv_at hl 0 rfl) ?_
      refine mk_get E hcl hK hP 5 (by decide) q1115 rfl (v := .int (z5.1 5)) rfl dX1_debtOf_8 ?_
      refine lv_icmp_ge (tgt := 84) E.1 E.2.1 dX1_debtOf_11 (by decide) (fun h => ?_) (fun h => ?_)
      · have hF := ite_t h hF
        exact K84 y5_3 z5 H locs ls hF hP hS (lv_sub hl [0, 1, 3] rfl)
      · have hF := ite_f h hF
        refine lv_aload_n E.1 E.2.1 dX1_debtOf_14 rfl (lv_at hl 0 rfl) ?_
        refine mk_get E hcl hK hP 18 (by decide) q1128 rfl (v := .int (z5.1 18)) rfl dX1_debtOf_15 ?_
        refine lv_iload_n E.1 E.2.1 dX1_debtOf_18 rfl (lv_at hl 1 rfl) ?_
        obtain ⟨r19, hq19, hF⟩ := bnd hF
        refine px_call (As := [.int (z5.1 18), .int x1]) (rest := []) (v := .int r19) E (mm_X1_isOf l (z5.1 18) x1 _ hq19) (va_cwS 2 E.2.2.2.2 (lw_S q1279 q1280 q58 q1281) rfl rfl rfl (by decide +kernel) ⟨Nat.le_of_ble_eq_true rfl, Nat.le_of_ble_eq_true rfl⟩) hl rfl rfl (Nat.le_of_ble_eq_true rfl) ⟨Nat.zero_le _, Nat.zero_le _⟩ dX1_debtOf_19 ?_
        obtain ⟨k52, hk52, hF⟩ := jn_split hF
        have J52 : ∀ (v52_0 : Int32) (z52 : MZ) (H : Heap) (locs : List Loc) (ls : Array Slot), k52 v52_0 z52 = some res → va_P D cl (mW ci d B z52) H → va_S A s.heap H locs → lv_has ls 6 [(0, .ref (B 0)), (1, .int x1), (2, .int x2), (3, .int y5_3), (4, .int y5_4)] → W p l e rmX1_debtOf s m args below meth c H locs 0 0 (MQ below (mQ D cl ci d B A (some (.int res.1)) res.2) args s 0 0 A) (F0 m 52 ls [.int v52_0]) := by
          intro v52_0 z52 H locs ls hF hP hS hl
          rw [hk52] at hF
          refine lv_istore (lv' := [(5, .int v52_0), (0, .ref (B 0)), (1, .int x1), (2, .int x2), (3, .int y5_3), (4, .int y5_4)]) E.1 E.2.1 dX1_debtOf_52 hl (by decide) rfl (fun ls hl => ?_)
          refine lv_iload_n E.1 E.2.1 dX1_debtOf_54 rfl (lv_at hl 4 rfl) ?_
          refine lv_iload_n E.1 E.2.1 dX1_debtOf_55 rfl (lv_at hl 3 rfl) ?_
          refine lv_iload E.1 E.2.1 dX1_debtOf_56 (lv_at hl 5 rfl) ?_
          obtain ⟨r58, hq58, hF⟩ := bnd hF
          refine px_call (As := [.int x2, .int y5_4]) (rest := [.int y5_3]) (v := .int r58) E (mm_X1_isOf l x2 y5_4 _ hq58) (va_cwS 2 E.2.2.2.2 (lw_S q1279 q1280 q58 q1281) rfl rfl rfl (by decide +kernel) ⟨Nat.le_of_ble_eq_true rfl, Nat.le_of_ble_eq_true rfl⟩) hl rfl rfl (Nat.le_of_ble_eq_true rfl) ⟨Nat.zero_le _, Nat.zero_le _⟩ dX1_debtOf_58 ?_
          obtain ⟨k76, hk76, hF⟩ := jn_split hF
          have J76 : ∀ (v76_0 : Int32) (z76 : MZ) (H : Heap) (locs : List Loc) (ls : Array Slot), k76 v76_0 z76 = some res → va_P D cl (mW ci d B z76) H → va_S A s.heap H locs → lv_has ls 6 [(0, .ref (B 0)), (1, .int x1), (2, .int x2), (4, .int y5_4)] → W p l e rmX1_debtOf s m args below meth c H locs 0 0 (MQ below (mQ D cl ci d B A (some (.int res.1)) res.2) args s 0 0 A) (F0 m 76 ls [.int v76_0, .int y5_3]) := by
            intro v76_0 z76 H locs ls hF hP hS hl
            rw [hk76] at hF
            refine lv_iadd E.1 E.2.1 dX1_debtOf_76 ?_
            refine lv_istore_n (lv' := [(3, .int (y5_3 + v76_0)), (0, .ref (B 0)), (1, .int x1), (2, .int x2), (4, .int y5_4)]) E.1 E.2.1 dX1_debtOf_77 rfl hl (by decide) rfl (fun ls hl => ?_)
            refine lv_iinc (v := y5_4 + 1) (lv' := [(4, .int (y5_4 + 1)), (3, .int (y5_3 + v76_0)), (0, .ref (B 0)), (1, .int x1), (2, .int x2)]) E.1 E.2.1 dX1_debtOf_78 hl (k := 4) rfl rfl (by decide) rfl (fun ls hl => ?_)
            refine lv_goto (tgt := 5) E.1 E.2.1 dX1_debtOf_81 (by decide) ?_
            exact ih (y5_3 + v76_0) (y5_4 + 1) z76 H locs ls hF hP hS (lv_sub hl [2, 3, 4, 1, 0] rfl)
          refine lv_if_eq (tgt := 74) E.1 E.2.1 dX1_debtOf_61 (by decide) (fun h => ?_) (fun h => ?_)
          · have hF := ite_t h hF
            refine lv_iload E.1 E.2.1 dX1_debtOf_74 (lv_at hl 0 rfl) ?_
            exact J76 v52_0 z52 H locs ls hF hP hS (lv_sub hl [1, 2, 3, 5] rfl)
          · have hF := ite_f h hF
            refine lv_aload_n E.1 E.2.1 dX1_debtOf_64 rfl (lv_at hl 1 rfl) ?_
            refine mk_get E hcl hK hP 7 (by decide) q1117 rfl (v := .int (z52.1 7)) rfl dX1_debtOf_65 ?_
            refine lv_iload E.1 E.2.1 dX1_debtOf_68 (lv_at hl 0 rfl) ?_
            refine lv_imul E.1 E.2.1 dX1_debtOf_70 ?_
            refine lv_goto (tgt := 76) E.1 E.2.1 dX1_debtOf_71 (by decide) ?_
            exact J76 ((z52.1 7) * v52_0) z52 H locs ls hF hP hS (lv_sub hl [1, 2, 3, 5] rfl)
        refine lv_if_ne (tgt := 37) E.1 E.2.1 dX1_debtOf_22 (by decide) (fun h => ?_) (fun h => ?_)
        · have hF := ite_f h hF
          refine lv_iconst (v := (0 : Int32)) E.1 E.2.1 dX1_debtOf_37 (by decide) ?_
          refine lv_goto (tgt := 52) E.1 E.2.1 dX1_debtOf_38 (by decide) ?_
          exact J52 (0 : Int32) z5 H locs ls hF hP hS (lv_sub hl [0, 1, 2, 3, 4] rfl)
        · have hF := ite_t h hF
          refine lv_aload_n E.1 E.2.1 dX1_debtOf_25 rfl (lv_at hl 0 rfl) ?_
          refine mk_get E hcl hK hP 19 (by decide) q1129 rfl (v := .int (z5.1 19)) rfl dX1_debtOf_26 ?_
          refine lv_iload E.1 E.2.1 dX1_debtOf_29 (lv_at hl 4 rfl) ?_
          obtain ⟨r31, hq31, hF⟩ := bnd hF
          refine px_call (As := [.int (z5.1 19), .int y5_4]) (rest := []) (v := .int r31) E (mm_X1_isOf l (z5.1 19) y5_4 _ hq31) (va_cwS 2 E.2.2.2.2 (lw_S q1279 q1280 q58 q1281) rfl rfl rfl (by decide +kernel) ⟨Nat.le_of_ble_eq_true rfl, Nat.le_of_ble_eq_true rfl⟩) hl rfl rfl (Nat.le_of_ble_eq_true rfl) ⟨Nat.zero_le _, Nat.zero_le _⟩ dX1_debtOf_31 ?_
          refine lv_if_eq (tgt := 41) E.1 E.2.1 dX1_debtOf_34 (by decide) (fun h => ?_) (fun h => ?_)
          · have hF := ite_t h hF
            refine lv_aload_n E.1 E.2.1 dX1_debtOf_41 rfl (lv_at hl 0 rfl) ?_
            refine mk_get E hcl hK hP 10 (by decide) q1120 rfl (v := .ref (B 10)) rfl dX1_debtOf_42 ?_
            refine lv_iconst (v := (5 : Int32)) E.1 E.2.1 dX1_debtOf_45 (by decide) ?_
            refine lv_iload_n E.1 E.2.1 dX1_debtOf_46 rfl (lv_at hl 1 rfl) ?_
            refine lv_imul E.1 E.2.1 dX1_debtOf_47 ?_
            refine lv_iload E.1 E.2.1 dX1_debtOf_48 (lv_at hl 4 rfl) ?_
            refine lv_iadd E.1 E.2.1 dX1_debtOf_50 ?_
            obtain ⟨h51, hF⟩ := gd_some hF
            refine mk_ald E hK hP (q := 6) (j := 10) (n := 25) rfl h51 dX1_debtOf_51 ?_
            exact J52 (z5.2 10 (((5 : Int32) * x1) + y5_4).toNatClampNeg) z5 H locs ls hF hP hS (lv_sub hl [0, 1, 2, 3, 4] rfl)
          · have hF := ite_f h hF
            refine lv_iconst (v := (0 : Int32)) E.1 E.2.1 dX1_debtOf_37 (by decide) ?_
            refine lv_goto (tgt := 52) E.1 E.2.1 dX1_debtOf_38 (by decide) ?_
            exact J52 (0 : Int32) z5 H locs ls hF hP hS (lv_sub hl [0, 1, 2, 3, 4] rfl)
  exact L5 FU (0 : Int32) (0 : Int32) z0 H locs ls hF hP hS (lv_sub hl [2, 3, 4, 1, 0] rfl)
/-! DebtFerryModel.debt(II)I -/
def m_debt (x1 : Int32) (x2 : Int32) (z0 : MZ) : Option (Int32 × MZ) :=
  (m_isPerson x1 z0).bind (fun r2 => if r2.1 = 0 then some ((-1 : Int32), r2.2) else (m_isSet x2 r2.2).bind (fun r12 => if r12.1 = 0 then some ((-2 : Int32), r12.2) else (m_isOf x2 x1).bind (fun r23 => if r23 = 0 then some ((-3 : Int32), r12.2) else (m_debtOf x1 x2 r12.2).bind (fun r32 => some (r32.1, r32.2)))))
abbrev rmX1_debt : Room := { frames := 3, cells := 0, slots := 0, locals := 58 }
set_option maxHeartbeats 4000000 in
set_option maxRecDepth 100000 in
theorem mm_X1_debt (l : Launch) {D : va_G} {cl : List vw_C} {ci : Nat} {d : ClassId} {B : Nat → Nat} {A : Nat → Prop} (hcl : cl[ci]? = some (RX1, TX1, 29)) (hB : ∀ z, va_D A (mW ci d B z)) (x1 : Int32) (x2 : Int32) (z0 : MZ) (res : Int32 × MZ) (hF : m_debt x1 x2 z0 = some res) : Met l yX1_debt (ws_ yX1_debt cX1_debt 3 (some .int)) rmX1_debt (mPc D cl ci d B z0 [.int x1, .int x2]) (mQ D cl ci d B A (some (.int res.1)) res.2) 0 0 A := by
  refine mk_start (A := A) (by decide) rfl (Nat.le_of_ble_eq_true rfl) ?_
  intro p e s m args below meth c H locs ls E hr hlocks hK hP hS hl
  have hl : lv_has ls 3 [(0, .ref (B 0)), (1, .int x1), (2, .int x2)] := hl
  unfold m_debt at hF
  refine lv_aload_n E.1 E.2.1 dX1_debt_0 rfl (lv_at hl 0 rfl) ?_
  refine lv_iload_n E.1 E.2.1 dX1_debt_1 rfl (lv_at hl 1 rfl) ?_
  obtain ⟨r2, hq2, hF⟩ := bnd hF
  refine mk_call (As := [.int x1]) (rest := []) (v := (some (.int r2.1))) E hcl hK hP hS (mm_X1_isPerson l hcl hB x1 z0 _ hq2) (cwV 1 E.2.2.2.2 (lw_V q1243 q1245 qs38 q58 q1246) rfl rfl rfl (by decide +kernel) ⟨Nat.le_of_ble_eq_true rfl, Nat.le_of_ble_eq_true rfl⟩) hl rfl rfl (Nat.le_of_ble_eq_true rfl) ⟨Nat.zero_le _, Nat.zero_le _⟩ dX1_debt_2 (fun H locs hP hS => ?_)
  refine lv_if_ne (tgt := 10) E.1 E.2.1 dX1_debt_5 (by decide) (fun h => ?_) (fun h => ?_)
  · have hF := ite_f h hF
    refine lv_aload_n E.1 E.2.1 dX1_debt_10 rfl (lv_at hl 0 rfl) ?_
    refine lv_iload_n E.1 E.2.1 dX1_debt_11 rfl (lv_at hl 2 rfl) ?_
    obtain ⟨r12, hq12, hF⟩ := bnd hF
    refine mk_call (As := [.int x2]) (rest := []) (v := (some (.int r12.1))) E hcl hK hP hS (mm_X1_isSet l hcl hB x2 r2.2 _ hq12) (cwV 1 E.2.2.2.2 (lw_V q1275 q1277 qs41 q58 q1278) rfl rfl rfl (by decide +kernel) ⟨Nat.le_of_ble_eq_true rfl, Nat.le_of_ble_eq_true rfl⟩) hl rfl rfl (Nat.le_of_ble_eq_true rfl) ⟨Nat.zero_le _, Nat.zero_le _⟩ dX1_debt_12 (fun H locs hP hS => ?_)
    refine lv_if_ne (tgt := 21) E.1 E.2.1 dX1_debt_15 (by decide) (fun h => ?_) (fun h => ?_)
    · have hF := ite_f h hF
      refine lv_iload_n E.1 E.2.1 dX1_debt_21 rfl (lv_at hl 2 rfl) ?_
      refine lv_iload_n E.1 E.2.1 dX1_debt_22 rfl (lv_at hl 1 rfl) ?_
      obtain ⟨r23, hq23, hF⟩ := bnd hF
      refine px_call (As := [.int x2, .int x1]) (rest := []) (v := .int r23) E (mm_X1_isOf l x2 x1 _ hq23) (va_cwS 2 E.2.2.2.2 (lw_S q1279 q1280 q58 q1281) rfl rfl rfl (by decide +kernel) ⟨Nat.le_of_ble_eq_true rfl, Nat.le_of_ble_eq_true rfl⟩) hl rfl rfl (Nat.le_of_ble_eq_true rfl) ⟨Nat.zero_le _, Nat.zero_le _⟩ dX1_debt_23 ?_
      refine lv_if_eq (tgt := 38) E.1 E.2.1 dX1_debt_26 (by decide) (fun h => ?_) (fun h => ?_)
      · have hF := ite_t h hF
        refine lv_bipush (v := (-3 : Int32)) E.1 E.2.1 dX1_debt_38 (by decide) ?_
        exact mk_iret E hr hlocks hP hS hF dX1_debt_40
      · have hF := ite_f h hF
        refine lv_aload_n E.1 E.2.1 dX1_debt_29 rfl (lv_at hl 0 rfl) ?_
        refine lv_iload_n E.1 E.2.1 dX1_debt_30 rfl (lv_at hl 1 rfl) ?_
        refine lv_iload_n E.1 E.2.1 dX1_debt_31 rfl (lv_at hl 2 rfl) ?_
        obtain ⟨r32, hq32, hF⟩ := bnd hF
        refine mk_call (As := [.int x1, .int x2]) (rest := []) (v := (some (.int r32.1))) E hcl hK hP hS (mm_X1_debtOf l hcl hB x1 x2 r12.2 _ hq32) (cwV 2 E.2.2.2.2 (lw_V q1282 q1284 qs42 q58 q1285) rfl rfl rfl (by decide +kernel) ⟨Nat.le_of_ble_eq_true rfl, Nat.le_of_ble_eq_true rfl⟩) hl rfl rfl (Nat.le_of_ble_eq_true rfl) ⟨Nat.zero_le _, Nat.zero_le _⟩ dX1_debt_32 (fun H locs hP hS => ?_)
        refine lv_goto (tgt := 40) E.1 E.2.1 dX1_debt_35 (by decide) ?_
        exact mk_iret E hr hlocks hP hS hF dX1_debt_40
    · have hF := ite_t h hF
      refine lv_bipush (v := (-2 : Int32)) E.1 E.2.1 dX1_debt_18 (by decide) ?_
      exact mk_iret E hr hlocks hP hS hF dX1_debt_20
  · have hF := ite_t h hF
    refine lv_iconst (v := (-1 : Int32)) E.1 E.2.1 dX1_debt_8 (by decide) ?_
    exact mk_iret E hr hlocks hP hS hF dX1_debt_9
/-! DebtFerryModel.pullersOf(I)I -/
def m_pullersOf_L7 (x1 : Int32) : Nat → Int32 → Int32 → Int32 → MZ → Option (Int32 × MZ)
  | 0, _, _, _, _ => none
  | n + 1, y7_2, y7_3, y7_4, z7 =>
    if (z7.1 5) ≤ y7_4 then some (y7_3, z7) else (m_isOf x1 y7_4).bind (fun r19 => jn (fun (v36_0 : Int32) (z36 : MZ) => jn (fun (w49_2 : Int32) (w49_3 : Int32) (z49 : MZ) => jn (fun (v64_0 : Int32) (z64 : MZ) => m_pullersOf_L7 x1 n w49_2 (w49_3 ||| v64_0) (y7_4 + 1) z64) (fun (k64 : Int32 → MZ → Option (Int32 × MZ)) => if v36_0 = w49_2 then k64 ((1 : Int32) <<< (y7_4 &&& 31)) z49 else k64 (0 : Int32) z49)) (fun (k49 : Int32 → Int32 → MZ → Option (Int32 × MZ)) => if v36_0 ≤ y7_2 then k49 y7_2 y7_3 z36 else k49 v36_0 (0 : Int32) z36)) (fun (k36 : Int32 → MZ → Option (Int32 × MZ)) => if r19 = 0 then k36 (0 : Int32) z7 else (m_debtOf y7_4 x1 z7).bind (fun r29 => k36 r29.1 r29.2)))
def m_pullersOf (x1 : Int32) (z0 : MZ) : Option (Int32 × MZ) :=
  m_pullersOf_L7 x1 FU (1 : Int32) (0 : Int32) (0 : Int32) z0
abbrev rmX1_pullersOf : Room := { frames := 3, cells := 0, slots := 0, locals := 58 }
set_option maxHeartbeats 4000000 in
set_option maxRecDepth 100000 in
theorem mm_X1_pullersOf (l : Launch) {D : va_G} {cl : List vw_C} {ci : Nat} {d : ClassId} {B : Nat → Nat} {A : Nat → Prop} (hcl : cl[ci]? = some (RX1, TX1, 29)) (hB : ∀ z, va_D A (mW ci d B z)) (x1 : Int32) (z0 : MZ) (res : Int32 × MZ) (hF : m_pullersOf x1 z0 = some res) : Met l yX1_pullersOf (ws_ yX1_pullersOf cX1_pullersOf 6 (some .int)) rmX1_pullersOf (mPc D cl ci d B z0 [.int x1]) (mQ D cl ci d B A (some (.int res.1)) res.2) 0 0 A := by
  refine mk_start (A := A) (by decide) rfl (Nat.le_of_ble_eq_true rfl) ?_
  intro p e s m args below meth c H locs ls E hr hlocks hK hP hS hl
  have hl : lv_has ls 6 [(0, .ref (B 0)), (1, .int x1)] := hl
  unfold m_pullersOf at hF
  refine lv_iconst (v := (1 : Int32)) E.1 E.2.1 dX1_pullersOf_0 (by decide) ?_
  refine lv_istore_n (lv' := [(2, .int (1 : Int32)), (0, .ref (B 0)), (1, .int x1)]) E.1 E.2.1 dX1_pullersOf_1 rfl hl (by decide) rfl (fun ls hl => ?_)
  refine lv_iconst (v := (0 : Int32)) E.1 E.2.1 dX1_pullersOf_2 (by decide) ?_
  refine lv_istore_n (lv' := [(3, .int (0 : Int32)), (2, .int (1 : Int32)), (0, .ref (B 0)), (1, .int x1)]) E.1 E.2.1 dX1_pullersOf_3 rfl hl (by decide) rfl (fun ls hl => ?_)
  refine lv_iconst (v := (0 : Int32)) E.1 E.2.1 dX1_pullersOf_4 (by decide) ?_
  refine lv_istore (lv' := [(4, .int (0 : Int32)), (3, .int (0 : Int32)), (2, .int (1 : Int32)), (0, .ref (B 0)), (1, .int x1)]) E.1 E.2.1 dX1_pullersOf_5 hl (by decide) rfl (fun ls hl => ?_)
  have L7 : ∀ (n : Nat) (y7_2 : Int32) (y7_3 : Int32) (y7_4 : Int32) (z7 : MZ) (H : Heap) (locs : List Loc) (ls : Array Slot), m_pullersOf_L7 x1 n y7_2 y7_3 y7_4 z7 = some res → va_P D cl (mW ci d B z7) H → va_S A s.heap H locs → lv_has ls 6 [(0, .ref (B 0)), (1, .int x1), (2, .int y7_2), (3, .int y7_3), (4, .int y7_4)] → W p l e rmX1_pullersOf s m args below meth c H locs 0 0 (MQ below (mQ D cl ci d B A (some (.int res.1)) res.2) args s 0 0 A) (F0 m 7 ls []) := by
    intro n
    induction n with
    | zero =>
      intro y7_2 y7_3 y7_4 z7 H locs ls hF
      rw [m_pullersOf_L7] at hF
      cases hF
    | succ n ih =>
      intro y7_2 y7_3 y7_4 z7 H locs ls hF hP hS hl
      rw [m_pullersOf_L7] at hF
      refine lv_iload E.1 E.2.1 dX1_pullersOf_7 (lv_at hl 4 rfl) ?_
      refine lv_aload_n E.1 E.2.1 dX1_pullersOf_9 rfl (lv_at hl 0 rfl) ?_
      refine mk_get E hcl hK hP 5 (by decide) q1115 rfl (v := .int (z7.1 5)) rfl dX1_pullersOf_10 ?_
      refine lv_icmp_ge (tgt := 72) E.1 E.2.1 dX1_pullersOf_13 (by decide) (fun h => ?_) (fun h => ?_)
      · have hF := ite_t h hF
        refine lv_iload_n E.1 E.2.1 dX1_pullersOf_72 rfl (lv_at hl 3 rfl) ?_
        exact mk_iret E hr hlocks hP hS hF dX1_pullersOf_73
      · have hF := ite_f h hF
        refine lv_iload_n E.1 E.2.1 dX1_pullersOf_16 rfl (lv_at hl 1 rfl) ?_
        refine lv_iload E.1 E.2.1 dX1_pullersOf_17 (lv_at hl 4 rfl) ?_
        obtain ⟨r19, hq19, hF⟩ := bnd hF
        refine px_call (As := [.int x1, .int y7_4]) (rest := []) (v := .int r19) E (mm_X1_isOf l x1 y7_4 _ hq19) (va_cwS 2 E.2.2.2.2 (lw_S q1279 q1280 q58 q1281) rfl rfl rfl (by decide +kernel) ⟨Nat.le_of_ble_eq_true rfl, Nat.le_of_ble_eq_true rfl⟩) hl rfl rfl (Nat.le_of_ble_eq_true rfl) ⟨Nat.zero_le _, Nat.zero_le _⟩ dX1_pullersOf_19 ?_
        obtain ⟨k36, hk36, hF⟩ := jn_split hF
        have J36 : ∀ (v36_0 : Int32) (z36 : MZ) (H : Heap) (locs : List Loc) (ls : Array Slot), k36 v36_0 z36 = some res → va_P D cl (mW ci d B z36) H → va_S A s.heap H locs → lv_has ls 6 [(0, .ref (B 0)), (1, .int x1), (2, .int y7_2), (3, .int y7_3), (4, .int y7_4)] → W p l e rmX1_pullersOf s m args below meth c H locs 0 0 (MQ below (mQ D cl ci d B A (some (.int res.1)) res.2) args s 0 0 A) (F0 m 36 ls [.int v36_0]) := by
          intro v36_0 z36 H locs ls hF hP hS hl
          rw [hk36] at hF
          refine lv_istore (lv' := [(5, .int v36_0), (0, .ref (B 0)), (1, .int x1), (2, .int y7_2), (3, .int y7_3), (4, .int y7_4)]) E.1 E.2.1 dX1_pullersOf_36 hl (by decide) rfl (fun ls hl => ?_)
          refine lv_iload E.1 E.2.1 dX1_pullersOf_38 (lv_at hl 0 rfl) ?_
          refine lv_iload_n E.1 E.2.1 dX1_pullersOf_40 rfl (lv_at hl 3 rfl) ?_
          obtain ⟨k49, hk49, hF⟩ := jn_split hF
          have J49 : ∀ (w49_2 : Int32) (w49_3 : Int32) (z49 : MZ) (H : Heap) (locs : List Loc) (ls : Array Slot), k49 w49_2 w49_3 z49 = some res → va_P D cl (mW ci d B z49) H → va_S A s.heap H locs → lv_has ls 6 [(0, .ref (B 0)), (1, .int x1), (2, .int w49_2), (3, .int w49_3), (4, .int y7_4), (5, .int v36_0)] → W p l e rmX1_pullersOf s m args below meth c H locs 0 0 (MQ below (mQ D cl ci d B A (some (.int res.1)) res.2) args s 0 0 A) (F0 m 49 ls []) := by
            intro w49_2 w49_3 z49 H locs ls hF hP hS hl
            rw [hk49] at hF
            refine lv_iload_n E.1 E.2.1 dX1_pullersOf_49 rfl (lv_at hl 3 rfl) ?_
            refine lv_iload E.1 E.2.1 dX1_pullersOf_50 (lv_at hl 5 rfl) ?_
            refine lv_iload_n E.1 E.2.1 dX1_pullersOf_52 rfl (lv_at hl 2 rfl) ?_
            obtain ⟨k64, hk64, hF⟩ := jn_split hF
            have J64 : ∀ (v64_0 : Int32) (z64 : MZ) (H : Heap) (locs : List Loc) (ls : Array Slot), k64 v64_0 z64 = some res → va_P D cl (mW ci d B z64) H → va_S A s.heap H locs → lv_has ls 6 [(0, .ref (B 0)), (1, .int x1), (2, .int w49_2), (4, .int y7_4)] → W p l e rmX1_pullersOf s m args below meth c H locs 0 0 (MQ below (mQ D cl ci d B A (some (.int res.1)) res.2) args s 0 0 A) (F0 m 64 ls [.int v64_0, .int w49_3]) := by
              intro v64_0 z64 H locs ls hF hP hS hl
              rw [hk64] at hF
              refine lv_ior E.1 E.2.1 dX1_pullersOf_64 ?_
              refine lv_istore_n (lv' := [(3, .int (w49_3 ||| v64_0)), (0, .ref (B 0)), (1, .int x1), (2, .int w49_2), (4, .int y7_4)]) E.1 E.2.1 dX1_pullersOf_65 rfl hl (by decide) rfl (fun ls hl => ?_)
              refine lv_iinc (v := y7_4 + 1) (lv' := [(4, .int (y7_4 + 1)), (3, .int (w49_3 ||| v64_0)), (0, .ref (B 0)), (1, .int x1), (2, .int w49_2)]) E.1 E.2.1 dX1_pullersOf_66 hl (k := 4) rfl rfl (by decide) rfl (fun ls hl => ?_)
              refine lv_goto (tgt := 7) E.1 E.2.1 dX1_pullersOf_69 (by decide) ?_
              exact ih w49_2 (w49_3 ||| v64_0) (y7_4 + 1) z64 H locs ls hF hP hS (lv_sub hl [2, 3, 4, 1, 0] rfl)
            refine lv_icmp_ne (tgt := 63) E.1 E.2.1 dX1_pullersOf_53 (by decide) (fun h => ?_) (fun h => ?_)
            · have hF := ite_f h hF
              refine lv_iconst (v := (0 : Int32)) E.1 E.2.1 dX1_pullersOf_63 (by decide) ?_
              exact J64 (0 : Int32) z49 H locs ls hF hP hS (lv_sub hl [0, 1, 2, 4] rfl)
            · have hF := ite_t h hF
              refine lv_iconst (v := (1 : Int32)) E.1 E.2.1 dX1_pullersOf_56 (by decide) ?_
              refine lv_iload E.1 E.2.1 dX1_pullersOf_57 (lv_at hl 4 rfl) ?_
              refine lv_ishl E.1 E.2.1 dX1_pullersOf_59 ?_
              refine lv_goto (tgt := 64) E.1 E.2.1 dX1_pullersOf_60 (by decide) ?_
              exact J64 ((1 : Int32) <<< (y7_4 &&& 31)) z49 H locs ls hF hP hS (lv_sub hl [0, 1, 2, 4] rfl)
          refine lv_icmp_le (tgt := 49) E.1 E.2.1 dX1_pullersOf_41 (by decide) (fun h => ?_) (fun h => ?_)
          · have hF := ite_t h hF
            exact J49 y7_2 y7_3 z36 H locs ls hF hP hS (lv_sub hl [1, 2, 3, 4, 5, 0] rfl)
          · have hF := ite_f h hF
            refine lv_iload E.1 E.2.1 dX1_pullersOf_44 (lv_at hl 0 rfl) ?_
            refine lv_istore_n (lv' := [(2, .int v36_0), (5, .int v36_0), (0, .ref (B 0)), (1, .int x1), (3, .int y7_3), (4, .int y7_4)]) E.1 E.2.1 dX1_pullersOf_46 rfl hl (by decide) rfl (fun ls hl => ?_)
            refine lv_iconst (v := (0 : Int32)) E.1 E.2.1 dX1_pullersOf_47 (by decide) ?_
            refine lv_istore_n (lv' := [(3, .int (0 : Int32)), (2, .int v36_0), (5, .int v36_0), (0, .ref (B 0)), (1, .int x1), (4, .int y7_4)]) E.1 E.2.1 dX1_pullersOf_48 rfl hl (by decide) rfl (fun ls hl => ?_)
            exact J49 v36_0 (0 : Int32) z36 H locs ls hF hP hS (lv_sub hl [3, 4, 1, 0, 5, 2] rfl)
        refine lv_if_eq (tgt := 35) E.1 E.2.1 dX1_pullersOf_22 (by decide) (fun h => ?_) (fun h => ?_)
        · have hF := ite_t h hF
          refine lv_iconst (v := (0 : Int32)) E.1 E.2.1 dX1_pullersOf_35 (by decide) ?_
          exact J36 (0 : Int32) z7 H locs ls hF hP hS (lv_sub hl [0, 1, 2, 3, 4] rfl)
        · have hF := ite_f h hF
          refine lv_aload_n E.1 E.2.1 dX1_pullersOf_25 rfl (lv_at hl 0 rfl) ?_
          refine lv_iload E.1 E.2.1 dX1_pullersOf_26 (lv_at hl 4 rfl) ?_
          refine lv_iload_n E.1 E.2.1 dX1_pullersOf_28 rfl (lv_at hl 1 rfl) ?_
          obtain ⟨r29, hq29, hF⟩ := bnd hF
          refine mk_call (As := [.int y7_4, .int x1]) (rest := []) (v := (some (.int r29.1))) E hcl hK hP hS (mm_X1_debtOf l hcl hB y7_4 x1 z7 _ hq29) (cwV 2 E.2.2.2.2 (lw_V q1282 q1284 qs42 q58 q1285) rfl rfl rfl (by decide +kernel) ⟨Nat.le_of_ble_eq_true rfl, Nat.le_of_ble_eq_true rfl⟩) hl rfl rfl (Nat.le_of_ble_eq_true rfl) ⟨Nat.zero_le _, Nat.zero_le _⟩ dX1_pullersOf_29 (fun H locs hP hS => ?_)
          refine lv_goto (tgt := 36) E.1 E.2.1 dX1_pullersOf_32 (by decide) ?_
          exact J36 r29.1 r29.2 H locs ls hF hP hS (lv_sub hl [0, 1, 2, 3, 4] rfl)
  exact L7 FU (1 : Int32) (0 : Int32) (0 : Int32) z0 H locs ls hF hP hS (lv_sub hl [3, 4, 2, 1, 0] rfl)
/-! DebtFerryModel.pullers(I)I -/
def m_pullers (x1 : Int32) (z0 : MZ) : Option (Int32 × MZ) :=
  if (z0.1 5) = 0 then some ((-3 : Int32), z0) else (m_isSet x1 z0).bind (fun r12 => if r12.1 = 0 then some ((-2 : Int32), r12.2) else (m_pullersOf x1 r12.2).bind (fun r20 => some (r20.1, r20.2)))
abbrev rmX1_pullers : Room := { frames := 4, cells := 0, slots := 0, locals := 83 }
set_option maxHeartbeats 4000000 in
set_option maxRecDepth 100000 in
theorem mm_X1_pullers (l : Launch) {D : va_G} {cl : List vw_C} {ci : Nat} {d : ClassId} {B : Nat → Nat} {A : Nat → Prop} (hcl : cl[ci]? = some (RX1, TX1, 29)) (hB : ∀ z, va_D A (mW ci d B z)) (x1 : Int32) (z0 : MZ) (res : Int32 × MZ) (hF : m_pullers x1 z0 = some res) : Met l yX1_pullers (ws_ yX1_pullers cX1_pullers 2 (some .int)) rmX1_pullers (mPc D cl ci d B z0 [.int x1]) (mQ D cl ci d B A (some (.int res.1)) res.2) 0 0 A := by
  refine mk_start (A := A) (by decide) rfl (Nat.le_of_ble_eq_true rfl) ?_
  intro p e s m args below meth c H locs ls E hr hlocks hK hP hS hl
  have hl : lv_has ls 2 [(0, .ref (B 0)), (1, .int x1)] := hl
  unfold m_pullers at hF
  refine lv_aload_n E.1 E.2.1 dX1_pullers_0 rfl (lv_at hl 0 rfl) ?_
  refine mk_get E hcl hK hP 5 (by decide) q1115 rfl (v := .int (z0.1 5)) rfl dX1_pullers_1 ?_
  refine lv_if_ne (tgt := 10) E.1 E.2.1 dX1_pullers_4 (by decide) (fun h => ?_) (fun h => ?_)
  · have hF := ite_f h hF
    refine lv_aload_n E.1 E.2.1 dX1_pullers_10 rfl (lv_at hl 0 rfl) ?_
    refine lv_iload_n E.1 E.2.1 dX1_pullers_11 rfl (lv_at hl 1 rfl) ?_
    obtain ⟨r12, hq12, hF⟩ := bnd hF
    refine mk_call (As := [.int x1]) (rest := []) (v := (some (.int r12.1))) E hcl hK hP hS (mm_X1_isSet l hcl hB x1 z0 _ hq12) (cwV 1 E.2.2.2.2 (lw_V q1275 q1277 qs41 q58 q1278) rfl rfl rfl (by decide +kernel) ⟨Nat.le_of_ble_eq_true rfl, Nat.le_of_ble_eq_true rfl⟩) hl rfl rfl (Nat.le_of_ble_eq_true rfl) ⟨Nat.zero_le _, Nat.zero_le _⟩ dX1_pullers_12 (fun H locs hP hS => ?_)
    refine lv_if_eq (tgt := 26) E.1 E.2.1 dX1_pullers_15 (by decide) (fun h => ?_) (fun h => ?_)
    · have hF := ite_t h hF
      refine lv_bipush (v := (-2 : Int32)) E.1 E.2.1 dX1_pullers_26 (by decide) ?_
      exact mk_iret E hr hlocks hP hS hF dX1_pullers_28
    · have hF := ite_f h hF
      refine lv_aload_n E.1 E.2.1 dX1_pullers_18 rfl (lv_at hl 0 rfl) ?_
      refine lv_iload_n E.1 E.2.1 dX1_pullers_19 rfl (lv_at hl 1 rfl) ?_
      obtain ⟨r20, hq20, hF⟩ := bnd hF
      refine mk_call (As := [.int x1]) (rest := []) (v := (some (.int r20.1))) E hcl hK hP hS (mm_X1_pullersOf l hcl hB x1 r12.2 _ hq20) (cwV 1 E.2.2.2.2 (lw_V q1290 q1292 qs43 q58 q1293) rfl rfl rfl (by decide +kernel) ⟨Nat.le_of_ble_eq_true rfl, Nat.le_of_ble_eq_true rfl⟩) hl rfl rfl (Nat.le_of_ble_eq_true rfl) ⟨Nat.zero_le _, Nat.zero_le _⟩ dX1_pullers_20 (fun H locs hP hS => ?_)
      refine lv_goto (tgt := 28) E.1 E.2.1 dX1_pullers_23 (by decide) ?_
      exact mk_iret E hr hlocks hP hS hF dX1_pullers_28
  · have hF := ite_t h hF
    refine lv_bipush (v := (-3 : Int32)) E.1 E.2.1 dX1_pullers_7 (by decide) ?_
    exact mk_iret E hr hlocks hP hS hF dX1_pullers_9
/-! DebtFerryModel.size(I)I -/
def m_size_L4 : Nat → Int32 → Int32 → Option Int32
  | 0, _, _ => none
  | n + 1, y4_1, y4_2 =>
    if y4_2 ≤ 0 then some y4_1 else m_size_L4 n (y4_1 + (y4_2 &&& (1 : Int32))) (y4_2 >>> ((1 : Int32) &&& 31))
def m_size (x0 : Int32) : Option Int32 :=
  m_size_L4 FU (0 : Int32) x0
abbrev rmX1_size : Room := { frames := 1, cells := 0, slots := 0, locals := 12 }
set_option maxHeartbeats 4000000 in
set_option maxRecDepth 100000 in
theorem mm_X1_size (l : Launch) (x0 : Int32) (res : Int32) (hF : m_size x0 = some res) : Met l yX1_size (ws_ yX1_size cX1_size 3 (some .int)) rmX1_size (pPc [.int x0]) (pQ (.int res)) 0 0 (fun _ => False) := by
  refine px_start RX1 (by decide) rfl (Nat.le_of_ble_eq_true rfl) ?_
  intro p e s m args below meth c ls E hr hlocks hl
  have hl : lv_has ls 3 [(0, .int x0)] := hl
  unfold m_size at hF
  refine lv_iconst (v := (0 : Int32)) E.1 E.2.1 dX1_size_0 (by decide) ?_
  refine lv_istore_n (lv' := [(1, .int (0 : Int32)), (0, .int x0)]) E.1 E.2.1 dX1_size_1 rfl hl (by decide) rfl (fun ls hl => ?_)
  refine lv_iload_n E.1 E.2.1 dX1_size_2 rfl (lv_at hl 1 rfl) ?_
  refine lv_istore_n (lv' := [(2, .int x0), (1, .int (0 : Int32)), (0, .int x0)]) E.1 E.2.1 dX1_size_3 rfl hl (by decide) rfl (fun ls hl => ?_)
  have L4 : ∀ (n : Nat) (y4_1 : Int32) (y4_2 : Int32) (ls : Array Slot), m_size_L4 n y4_1 y4_2 = some res → lv_has ls 3 [(1, .int y4_1), (2, .int y4_2)] → W p l e rmX1_size s m args below meth c s.heap [] 0 0 (MQ below (pQ (.int res)) args s 0 0 (fun _ => False)) (F0 m 4 ls []) := by
    intro n
    induction n with
    | zero =>
      intro y4_1 y4_2 ls hF
      rw [m_size_L4] at hF
      cases hF
    | succ n ih =>
      intro y4_1 y4_2 ls hF hl
      rw [m_size_L4] at hF
      refine lv_iload_n E.1 E.2.1 dX1_size_4 rfl (lv_at hl 1 rfl) ?_
      refine lv_if_le (tgt := 21) E.1 E.2.1 dX1_size_5 (by decide) (fun h => ?_) (fun h => ?_)
      · have hF := ite_t h hF
        refine lv_iload_n E.1 E.2.1 dX1_size_21 rfl (lv_at hl 0 rfl) ?_
        exact px_iret E hr hlocks rfl hF dX1_size_22
      · have hF := ite_f h hF
        refine lv_iload_n E.1 E.2.1 dX1_size_8 rfl (lv_at hl 0 rfl) ?_
        refine lv_iload_n E.1 E.2.1 dX1_size_9 rfl (lv_at hl 1 rfl) ?_
        refine lv_iconst (v := (1 : Int32)) E.1 E.2.1 dX1_size_10 (by decide) ?_
        refine lv_iand E.1 E.2.1 dX1_size_11 ?_
        refine lv_iadd E.1 E.2.1 dX1_size_12 ?_
        refine lv_istore_n (lv' := [(1, .int (y4_1 + (y4_2 &&& (1 : Int32)))), (2, .int y4_2)]) E.1 E.2.1 dX1_size_13 rfl hl (by decide) rfl (fun ls hl => ?_)
        refine lv_iload_n E.1 E.2.1 dX1_size_14 rfl (lv_at hl 1 rfl) ?_
        refine lv_iconst (v := (1 : Int32)) E.1 E.2.1 dX1_size_15 (by decide) ?_
        refine lv_ishr E.1 E.2.1 dX1_size_16 ?_
        refine lv_istore_n (lv' := [(2, .int (y4_2 >>> ((1 : Int32) &&& 31))), (1, .int (y4_1 + (y4_2 &&& (1 : Int32))))]) E.1 E.2.1 dX1_size_17 rfl hl (by decide) rfl (fun ls hl => ?_)
        refine lv_goto (tgt := 4) E.1 E.2.1 dX1_size_18 (by decide) ?_
        exact ih (y4_1 + (y4_2 &&& (1 : Int32))) (y4_2 >>> ((1 : Int32) &&& 31)) ls hF (lv_sub hl [1, 0] rfl)
  exact L4 FU (0 : Int32) x0 ls hF (lv_sub hl [1, 0] rfl)
/-! DebtFerryModel.isFair(I)Z -/
def m_isFair_L33 : Nat → Int32 → Int32 → MZ → Option (Int32 × MZ)
  | 0, _, _, _ => none
  | n + 1, y33_2, y33_3, z33 =>
    if (z33.1 5) ≤ y33_3 then (zr (1 : Int32)).bind (fun r => some (r, z33)) else (m_isOf y33_2 y33_3).bind (fun r43 => if r43 = 0 then m_isFair_L33 n y33_2 (y33_3 + 1) z33 else gd (inb y33_3 5) (if (z33.2 9 y33_3.toNatClampNeg) = (1 : Int32) then (zr (0 : Int32)).bind (fun r => some (r, z33)) else m_isFair_L33 n y33_2 (y33_3 + 1) z33))
def m_isFair (x1 : Int32) (z0 : MZ) : Option (Int32 × MZ) :=
  (m_pullersOf x1 z0).bind (fun r2 => if x1 = 0 then (zr (0 : Int32)).bind (fun r => some (r, r2.2)) else (m_size x1).bind (fun r11 => if (r2.2.1 6) < r11 then (zr (0 : Int32)).bind (fun r => some (r, r2.2)) else (m_size r2.1).bind (fun r22 => if r22 = (1 : Int32) then m_isFair_L33 FU r2.1 (0 : Int32) r2.2 else (zr (0 : Int32)).bind (fun r => some (r, r2.2)))))
abbrev rmX1_isFair : Room := { frames := 4, cells := 0, slots := 0, locals := 83 }
set_option maxHeartbeats 4000000 in
set_option maxRecDepth 100000 in
theorem mm_X1_isFair (l : Launch) {D : va_G} {cl : List vw_C} {ci : Nat} {d : ClassId} {B : Nat → Nat} {A : Nat → Prop} (hcl : cl[ci]? = some (RX1, TX1, 29)) (hB : ∀ z, va_D A (mW ci d B z)) (x1 : Int32) (z0 : MZ) (res : Int32 × MZ) (hF : m_isFair x1 z0 = some res) : Met l yX1_isFair (ws_ yX1_isFair cX1_isFair 4 (some .boolean)) rmX1_isFair (mPc D cl ci d B z0 [.int x1]) (mQ D cl ci d B A (some (.int res.1)) res.2) 0 0 A := by
  refine mk_start (A := A) (by decide) rfl (Nat.le_of_ble_eq_true rfl) ?_
  intro p e s m args below meth c H locs ls E hr hlocks hK hP hS hl
  have hl : lv_has ls 4 [(0, .ref (B 0)), (1, .int x1)] := hl
  unfold m_isFair at hF
  refine lv_aload_n E.1 E.2.1 dX1_isFair_0 rfl (lv_at hl 0 rfl) ?_
  refine lv_iload_n E.1 E.2.1 dX1_isFair_1 rfl (lv_at hl 1 rfl) ?_
  obtain ⟨r2, hq2, hF⟩ := bnd hF
  refine mk_call (As := [.int x1]) (rest := []) (v := (some (.int r2.1))) E hcl hK hP hS (mm_X1_pullersOf l hcl hB x1 z0 _ hq2) (cwV 1 E.2.2.2.2 (lw_V q1290 q1292 qs43 q58 q1293) rfl rfl rfl (by decide +kernel) ⟨Nat.le_of_ble_eq_true rfl, Nat.le_of_ble_eq_true rfl⟩) hl rfl rfl (Nat.le_of_ble_eq_true rfl) ⟨Nat.zero_le _, Nat.zero_le _⟩ dX1_isFair_2 (fun H locs hP hS => ?_)
  refine lv_istore_n (lv' := [(2, .int r2.1), (0, .ref (B 0)), (1, .int x1)]) E.1 E.2.1 dX1_isFair_5 rfl hl (by decide) rfl (fun ls hl => ?_)
  refine lv_iload_n E.1 E.2.1 dX1_isFair_6 rfl (lv_at hl 2 rfl) ?_
  refine lv_if_eq (tgt := 29) E.1 E.2.1 dX1_isFair_7 (by decide) (fun h => ?_) (fun h => ?_)
  · have hF := ite_t h hF
    refine lv_iconst (v := (0 : Int32)) E.1 E.2.1 dX1_isFair_29 (by decide) ?_
    exact mk_zret E hr hlocks hP hS hF dX1_isFair_30
  · have hF := ite_f h hF
    refine lv_iload_n E.1 E.2.1 dX1_isFair_10 rfl (lv_at hl 2 rfl) ?_
    obtain ⟨r11, hq11, hF⟩ := bnd hF
    refine px_call (As := [.int x1]) (rest := []) (v := .int r11) E (mm_X1_size l x1 _ hq11) (va_cwS 1 E.2.2.2.2 (lw_S q1302 q1303 q58 q1304) rfl rfl rfl (by decide +kernel) ⟨Nat.le_of_ble_eq_true rfl, Nat.le_of_ble_eq_true rfl⟩) hl rfl rfl (Nat.le_of_ble_eq_true rfl) ⟨Nat.zero_le _, Nat.zero_le _⟩ dX1_isFair_11 ?_
    refine lv_aload_n E.1 E.2.1 dX1_isFair_14 rfl (lv_at hl 1 rfl) ?_
    refine mk_get E hcl hK hP 6 (by decide) q1116 rfl (v := .int (r2.2.1 6)) rfl dX1_isFair_15 ?_
    refine lv_icmp_gt (tgt := 29) E.1 E.2.1 dX1_isFair_18 (by decide) (fun h => ?_) (fun h => ?_)
    · have hF := ite_t h hF
      refine lv_iconst (v := (0 : Int32)) E.1 E.2.1 dX1_isFair_29 (by decide) ?_
      exact mk_zret E hr hlocks hP hS hF dX1_isFair_30
    · have hF := ite_f h hF
      refine lv_iload_n E.1 E.2.1 dX1_isFair_21 rfl (lv_at hl 0 rfl) ?_
      obtain ⟨r22, hq22, hF⟩ := bnd hF
      refine px_call (As := [.int r2.1]) (rest := []) (v := .int r22) E (mm_X1_size l r2.1 _ hq22) (va_cwS 1 E.2.2.2.2 (lw_S q1302 q1303 q58 q1304) rfl rfl rfl (by decide +kernel) ⟨Nat.le_of_ble_eq_true rfl, Nat.le_of_ble_eq_true rfl⟩) hl rfl rfl (Nat.le_of_ble_eq_true rfl) ⟨Nat.zero_le _, Nat.zero_le _⟩ dX1_isFair_22 ?_
      refine lv_iconst (v := (1 : Int32)) E.1 E.2.1 dX1_isFair_25 (by decide) ?_
      refine lv_icmp_eq (tgt := 31) E.1 E.2.1 dX1_isFair_26 (by decide) (fun h => ?_) (fun h => ?_)
      · have hF := ite_t h hF
        refine lv_iconst (v := (0 : Int32)) E.1 E.2.1 dX1_isFair_31 (by decide) ?_
        refine lv_istore_n (lv' := [(3, .int (0 : Int32)), (2, .int r2.1), (0, .ref (B 0)), (1, .int x1)]) E.1 E.2.1 dX1_isFair_32 rfl hl (by decide) rfl (fun ls hl => ?_)
        have L33 : ∀ (n : Nat) (y33_2 : Int32) (y33_3 : Int32) (z33 : MZ) (H : Heap) (locs : List Loc) (ls : Array Slot), m_isFair_L33 n y33_2 y33_3 z33 = some res → va_P D cl (mW ci d B z33) H → va_S A s.heap H locs → lv_has ls 4 [(0, .ref (B 0)), (2, .int y33_2), (3, .int y33_3)] → W p l e rmX1_isFair s m args below meth c H locs 0 0 (MQ below (mQ D cl ci d B A (some (.int res.1)) res.2) args s 0 0 A) (F0 m 33 ls []) := by
          intro n
          induction n with
          | zero =>
            intro y33_2 y33_3 z33 H locs ls hF
            rw [m_isFair_L33] at hF
            cases hF
          | succ n ih =>
            intro y33_2 y33_3 z33 H locs ls hF hP hS hl
            rw [m_isFair_L33] at hF
            refine lv_iload_n E.1 E.2.1 dX1_isFair_33 rfl (lv_at hl 2 rfl) ?_
            refine lv_aload_n E.1 E.2.1 dX1_isFair_34 rfl (lv_at hl 0 rfl) ?_
            refine mk_get E hcl hK hP 5 (by decide) q1115 rfl (v := .int (z33.1 5)) rfl dX1_isFair_35 ?_
            refine lv_icmp_ge (tgt := 67) E.1 E.2.1 dX1_isFair_38 (by decide) (fun h => ?_) (fun h => ?_)
            · have hF := ite_t h hF
              refine lv_iconst (v := (1 : Int32)) E.1 E.2.1 dX1_isFair_67 (by decide) ?_
              exact mk_zret E hr hlocks hP hS hF dX1_isFair_68
            · have hF := ite_f h hF
              refine lv_iload_n E.1 E.2.1 dX1_isFair_41 rfl (lv_at hl 1 rfl) ?_
              refine lv_iload_n E.1 E.2.1 dX1_isFair_42 rfl (lv_at hl 2 rfl) ?_
              obtain ⟨r43, hq43, hF⟩ := bnd hF
              refine px_call (As := [.int y33_2, .int y33_3]) (rest := []) (v := .int r43) E (mm_X1_isOf l y33_2 y33_3 _ hq43) (va_cwS 2 E.2.2.2.2 (lw_S q1279 q1280 q58 q1281) rfl rfl rfl (by decide +kernel) ⟨Nat.le_of_ble_eq_true rfl, Nat.le_of_ble_eq_true rfl⟩) hl rfl rfl (Nat.le_of_ble_eq_true rfl) ⟨Nat.zero_le _, Nat.zero_le _⟩ dX1_isFair_43 ?_
              refine lv_if_eq (tgt := 61) E.1 E.2.1 dX1_isFair_46 (by decide) (fun h => ?_) (fun h => ?_)
              · have hF := ite_t h hF
                refine lv_iinc (v := y33_3 + 1) (lv' := [(3, .int (y33_3 + 1)), (0, .ref (B 0)), (2, .int y33_2)]) E.1 E.2.1 dX1_isFair_61 hl (k := 2) rfl rfl (by decide) rfl (fun ls hl => ?_)
                refine lv_goto (tgt := 33) E.1 E.2.1 dX1_isFair_64 (by decide) ?_
                exact ih y33_2 (y33_3 + 1) z33 H locs ls hF hP hS (lv_sub hl [1, 2, 0] rfl)
              · have hF := ite_f h hF
                refine lv_aload_n E.1 E.2.1 dX1_isFair_49 rfl (lv_at hl 0 rfl) ?_
                refine mk_get E hcl hK hP 9 (by decide) q1119 rfl (v := .ref (B 9)) rfl dX1_isFair_50 ?_
                refine lv_iload_n E.1 E.2.1 dX1_isFair_53 rfl (lv_at hl 2 rfl) ?_
                obtain ⟨h54, hF⟩ := gd_some hF
                refine mk_ald E hK hP (q := 5) (j := 9) (n := 5) rfl h54 dX1_isFair_54 ?_
                refine lv_iconst (v := (1 : Int32)) E.1 E.2.1 dX1_isFair_55 (by decide) ?_
                refine lv_icmp_ne (tgt := 61) E.1 E.2.1 dX1_isFair_56 (by decide) (fun h => ?_) (fun h => ?_)
                · have hF := ite_f h hF
                  refine lv_iinc (v := y33_3 + 1) (lv' := [(3, .int (y33_3 + 1)), (0, .ref (B 0)), (2, .int y33_2)]) E.1 E.2.1 dX1_isFair_61 hl (k := 2) rfl rfl (by decide) rfl (fun ls hl => ?_)
                  refine lv_goto (tgt := 33) E.1 E.2.1 dX1_isFair_64 (by decide) ?_
                  exact ih y33_2 (y33_3 + 1) z33 H locs ls hF hP hS (lv_sub hl [1, 2, 0] rfl)
                · have hF := ite_t h hF
                  refine lv_iconst (v := (0 : Int32)) E.1 E.2.1 dX1_isFair_59 (by decide) ?_
                  exact mk_zret E hr hlocks hP hS hF dX1_isFair_60
        exact L33 FU r2.1 (0 : Int32) r2.2 H locs ls hF hP hS (lv_sub hl [2, 1, 0] rfl)
      · have hF := ite_f h hF
        refine lv_iconst (v := (0 : Int32)) E.1 E.2.1 dX1_isFair_29 (by decide) ?_
        exact mk_zret E hr hlocks hP hS hF dX1_isFair_30
/-! DebtFerryModel.fair(I)I -/
def m_fair (x1 : Int32) (z0 : MZ) : Option (Int32 × MZ) :=
  if (z0.1 5) = 0 then some ((-3 : Int32), z0) else (m_isSet x1 z0).bind (fun r12 => if r12.1 = 0 then some ((-2 : Int32), r12.2) else (m_isFair x1 r12.2).bind (fun r25 => if r25.1 = 0 then some ((0 : Int32), r25.2) else some ((1 : Int32), r25.2)))
abbrev rmX1_fair : Room := { frames := 5, cells := 0, slots := 0, locals := 106 }
set_option maxHeartbeats 4000000 in
set_option maxRecDepth 100000 in
theorem mm_X1_fair (l : Launch) {D : va_G} {cl : List vw_C} {ci : Nat} {d : ClassId} {B : Nat → Nat} {A : Nat → Prop} (hcl : cl[ci]? = some (RX1, TX1, 29)) (hB : ∀ z, va_D A (mW ci d B z)) (x1 : Int32) (z0 : MZ) (res : Int32 × MZ) (hF : m_fair x1 z0 = some res) : Met l yX1_fair (ws_ yX1_fair cX1_fair 2 (some .int)) rmX1_fair (mPc D cl ci d B z0 [.int x1]) (mQ D cl ci d B A (some (.int res.1)) res.2) 0 0 A := by
  refine mk_start (A := A) (by decide) rfl (Nat.le_of_ble_eq_true rfl) ?_
  intro p e s m args below meth c H locs ls E hr hlocks hK hP hS hl
  have hl : lv_has ls 2 [(0, .ref (B 0)), (1, .int x1)] := hl
  unfold m_fair at hF
  refine lv_aload_n E.1 E.2.1 dX1_fair_0 rfl (lv_at hl 0 rfl) ?_
  refine mk_get E hcl hK hP 5 (by decide) q1115 rfl (v := .int (z0.1 5)) rfl dX1_fair_1 ?_
  refine lv_if_ne (tgt := 10) E.1 E.2.1 dX1_fair_4 (by decide) (fun h => ?_) (fun h => ?_)
  · have hF := ite_f h hF
    refine lv_aload_n E.1 E.2.1 dX1_fair_10 rfl (lv_at hl 0 rfl) ?_
    refine lv_iload_n E.1 E.2.1 dX1_fair_11 rfl (lv_at hl 1 rfl) ?_
    obtain ⟨r12, hq12, hF⟩ := bnd hF
    refine mk_call (As := [.int x1]) (rest := []) (v := (some (.int r12.1))) E hcl hK hP hS (mm_X1_isSet l hcl hB x1 z0 _ hq12) (cwV 1 E.2.2.2.2 (lw_V q1275 q1277 qs41 q58 q1278) rfl rfl rfl (by decide +kernel) ⟨Nat.le_of_ble_eq_true rfl, Nat.le_of_ble_eq_true rfl⟩) hl rfl rfl (Nat.le_of_ble_eq_true rfl) ⟨Nat.zero_le _, Nat.zero_le _⟩ dX1_fair_12 (fun H locs hP hS => ?_)
    refine lv_if_ne (tgt := 23) E.1 E.2.1 dX1_fair_15 (by decide) (fun h => ?_) (fun h => ?_)
    · have hF := ite_f h hF
      refine lv_aload_n E.1 E.2.1 dX1_fair_23 rfl (lv_at hl 0 rfl) ?_
      refine lv_iload_n E.1 E.2.1 dX1_fair_24 rfl (lv_at hl 1 rfl) ?_
      obtain ⟨r25, hq25, hF⟩ := bnd hF
      refine mk_call (As := [.int x1]) (rest := []) (v := (some (.int r25.1))) E hcl hK hP hS (mm_X1_isFair l hcl hB x1 r12.2 _ hq25) (cwV 1 E.2.2.2.2 (lw_V q1298 q1300 qs44 q58 q1301) rfl rfl rfl (by decide +kernel) ⟨Nat.le_of_ble_eq_true rfl, Nat.le_of_ble_eq_true rfl⟩) hl rfl rfl (Nat.le_of_ble_eq_true rfl) ⟨Nat.zero_le _, Nat.zero_le _⟩ dX1_fair_25 (fun H locs hP hS => ?_)
      refine lv_if_eq (tgt := 35) E.1 E.2.1 dX1_fair_28 (by decide) (fun h => ?_) (fun h => ?_)
      · have hF := ite_t h hF
        refine lv_iconst (v := (0 : Int32)) E.1 E.2.1 dX1_fair_35 (by decide) ?_
        exact mk_iret E hr hlocks hP hS hF dX1_fair_36
      · have hF := ite_f h hF
        refine lv_iconst (v := (1 : Int32)) E.1 E.2.1 dX1_fair_31 (by decide) ?_
        refine lv_goto (tgt := 36) E.1 E.2.1 dX1_fair_32 (by decide) ?_
        exact mk_iret E hr hlocks hP hS hF dX1_fair_36
    · have hF := ite_t h hF
      refine lv_bipush (v := (-2 : Int32)) E.1 E.2.1 dX1_fair_18 (by decide) ?_
      refine lv_goto (tgt := 36) E.1 E.2.1 dX1_fair_20 (by decide) ?_
      exact mk_iret E hr hlocks hP hS hF dX1_fair_36
  · have hF := ite_t h hF
    refine lv_bipush (v := (-3 : Int32)) E.1 E.2.1 dX1_fair_7 (by decide) ?_
    exact mk_iret E hr hlocks hP hS hF dX1_fair_9
/-! DebtFerryModel.goLoads(II)I -/
def m_goLoads_L173 (k213 : MZ → Option (Int32 × MZ)) (x1 : Int32) (x2 : Int32) (y42_3 : Int32) : Nat → Int32 → Int32 → MZ → Option (Int32 × MZ)
  | 0, _, _, _ => none
  | n + 1, y173_5, y173_6, z173 =>
    if (z173.1 5) ≤ y173_6 then k213  z173 else gd (inb y173_6 5) ((m_isOf y173_5 y173_6).bind (fun r194 => jn (fun (v205_0 : Int32) (z205 : MZ) => gd (inb y173_6 5) (m_goLoads_L173 k213 x1 x2 y42_3 n y173_5 (y173_6 + 1) (mz_a z205 24 y173_6.toNatClampNeg ((z173.2 24 y173_6.toNatClampNeg) + v205_0)))) (fun (k205 : Int32 → MZ → Option (Int32 × MZ)) => if r194 = 0 then k205 (0 : Int32) z173 else k205 (1 : Int32) z173)))
def m_goLoads_L42 (x1 : Int32) (x2 : Int32) : Nat → Int32 → MZ → Option (Int32 × MZ)
  | 0, _, _ => none
  | n + 1, y42_3, z42 =>
    if x2 ≤ y42_3 then some ((-9 : Int32), z42) else gd (inb (x1 + y42_3) 240) (if (z42.2 4 (x1 + y42_3).toNatClampNeg) = 0 then some (y42_3, z42) else (m_size (z42.2 4 (x1 + y42_3).toNatClampNeg)).bind (fun r64 => if (z42.1 6) < r64 then some (y42_3, z42) else if ((z42.2 4 (x1 + y42_3).toNatClampNeg) &&& (z42.1 23)) = 0 then (m_pullersOf (z42.2 4 (x1 + y42_3).toNatClampNeg) z42).bind (fun r89 => (m_isFair (z42.2 4 (x1 + y42_3).toNatClampNeg) (mz_f r89.2 23 ((r89.2.1 23) ||| (z42.2 4 (x1 + y42_3).toNatClampNeg)))).bind (fun r113 => jn (fun (v124_0 : Int32) (z124 : MZ) => (m_size r89.1).bind (fun r135 => jn (fun (v147_0 : Int32) (z147 : MZ) => jn (fun (v166_0 : Int32) (z166 : MZ) => m_goLoads_L173 (fun  (z173 : MZ) => m_goLoads_L42 x1 x2 n (y42_3 + 1) z173) x1 x2 y42_3 FU r89.1 (0 : Int32) (mz_f z166 22 (((mz_f z147 21 (((mz_f z124 20 (((mz_f r89.2 23 ((r89.2.1 23) ||| (z42.2 4 (x1 + y42_3).toNatClampNeg))).1 20) + v124_0)).1 21) + v147_0)).1 22) + v166_0))) (fun (k166 : Int32 → MZ → Option (Int32 × MZ)) => if r89.1 = 0 then k166 (1 : Int32) (mz_f z147 21 (((mz_f z124 20 (((mz_f r89.2 23 ((r89.2.1 23) ||| (z42.2 4 (x1 + y42_3).toNatClampNeg))).1 20) + v124_0)).1 21) + v147_0)) else k166 (0 : Int32) (mz_f z147 21 (((mz_f z124 20 (((mz_f r89.2 23 ((r89.2.1 23) ||| (z42.2 4 (x1 + y42_3).toNatClampNeg))).1 20) + v124_0)).1 21) + v147_0)))) (fun (k147 : Int32 → MZ → Option (Int32 × MZ)) => if r135 ≤ (1 : Int32) then k147 (0 : Int32) (mz_f z124 20 (((mz_f r89.2 23 ((r89.2.1 23) ||| (z42.2 4 (x1 + y42_3).toNatClampNeg))).1 20) + v124_0)) else k147 (1 : Int32) (mz_f z124 20 (((mz_f r89.2 23 ((r89.2.1 23) ||| (z42.2 4 (x1 + y42_3).toNatClampNeg))).1 20) + v124_0))))) (fun (k124 : Int32 → MZ → Option (Int32 × MZ)) => if r113.1 = 0 then k124 (0 : Int32) r113.2 else k124 (1 : Int32) r113.2))) else some (y42_3, z42)))
def m_goLoads_L22 (k40 : MZ → Option (Int32 × MZ)) (x1 : Int32) (x2 : Int32) : Nat → Int32 → MZ → Option (Int32 × MZ)
  | 0, _, _ => none
  | n + 1, y22_3, z22 =>
    if (5 : Int32) ≤ y22_3 then k40  z22 else gd (inb y22_3 5) (m_goLoads_L22 k40 x1 x2 n (y22_3 + 1) (mz_a z22 24 y22_3.toNatClampNeg (0 : Int32)))
def m_goLoads (x1 : Int32) (x2 : Int32) (z0 : MZ) : Option (Int32 × MZ) :=
  m_goLoads_L22 (fun  (z22 : MZ) => m_goLoads_L42 x1 x2 FU (0 : Int32) z22) x1 x2 FU (0 : Int32) (mz_f (mz_f (mz_f (mz_f z0 20 (0 : Int32)) 21 (0 : Int32)) 22 (0 : Int32)) 23 (0 : Int32))
abbrev rmX1_goLoads : Room := { frames := 5, cells := 0, slots := 0, locals := 106 }
set_option maxHeartbeats 4000000 in
set_option maxRecDepth 100000 in
theorem mm_X1_goLoads (l : Launch) {D : va_G} {cl : List vw_C} {ci : Nat} {d : ClassId} {B : Nat → Nat} {A : Nat → Prop} (hcl : cl[ci]? = some (RX1, TX1, 29)) (hB : ∀ z, va_D A (mW ci d B z)) (x1 : Int32) (x2 : Int32) (z0 : MZ) (res : Int32 × MZ) (hF : m_goLoads x1 x2 z0 = some res) : Met l yX1_goLoads (ws_ yX1_goLoads cX1_goLoads 7 (some .int)) rmX1_goLoads (mPc D cl ci d B z0 [.int x1, .int x2]) (mQ D cl ci d B A (some (.int res.1)) res.2) 0 0 A := by
  refine mk_start (A := A) (by decide) rfl (Nat.le_of_ble_eq_true rfl) ?_
  intro p e s m args below meth c H locs ls E hr hlocks hK hP hS hl
  have hl : lv_has ls 7 [(0, .ref (B 0)), (1, .int x1), (2, .int x2)] := hl
  unfold m_goLoads at hF
  refine lv_aload_n E.1 E.2.1 dX1_goLoads_0 rfl (lv_at hl 0 rfl) ?_
  refine lv_iconst (v := (0 : Int32)) E.1 E.2.1 dX1_goLoads_1 (by decide) ?_
  refine mk_put E hcl hB hK hP hS 20 rfl q1130 rfl dX1_goLoads_2 (fun H locs hP hS => ?_)
  refine lv_aload_n E.1 E.2.1 dX1_goLoads_5 rfl (lv_at hl 0 rfl) ?_
  refine lv_iconst (v := (0 : Int32)) E.1 E.2.1 dX1_goLoads_6 (by decide) ?_
  refine mk_put E hcl hB hK hP hS 21 rfl q1131 rfl dX1_goLoads_7 (fun H locs hP hS => ?_)
  refine lv_aload_n E.1 E.2.1 dX1_goLoads_10 rfl (lv_at hl 0 rfl) ?_
  refine lv_iconst (v := (0 : Int32)) E.1 E.2.1 dX1_goLoads_11 (by decide) ?_
  refine mk_put E hcl hB hK hP hS 22 rfl q1132 rfl dX1_goLoads_12 (fun H locs hP hS => ?_)
  refine lv_aload_n E.1 E.2.1 dX1_goLoads_15 rfl (lv_at hl 0 rfl) ?_
  refine lv_iconst (v := (0 : Int32)) E.1 E.2.1 dX1_goLoads_16 (by decide) ?_
  refine mk_put E hcl hB hK hP hS 23 rfl q1133 rfl dX1_goLoads_17 (fun H locs hP hS => ?_)
  refine lv_iconst (v := (0 : Int32)) E.1 E.2.1 dX1_goLoads_20 (by decide) ?_
  refine lv_istore_n (lv' := [(3, .int (0 : Int32)), (0, .ref (B 0)), (1, .int x1), (2, .int x2)]) E.1 E.2.1 dX1_goLoads_21 rfl hl (by decide) rfl (fun ls hl => ?_)
  obtain ⟨k40, hk40, hF⟩ : ∃ k40, k40 = _ ∧ m_goLoads_L22 k40 x1 x2 FU (0 : Int32) (mz_f (mz_f (mz_f (mz_f z0 20 (0 : Int32)) 21 (0 : Int32)) 22 (0 : Int32)) 23 (0 : Int32)) = some res := ⟨_, rfl, hF⟩
  have K40 : ∀  (z22 : MZ) (H : Heap) (locs : List Loc) (ls : Array Slot), k40  z22 = some res → va_P D cl (mW ci d B z22) H → va_S A s.heap H locs → lv_has ls 7 [(0, .ref (B 0)), (1, .int x1), (2, .int x2)] → W p l e rmX1_goLoads s m args below meth c H locs 0 0 (MQ below (mQ D cl ci d B A (some (.int res.1)) res.2) args s 0 0 A) (F0 m 40 ls []) := by
    intro  z22 H locs ls hF hP hS hl
    rw [hk40] at hF
    refine lv_iconst (v := (0 : Int32)) E.1 E.2.1 dX1_goLoads_40 (by decide) ?_
    refine lv_istore_n (lv' := [(3, .int (0 : Int32)), (0, .ref (B 0)), (1, .int x1), (2, .int x2)]) E.1 E.2.1 dX1_goLoads_41 rfl hl (by decide) rfl (fun ls hl => ?_)
    have L42 : ∀ (n : Nat) (y42_3 : Int32) (z42 : MZ) (H : Heap) (locs : List Loc) (ls : Array Slot), m_goLoads_L42 x1 x2 n y42_3 z42 = some res → va_P D cl (mW ci d B z42) H → va_S A s.heap H locs → lv_has ls 7 [(0, .ref (B 0)), (1, .int x1), (2, .int x2), (3, .int y42_3)] → W p l e rmX1_goLoads s m args below meth c H locs 0 0 (MQ below (mQ D cl ci d B A (some (.int res.1)) res.2) args s 0 0 A) (F0 m 42 ls []) := by
      intro n
      induction n with
      | zero =>
        intro y42_3 z42 H locs ls hF
        rw [m_goLoads_L42] at hF
        cases hF
      | succ n ih =>
        intro y42_3 z42 H locs ls hF hP hS hl
        rw [m_goLoads_L42] at hF
        refine lv_iload_n E.1 E.2.1 dX1_goLoads_42 rfl (lv_at hl 3 rfl) ?_
        refine lv_iload_n E.1 E.2.1 dX1_goLoads_43 rfl (lv_at hl 2 rfl) ?_
        refine lv_icmp_ge (tgt := 219) E.1 E.2.1 dX1_goLoads_44 (by decide) (fun h => ?_) (fun h => ?_)
        · have hF := ite_t h hF
          refine lv_bipush (v := (-9 : Int32)) E.1 E.2.1 dX1_goLoads_219 (by decide) ?_
          exact mk_iret E hr hlocks hP hS hF dX1_goLoads_221
        · have hF := ite_f h hF
          refine lv_aload_n E.1 E.2.1 dX1_goLoads_47 rfl (lv_at hl 0 rfl) ?_
          refine mk_get E hcl hK hP 4 (by decide) q1114 rfl (v := .ref (B 4)) rfl dX1_goLoads_48 ?_
          refine lv_iload_n E.1 E.2.1 dX1_goLoads_51 rfl (lv_at hl 1 rfl) ?_
          refine lv_iload_n E.1 E.2.1 dX1_goLoads_52 rfl (lv_at hl 3 rfl) ?_
          refine lv_iadd E.1 E.2.1 dX1_goLoads_53 ?_
          obtain ⟨h54, hF⟩ := gd_some hF
          refine mk_ald E hK hP (q := 3) (j := 4) (n := 240) rfl h54 dX1_goLoads_54 ?_
          refine lv_istore (lv' := [(4, .int (z42.2 4 (x1 + y42_3).toNatClampNeg)), (0, .ref (B 0)), (1, .int x1), (2, .int x2), (3, .int y42_3)]) E.1 E.2.1 dX1_goLoads_55 hl (by decide) rfl (fun ls hl => ?_)
          refine lv_iload E.1 E.2.1 dX1_goLoads_57 (lv_at hl 0 rfl) ?_
          refine lv_if_eq (tgt := 84) E.1 E.2.1 dX1_goLoads_59 (by decide) (fun h => ?_) (fun h => ?_)
          · have hF := ite_t h hF
            refine lv_iload_n E.1 E.2.1 dX1_goLoads_84 rfl (lv_at hl 4 rfl) ?_
            exact mk_iret E hr hlocks hP hS hF dX1_goLoads_85
          · have hF := ite_f h hF
            refine lv_iload E.1 E.2.1 dX1_goLoads_62 (lv_at hl 0 rfl) ?_
            obtain ⟨r64, hq64, hF⟩ := bnd hF
            refine px_call (As := [.int (z42.2 4 (x1 + y42_3).toNatClampNeg)]) (rest := []) (v := .int r64) E (mm_X1_size l (z42.2 4 (x1 + y42_3).toNatClampNeg) _ hq64) (va_cwS 1 E.2.2.2.2 (lw_S q1302 q1303 q58 q1304) rfl rfl rfl (by decide +kernel) ⟨Nat.le_of_ble_eq_true rfl, Nat.le_of_ble_eq_true rfl⟩) hl rfl rfl (Nat.le_of_ble_eq_true rfl) ⟨Nat.zero_le _, Nat.zero_le _⟩ dX1_goLoads_64 ?_
            refine lv_aload_n E.1 E.2.1 dX1_goLoads_67 rfl (lv_at hl 1 rfl) ?_
            refine mk_get E hcl hK hP 6 (by decide) q1116 rfl (v := .int (z42.1 6)) rfl dX1_goLoads_68 ?_
            refine lv_icmp_gt (tgt := 84) E.1 E.2.1 dX1_goLoads_71 (by decide) (fun h => ?_) (fun h => ?_)
            · have hF := ite_t h hF
              refine lv_iload_n E.1 E.2.1 dX1_goLoads_84 rfl (lv_at hl 4 rfl) ?_
              exact mk_iret E hr hlocks hP hS hF dX1_goLoads_85
            · have hF := ite_f h hF
              refine lv_iload E.1 E.2.1 dX1_goLoads_74 (lv_at hl 0 rfl) ?_
              refine lv_aload_n E.1 E.2.1 dX1_goLoads_76 rfl (lv_at hl 1 rfl) ?_
              refine mk_get E hcl hK hP 23 (by decide) q1133 rfl (v := .int (z42.1 23)) rfl dX1_goLoads_77 ?_
              refine lv_iand E.1 E.2.1 dX1_goLoads_80 ?_
              refine lv_if_eq (tgt := 86) E.1 E.2.1 dX1_goLoads_81 (by decide) (fun h => ?_) (fun h => ?_)
              · have hF := ite_t h hF
                refine lv_aload_n E.1 E.2.1 dX1_goLoads_86 rfl (lv_at hl 1 rfl) ?_
                refine lv_iload E.1 E.2.1 dX1_goLoads_87 (lv_at hl 0 rfl) ?_
                obtain ⟨r89, hq89, hF⟩ := bnd hF
                refine mk_call (As := [.int (z42.2 4 (x1 + y42_3).toNatClampNeg)]) (rest := []) (v := (some (.int r89.1))) E hcl hK hP hS (mm_X1_pullersOf l hcl hB (z42.2 4 (x1 + y42_3).toNatClampNeg) z42 _ hq89) (cwV 1 E.2.2.2.2 (lw_V q1290 q1292 qs43 q58 q1293) rfl rfl rfl (by decide +kernel) ⟨Nat.le_of_ble_eq_true rfl, Nat.le_of_ble_eq_true rfl⟩) hl rfl rfl (Nat.le_of_ble_eq_true rfl) ⟨Nat.zero_le _, Nat.zero_le _⟩ dX1_goLoads_89 (fun H locs hP hS => ?_)
                refine lv_istore (lv' := [(5, .int r89.1), (4, .int (z42.2 4 (x1 + y42_3).toNatClampNeg)), (0, .ref (B 0)), (1, .int x1), (2, .int x2), (3, .int y42_3)]) E.1 E.2.1 dX1_goLoads_92 hl (by decide) rfl (fun ls hl => ?_)
                refine lv_aload_n E.1 E.2.1 dX1_goLoads_94 rfl (lv_at hl 2 rfl) ?_
                refine lv_dup E.1 E.2.1 dX1_goLoads_95 rfl ?_
                refine mk_get E hcl hK hP 23 (by decide) q1133 rfl (v := .int (r89.2.1 23)) rfl dX1_goLoads_96 ?_
                refine lv_iload E.1 E.2.1 dX1_goLoads_99 (lv_at hl 1 rfl) ?_
                refine lv_ior E.1 E.2.1 dX1_goLoads_101 ?_
                refine mk_put E hcl hB hK hP hS 23 rfl q1133 rfl dX1_goLoads_102 (fun H locs hP hS => ?_)
                refine lv_aload_n E.1 E.2.1 dX1_goLoads_105 rfl (lv_at hl 2 rfl) ?_
                refine lv_dup E.1 E.2.1 dX1_goLoads_106 rfl ?_
                refine mk_get E hcl hK hP 20 (by decide) q1130 rfl (v := .int ((mz_f r89.2 23 ((r89.2.1 23) ||| (z42.2 4 (x1 + y42_3).toNatClampNeg))).1 20)) rfl dX1_goLoads_107 ?_
                refine lv_aload_n E.1 E.2.1 dX1_goLoads_110 rfl (lv_at hl 2 rfl) ?_
                refine lv_iload E.1 E.2.1 dX1_goLoads_111 (lv_at hl 1 rfl) ?_
                obtain ⟨r113, hq113, hF⟩ := bnd hF
                refine mk_call (As := [.int (z42.2 4 (x1 + y42_3).toNatClampNeg)]) (rest := [.int ((mz_f r89.2 23 ((r89.2.1 23) ||| (z42.2 4 (x1 + y42_3).toNatClampNeg))).1 20), .ref (B 0)]) (v := (some (.int r113.1))) E hcl hK hP hS (mm_X1_isFair l hcl hB (z42.2 4 (x1 + y42_3).toNatClampNeg) (mz_f r89.2 23 ((r89.2.1 23) ||| (z42.2 4 (x1 + y42_3).toNatClampNeg))) _ hq113) (cwV 1 E.2.2.2.2 (lw_V q1298 q1300 qs44 q58 q1301) rfl rfl rfl (by decide +kernel) ⟨Nat.le_of_ble_eq_true rfl, Nat.le_of_ble_eq_true rfl⟩) hl rfl rfl (Nat.le_of_ble_eq_true rfl) ⟨Nat.zero_le _, Nat.zero_le _⟩ dX1_goLoads_113 (fun H locs hP hS => ?_)
                obtain ⟨k124, hk124, hF⟩ := jn_split hF
                have J124 : ∀ (v124_0 : Int32) (z124 : MZ) (H : Heap) (locs : List Loc) (ls : Array Slot), k124 v124_0 z124 = some res → va_P D cl (mW ci d B z124) H → va_S A s.heap H locs → lv_has ls 7 [(0, .ref (B 0)), (1, .int x1), (2, .int x2), (3, .int y42_3), (5, .int r89.1)] → W p l e rmX1_goLoads s m args below meth c H locs 0 0 (MQ below (mQ D cl ci d B A (some (.int res.1)) res.2) args s 0 0 A) (F0 m 124 ls [.int v124_0, .int ((mz_f r89.2 23 ((r89.2.1 23) ||| (z42.2 4 (x1 + y42_3).toNatClampNeg))).1 20), .ref (B 0)]) := by
                  intro v124_0 z124 H locs ls hF hP hS hl
                  rw [hk124] at hF
                  refine lv_iadd E.1 E.2.1 dX1_goLoads_124 ?_
                  refine mk_put E hcl hB hK hP hS 20 rfl q1130 rfl dX1_goLoads_125 (fun H locs hP hS => ?_)
                  refine lv_aload_n E.1 E.2.1 dX1_goLoads_128 rfl (lv_at hl 0 rfl) ?_
                  refine lv_dup E.1 E.2.1 dX1_goLoads_129 rfl ?_
                  refine mk_get E hcl hK hP 21 (by decide) q1131 rfl (v := .int ((mz_f z124 20 (((mz_f r89.2 23 ((r89.2.1 23) ||| (z42.2 4 (x1 + y42_3).toNatClampNeg))).1 20) + v124_0)).1 21)) rfl dX1_goLoads_130 ?_
                  refine lv_iload E.1 E.2.1 dX1_goLoads_133 (lv_at hl 4 rfl) ?_
                  obtain ⟨r135, hq135, hF⟩ := bnd hF
                  refine px_call (As := [.int r89.1]) (rest := [.int ((mz_f z124 20 (((mz_f r89.2 23 ((r89.2.1 23) ||| (z42.2 4 (x1 + y42_3).toNatClampNeg))).1 20) + v124_0)).1 21), .ref (B 0)]) (v := .int r135) E (mm_X1_size l r89.1 _ hq135) (va_cwS 1 E.2.2.2.2 (lw_S q1302 q1303 q58 q1304) rfl rfl rfl (by decide +kernel) ⟨Nat.le_of_ble_eq_true rfl, Nat.le_of_ble_eq_true rfl⟩) hl rfl rfl (Nat.le_of_ble_eq_true rfl) ⟨Nat.zero_le _, Nat.zero_le _⟩ dX1_goLoads_135 ?_
                  refine lv_iconst (v := (1 : Int32)) E.1 E.2.1 dX1_goLoads_138 (by decide) ?_
                  obtain ⟨k147, hk147, hF⟩ := jn_split hF
                  have J147 : ∀ (v147_0 : Int32) (z147 : MZ) (H : Heap) (locs : List Loc) (ls : Array Slot), k147 v147_0 z147 = some res → va_P D cl (mW ci d B z147) H → va_S A s.heap H locs → lv_has ls 7 [(0, .ref (B 0)), (1, .int x1), (2, .int x2), (3, .int y42_3), (5, .int r89.1)] → W p l e rmX1_goLoads s m args below meth c H locs 0 0 (MQ below (mQ D cl ci d B A (some (.int res.1)) res.2) args s 0 0 A) (F0 m 147 ls [.int v147_0, .int ((mz_f z124 20 (((mz_f r89.2 23 ((r89.2.1 23) ||| (z42.2 4 (x1 + y42_3).toNatClampNeg))).1 20) + v124_0)).1 21), .ref (B 0)]) := by
                    intro v147_0 z147 H locs ls hF hP hS hl
                    rw [hk147] at hF
                    refine lv_iadd E.1 E.2.1 dX1_goLoads_147 ?_
                    refine mk_put E hcl hB hK hP hS 21 rfl q1131 rfl dX1_goLoads_148 (fun H locs hP hS => ?_)
                    refine lv_aload_n E.1 E.2.1 dX1_goLoads_151 rfl (lv_at hl 0 rfl) ?_
                    refine lv_dup E.1 E.2.1 dX1_goLoads_152 rfl ?_
                    refine mk_get E hcl hK hP 22 (by decide) q1132 rfl (v := .int ((mz_f z147 21 (((mz_f z124 20 (((mz_f r89.2 23 ((r89.2.1 23) ||| (z42.2 4 (x1 + y42_3).toNatClampNeg))).1 20) + v124_0)).1 21) + v147_0)).1 22)) rfl dX1_goLoads_153 ?_
                    refine lv_iload E.1 E.2.1 dX1_goLoads_156 (lv_at hl 4 rfl) ?_
                    obtain ⟨k166, hk166, hF⟩ := jn_split hF
                    have J166 : ∀ (v166_0 : Int32) (z166 : MZ) (H : Heap) (locs : List Loc) (ls : Array Slot), k166 v166_0 z166 = some res → va_P D cl (mW ci d B z166) H → va_S A s.heap H locs → lv_has ls 7 [(0, .ref (B 0)), (1, .int x1), (2, .int x2), (3, .int y42_3), (5, .int r89.1)] → W p l e rmX1_goLoads s m args below meth c H locs 0 0 (MQ below (mQ D cl ci d B A (some (.int res.1)) res.2) args s 0 0 A) (F0 m 166 ls [.int v166_0, .int ((mz_f z147 21 (((mz_f z124 20 (((mz_f r89.2 23 ((r89.2.1 23) ||| (z42.2 4 (x1 + y42_3).toNatClampNeg))).1 20) + v124_0)).1 21) + v147_0)).1 22), .ref (B 0)]) := by
                      intro v166_0 z166 H locs ls hF hP hS hl
                      rw [hk166] at hF
                      refine lv_iadd E.1 E.2.1 dX1_goLoads_166 ?_
                      refine mk_put E hcl hB hK hP hS 22 rfl q1132 rfl dX1_goLoads_167 (fun H locs hP hS => ?_)
                      refine lv_iconst (v := (0 : Int32)) E.1 E.2.1 dX1_goLoads_170 (by decide) ?_
                      refine lv_istore (lv' := [(6, .int (0 : Int32)), (0, .ref (B 0)), (1, .int x1), (2, .int x2), (3, .int y42_3), (5, .int r89.1)]) E.1 E.2.1 dX1_goLoads_171 hl (by decide) rfl (fun ls hl => ?_)
                      obtain ⟨k213, hk213, hF⟩ : ∃ k213, k213 = _ ∧ m_goLoads_L173 k213 x1 x2 y42_3 FU r89.1 (0 : Int32) (mz_f z166 22 (((mz_f z147 21 (((mz_f z124 20 (((mz_f r89.2 23 ((r89.2.1 23) ||| (z42.2 4 (x1 + y42_3).toNatClampNeg))).1 20) + v124_0)).1 21) + v147_0)).1 22) + v166_0)) = some res := ⟨_, rfl, hF⟩
                      have K213 : ∀  (z173 : MZ) (H : Heap) (locs : List Loc) (ls : Array Slot), k213  z173 = some res → va_P D cl (mW ci d B z173) H → va_S A s.heap H locs → lv_has ls 7 [(0, .ref (B 0)), (1, .int x1), (2, .int x2), (3, .int y42_3)] → W p l e rmX1_goLoads s m args below meth c H locs 0 0 (MQ below (mQ D cl ci d B A (some (.int res.1)) res.2) args s 0 0 A) (F0 m 213 ls []) := by
                        intro  z173 H locs ls hF hP hS hl
                        rw [hk213] at hF
                        refine lv_iinc (v := y42_3 + 1) (lv' := [(3, .int (y42_3 + 1)), (0, .ref (B 0)), (1, .int x1), (2, .int x2)]) E.1 E.2.1 dX1_goLoads_213 hl (k := 3) rfl rfl (by decide) rfl (fun ls hl => ?_)
                        refine lv_goto (tgt := 42) E.1 E.2.1 dX1_goLoads_216 (by decide) ?_
                        exact ih (y42_3 + 1) z173 H locs ls hF hP hS (lv_sub hl [1, 2, 3, 0] rfl)
                      have L173 : ∀ (n : Nat) (y173_5 : Int32) (y173_6 : Int32) (z173 : MZ) (H : Heap) (locs : List Loc) (ls : Array Slot), m_goLoads_L173 k213 x1 x2 y42_3 n y173_5 y173_6 z173 = some res → va_P D cl (mW ci d B z173) H → va_S A s.heap H locs → lv_has ls 7 [(0, .ref (B 0)), (1, .int x1), (2, .int x2), (3, .int y42_3), (5, .int y173_5), (6, .int y173_6)] → W p l e rmX1_goLoads s m args below meth c H locs 0 0 (MQ below (mQ D cl ci d B A (some (.int res.1)) res.2) args s 0 0 A) (F0 m 173 ls []) := by
                        intro n
                        induction n with
                        | zero =>
                          intro y173_5 y173_6 z173 H locs ls hF
                          rw [m_goLoads_L173] at hF
                          cases hF
                        | succ n ih =>
                          intro y173_5 y173_6 z173 H locs ls hF hP hS hl
                          rw [m_goLoads_L173] at hF
                          refine lv_iload E.1 E.2.1 dX1_goLoads_173 (lv_at hl 5 rfl) ?_
                          refine lv_aload_n E.1 E.2.1 dX1_goLoads_175 rfl (lv_at hl 0 rfl) ?_
                          refine mk_get E hcl hK hP 5 (by decide) q1115 rfl (v := .int (z173.1 5)) rfl dX1_goLoads_176 ?_
                          refine lv_icmp_ge (tgt := 213) E.1 E.2.1 dX1_goLoads_179 (by decide) (fun h => ?_) (fun h => ?_)
                          · have hF := ite_t h hF
                            exact K213  z173 H locs ls hF hP hS (lv_sub hl [0, 1, 2, 3] rfl)
                          · have hF := ite_f h hF
                            refine lv_aload_n E.1 E.2.1 dX1_goLoads_182 rfl (lv_at hl 0 rfl) ?_
                            refine mk_get E hcl hK hP 24 (by decide) q1134 rfl (v := .ref (B 24)) rfl dX1_goLoads_183 ?_
                            refine lv_iload E.1 E.2.1 dX1_goLoads_186 (lv_at hl 5 rfl) ?_
                            refine lv_dup2_11 E.1 E.2.1 dX1_goLoads_188 rfl rfl ?_
                            obtain ⟨h189, hF⟩ := gd_some hF
                            refine mk_ald E hK hP (q := 10) (j := 24) (n := 5) rfl h189 dX1_goLoads_189 ?_
                            refine lv_iload E.1 E.2.1 dX1_goLoads_190 (lv_at hl 4 rfl) ?_
                            refine lv_iload E.1 E.2.1 dX1_goLoads_192 (lv_at hl 5 rfl) ?_
                            obtain ⟨r194, hq194, hF⟩ := bnd hF
                            refine px_call (As := [.int y173_5, .int y173_6]) (rest := [.int (z173.2 24 y173_6.toNatClampNeg), .int y173_6, .ref (B 24)]) (v := .int r194) E (mm_X1_isOf l y173_5 y173_6 _ hq194) (va_cwS 2 E.2.2.2.2 (lw_S q1279 q1280 q58 q1281) rfl rfl rfl (by decide +kernel) ⟨Nat.le_of_ble_eq_true rfl, Nat.le_of_ble_eq_true rfl⟩) hl rfl rfl (Nat.le_of_ble_eq_true rfl) ⟨Nat.zero_le _, Nat.zero_le _⟩ dX1_goLoads_194 ?_
                            obtain ⟨k205, hk205, hF⟩ := jn_split hF
                            have J205 : ∀ (v205_0 : Int32) (z205 : MZ) (H : Heap) (locs : List Loc) (ls : Array Slot), k205 v205_0 z205 = some res → va_P D cl (mW ci d B z205) H → va_S A s.heap H locs → lv_has ls 7 [(0, .ref (B 0)), (1, .int x1), (2, .int x2), (3, .int y42_3), (5, .int y173_5), (6, .int y173_6)] → W p l e rmX1_goLoads s m args below meth c H locs 0 0 (MQ below (mQ D cl ci d B A (some (.int res.1)) res.2) args s 0 0 A) (F0 m 205 ls [.int v205_0, .int (z173.2 24 y173_6.toNatClampNeg), .int y173_6, .ref (B 24)]) := by
                              intro v205_0 z205 H locs ls hF hP hS hl
                              rw [hk205] at hF
                              refine lv_iadd E.1 E.2.1 dX1_goLoads_205 ?_
                              obtain ⟨h206, hF⟩ := gd_some hF
                              refine mk_ast E hB hK hP hS (q := 10) (j := 24) (n := 5) rfl h206 dX1_goLoads_206 (fun H locs hP hS => ?_)
                              refine lv_iinc (v := y173_6 + 1) (lv' := [(6, .int (y173_6 + 1)), (0, .ref (B 0)), (1, .int x1), (2, .int x2), (3, .int y42_3), (5, .int y173_5)]) E.1 E.2.1 dX1_goLoads_207 hl (k := 5) rfl rfl (by decide) rfl (fun ls hl => ?_)
                              refine lv_goto (tgt := 173) E.1 E.2.1 dX1_goLoads_210 (by decide) ?_
                              exact ih y173_5 (y173_6 + 1) (mz_a z205 24 y173_6.toNatClampNeg ((z173.2 24 y173_6.toNatClampNeg) + v205_0)) H locs ls hF hP hS (lv_sub hl [1, 2, 3, 4, 5, 0] rfl)
                            refine lv_if_eq (tgt := 204) E.1 E.2.1 dX1_goLoads_197 (by decide) (fun h => ?_) (fun h => ?_)
                            · have hF := ite_t h hF
                              refine lv_iconst (v := (0 : Int32)) E.1 E.2.1 dX1_goLoads_204 (by decide) ?_
                              exact J205 (0 : Int32) z173 H locs ls hF hP hS (lv_sub hl [0, 1, 2, 3, 4, 5] rfl)
                            · have hF := ite_f h hF
                              refine lv_iconst (v := (1 : Int32)) E.1 E.2.1 dX1_goLoads_200 (by decide) ?_
                              refine lv_goto (tgt := 205) E.1 E.2.1 dX1_goLoads_201 (by decide) ?_
                              exact J205 (1 : Int32) z173 H locs ls hF hP hS (lv_sub hl [0, 1, 2, 3, 4, 5] rfl)
                      exact L173 FU r89.1 (0 : Int32) (mz_f z166 22 (((mz_f z147 21 (((mz_f z124 20 (((mz_f r89.2 23 ((r89.2.1 23) ||| (z42.2 4 (x1 + y42_3).toNatClampNeg))).1 20) + v124_0)).1 21) + v147_0)).1 22) + v166_0)) H locs ls hF hP hS (lv_sub hl [1, 2, 3, 4, 5, 0] rfl)
                    refine lv_if_ne (tgt := 165) E.1 E.2.1 dX1_goLoads_158 (by decide) (fun h => ?_) (fun h => ?_)
                    · have hF := ite_f h hF
                      refine lv_iconst (v := (0 : Int32)) E.1 E.2.1 dX1_goLoads_165 (by decide) ?_
                      exact J166 (0 : Int32) (mz_f z147 21 (((mz_f z124 20 (((mz_f r89.2 23 ((r89.2.1 23) ||| (z42.2 4 (x1 + y42_3).toNatClampNeg))).1 20) + v124_0)).1 21) + v147_0)) H locs ls hF hP hS (lv_sub hl [0, 1, 2, 3, 4] rfl)
                    · have hF := ite_t h hF
                      refine lv_iconst (v := (1 : Int32)) E.1 E.2.1 dX1_goLoads_161 (by decide) ?_
                      refine lv_goto (tgt := 166) E.1 E.2.1 dX1_goLoads_162 (by decide) ?_
                      exact J166 (1 : Int32) (mz_f z147 21 (((mz_f z124 20 (((mz_f r89.2 23 ((r89.2.1 23) ||| (z42.2 4 (x1 + y42_3).toNatClampNeg))).1 20) + v124_0)).1 21) + v147_0)) H locs ls hF hP hS (lv_sub hl [0, 1, 2, 3, 4] rfl)
                  refine lv_icmp_le (tgt := 146) E.1 E.2.1 dX1_goLoads_139 (by decide) (fun h => ?_) (fun h => ?_)
                  · have hF := ite_t h hF
                    refine lv_iconst (v := (0 : Int32)) E.1 E.2.1 dX1_goLoads_146 (by decide) ?_
                    exact J147 (0 : Int32) (mz_f z124 20 (((mz_f r89.2 23 ((r89.2.1 23) ||| (z42.2 4 (x1 + y42_3).toNatClampNeg))).1 20) + v124_0)) H locs ls hF hP hS (lv_sub hl [0, 1, 2, 3, 4] rfl)
                  · have hF := ite_f h hF
                    refine lv_iconst (v := (1 : Int32)) E.1 E.2.1 dX1_goLoads_142 (by decide) ?_
                    refine lv_goto (tgt := 147) E.1 E.2.1 dX1_goLoads_143 (by decide) ?_
                    exact J147 (1 : Int32) (mz_f z124 20 (((mz_f r89.2 23 ((r89.2.1 23) ||| (z42.2 4 (x1 + y42_3).toNatClampNeg))).1 20) + v124_0)) H locs ls hF hP hS (lv_sub hl [0, 1, 2, 3, 4] rfl)
                refine lv_if_eq (tgt := 123) E.1 E.2.1 dX1_goLoads_116 (by decide) (fun h => ?_) (fun h => ?_)
                · have hF := ite_t h hF
                  refine lv_iconst (v := (0 : Int32)) E.1 E.2.1 dX1_goLoads_123 (by decide) ?_
                  exact J124 (0 : Int32) r113.2 H locs ls hF hP hS (lv_sub hl [2, 3, 4, 5, 0] rfl)
                · have hF := ite_f h hF
                  refine lv_iconst (v := (1 : Int32)) E.1 E.2.1 dX1_goLoads_119 (by decide) ?_
                  refine lv_goto (tgt := 124) E.1 E.2.1 dX1_goLoads_120 (by decide) ?_
                  exact J124 (1 : Int32) r113.2 H locs ls hF hP hS (lv_sub hl [2, 3, 4, 5, 0] rfl)
              · have hF := ite_f h hF
                refine lv_iload_n E.1 E.2.1 dX1_goLoads_84 rfl (lv_at hl 4 rfl) ?_
                exact mk_iret E hr hlocks hP hS hF dX1_goLoads_85
    exact L42 FU (0 : Int32) z22 H locs ls hF hP hS (lv_sub hl [1, 2, 3, 0] rfl)
  have L22 : ∀ (n : Nat) (y22_3 : Int32) (z22 : MZ) (H : Heap) (locs : List Loc) (ls : Array Slot), m_goLoads_L22 k40 x1 x2 n y22_3 z22 = some res → va_P D cl (mW ci d B z22) H → va_S A s.heap H locs → lv_has ls 7 [(0, .ref (B 0)), (1, .int x1), (2, .int x2), (3, .int y22_3)] → W p l e rmX1_goLoads s m args below meth c H locs 0 0 (MQ below (mQ D cl ci d B A (some (.int res.1)) res.2) args s 0 0 A) (F0 m 22 ls []) := by
    intro n
    induction n with
    | zero =>
      intro y22_3 z22 H locs ls hF
      rw [m_goLoads_L22] at hF
      cases hF
    | succ n ih =>
      intro y22_3 z22 H locs ls hF hP hS hl
      rw [m_goLoads_L22] at hF
      refine lv_iload_n E.1 E.2.1 dX1_goLoads_22 rfl (lv_at hl 3 rfl) ?_
      refine lv_iconst (v := (5 : Int32)) E.1 E.2.1 dX1_goLoads_23 (by decide) ?_
      refine lv_icmp_ge (tgt := 40) E.1 E.2.1 dX1_goLoads_24 (by decide) (fun h => ?_) (fun h => ?_)
      · have hF := ite_t h hF
        exact K40  z22 H locs ls hF hP hS (lv_sub hl [0, 1, 2] rfl)
      · have hF := ite_f h hF
        refine lv_aload_n E.1 E.2.1 dX1_goLoads_27 rfl (lv_at hl 0 rfl) ?_
        refine mk_get E hcl hK hP 24 (by decide) q1134 rfl (v := .ref (B 24)) rfl dX1_goLoads_28 ?_
        refine lv_iload_n E.1 E.2.1 dX1_goLoads_31 rfl (lv_at hl 3 rfl) ?_
        refine lv_iconst (v := (0 : Int32)) E.1 E.2.1 dX1_goLoads_32 (by decide) ?_
        obtain ⟨h33, hF⟩ := gd_some hF
        refine mk_ast E hB hK hP hS (q := 10) (j := 24) (n := 5) rfl h33 dX1_goLoads_33 (fun H locs hP hS => ?_)
        refine lv_iinc (v := y22_3 + 1) (lv' := [(3, .int (y22_3 + 1)), (0, .ref (B 0)), (1, .int x1), (2, .int x2)]) E.1 E.2.1 dX1_goLoads_34 hl (k := 3) rfl rfl (by decide) rfl (fun ls hl => ?_)
        refine lv_goto (tgt := 22) E.1 E.2.1 dX1_goLoads_37 (by decide) ?_
        exact ih (y22_3 + 1) (mz_a z22 24 y22_3.toNatClampNeg (0 : Int32)) H locs ls hF hP hS (lv_sub hl [1, 2, 3, 0] rfl)
  exact L22 FU (0 : Int32) (mz_f (mz_f (mz_f (mz_f z0 20 (0 : Int32)) 21 (0 : Int32)) 22 (0 : Int32)) 23 (0 : Int32)) H locs ls hF hP hS (lv_sub hl [1, 2, 3, 0] rfl)
/-! DebtFerryModel.tellLoads(I)I -/
def m_tellLoads (x1 : Int32) (z0 : MZ) : Option (Int32 × MZ) :=
  jn (fun  (z56 : MZ) => (m_isPerson (x1 - (10 : Int32)) z56).bind (fun r61 => if r61.1 = 0 then some ((-9 : Int32), r61.2) else gd (inb (x1 - (10 : Int32)) 5) (some ((r61.2.2 24 (x1 - (10 : Int32)).toNatClampNeg), r61.2)))) (fun (k56 : MZ → Option (Int32 × MZ)) => if x1 = (0 : Int32) then some ((z0.1 20), z0) else if x1 = (1 : Int32) then k56  z0 else if x1 = (2 : Int32) then some ((z0.1 23), z0) else if x1 = (3 : Int32) then some ((z0.1 21), z0) else if x1 = (4 : Int32) then some ((z0.1 22), z0) else k56  z0)
abbrev rmX1_tellLoads : Room := { frames := 2, cells := 0, slots := 0, locals := 33 }
set_option maxHeartbeats 4000000 in
set_option maxRecDepth 100000 in
theorem mm_X1_tellLoads (l : Launch) {D : va_G} {cl : List vw_C} {ci : Nat} {d : ClassId} {B : Nat → Nat} {A : Nat → Prop} (hcl : cl[ci]? = some (RX1, TX1, 29)) (hB : ∀ z, va_D A (mW ci d B z)) (x1 : Int32) (z0 : MZ) (res : Int32 × MZ) (hF : m_tellLoads x1 z0 = some res) : Met l yX1_tellLoads (ws_ yX1_tellLoads cX1_tellLoads 2 (some .int)) rmX1_tellLoads (mPc D cl ci d B z0 [.int x1]) (mQ D cl ci d B A (some (.int res.1)) res.2) 0 0 A := by
  refine mk_start (A := A) (by decide) rfl (Nat.le_of_ble_eq_true rfl) ?_
  intro p e s m args below meth c H locs ls E hr hlocks hK hP hS hl
  have hl : lv_has ls 2 [(0, .ref (B 0)), (1, .int x1)] := hl
  unfold m_tellLoads at hF
  refine lv_iload_n E.1 E.2.1 dX1_tellLoads_0 rfl (lv_at hl 1 rfl) ?_
  obtain ⟨k56, hk56, hF⟩ := jn_split hF
  have J56 : ∀  (z56 : MZ) (H : Heap) (locs : List Loc) (ls : Array Slot), k56  z56 = some res → va_P D cl (mW ci d B z56) H → va_S A s.heap H locs → lv_has ls 2 [(0, .ref (B 0)), (1, .int x1)] → W p l e rmX1_tellLoads s m args below meth c H locs 0 0 (MQ below (mQ D cl ci d B A (some (.int res.1)) res.2) args s 0 0 A) (F0 m 56 ls []) := by
    intro  z56 H locs ls hF hP hS hl
    rw [hk56] at hF
    refine lv_aload_n E.1 E.2.1 dX1_tellLoads_56 rfl (lv_at hl 0 rfl) ?_
    refine lv_iload_n E.1 E.2.1 dX1_tellLoads_57 rfl (lv_at hl 1 rfl) ?_
    refine lv_bipush (v := (10 : Int32)) E.1 E.2.1 dX1_tellLoads_58 (by decide) ?_
    refine lv_isub E.1 E.2.1 dX1_tellLoads_60 ?_
    obtain ⟨r61, hq61, hF⟩ := bnd hF
    refine mk_call (As := [.int (x1 - (10 : Int32))]) (rest := []) (v := (some (.int r61.1))) E hcl hK hP hS (mm_X1_isPerson l hcl hB (x1 - (10 : Int32)) z56 _ hq61) (cwV 1 E.2.2.2.2 (lw_V q1243 q1245 qs38 q58 q1246) rfl rfl rfl (by decide +kernel) ⟨Nat.le_of_ble_eq_true rfl, Nat.le_of_ble_eq_true rfl⟩) hl rfl rfl (Nat.le_of_ble_eq_true rfl) ⟨Nat.zero_le _, Nat.zero_le _⟩ dX1_tellLoads_61 (fun H locs hP hS => ?_)
    refine lv_if_eq (tgt := 79) E.1 E.2.1 dX1_tellLoads_64 (by decide) (fun h => ?_) (fun h => ?_)
    · have hF := ite_t h hF
      refine lv_bipush (v := (-9 : Int32)) E.1 E.2.1 dX1_tellLoads_79 (by decide) ?_
      exact mk_iret E hr hlocks hP hS hF dX1_tellLoads_81
    · have hF := ite_f h hF
      refine lv_aload_n E.1 E.2.1 dX1_tellLoads_67 rfl (lv_at hl 0 rfl) ?_
      refine mk_get E hcl hK hP 24 (by decide) q1134 rfl (v := .ref (B 24)) rfl dX1_tellLoads_68 ?_
      refine lv_iload_n E.1 E.2.1 dX1_tellLoads_71 rfl (lv_at hl 1 rfl) ?_
      refine lv_bipush (v := (10 : Int32)) E.1 E.2.1 dX1_tellLoads_72 (by decide) ?_
      refine lv_isub E.1 E.2.1 dX1_tellLoads_74 ?_
      obtain ⟨h75, hF⟩ := gd_some hF
      refine mk_ald E hK hP (q := 10) (j := 24) (n := 5) rfl h75 dX1_tellLoads_75 ?_
      refine lv_goto (tgt := 81) E.1 E.2.1 dX1_tellLoads_76 (by decide) ?_
      exact mk_iret E hr hlocks hP hS hF dX1_tellLoads_81
  rcases Decidable.em (x1 = (0 : Int32)) with h1_0 | h1_0
  · have hF := ite_t h1_0 hF
    refine lv_tableIn (off := 35) (tgt := 36) E.1 E.2.1 dX1_tellLoads_1 (by rw [h1_0]; decide) (by rw [h1_0]; decide) (by rw [h1_0]; decide) (by decide) ?_
    refine lv_aload_n E.1 E.2.1 dX1_tellLoads_36 rfl (lv_at hl 0 rfl) ?_
    refine mk_get E hcl hK hP 20 (by decide) q1130 rfl (v := .int (z0.1 20)) rfl dX1_tellLoads_37 ?_
    exact mk_iret E hr hlocks hP hS hF dX1_tellLoads_40
  have hF := ite_f h1_0 hF
  rcases Decidable.em (x1 = (1 : Int32)) with h1_1 | h1_1
  · have hF := ite_t h1_1 hF
    refine lv_tableIn (off := 55) (tgt := 56) E.1 E.2.1 dX1_tellLoads_1 (by rw [h1_1]; decide) (by rw [h1_1]; decide) (by rw [h1_1]; decide) (by decide) ?_
    exact J56  z0 H locs ls hF hP hS (lv_sub hl [0, 1] rfl)
  have hF := ite_f h1_1 hF
  rcases Decidable.em (x1 = (2 : Int32)) with h1_2 | h1_2
  · have hF := ite_t h1_2 hF
    refine lv_tableIn (off := 40) (tgt := 41) E.1 E.2.1 dX1_tellLoads_1 (by rw [h1_2]; decide) (by rw [h1_2]; decide) (by rw [h1_2]; decide) (by decide) ?_
    refine lv_aload_n E.1 E.2.1 dX1_tellLoads_41 rfl (lv_at hl 0 rfl) ?_
    refine mk_get E hcl hK hP 23 (by decide) q1133 rfl (v := .int (z0.1 23)) rfl dX1_tellLoads_42 ?_
    exact mk_iret E hr hlocks hP hS hF dX1_tellLoads_45
  have hF := ite_f h1_2 hF
  rcases Decidable.em (x1 = (3 : Int32)) with h1_3 | h1_3
  · have hF := ite_t h1_3 hF
    refine lv_tableIn (off := 45) (tgt := 46) E.1 E.2.1 dX1_tellLoads_1 (by rw [h1_3]; decide) (by rw [h1_3]; decide) (by rw [h1_3]; decide) (by decide) ?_
    refine lv_aload_n E.1 E.2.1 dX1_tellLoads_46 rfl (lv_at hl 0 rfl) ?_
    refine mk_get E hcl hK hP 21 (by decide) q1131 rfl (v := .int (z0.1 21)) rfl dX1_tellLoads_47 ?_
    exact mk_iret E hr hlocks hP hS hF dX1_tellLoads_50
  have hF := ite_f h1_3 hF
  rcases Decidable.em (x1 = (4 : Int32)) with h1_4 | h1_4
  · have hF := ite_t h1_4 hF
    refine lv_tableIn (off := 50) (tgt := 51) E.1 E.2.1 dX1_tellLoads_1 (by rw [h1_4]; decide) (by rw [h1_4]; decide) (by rw [h1_4]; decide) (by decide) ?_
    refine lv_aload_n E.1 E.2.1 dX1_tellLoads_51 rfl (lv_at hl 0 rfl) ?_
    refine mk_get E hcl hK hP 22 (by decide) q1132 rfl (v := .int (z0.1 22)) rfl dX1_tellLoads_52 ?_
    exact mk_iret E hr hlocks hP hS hF dX1_tellLoads_55
  have hF := ite_f h1_4 hF
  refine lv_tableOut (tgt := 56) E.1 E.2.1 dX1_tellLoads_1 (by have g0 := lv_neT h1_0 (a := 0) (by decide); have g1 := lv_neT h1_1 (a := 1) (by decide); have g2 := lv_neT h1_2 (a := 2) (by decide); have g3 := lv_neT h1_3 (a := 3) (by decide); have g4 := lv_neT h1_4 (a := 4) (by decide); omega) (by decide) ?_
  exact J56  z0 H locs ls hF hP hS (lv_sub hl [0, 1] rfl)
/-! DebtFerryModel.loads(IIIII)I -/
def m_loads_L101 (k134 : Int32 → MZ → Option (Int32 × MZ)) (x4 : Int32) (x5 : Int32) : Nat → Int32 → Int32 → MZ → Option (Int32 × MZ)
  | 0, _, _, _ => none
  | n + 1, y101_7, y101_8, z101 =>
    if x4 ≤ y101_8 then k134 y101_7 z101 else gd (inb (y101_7 + y101_8) 240) ((m_isSet (z101.2 4 (y101_7 + y101_8).toNatClampNeg) z101).bind (fun r119 => if r119.1 = 0 then some ((-2 : Int32), r119.2) else m_loads_L101 k134 x4 x5 n y101_7 (y101_8 + 1) r119.2))
def m_loads (x1 : Int32) (x2 : Int32) (x3 : Int32) (x4 : Int32) (x5 : Int32) (z0 : MZ) : Option (Int32 × MZ) :=
  (m_isSheet x1).bind (fun r6 => if r6 = 0 then some ((-1 : Int32), (mz_f z0 0 (0 : Int32))) else (m_isSort x2).bind (fun r15 => if r15 = 0 then some ((-2 : Int32), (mz_f z0 0 (0 : Int32))) else (m_within x4 (0 : Int32) (20 : Int32)).bind (fun r26 => if r26 = 0 then some ((-2 : Int32), (mz_f z0 0 (0 : Int32))) else (m_within x5 (0 : Int32) (4 : Int32)).bind (fun r36 => jn (fun  (z57 : MZ) => (m_against x1 x2 x3 x4 z57).bind (fun r63 => if r63.1 = 0 then if (r63.2.1 5) = 0 then some ((-3 : Int32), r63.2) else m_loads_L101 (fun (y101_7 : Int32) (z101 : MZ) => (m_goLoads y101_7 x4 z101).bind (fun r139 => if x5 = (1 : Int32) then some (r139.1, r139.2) else if r139.1 = (-9 : Int32) then (m_tellLoads x5 r139.2).bind (fun r163 => some (r163.1, r163.2)) else some (((-100 : Int32) - r139.1), r139.2))) x4 x5 FU (((60 : Int32) * x1) + x3) (0 : Int32) r63.2 else (m_fails r63.1 r63.2).bind (fun r76 => some (r76.1, r76.2)))) (fun (k57 : MZ → Option (Int32 × MZ)) => if r36 = 0 then (m_within x5 (10 : Int32) (14 : Int32)).bind (fun r48 => if r48 = 0 then some ((-2 : Int32), (mz_f z0 0 (0 : Int32))) else k57  (mz_f z0 0 (0 : Int32))) else k57  (mz_f z0 0 (0 : Int32)))))))
abbrev rmX1_loads : Room := { frames := 6, cells := 0, slots := 0, locals := 132 }
set_option maxHeartbeats 4000000 in
set_option maxRecDepth 100000 in
theorem mm_X1_loads (l : Launch) {D : va_G} {cl : List vw_C} {ci : Nat} {d : ClassId} {B : Nat → Nat} {A : Nat → Prop} (hcl : cl[ci]? = some (RX1, TX1, 29)) (hB : ∀ z, va_D A (mW ci d B z)) (x1 : Int32) (x2 : Int32) (x3 : Int32) (x4 : Int32) (x5 : Int32) (z0 : MZ) (res : Int32 × MZ) (hF : m_loads x1 x2 x3 x4 x5 z0 = some res) : Met l yX1_loads (ws_ yX1_loads cX1_loads 9 (some .int)) rmX1_loads (mPc D cl ci d B z0 [.int x1, .int x2, .int x3, .int x4, .int x5]) (mQ D cl ci d B A (some (.int res.1)) res.2) 0 0 A := by
  refine mk_start (A := A) (by decide) rfl (Nat.le_of_ble_eq_true rfl) ?_
  intro p e s m args below meth c H locs ls E hr hlocks hK hP hS hl
  have hl : lv_has ls 9 [(0, .ref (B 0)), (1, .int x1), (2, .int x2), (3, .int x3), (4, .int x4), (5, .int x5)] := hl
  unfold m_loads at hF
  refine lv_aload_n E.1 E.2.1 dX1_loads_0 rfl (lv_at hl 0 rfl) ?_
  refine lv_iconst (v := (0 : Int32)) E.1 E.2.1 dX1_loads_1 (by decide) ?_
  refine mk_put E hcl hB hK hP hS 0 rfl q1110 rfl dX1_loads_2 (fun H locs hP hS => ?_)
  refine lv_iload_n E.1 E.2.1 dX1_loads_5 rfl (lv_at hl 1 rfl) ?_
  obtain ⟨r6, hq6, hF⟩ := bnd hF
  refine px_call (As := [.int x1]) (rest := []) (v := .int r6) E (mm_X1_isSheet l x1 _ hq6) (va_cwS 1 E.2.2.2.2 (lw_S q1202 q1203 q58 q1204) rfl rfl rfl (by decide +kernel) ⟨Nat.le_of_ble_eq_true rfl, Nat.le_of_ble_eq_true rfl⟩) hl rfl rfl (Nat.le_of_ble_eq_true rfl) ⟨Nat.zero_le _, Nat.zero_le _⟩ dX1_loads_6 ?_
  refine lv_if_ne (tgt := 14) E.1 E.2.1 dX1_loads_9 (by decide) (fun h => ?_) (fun h => ?_)
  · have hF := ite_f h hF
    refine lv_iload_n E.1 E.2.1 dX1_loads_14 rfl (lv_at hl 2 rfl) ?_
    obtain ⟨r15, hq15, hF⟩ := bnd hF
    refine px_call (As := [.int x2]) (rest := []) (v := .int r15) E (mm_X1_isSort l x2 _ hq15) (va_cwS 1 E.2.2.2.2 (lw_S q1208 q1209 q58 q1210) rfl rfl rfl (by decide +kernel) ⟨Nat.le_of_ble_eq_true rfl, Nat.le_of_ble_eq_true rfl⟩) hl rfl rfl (Nat.le_of_ble_eq_true rfl) ⟨Nat.zero_le _, Nat.zero_le _⟩ dX1_loads_15 ?_
    refine lv_if_eq (tgt := 54) E.1 E.2.1 dX1_loads_18 (by decide) (fun h => ?_) (fun h => ?_)
    · have hF := ite_t h hF
      refine lv_bipush (v := (-2 : Int32)) E.1 E.2.1 dX1_loads_54 (by decide) ?_
      exact mk_iret E hr hlocks hP hS hF dX1_loads_56
    · have hF := ite_f h hF
      refine lv_iload E.1 E.2.1 dX1_loads_21 (lv_at hl 4 rfl) ?_
      refine lv_iconst (v := (0 : Int32)) E.1 E.2.1 dX1_loads_23 (by decide) ?_
      refine lv_bipush (v := (20 : Int32)) E.1 E.2.1 dX1_loads_24 (by decide) ?_
      obtain ⟨r26, hq26, hF⟩ := bnd hF
      refine px_call (As := [.int x4, .int (0 : Int32), .int (20 : Int32)]) (rest := []) (v := .int r26) E (mm_X1_within l x4 (0 : Int32) (20 : Int32) _ hq26) (va_cwS 3 E.2.2.2.2 (lw_S q1205 q1206 q58 q1207) rfl rfl rfl (by decide +kernel) ⟨Nat.le_of_ble_eq_true rfl, Nat.le_of_ble_eq_true rfl⟩) hl rfl rfl (Nat.le_of_ble_eq_true rfl) ⟨Nat.zero_le _, Nat.zero_le _⟩ dX1_loads_26 ?_
      refine lv_if_eq (tgt := 54) E.1 E.2.1 dX1_loads_29 (by decide) (fun h => ?_) (fun h => ?_)
      · have hF := ite_t h hF
        refine lv_bipush (v := (-2 : Int32)) E.1 E.2.1 dX1_loads_54 (by decide) ?_
        exact mk_iret E hr hlocks hP hS hF dX1_loads_56
      · have hF := ite_f h hF
        refine lv_iload E.1 E.2.1 dX1_loads_32 (lv_at hl 5 rfl) ?_
        refine lv_iconst (v := (0 : Int32)) E.1 E.2.1 dX1_loads_34 (by decide) ?_
        refine lv_iconst (v := (4 : Int32)) E.1 E.2.1 dX1_loads_35 (by decide) ?_
        obtain ⟨r36, hq36, hF⟩ := bnd hF
        refine px_call (As := [.int x5, .int (0 : Int32), .int (4 : Int32)]) (rest := []) (v := .int r36) E (mm_X1_within l x5 (0 : Int32) (4 : Int32) _ hq36) (va_cwS 3 E.2.2.2.2 (lw_S q1205 q1206 q58 q1207) rfl rfl rfl (by decide +kernel) ⟨Nat.le_of_ble_eq_true rfl, Nat.le_of_ble_eq_true rfl⟩) hl rfl rfl (Nat.le_of_ble_eq_true rfl) ⟨Nat.zero_le _, Nat.zero_le _⟩ dX1_loads_36 ?_
        obtain ⟨k57, hk57, hF⟩ := jn_split hF
        have J57 : ∀  (z57 : MZ) (H : Heap) (locs : List Loc) (ls : Array Slot), k57  z57 = some res → va_P D cl (mW ci d B z57) H → va_S A s.heap H locs → lv_has ls 9 [(0, .ref (B 0)), (1, .int x1), (2, .int x2), (3, .int x3), (4, .int x4), (5, .int x5)] → W p l e rmX1_loads s m args below meth c H locs 0 0 (MQ below (mQ D cl ci d B A (some (.int res.1)) res.2) args s 0 0 A) (F0 m 57 ls []) := by
          intro  z57 H locs ls hF hP hS hl
          rw [hk57] at hF
          refine lv_aload_n E.1 E.2.1 dX1_loads_57 rfl (lv_at hl 0 rfl) ?_
          refine lv_iload_n E.1 E.2.1 dX1_loads_58 rfl (lv_at hl 1 rfl) ?_
          refine lv_iload_n E.1 E.2.1 dX1_loads_59 rfl (lv_at hl 2 rfl) ?_
          refine lv_iload_n E.1 E.2.1 dX1_loads_60 rfl (lv_at hl 3 rfl) ?_
          refine lv_iload E.1 E.2.1 dX1_loads_61 (lv_at hl 4 rfl) ?_
          obtain ⟨r63, hq63, hF⟩ := bnd hF
          refine mk_call (As := [.int x1, .int x2, .int x3, .int x4]) (rest := []) (v := (some (.int r63.1))) E hcl hK hP hS (mm_X1_against l hcl hB x1 x2 x3 x4 z57 _ hq63) (cwV 4 E.2.2.2.2 (lw_V q1211 q1213 qs31 q58 q1214) rfl rfl rfl (by decide +kernel) ⟨Nat.le_of_ble_eq_true rfl, Nat.le_of_ble_eq_true rfl⟩) hl rfl rfl (Nat.le_of_ble_eq_true rfl) ⟨Nat.zero_le _, Nat.zero_le _⟩ dX1_loads_63 (fun H locs hP hS => ?_)
          refine lv_istore (lv' := [(6, .int r63.1), (0, .ref (B 0)), (1, .int x1), (2, .int x2), (3, .int x3), (4, .int x4), (5, .int x5)]) E.1 E.2.1 dX1_loads_66 hl (by decide) rfl (fun ls hl => ?_)
          refine lv_iload E.1 E.2.1 dX1_loads_68 (lv_at hl 0 rfl) ?_
          refine lv_if_eq (tgt := 80) E.1 E.2.1 dX1_loads_70 (by decide) (fun h => ?_) (fun h => ?_)
          · have hF := ite_t h hF
            refine lv_aload_n E.1 E.2.1 dX1_loads_80 rfl (lv_at hl 1 rfl) ?_
            refine mk_get E hcl hK hP 5 (by decide) q1115 rfl (v := .int (r63.2.1 5)) rfl dX1_loads_81 ?_
            refine lv_if_ne (tgt := 90) E.1 E.2.1 dX1_loads_84 (by decide) (fun h => ?_) (fun h => ?_)
            · have hF := ite_f h hF
              refine lv_bipush (v := (60 : Int32)) E.1 E.2.1 dX1_loads_90 (by decide) ?_
              refine lv_iload_n E.1 E.2.1 dX1_loads_92 rfl (lv_at hl 2 rfl) ?_
              refine lv_imul E.1 E.2.1 dX1_loads_93 ?_
              refine lv_iload_n E.1 E.2.1 dX1_loads_94 rfl (lv_at hl 4 rfl) ?_
              refine lv_iadd E.1 E.2.1 dX1_loads_95 ?_
              refine lv_istore (lv' := [(7, .int (((60 : Int32) * x1) + x3)), (6, .int r63.1), (0, .ref (B 0)), (1, .int x1), (2, .int x2), (3, .int x3), (4, .int x4), (5, .int x5)]) E.1 E.2.1 dX1_loads_96 hl (by decide) rfl (fun ls hl => ?_)
              refine lv_iconst (v := (0 : Int32)) E.1 E.2.1 dX1_loads_98 (by decide) ?_
              refine lv_istore (lv' := [(8, .int (0 : Int32)), (7, .int (((60 : Int32) * x1) + x3)), (6, .int r63.1), (0, .ref (B 0)), (1, .int x1), (2, .int x2), (3, .int x3), (4, .int x4), (5, .int x5)]) E.1 E.2.1 dX1_loads_99 hl (by decide) rfl (fun ls hl => ?_)
              obtain ⟨k134, hk134, hF⟩ : ∃ k134, k134 = _ ∧ m_loads_L101 k134 x4 x5 FU (((60 : Int32) * x1) + x3) (0 : Int32) r63.2 = some res := ⟨_, rfl, hF⟩
              have K134 : ∀ (y101_7 : Int32) (z101 : MZ) (H : Heap) (locs : List Loc) (ls : Array Slot), k134 y101_7 z101 = some res → va_P D cl (mW ci d B z101) H → va_S A s.heap H locs → lv_has ls 9 [(0, .ref (B 0)), (4, .int x4), (5, .int x5), (7, .int y101_7)] → W p l e rmX1_loads s m args below meth c H locs 0 0 (MQ below (mQ D cl ci d B A (some (.int res.1)) res.2) args s 0 0 A) (F0 m 134 ls []) := by
                intro y101_7 z101 H locs ls hF hP hS hl
                rw [hk134] at hF
                refine lv_aload_n E.1 E.2.1 dX1_loads_134 rfl (lv_at hl 0 rfl) ?_
                refine lv_iload E.1 E.2.1 dX1_loads_135 (lv_at hl 3 rfl) ?_
                refine lv_iload E.1 E.2.1 dX1_loads_137 (lv_at hl 1 rfl) ?_
                obtain ⟨r139, hq139, hF⟩ := bnd hF
                refine mk_call (As := [.int y101_7, .int x4]) (rest := []) (v := (some (.int r139.1))) E hcl hK hP hS (mm_X1_goLoads l hcl hB y101_7 x4 z101 _ hq139) (cwV 2 E.2.2.2.2 (lw_V q1309 q1311 qs45 q58 q1312) rfl rfl rfl (by decide +kernel) ⟨Nat.le_of_ble_eq_true rfl, Nat.le_of_ble_eq_true rfl⟩) hl rfl rfl (Nat.le_of_ble_eq_true rfl) ⟨Nat.zero_le _, Nat.zero_le _⟩ dX1_loads_139 (fun H locs hP hS => ?_)
                refine lv_istore (lv' := [(8, .int r139.1), (0, .ref (B 0)), (4, .int x4), (5, .int x5), (7, .int y101_7)]) E.1 E.2.1 dX1_loads_142 hl (by decide) rfl (fun ls hl => ?_)
                refine lv_iload E.1 E.2.1 dX1_loads_144 (lv_at hl 3 rfl) ?_
                refine lv_iconst (v := (1 : Int32)) E.1 E.2.1 dX1_loads_146 (by decide) ?_
                refine lv_icmp_ne (tgt := 153) E.1 E.2.1 dX1_loads_147 (by decide) (fun h => ?_) (fun h => ?_)
                · have hF := ite_f h hF
                  refine lv_iload E.1 E.2.1 dX1_loads_153 (lv_at hl 0 rfl) ?_
                  refine lv_bipush (v := (-9 : Int32)) E.1 E.2.1 dX1_loads_155 (by decide) ?_
                  refine lv_icmp_ne (tgt := 169) E.1 E.2.1 dX1_loads_157 (by decide) (fun h => ?_) (fun h => ?_)
                  · have hF := ite_f h hF
                    refine lv_bipush (v := (-100 : Int32)) E.1 E.2.1 dX1_loads_169 (by decide) ?_
                    refine lv_iload E.1 E.2.1 dX1_loads_171 (lv_at hl 0 rfl) ?_
                    refine lv_isub E.1 E.2.1 dX1_loads_173 ?_
                    exact mk_iret E hr hlocks hP hS hF dX1_loads_174
                  · have hF := ite_t h hF
                    refine lv_aload_n E.1 E.2.1 dX1_loads_160 rfl (lv_at hl 1 rfl) ?_
                    refine lv_iload E.1 E.2.1 dX1_loads_161 (lv_at hl 3 rfl) ?_
                    obtain ⟨r163, hq163, hF⟩ := bnd hF
                    refine mk_call (As := [.int x5]) (rest := []) (v := (some (.int r163.1))) E hcl hK hP hS (mm_X1_tellLoads l hcl hB x5 r139.2 _ hq163) (cwV 1 E.2.2.2.2 (lw_V q1313 q1315 qs46 q58 q1316) rfl rfl rfl (by decide +kernel) ⟨Nat.le_of_ble_eq_true rfl, Nat.le_of_ble_eq_true rfl⟩) hl rfl rfl (Nat.le_of_ble_eq_true rfl) ⟨Nat.zero_le _, Nat.zero_le _⟩ dX1_loads_163 (fun H locs hP hS => ?_)
                    refine lv_goto (tgt := 174) E.1 E.2.1 dX1_loads_166 (by decide) ?_
                    exact mk_iret E hr hlocks hP hS hF dX1_loads_174
                · have hF := ite_t h hF
                  refine lv_iload E.1 E.2.1 dX1_loads_150 (lv_at hl 0 rfl) ?_
                  exact mk_iret E hr hlocks hP hS hF dX1_loads_152
              have L101 : ∀ (n : Nat) (y101_7 : Int32) (y101_8 : Int32) (z101 : MZ) (H : Heap) (locs : List Loc) (ls : Array Slot), m_loads_L101 k134 x4 x5 n y101_7 y101_8 z101 = some res → va_P D cl (mW ci d B z101) H → va_S A s.heap H locs → lv_has ls 9 [(0, .ref (B 0)), (4, .int x4), (5, .int x5), (7, .int y101_7), (8, .int y101_8)] → W p l e rmX1_loads s m args below meth c H locs 0 0 (MQ below (mQ D cl ci d B A (some (.int res.1)) res.2) args s 0 0 A) (F0 m 101 ls []) := by
                intro n
                induction n with
                | zero =>
                  intro y101_7 y101_8 z101 H locs ls hF
                  rw [m_loads_L101] at hF
                  cases hF
                | succ n ih =>
                  intro y101_7 y101_8 z101 H locs ls hF hP hS hl
                  rw [m_loads_L101] at hF
                  refine lv_iload E.1 E.2.1 dX1_loads_101 (lv_at hl 4 rfl) ?_
                  refine lv_iload E.1 E.2.1 dX1_loads_103 (lv_at hl 1 rfl) ?_
                  refine lv_icmp_ge (tgt := 134) E.1 E.2.1 dX1_loads_105 (by decide) (fun h => ?_) (fun h => ?_)
                  · have hF := ite_t h hF
                    exact K134 y101_7 z101 H locs ls hF hP hS (lv_sub hl [0, 1, 2, 3] rfl)
                  · have hF := ite_f h hF
                    refine lv_aload_n E.1 E.2.1 dX1_loads_108 rfl (lv_at hl 0 rfl) ?_
                    refine lv_aload_n E.1 E.2.1 dX1_loads_109 rfl (lv_at hl 0 rfl) ?_
                    refine mk_get E hcl hK hP 4 (by decide) q1114 rfl (v := .ref (B 4)) rfl dX1_loads_110 ?_
                    refine lv_iload E.1 E.2.1 dX1_loads_113 (lv_at hl 3 rfl) ?_
                    refine lv_iload E.1 E.2.1 dX1_loads_115 (lv_at hl 4 rfl) ?_
                    refine lv_iadd E.1 E.2.1 dX1_loads_117 ?_
                    obtain ⟨h118, hF⟩ := gd_some hF
                    refine mk_ald E hK hP (q := 3) (j := 4) (n := 240) rfl h118 dX1_loads_118 ?_
                    obtain ⟨r119, hq119, hF⟩ := bnd hF
                    refine mk_call (As := [.int (z101.2 4 (y101_7 + y101_8).toNatClampNeg)]) (rest := []) (v := (some (.int r119.1))) E hcl hK hP hS (mm_X1_isSet l hcl hB (z101.2 4 (y101_7 + y101_8).toNatClampNeg) z101 _ hq119) (cwV 1 E.2.2.2.2 (lw_V q1275 q1277 qs41 q58 q1278) rfl rfl rfl (by decide +kernel) ⟨Nat.le_of_ble_eq_true rfl, Nat.le_of_ble_eq_true rfl⟩) hl rfl rfl (Nat.le_of_ble_eq_true rfl) ⟨Nat.zero_le _, Nat.zero_le _⟩ dX1_loads_119 (fun H locs hP hS => ?_)
                    refine lv_if_ne (tgt := 128) E.1 E.2.1 dX1_loads_122 (by decide) (fun h => ?_) (fun h => ?_)
                    · have hF := ite_f h hF
                      refine lv_iinc (v := y101_8 + 1) (lv' := [(8, .int (y101_8 + 1)), (0, .ref (B 0)), (4, .int x4), (5, .int x5), (7, .int y101_7)]) E.1 E.2.1 dX1_loads_128 hl (k := 4) rfl rfl (by decide) rfl (fun ls hl => ?_)
                      refine lv_goto (tgt := 101) E.1 E.2.1 dX1_loads_131 (by decide) ?_
                      exact ih y101_7 (y101_8 + 1) r119.2 H locs ls hF hP hS (lv_sub hl [1, 2, 3, 4, 0] rfl)
                    · have hF := ite_t h hF
                      refine lv_bipush (v := (-2 : Int32)) E.1 E.2.1 dX1_loads_125 (by decide) ?_
                      exact mk_iret E hr hlocks hP hS hF dX1_loads_127
              exact L101 FU (((60 : Int32) * x1) + x3) (0 : Int32) r63.2 H locs ls hF hP hS (lv_sub hl [3, 7, 8, 1, 0] rfl)
            · have hF := ite_t h hF
              refine lv_bipush (v := (-3 : Int32)) E.1 E.2.1 dX1_loads_87 (by decide) ?_
              exact mk_iret E hr hlocks hP hS hF dX1_loads_89
          · have hF := ite_f h hF
            refine lv_aload_n E.1 E.2.1 dX1_loads_73 rfl (lv_at hl 1 rfl) ?_
            refine lv_iload E.1 E.2.1 dX1_loads_74 (lv_at hl 0 rfl) ?_
            obtain ⟨r76, hq76, hF⟩ := bnd hF
            refine mk_call (As := [.int r63.1]) (rest := []) (v := (some (.int r76.1))) E hcl hK hP hS (mm_X1_fails l hcl hB r63.1 r63.2 _ hq76) (cwV 1 E.2.2.2.2 (lw_V q1215 q1217 qs32 q58 q1218) rfl rfl rfl (by decide +kernel) ⟨Nat.le_of_ble_eq_true rfl, Nat.le_of_ble_eq_true rfl⟩) hl rfl rfl (Nat.le_of_ble_eq_true rfl) ⟨Nat.zero_le _, Nat.zero_le _⟩ dX1_loads_76 (fun H locs hP hS => ?_)
            exact mk_iret E hr hlocks hP hS hF dX1_loads_79
        refine lv_if_ne (tgt := 57) E.1 E.2.1 dX1_loads_39 (by decide) (fun h => ?_) (fun h => ?_)
        · have hF := ite_f h hF
          exact J57  (mz_f z0 0 (0 : Int32)) H locs ls hF hP hS (lv_sub hl [0, 1, 2, 3, 4, 5] rfl)
        · have hF := ite_t h hF
          refine lv_iload E.1 E.2.1 dX1_loads_42 (lv_at hl 5 rfl) ?_
          refine lv_bipush (v := (10 : Int32)) E.1 E.2.1 dX1_loads_44 (by decide) ?_
          refine lv_bipush (v := (14 : Int32)) E.1 E.2.1 dX1_loads_46 (by decide) ?_
          obtain ⟨r48, hq48, hF⟩ := bnd hF
          refine px_call (As := [.int x5, .int (10 : Int32), .int (14 : Int32)]) (rest := []) (v := .int r48) E (mm_X1_within l x5 (10 : Int32) (14 : Int32) _ hq48) (va_cwS 3 E.2.2.2.2 (lw_S q1205 q1206 q58 q1207) rfl rfl rfl (by decide +kernel) ⟨Nat.le_of_ble_eq_true rfl, Nat.le_of_ble_eq_true rfl⟩) hl rfl rfl (Nat.le_of_ble_eq_true rfl) ⟨Nat.zero_le _, Nat.zero_le _⟩ dX1_loads_48 ?_
          refine lv_if_ne (tgt := 57) E.1 E.2.1 dX1_loads_51 (by decide) (fun h => ?_) (fun h => ?_)
          · have hF := ite_f h hF
            exact J57  (mz_f z0 0 (0 : Int32)) H locs ls hF hP hS (lv_sub hl [0, 1, 2, 3, 4, 5] rfl)
          · have hF := ite_t h hF
            refine lv_bipush (v := (-2 : Int32)) E.1 E.2.1 dX1_loads_54 (by decide) ?_
            exact mk_iret E hr hlocks hP hS hF dX1_loads_56
  · have hF := ite_t h hF
    refine lv_iconst (v := (-1 : Int32)) E.1 E.2.1 dX1_loads_12 (by decide) ?_
    exact mk_iret E hr hlocks hP hS hF dX1_loads_13
/-! DebtFerryModel.findFewest()V -/
def m_findFewest_L29 (k105 : MZ → Option MZ) (y9_1 : Int32) : Nat → Int32 → MZ → Option MZ
  | 0, _, _ => none
  | n + 1, y29_2, z29 =>
    if y9_1 < y29_2 then k105  z29 else if (y29_2 &&& (y9_1 ^^^ (-1 : Int32))) = 0 then (m_isFair y29_2 z29).bind (fun r44 => if r44.1 = 0 then m_findFewest_L29 k105 y9_1 n (y29_2 + 1) r44.2 else gd (inb (y9_1 &&& (y29_2 ^^^ (-1 : Int32))) 32) (if (r44.2.2 25 (y9_1 &&& (y29_2 ^^^ (-1 : Int32))).toNatClampNeg) = (-9 : Int32) then m_findFewest_L29 k105 y9_1 n (y29_2 + 1) r44.2 else gd (inb y9_1 32) (jn (fun  (z90 : MZ) => gd (inb y9_1 32) (m_findFewest_L29 k105 y9_1 n (y29_2 + 1) (mz_a z90 25 y9_1.toNatClampNeg ((r44.2.2 25 (y9_1 &&& (y29_2 ^^^ (-1 : Int32))).toNatClampNeg) + (1 : Int32))))) (fun (k90 : MZ → Option MZ) => if (r44.2.2 25 y9_1.toNatClampNeg) = (-9 : Int32) then k90  r44.2 else gd (inb y9_1 32) (if (r44.2.2 25 y9_1.toNatClampNeg) ≤ ((r44.2.2 25 (y9_1 &&& (y29_2 ^^^ (-1 : Int32))).toNatClampNeg) + (1 : Int32)) then m_findFewest_L29 k105 y9_1 n (y29_2 + 1) r44.2 else k90  r44.2))))) else m_findFewest_L29 k105 y9_1 n (y29_2 + 1) z29
def m_findFewest_L9 : Nat → Int32 → MZ → Option MZ
  | 0, _, _ => none
  | n + 1, y9_1, z9 =>
    if ((1 : Int32) <<< ((z9.1 5) &&& 31)) ≤ y9_1 then some z9 else gd (inb y9_1 32) (m_findFewest_L29 (fun  (z29 : MZ) => m_findFewest_L9 n (y9_1 + 1) z29) y9_1 FU (1 : Int32) (mz_a z9 25 y9_1.toNatClampNeg (-9 : Int32)))
def m_findFewest  (z0 : MZ) : Option MZ :=
  gd (inb (0 : Int32) 32) (m_findFewest_L9 FU (1 : Int32) (mz_a z0 25 (0 : Int32).toNatClampNeg (0 : Int32)))
abbrev rmX1_findFewest : Room := { frames := 5, cells := 0, slots := 0, locals := 106 }
set_option maxHeartbeats 4000000 in
set_option maxRecDepth 100000 in
theorem mm_X1_findFewest (l : Launch) {D : va_G} {cl : List vw_C} {ci : Nat} {d : ClassId} {B : Nat → Nat} {A : Nat → Prop} (hcl : cl[ci]? = some (RX1, TX1, 29)) (hB : ∀ z, va_D A (mW ci d B z))  (z0 : MZ) (res : MZ) (hF : m_findFewest  z0 = some res) : Met l yX1_findFewest (ws_ yX1_findFewest cX1_findFewest 4 none) rmX1_findFewest (mPc D cl ci d B z0 []) (mQ D cl ci d B A none res) 0 0 A := by
  refine mk_start (A := A) (by decide) rfl (Nat.le_of_ble_eq_true rfl) ?_
  intro p e s m args below meth c H locs ls E hr hlocks hK hP hS hl
  have hl : lv_has ls 4 [(0, .ref (B 0))] := hl
  unfold m_findFewest at hF
  refine lv_aload_n E.1 E.2.1 dX1_findFewest_0 rfl (lv_at hl 0 rfl) ?_
  refine mk_get E hcl hK hP 25 (by decide) q1135 rfl (v := .ref (B 25)) rfl dX1_findFewest_1 ?_
  refine lv_iconst (v := (0 : Int32)) E.1 E.2.1 dX1_findFewest_4 (by decide) ?_
  refine lv_iconst (v := (0 : Int32)) E.1 E.2.1 dX1_findFewest_5 (by decide) ?_
  obtain ⟨h6, hF⟩ := gd_some hF
  refine mk_ast E hB hK hP hS (q := 11) (j := 25) (n := 32) rfl h6 dX1_findFewest_6 (fun H locs hP hS => ?_)
  refine lv_iconst (v := (1 : Int32)) E.1 E.2.1 dX1_findFewest_7 (by decide) ?_
  refine lv_istore_n (lv' := [(1, .int (1 : Int32)), (0, .ref (B 0))]) E.1 E.2.1 dX1_findFewest_8 rfl hl (by decide) rfl (fun ls hl => ?_)
  have L9 : ∀ (n : Nat) (y9_1 : Int32) (z9 : MZ) (H : Heap) (locs : List Loc) (ls : Array Slot), m_findFewest_L9 n y9_1 z9 = some res → va_P D cl (mW ci d B z9) H → va_S A s.heap H locs → lv_has ls 4 [(0, .ref (B 0)), (1, .int y9_1)] → W p l e rmX1_findFewest s m args below meth c H locs 0 0 (MQ below (mQ D cl ci d B A none res) args s 0 0 A) (F0 m 9 ls []) := by
    intro n
    induction n with
    | zero =>
      intro y9_1 z9 H locs ls hF
      rw [m_findFewest_L9] at hF
      cases hF
    | succ n ih =>
      intro y9_1 z9 H locs ls hF hP hS hl
      rw [m_findFewest_L9] at hF
      refine lv_iload_n E.1 E.2.1 dX1_findFewest_9 rfl (lv_at hl 1 rfl) ?_
      refine lv_iconst (v := (1 : Int32)) E.1 E.2.1 dX1_findFewest_10 (by decide) ?_
      refine lv_aload_n E.1 E.2.1 dX1_findFewest_11 rfl (lv_at hl 0 rfl) ?_
      refine mk_get E hcl hK hP 5 (by decide) q1115 rfl (v := .int (z9.1 5)) rfl dX1_findFewest_12 ?_
      refine lv_ishl E.1 E.2.1 dX1_findFewest_15 ?_
      refine lv_icmp_ge (tgt := 111) E.1 E.2.1 dX1_findFewest_16 (by decide) (fun h => ?_) (fun h => ?_)
      · have hF := ite_t h hF
        exact mk_vret E hr hlocks hP hS hF dX1_findFewest_111
      · have hF := ite_f h hF
        refine lv_aload_n E.1 E.2.1 dX1_findFewest_19 rfl (lv_at hl 0 rfl) ?_
        refine mk_get E hcl hK hP 25 (by decide) q1135 rfl (v := .ref (B 25)) rfl dX1_findFewest_20 ?_
        refine lv_iload_n E.1 E.2.1 dX1_findFewest_23 rfl (lv_at hl 1 rfl) ?_
        refine lv_bipush (v := (-9 : Int32)) E.1 E.2.1 dX1_findFewest_24 (by decide) ?_
        obtain ⟨h26, hF⟩ := gd_some hF
        refine mk_ast E hB hK hP hS (q := 11) (j := 25) (n := 32) rfl h26 dX1_findFewest_26 (fun H locs hP hS => ?_)
        refine lv_iconst (v := (1 : Int32)) E.1 E.2.1 dX1_findFewest_27 (by decide) ?_
        refine lv_istore_n (lv' := [(2, .int (1 : Int32)), (0, .ref (B 0)), (1, .int y9_1)]) E.1 E.2.1 dX1_findFewest_28 rfl hl (by decide) rfl (fun ls hl => ?_)
        obtain ⟨k105, hk105, hF⟩ : ∃ k105, k105 = _ ∧ m_findFewest_L29 k105 y9_1 FU (1 : Int32) (mz_a z9 25 y9_1.toNatClampNeg (-9 : Int32)) = some res := ⟨_, rfl, hF⟩
        have K105 : ∀  (z29 : MZ) (H : Heap) (locs : List Loc) (ls : Array Slot), k105  z29 = some res → va_P D cl (mW ci d B z29) H → va_S A s.heap H locs → lv_has ls 4 [(0, .ref (B 0)), (1, .int y9_1)] → W p l e rmX1_findFewest s m args below meth c H locs 0 0 (MQ below (mQ D cl ci d B A none res) args s 0 0 A) (F0 m 105 ls []) := by
          intro  z29 H locs ls hF hP hS hl
          rw [hk105] at hF
          refine lv_iinc (v := y9_1 + 1) (lv' := [(1, .int (y9_1 + 1)), (0, .ref (B 0))]) E.1 E.2.1 dX1_findFewest_105 hl (k := 1) rfl rfl (by decide) rfl (fun ls hl => ?_)
          refine lv_goto (tgt := 9) E.1 E.2.1 dX1_findFewest_108 (by decide) ?_
          exact ih (y9_1 + 1) z29 H locs ls hF hP hS (lv_sub hl [1, 0] rfl)
        have L29 : ∀ (n : Nat) (y29_2 : Int32) (z29 : MZ) (H : Heap) (locs : List Loc) (ls : Array Slot), m_findFewest_L29 k105 y9_1 n y29_2 z29 = some res → va_P D cl (mW ci d B z29) H → va_S A s.heap H locs → lv_has ls 4 [(0, .ref (B 0)), (1, .int y9_1), (2, .int y29_2)] → W p l e rmX1_findFewest s m args below meth c H locs 0 0 (MQ below (mQ D cl ci d B A none res) args s 0 0 A) (F0 m 29 ls []) := by
          intro n
          induction n with
          | zero =>
            intro y29_2 z29 H locs ls hF
            rw [m_findFewest_L29] at hF
            cases hF
          | succ n ih =>
            intro y29_2 z29 H locs ls hF hP hS hl
            rw [m_findFewest_L29] at hF
            refine lv_iload_n E.1 E.2.1 dX1_findFewest_29 rfl (lv_at hl 2 rfl) ?_
            refine lv_iload_n E.1 E.2.1 dX1_findFewest_30 rfl (lv_at hl 1 rfl) ?_
            refine lv_icmp_gt (tgt := 105) E.1 E.2.1 dX1_findFewest_31 (by decide) (fun h => ?_) (fun h => ?_)
            · have hF := ite_t h hF
              exact K105  z29 H locs ls hF hP hS (lv_sub hl [0, 1] rfl)
            · have hF := ite_f h hF
              refine lv_iload_n E.1 E.2.1 dX1_findFewest_34 rfl (lv_at hl 2 rfl) ?_
              refine lv_iload_n E.1 E.2.1 dX1_findFewest_35 rfl (lv_at hl 1 rfl) ?_
              refine lv_iconst (v := (-1 : Int32)) E.1 E.2.1 dX1_findFewest_36 (by decide) ?_
              refine lv_ixor E.1 E.2.1 dX1_findFewest_37 ?_
              refine lv_iand E.1 E.2.1 dX1_findFewest_38 ?_
              refine lv_if_ne (tgt := 99) E.1 E.2.1 dX1_findFewest_39 (by decide) (fun h => ?_) (fun h => ?_)
              · have hF := ite_f h hF
                refine lv_iinc (v := y29_2 + 1) (lv' := [(2, .int (y29_2 + 1)), (0, .ref (B 0)), (1, .int y9_1)]) E.1 E.2.1 dX1_findFewest_99 hl (k := 2) rfl rfl (by decide) rfl (fun ls hl => ?_)
                refine lv_goto (tgt := 29) E.1 E.2.1 dX1_findFewest_102 (by decide) ?_
                exact ih (y29_2 + 1) z29 H locs ls hF hP hS (lv_sub hl [1, 2, 0] rfl)
              · have hF := ite_t h hF
                refine lv_aload_n E.1 E.2.1 dX1_findFewest_42 rfl (lv_at hl 0 rfl) ?_
                refine lv_iload_n E.1 E.2.1 dX1_findFewest_43 rfl (lv_at hl 2 rfl) ?_
                obtain ⟨r44, hq44, hF⟩ := bnd hF
                refine mk_call (As := [.int y29_2]) (rest := []) (v := (some (.int r44.1))) E hcl hK hP hS (mm_X1_isFair l hcl hB y29_2 z29 _ hq44) (cwV 1 E.2.2.2.2 (lw_V q1298 q1300 qs44 q58 q1301) rfl rfl rfl (by decide +kernel) ⟨Nat.le_of_ble_eq_true rfl, Nat.le_of_ble_eq_true rfl⟩) hl rfl rfl (Nat.le_of_ble_eq_true rfl) ⟨Nat.zero_le _, Nat.zero_le _⟩ dX1_findFewest_44 (fun H locs hP hS => ?_)
                refine lv_if_eq (tgt := 99) E.1 E.2.1 dX1_findFewest_47 (by decide) (fun h => ?_) (fun h => ?_)
                · have hF := ite_t h hF
                  refine lv_iinc (v := y29_2 + 1) (lv' := [(2, .int (y29_2 + 1)), (0, .ref (B 0)), (1, .int y9_1)]) E.1 E.2.1 dX1_findFewest_99 hl (k := 2) rfl rfl (by decide) rfl (fun ls hl => ?_)
                  refine lv_goto (tgt := 29) E.1 E.2.1 dX1_findFewest_102 (by decide) ?_
                  exact ih (y29_2 + 1) r44.2 H locs ls hF hP hS (lv_sub hl [1, 2, 0] rfl)
                · have hF := ite_f h hF
                  refine lv_aload_n E.1 E.2.1 dX1_findFewest_50 rfl (lv_at hl 0 rfl) ?_
                  refine mk_get E hcl hK hP 25 (by decide) q1135 rfl (v := .ref (B 25)) rfl dX1_findFewest_51 ?_
                  refine lv_iload_n E.1 E.2.1 dX1_findFewest_54 rfl (lv_at hl 1 rfl) ?_
                  refine lv_iload_n E.1 E.2.1 dX1_findFewest_55 rfl (lv_at hl 2 rfl) ?_
                  refine lv_iconst (v := (-1 : Int32)) E.1 E.2.1 dX1_findFewest_56 (by decide) ?_
                  refine lv_ixor E.1 E.2.1 dX1_findFewest_57 ?_
                  refine lv_iand E.1 E.2.1 dX1_findFewest_58 ?_
                  obtain ⟨h59, hF⟩ := gd_some hF
                  refine mk_ald E hK hP (q := 11) (j := 25) (n := 32) rfl h59 dX1_findFewest_59 ?_
                  refine lv_istore_n (lv' := [(3, .int (r44.2.2 25 (y9_1 &&& (y29_2 ^^^ (-1 : Int32))).toNatClampNeg)), (0, .ref (B 0)), (1, .int y9_1), (2, .int y29_2)]) E.1 E.2.1 dX1_findFewest_60 rfl hl (by decide) rfl (fun ls hl => ?_)
                  refine lv_iload_n E.1 E.2.1 dX1_findFewest_61 rfl (lv_at hl 0 rfl) ?_
                  refine lv_bipush (v := (-9 : Int32)) E.1 E.2.1 dX1_findFewest_62 (by decide) ?_
                  refine lv_icmp_eq (tgt := 99) E.1 E.2.1 dX1_findFewest_64 (by decide) (fun h => ?_) (fun h => ?_)
                  · have hF := ite_t h hF
                    refine lv_iinc (v := y29_2 + 1) (lv' := [(2, .int (y29_2 + 1)), (3, .int (r44.2.2 25 (y9_1 &&& (y29_2 ^^^ (-1 : Int32))).toNatClampNeg)), (0, .ref (B 0)), (1, .int y9_1)]) E.1 E.2.1 dX1_findFewest_99 hl (k := 3) rfl rfl (by decide) rfl (fun ls hl => ?_)
                    refine lv_goto (tgt := 29) E.1 E.2.1 dX1_findFewest_102 (by decide) ?_
                    exact ih (y29_2 + 1) r44.2 H locs ls hF hP hS (lv_sub hl [2, 3, 0] rfl)
                  · have hF := ite_f h hF
                    refine lv_aload_n E.1 E.2.1 dX1_findFewest_67 rfl (lv_at hl 1 rfl) ?_
                    refine mk_get E hcl hK hP 25 (by decide) q1135 rfl (v := .ref (B 25)) rfl dX1_findFewest_68 ?_
                    refine lv_iload_n E.1 E.2.1 dX1_findFewest_71 rfl (lv_at hl 2 rfl) ?_
                    obtain ⟨h72, hF⟩ := gd_some hF
                    refine mk_ald E hK hP (q := 11) (j := 25) (n := 32) rfl h72 dX1_findFewest_72 ?_
                    refine lv_bipush (v := (-9 : Int32)) E.1 E.2.1 dX1_findFewest_73 (by decide) ?_
                    obtain ⟨k90, hk90, hF⟩ := jn_split hF
                    have J90 : ∀  (z90 : MZ) (H : Heap) (locs : List Loc) (ls : Array Slot), k90  z90 = some res → va_P D cl (mW ci d B z90) H → va_S A s.heap H locs → lv_has ls 4 [(0, .ref (B 0)), (1, .int y9_1), (2, .int y29_2), (3, .int (r44.2.2 25 (y9_1 &&& (y29_2 ^^^ (-1 : Int32))).toNatClampNeg))] → W p l e rmX1_findFewest s m args below meth c H locs 0 0 (MQ below (mQ D cl ci d B A none res) args s 0 0 A) (F0 m 90 ls []) := by
                      intro  z90 H locs ls hF hP hS hl
                      rw [hk90] at hF
                      refine lv_aload_n E.1 E.2.1 dX1_findFewest_90 rfl (lv_at hl 0 rfl) ?_
                      refine mk_get E hcl hK hP 25 (by decide) q1135 rfl (v := .ref (B 25)) rfl dX1_findFewest_91 ?_
                      refine lv_iload_n E.1 E.2.1 dX1_findFewest_94 rfl (lv_at hl 1 rfl) ?_
                      refine lv_iload_n E.1 E.2.1 dX1_findFewest_95 rfl (lv_at hl 3 rfl) ?_
                      refine lv_iconst (v := (1 : Int32)) E.1 E.2.1 dX1_findFewest_96 (by decide) ?_
                      refine lv_iadd E.1 E.2.1 dX1_findFewest_97 ?_
                      obtain ⟨h98, hF⟩ := gd_some hF
                      refine mk_ast E hB hK hP hS (q := 11) (j := 25) (n := 32) rfl h98 dX1_findFewest_98 (fun H locs hP hS => ?_)
                      refine lv_iinc (v := y29_2 + 1) (lv' := [(2, .int (y29_2 + 1)), (0, .ref (B 0)), (1, .int y9_1), (3, .int (r44.2.2 25 (y9_1 &&& (y29_2 ^^^ (-1 : Int32))).toNatClampNeg))]) E.1 E.2.1 dX1_findFewest_99 hl (k := 2) rfl rfl (by decide) rfl (fun ls hl => ?_)
                      refine lv_goto (tgt := 29) E.1 E.2.1 dX1_findFewest_102 (by decide) ?_
                      exact ih (y29_2 + 1) (mz_a z90 25 y9_1.toNatClampNeg ((r44.2.2 25 (y9_1 &&& (y29_2 ^^^ (-1 : Int32))).toNatClampNeg) + (1 : Int32))) H locs ls hF hP hS (lv_sub hl [1, 2, 0] rfl)
                    refine lv_icmp_eq (tgt := 90) E.1 E.2.1 dX1_findFewest_75 (by decide) (fun h => ?_) (fun h => ?_)
                    · have hF := ite_t h hF
                      exact J90  r44.2 H locs ls hF hP hS (lv_sub hl [1, 2, 3, 0] rfl)
                    · have hF := ite_f h hF
                      refine lv_iload_n E.1 E.2.1 dX1_findFewest_78 rfl (lv_at hl 0 rfl) ?_
                      refine lv_iconst (v := (1 : Int32)) E.1 E.2.1 dX1_findFewest_79 (by decide) ?_
                      refine lv_iadd E.1 E.2.1 dX1_findFewest_80 ?_
                      refine lv_aload_n E.1 E.2.1 dX1_findFewest_81 rfl (lv_at hl 1 rfl) ?_
                      refine mk_get E hcl hK hP 25 (by decide) q1135 rfl (v := .ref (B 25)) rfl dX1_findFewest_82 ?_
                      refine lv_iload_n E.1 E.2.1 dX1_findFewest_85 rfl (lv_at hl 2 rfl) ?_
                      obtain ⟨h86, hF⟩ := gd_some hF
                      refine mk_ald E hK hP (q := 11) (j := 25) (n := 32) rfl h86 dX1_findFewest_86 ?_
                      refine lv_icmp_ge (tgt := 99) E.1 E.2.1 dX1_findFewest_87 (by decide) (fun h => ?_) (fun h => ?_)
                      · have hF := ite_t h hF
                        refine lv_iinc (v := y29_2 + 1) (lv' := [(2, .int (y29_2 + 1)), (3, .int (r44.2.2 25 (y9_1 &&& (y29_2 ^^^ (-1 : Int32))).toNatClampNeg)), (0, .ref (B 0)), (1, .int y9_1)]) E.1 E.2.1 dX1_findFewest_99 hl (k := 3) rfl rfl (by decide) rfl (fun ls hl => ?_)
                        refine lv_goto (tgt := 29) E.1 E.2.1 dX1_findFewest_102 (by decide) ?_
                        exact ih (y29_2 + 1) r44.2 H locs ls hF hP hS (lv_sub hl [2, 3, 0] rfl)
                      · have hF := ite_f h hF
                        exact J90  r44.2 H locs ls hF hP hS (lv_sub hl [1, 2, 3, 0] rfl)
        exact L29 FU (1 : Int32) (mz_a z9 25 y9_1.toNatClampNeg (-9 : Int32)) H locs ls hF hP hS (lv_sub hl [1, 2, 0] rfl)
  exact L9 FU (1 : Int32) (mz_a z0 25 (0 : Int32).toNatClampNeg (0 : Int32)) H locs ls hF hP hS (lv_sub hl [1, 0] rfl)
/-! DebtFerryModel.firstLoad(I)I -/
def m_firstLoad_L2 (x1 : Int32) : Nat → Int32 → MZ → Option (Int32 × MZ)
  | 0, _, _ => none
  | n + 1, y2_2, z2 =>
    if (y2_2 &&& (x1 ^^^ (-1 : Int32))) = 0 then (m_isFair y2_2 z2).bind (fun r12 => if r12.1 = 0 then m_firstLoad_L2 x1 n (y2_2 + 1) r12.2 else gd (inb (x1 &&& (y2_2 ^^^ (-1 : Int32))) 32) (gd (inb x1 32) (if (r12.2.2 25 (x1 &&& (y2_2 ^^^ (-1 : Int32))).toNatClampNeg) = ((r12.2.2 25 x1.toNatClampNeg) - (1 : Int32)) then some (y2_2, r12.2) else m_firstLoad_L2 x1 n (y2_2 + 1) r12.2))) else m_firstLoad_L2 x1 n (y2_2 + 1) z2
def m_firstLoad (x1 : Int32) (z0 : MZ) : Option (Int32 × MZ) :=
  m_firstLoad_L2 x1 FU (1 : Int32) z0
abbrev rmX1_firstLoad : Room := { frames := 5, cells := 0, slots := 0, locals := 106 }
set_option maxHeartbeats 4000000 in
set_option maxRecDepth 100000 in
theorem mm_X1_firstLoad (l : Launch) {D : va_G} {cl : List vw_C} {ci : Nat} {d : ClassId} {B : Nat → Nat} {A : Nat → Prop} (hcl : cl[ci]? = some (RX1, TX1, 29)) (hB : ∀ z, va_D A (mW ci d B z)) (x1 : Int32) (z0 : MZ) (res : Int32 × MZ) (hF : m_firstLoad x1 z0 = some res) : Met l yX1_firstLoad (ws_ yX1_firstLoad cX1_firstLoad 3 (some .int)) rmX1_firstLoad (mPc D cl ci d B z0 [.int x1]) (mQ D cl ci d B A (some (.int res.1)) res.2) 0 0 A := by
  refine mk_start (A := A) (by decide) rfl (Nat.le_of_ble_eq_true rfl) ?_
  intro p e s m args below meth c H locs ls E hr hlocks hK hP hS hl
  have hl : lv_has ls 3 [(0, .ref (B 0)), (1, .int x1)] := hl
  unfold m_firstLoad at hF
  refine lv_iconst (v := (1 : Int32)) E.1 E.2.1 dX1_firstLoad_0 (by decide) ?_
  refine lv_istore_n (lv' := [(2, .int (1 : Int32)), (0, .ref (B 0)), (1, .int x1)]) E.1 E.2.1 dX1_firstLoad_1 rfl hl (by decide) rfl (fun ls hl => ?_)
  have L2 : ∀ (n : Nat) (y2_2 : Int32) (z2 : MZ) (H : Heap) (locs : List Loc) (ls : Array Slot), m_firstLoad_L2 x1 n y2_2 z2 = some res → va_P D cl (mW ci d B z2) H → va_S A s.heap H locs → lv_has ls 3 [(0, .ref (B 0)), (1, .int x1), (2, .int y2_2)] → W p l e rmX1_firstLoad s m args below meth c H locs 0 0 (MQ below (mQ D cl ci d B A (some (.int res.1)) res.2) args s 0 0 A) (F0 m 2 ls []) := by
    intro n
    induction n with
    | zero =>
      intro y2_2 z2 H locs ls hF
      rw [m_firstLoad_L2] at hF
      cases hF
    | succ n ih =>
      intro y2_2 z2 H locs ls hF hP hS hl
      rw [m_firstLoad_L2] at hF
      refine lv_iload_n E.1 E.2.1 dX1_firstLoad_2 rfl (lv_at hl 2 rfl) ?_
      refine lv_iload_n E.1 E.2.1 dX1_firstLoad_3 rfl (lv_at hl 1 rfl) ?_
      refine lv_iconst (v := (-1 : Int32)) E.1 E.2.1 dX1_firstLoad_4 (by decide) ?_
      refine lv_ixor E.1 E.2.1 dX1_firstLoad_5 ?_
      refine lv_iand E.1 E.2.1 dX1_firstLoad_6 ?_
      refine lv_if_ne (tgt := 39) E.1 E.2.1 dX1_firstLoad_7 (by decide) (fun h => ?_) (fun h => ?_)
      · have hF := ite_f h hF
        refine lv_iinc (v := y2_2 + 1) (lv' := [(2, .int (y2_2 + 1)), (0, .ref (B 0)), (1, .int x1)]) E.1 E.2.1 dX1_firstLoad_39 hl (k := 2) rfl rfl (by decide) rfl (fun ls hl => ?_)
        refine lv_goto (tgt := 2) E.1 E.2.1 dX1_firstLoad_42 (by decide) ?_
        exact ih (y2_2 + 1) z2 H locs ls hF hP hS (lv_sub hl [1, 2, 0] rfl)
      · have hF := ite_t h hF
        refine lv_aload_n E.1 E.2.1 dX1_firstLoad_10 rfl (lv_at hl 0 rfl) ?_
        refine lv_iload_n E.1 E.2.1 dX1_firstLoad_11 rfl (lv_at hl 2 rfl) ?_
        obtain ⟨r12, hq12, hF⟩ := bnd hF
        refine mk_call (As := [.int y2_2]) (rest := []) (v := (some (.int r12.1))) E hcl hK hP hS (mm_X1_isFair l hcl hB y2_2 z2 _ hq12) (cwV 1 E.2.2.2.2 (lw_V q1298 q1300 qs44 q58 q1301) rfl rfl rfl (by decide +kernel) ⟨Nat.le_of_ble_eq_true rfl, Nat.le_of_ble_eq_true rfl⟩) hl rfl rfl (Nat.le_of_ble_eq_true rfl) ⟨Nat.zero_le _, Nat.zero_le _⟩ dX1_firstLoad_12 (fun H locs hP hS => ?_)
        refine lv_if_eq (tgt := 39) E.1 E.2.1 dX1_firstLoad_15 (by decide) (fun h => ?_) (fun h => ?_)
        · have hF := ite_t h hF
          refine lv_iinc (v := y2_2 + 1) (lv' := [(2, .int (y2_2 + 1)), (0, .ref (B 0)), (1, .int x1)]) E.1 E.2.1 dX1_firstLoad_39 hl (k := 2) rfl rfl (by decide) rfl (fun ls hl => ?_)
          refine lv_goto (tgt := 2) E.1 E.2.1 dX1_firstLoad_42 (by decide) ?_
          exact ih (y2_2 + 1) r12.2 H locs ls hF hP hS (lv_sub hl [1, 2, 0] rfl)
        · have hF := ite_f h hF
          refine lv_aload_n E.1 E.2.1 dX1_firstLoad_18 rfl (lv_at hl 0 rfl) ?_
          refine mk_get E hcl hK hP 25 (by decide) q1135 rfl (v := .ref (B 25)) rfl dX1_firstLoad_19 ?_
          refine lv_iload_n E.1 E.2.1 dX1_firstLoad_22 rfl (lv_at hl 1 rfl) ?_
          refine lv_iload_n E.1 E.2.1 dX1_firstLoad_23 rfl (lv_at hl 2 rfl) ?_
          refine lv_iconst (v := (-1 : Int32)) E.1 E.2.1 dX1_firstLoad_24 (by decide) ?_
          refine lv_ixor E.1 E.2.1 dX1_firstLoad_25 ?_
          refine lv_iand E.1 E.2.1 dX1_firstLoad_26 ?_
          obtain ⟨h27, hF⟩ := gd_some hF
          refine mk_ald E hK hP (q := 11) (j := 25) (n := 32) rfl h27 dX1_firstLoad_27 ?_
          refine lv_aload_n E.1 E.2.1 dX1_firstLoad_28 rfl (lv_at hl 0 rfl) ?_
          refine mk_get E hcl hK hP 25 (by decide) q1135 rfl (v := .ref (B 25)) rfl dX1_firstLoad_29 ?_
          refine lv_iload_n E.1 E.2.1 dX1_firstLoad_32 rfl (lv_at hl 1 rfl) ?_
          obtain ⟨h33, hF⟩ := gd_some hF
          refine mk_ald E hK hP (q := 11) (j := 25) (n := 32) rfl h33 dX1_firstLoad_33 ?_
          refine lv_iconst (v := (1 : Int32)) E.1 E.2.1 dX1_firstLoad_34 (by decide) ?_
          refine lv_isub E.1 E.2.1 dX1_firstLoad_35 ?_
          refine lv_icmp_eq (tgt := 45) E.1 E.2.1 dX1_firstLoad_36 (by decide) (fun h => ?_) (fun h => ?_)
          · have hF := ite_t h hF
            refine lv_iload_n E.1 E.2.1 dX1_firstLoad_45 rfl (lv_at hl 2 rfl) ?_
            exact mk_iret E hr hlocks hP hS hF dX1_firstLoad_46
          · have hF := ite_f h hF
            refine lv_iinc (v := y2_2 + 1) (lv' := [(2, .int (y2_2 + 1)), (0, .ref (B 0)), (1, .int x1)]) E.1 E.2.1 dX1_firstLoad_39 hl (k := 2) rfl rfl (by decide) rfl (fun ls hl => ?_)
            refine lv_goto (tgt := 2) E.1 E.2.1 dX1_firstLoad_42 (by decide) ?_
            exact ih (y2_2 + 1) r12.2 H locs ls hF hP hS (lv_sub hl [1, 2, 0] rfl)
  exact L2 FU (1 : Int32) z0 H locs ls hF hP hS (lv_sub hl [1, 2, 0] rfl)
/-! DebtFerryModel.cross(I)I -/
def m_cross_L65 (x1 : Int32) : Nat → Int32 → Int32 → Int32 → MZ → Option (Int32 × MZ)
  | 0, _, _, _, _ => none
  | n + 1, y65_2, y65_3, y65_4, z65 =>
    if x1 < y65_4 then some (y65_3, z65) else (m_firstLoad y65_2 z65).bind (fun r73 => m_cross_L65 x1 n (y65_2 &&& (r73.1 ^^^ (-1 : Int32))) r73.1 (y65_4 + 1) r73.2)
def m_cross (x1 : Int32) (z0 : MZ) : Option (Int32 × MZ) :=
  if (z0.1 5) = 0 then some ((-3 : Int32), z0) else (m_within x1 (-1 : Int32) (4 : Int32)).bind (fun r13 => if r13 = 0 then some ((-2 : Int32), z0) else (m_findFewest  z0).bind (fun r23 => if x1 = (-1 : Int32) then gd (inb (((1 : Int32) <<< ((r23.1 5) &&& 31)) - (1 : Int32)) 32) (some ((r23.2 25 (((1 : Int32) <<< ((r23.1 5) &&& 31)) - (1 : Int32)).toNatClampNeg), r23)) else gd (inb (((1 : Int32) <<< ((r23.1 5) &&& 31)) - (1 : Int32)) 32) (if x1 < (r23.2 25 (((1 : Int32) <<< ((r23.1 5) &&& 31)) - (1 : Int32)).toNatClampNeg) then m_cross_L65 x1 FU (((1 : Int32) <<< ((r23.1 5) &&& 31)) - (1 : Int32)) (0 : Int32) (0 : Int32) r23 else some ((-9 : Int32), r23))))
abbrev rmX1_cross : Room := { frames := 6, cells := 0, slots := 0, locals := 129 }
set_option maxHeartbeats 4000000 in
set_option maxRecDepth 100000 in
theorem mm_X1_cross (l : Launch) {D : va_G} {cl : List vw_C} {ci : Nat} {d : ClassId} {B : Nat → Nat} {A : Nat → Prop} (hcl : cl[ci]? = some (RX1, TX1, 29)) (hB : ∀ z, va_D A (mW ci d B z)) (x1 : Int32) (z0 : MZ) (res : Int32 × MZ) (hF : m_cross x1 z0 = some res) : Met l yX1_cross (ws_ yX1_cross cX1_cross 5 (some .int)) rmX1_cross (mPc D cl ci d B z0 [.int x1]) (mQ D cl ci d B A (some (.int res.1)) res.2) 0 0 A := by
  refine mk_start (A := A) (by decide) rfl (Nat.le_of_ble_eq_true rfl) ?_
  intro p e s m args below meth c H locs ls E hr hlocks hK hP hS hl
  have hl : lv_has ls 5 [(0, .ref (B 0)), (1, .int x1)] := hl
  unfold m_cross at hF
  refine lv_aload_n E.1 E.2.1 dX1_cross_0 rfl (lv_at hl 0 rfl) ?_
  refine mk_get E hcl hK hP 5 (by decide) q1115 rfl (v := .int (z0.1 5)) rfl dX1_cross_1 ?_
  refine lv_if_ne (tgt := 10) E.1 E.2.1 dX1_cross_4 (by decide) (fun h => ?_) (fun h => ?_)
  · have hF := ite_f h hF
    refine lv_iload_n E.1 E.2.1 dX1_cross_10 rfl (lv_at hl 1 rfl) ?_
    refine lv_iconst (v := (-1 : Int32)) E.1 E.2.1 dX1_cross_11 (by decide) ?_
    refine lv_iconst (v := (4 : Int32)) E.1 E.2.1 dX1_cross_12 (by decide) ?_
    obtain ⟨r13, hq13, hF⟩ := bnd hF
    refine px_call (As := [.int x1, .int (-1 : Int32), .int (4 : Int32)]) (rest := []) (v := .int r13) E (mm_X1_within l x1 (-1 : Int32) (4 : Int32) _ hq13) (va_cwS 3 E.2.2.2.2 (lw_S q1205 q1206 q58 q1207) rfl rfl rfl (by decide +kernel) ⟨Nat.le_of_ble_eq_true rfl, Nat.le_of_ble_eq_true rfl⟩) hl rfl rfl (Nat.le_of_ble_eq_true rfl) ⟨Nat.zero_le _, Nat.zero_le _⟩ dX1_cross_13 ?_
    refine lv_if_ne (tgt := 22) E.1 E.2.1 dX1_cross_16 (by decide) (fun h => ?_) (fun h => ?_)
    · have hF := ite_f h hF
      refine lv_aload_n E.1 E.2.1 dX1_cross_22 rfl (lv_at hl 0 rfl) ?_
      obtain ⟨r23, hq23, hF⟩ := bnd hF
      refine mk_call (As := []) (rest := []) (v := none) E hcl hK hP hS (mm_X1_findFewest l hcl hB  z0 _ hq23) (cwV 0 E.2.2.2.2 (lw_V q1321 q1323 qs47 q58 q1324) rfl rfl rfl (by decide +kernel) ⟨Nat.le_of_ble_eq_true rfl, Nat.le_of_ble_eq_true rfl⟩) hl rfl rfl (Nat.le_of_ble_eq_true rfl) ⟨Nat.zero_le _, Nat.zero_le _⟩ dX1_cross_23 (fun H locs hP hS => ?_)
      refine lv_iconst (v := (1 : Int32)) E.1 E.2.1 dX1_cross_26 (by decide) ?_
      refine lv_aload_n E.1 E.2.1 dX1_cross_27 rfl (lv_at hl 0 rfl) ?_
      refine mk_get E hcl hK hP 5 (by decide) q1115 rfl (v := .int (r23.1 5)) rfl dX1_cross_28 ?_
      refine lv_ishl E.1 E.2.1 dX1_cross_31 ?_
      refine lv_iconst (v := (1 : Int32)) E.1 E.2.1 dX1_cross_32 (by decide) ?_
      refine lv_isub E.1 E.2.1 dX1_cross_33 ?_
      refine lv_istore_n (lv' := [(2, .int (((1 : Int32) <<< ((r23.1 5) &&& 31)) - (1 : Int32))), (0, .ref (B 0)), (1, .int x1)]) E.1 E.2.1 dX1_cross_34 rfl hl (by decide) rfl (fun ls hl => ?_)
      refine lv_iload_n E.1 E.2.1 dX1_cross_35 rfl (lv_at hl 2 rfl) ?_
      refine lv_iconst (v := (-1 : Int32)) E.1 E.2.1 dX1_cross_36 (by decide) ?_
      refine lv_icmp_ne (tgt := 47) E.1 E.2.1 dX1_cross_37 (by decide) (fun h => ?_) (fun h => ?_)
      · have hF := ite_f h hF
        refine lv_iload_n E.1 E.2.1 dX1_cross_47 rfl (lv_at hl 2 rfl) ?_
        refine lv_aload_n E.1 E.2.1 dX1_cross_48 rfl (lv_at hl 1 rfl) ?_
        refine mk_get E hcl hK hP 25 (by decide) q1135 rfl (v := .ref (B 25)) rfl dX1_cross_49 ?_
        refine lv_iload_n E.1 E.2.1 dX1_cross_52 rfl (lv_at hl 0 rfl) ?_
        obtain ⟨h53, hF⟩ := gd_some hF
        refine mk_ald E hK hP (q := 11) (j := 25) (n := 32) rfl h53 dX1_cross_53 ?_
        refine lv_icmp_lt (tgt := 60) E.1 E.2.1 dX1_cross_54 (by decide) (fun h => ?_) (fun h => ?_)
        · have hF := ite_t h hF
          refine lv_iconst (v := (0 : Int32)) E.1 E.2.1 dX1_cross_60 (by decide) ?_
          refine lv_istore_n (lv' := [(3, .int (0 : Int32)), (2, .int (((1 : Int32) <<< ((r23.1 5) &&& 31)) - (1 : Int32))), (0, .ref (B 0)), (1, .int x1)]) E.1 E.2.1 dX1_cross_61 rfl hl (by decide) rfl (fun ls hl => ?_)
          refine lv_iconst (v := (0 : Int32)) E.1 E.2.1 dX1_cross_62 (by decide) ?_
          refine lv_istore (lv' := [(4, .int (0 : Int32)), (3, .int (0 : Int32)), (2, .int (((1 : Int32) <<< ((r23.1 5) &&& 31)) - (1 : Int32))), (0, .ref (B 0)), (1, .int x1)]) E.1 E.2.1 dX1_cross_63 hl (by decide) rfl (fun ls hl => ?_)
          have L65 : ∀ (n : Nat) (y65_2 : Int32) (y65_3 : Int32) (y65_4 : Int32) (z65 : MZ) (H : Heap) (locs : List Loc) (ls : Array Slot), m_cross_L65 x1 n y65_2 y65_3 y65_4 z65 = some res → va_P D cl (mW ci d B z65) H → va_S A s.heap H locs → lv_has ls 5 [(0, .ref (B 0)), (1, .int x1), (2, .int y65_2), (3, .int y65_3), (4, .int y65_4)] → W p l e rmX1_cross s m args below meth c H locs 0 0 (MQ below (mQ D cl ci d B A (some (.int res.1)) res.2) args s 0 0 A) (F0 m 65 ls []) := by
            intro n
            induction n with
            | zero =>
              intro y65_2 y65_3 y65_4 z65 H locs ls hF
              rw [m_cross_L65] at hF
              cases hF
            | succ n ih =>
              intro y65_2 y65_3 y65_4 z65 H locs ls hF hP hS hl
              rw [m_cross_L65] at hF
              refine lv_iload E.1 E.2.1 dX1_cross_65 (lv_at hl 4 rfl) ?_
              refine lv_iload_n E.1 E.2.1 dX1_cross_67 rfl (lv_at hl 1 rfl) ?_
              refine lv_icmp_gt (tgt := 89) E.1 E.2.1 dX1_cross_68 (by decide) (fun h => ?_) (fun h => ?_)
              · have hF := ite_t h hF
                refine lv_iload_n E.1 E.2.1 dX1_cross_89 rfl (lv_at hl 3 rfl) ?_
                exact mk_iret E hr hlocks hP hS hF dX1_cross_90
              · have hF := ite_f h hF
                refine lv_aload_n E.1 E.2.1 dX1_cross_71 rfl (lv_at hl 0 rfl) ?_
                refine lv_iload_n E.1 E.2.1 dX1_cross_72 rfl (lv_at hl 2 rfl) ?_
                obtain ⟨r73, hq73, hF⟩ := bnd hF
                refine mk_call (As := [.int y65_2]) (rest := []) (v := (some (.int r73.1))) E hcl hK hP hS (mm_X1_firstLoad l hcl hB y65_2 z65 _ hq73) (cwV 1 E.2.2.2.2 (lw_V q1325 q1327 qs48 q58 q1328) rfl rfl rfl (by decide +kernel) ⟨Nat.le_of_ble_eq_true rfl, Nat.le_of_ble_eq_true rfl⟩) hl rfl rfl (Nat.le_of_ble_eq_true rfl) ⟨Nat.zero_le _, Nat.zero_le _⟩ dX1_cross_73 (fun H locs hP hS => ?_)
                refine lv_istore_n (lv' := [(3, .int r73.1), (0, .ref (B 0)), (1, .int x1), (2, .int y65_2), (4, .int y65_4)]) E.1 E.2.1 dX1_cross_76 rfl hl (by decide) rfl (fun ls hl => ?_)
                refine lv_iload_n E.1 E.2.1 dX1_cross_77 rfl (lv_at hl 3 rfl) ?_
                refine lv_iload_n E.1 E.2.1 dX1_cross_78 rfl (lv_at hl 0 rfl) ?_
                refine lv_iconst (v := (-1 : Int32)) E.1 E.2.1 dX1_cross_79 (by decide) ?_
                refine lv_ixor E.1 E.2.1 dX1_cross_80 ?_
                refine lv_iand E.1 E.2.1 dX1_cross_81 ?_
                refine lv_istore_n (lv' := [(2, .int (y65_2 &&& (r73.1 ^^^ (-1 : Int32)))), (3, .int r73.1), (0, .ref (B 0)), (1, .int x1), (4, .int y65_4)]) E.1 E.2.1 dX1_cross_82 rfl hl (by decide) rfl (fun ls hl => ?_)
                refine lv_iinc (v := y65_4 + 1) (lv' := [(4, .int (y65_4 + 1)), (2, .int (y65_2 &&& (r73.1 ^^^ (-1 : Int32)))), (3, .int r73.1), (0, .ref (B 0)), (1, .int x1)]) E.1 E.2.1 dX1_cross_83 hl (k := 4) rfl rfl (by decide) rfl (fun ls hl => ?_)
                refine lv_goto (tgt := 65) E.1 E.2.1 dX1_cross_86 (by decide) ?_
                exact ih (y65_2 &&& (r73.1 ^^^ (-1 : Int32))) r73.1 (y65_4 + 1) r73.2 H locs ls hF hP hS (lv_sub hl [3, 4, 1, 2, 0] rfl)
          exact L65 FU (((1 : Int32) <<< ((r23.1 5) &&& 31)) - (1 : Int32)) (0 : Int32) (0 : Int32) r23 H locs ls hF hP hS (lv_sub hl [3, 4, 2, 1, 0] rfl)
        · have hF := ite_f h hF
          refine lv_bipush (v := (-9 : Int32)) E.1 E.2.1 dX1_cross_57 (by decide) ?_
          exact mk_iret E hr hlocks hP hS hF dX1_cross_59
      · have hF := ite_t h hF
        refine lv_aload_n E.1 E.2.1 dX1_cross_40 rfl (lv_at hl 1 rfl) ?_
        refine mk_get E hcl hK hP 25 (by decide) q1135 rfl (v := .ref (B 25)) rfl dX1_cross_41 ?_
        refine lv_iload_n E.1 E.2.1 dX1_cross_44 rfl (lv_at hl 0 rfl) ?_
        obtain ⟨h45, hF⟩ := gd_some hF
        refine mk_ald E hK hP (q := 11) (j := 25) (n := 32) rfl h45 dX1_cross_45 ?_
        exact mk_iret E hr hlocks hP hS hF dX1_cross_46
    · have hF := ite_t h hF
      refine lv_bipush (v := (-2 : Int32)) E.1 E.2.1 dX1_cross_19 (by decide) ?_
      exact mk_iret E hr hlocks hP hS hF dX1_cross_21
  · have hF := ite_t h hF
    refine lv_bipush (v := (-3 : Int32)) E.1 E.2.1 dX1_cross_7 (by decide) ?_
    exact mk_iret E hr hlocks hP hS hF dX1_cross_9
/-! DebtFerryModel.pullsBy(IIII)Z -/
def m_pullsBy (x1 : Int32) (x2 : Int32) (x3 : Int32) (x4 : Int32) (z0 : MZ) : Option (Int32 × MZ) :=
  gd (inb (((5 : Int32) * x1) + x2) 25) (if ((z0.2 10 (((5 : Int32) * x1) + x2).toNatClampNeg) + x3) ≤ (9 : Int32) then gd (inb (((5 : Int32) * x1) + x2) 25) ((m_pullersOf x4 (mz_a z0 10 (((5 : Int32) * x1) + x2).toNatClampNeg ((z0.2 10 (((5 : Int32) * x1) + x2).toNatClampNeg) + x3))).bind (fun r40 => jn (fun (v54_0 : Int32) (z54 : MZ) => gd (inb (((5 : Int32) * x1) + x2) 25) ((zr v54_0).bind (fun r => some (r, (mz_a z54 10 (((5 : Int32) * x1) + x2).toNatClampNeg (z0.2 10 (((5 : Int32) * x1) + x2).toNatClampNeg)))))) (fun (k54 : Int32 → MZ → Option (Int32 × MZ)) => if r40.1 = ((1 : Int32) <<< (x1 &&& 31)) then k54 (1 : Int32) r40.2 else k54 (0 : Int32) r40.2))) else (zr (0 : Int32)).bind (fun r => some (r, z0)))
abbrev rmX1_pullsBy : Room := { frames := 4, cells := 0, slots := 0, locals := 83 }
set_option maxHeartbeats 4000000 in
set_option maxRecDepth 100000 in
theorem mm_X1_pullsBy (l : Launch) {D : va_G} {cl : List vw_C} {ci : Nat} {d : ClassId} {B : Nat → Nat} {A : Nat → Prop} (hcl : cl[ci]? = some (RX1, TX1, 29)) (hB : ∀ z, va_D A (mW ci d B z)) (x1 : Int32) (x2 : Int32) (x3 : Int32) (x4 : Int32) (z0 : MZ) (res : Int32 × MZ) (hF : m_pullsBy x1 x2 x3 x4 z0 = some res) : Met l yX1_pullsBy (ws_ yX1_pullsBy cX1_pullsBy 7 (some .boolean)) rmX1_pullsBy (mPc D cl ci d B z0 [.int x1, .int x2, .int x3, .int x4]) (mQ D cl ci d B A (some (.int res.1)) res.2) 0 0 A := by
  refine mk_start (A := A) (by decide) rfl (Nat.le_of_ble_eq_true rfl) ?_
  intro p e s m args below meth c H locs ls E hr hlocks hK hP hS hl
  have hl : lv_has ls 7 [(0, .ref (B 0)), (1, .int x1), (2, .int x2), (3, .int x3), (4, .int x4)] := hl
  unfold m_pullsBy at hF
  refine lv_aload_n E.1 E.2.1 dX1_pullsBy_0 rfl (lv_at hl 0 rfl) ?_
  refine mk_get E hcl hK hP 10 (by decide) q1120 rfl (v := .ref (B 10)) rfl dX1_pullsBy_1 ?_
  refine lv_iconst (v := (5 : Int32)) E.1 E.2.1 dX1_pullsBy_4 (by decide) ?_
  refine lv_iload_n E.1 E.2.1 dX1_pullsBy_5 rfl (lv_at hl 1 rfl) ?_
  refine lv_imul E.1 E.2.1 dX1_pullsBy_6 ?_
  refine lv_iload_n E.1 E.2.1 dX1_pullsBy_7 rfl (lv_at hl 2 rfl) ?_
  refine lv_iadd E.1 E.2.1 dX1_pullsBy_8 ?_
  obtain ⟨h9, hF⟩ := gd_some hF
  refine mk_ald E hK hP (q := 6) (j := 10) (n := 25) rfl h9 dX1_pullsBy_9 ?_
  refine lv_istore (lv' := [(5, .int (z0.2 10 (((5 : Int32) * x1) + x2).toNatClampNeg)), (0, .ref (B 0)), (1, .int x1), (2, .int x2), (3, .int x3), (4, .int x4)]) E.1 E.2.1 dX1_pullsBy_10 hl (by decide) rfl (fun ls hl => ?_)
  refine lv_iload E.1 E.2.1 dX1_pullsBy_12 (lv_at hl 0 rfl) ?_
  refine lv_iload_n E.1 E.2.1 dX1_pullsBy_14 rfl (lv_at hl 4 rfl) ?_
  refine lv_iadd E.1 E.2.1 dX1_pullsBy_15 ?_
  refine lv_bipush (v := (9 : Int32)) E.1 E.2.1 dX1_pullsBy_16 (by decide) ?_
  refine lv_icmp_le (tgt := 23) E.1 E.2.1 dX1_pullsBy_18 (by decide) (fun h => ?_) (fun h => ?_)
  · have hF := ite_t h hF
    refine lv_aload_n E.1 E.2.1 dX1_pullsBy_23 rfl (lv_at hl 1 rfl) ?_
    refine mk_get E hcl hK hP 10 (by decide) q1120 rfl (v := .ref (B 10)) rfl dX1_pullsBy_24 ?_
    refine lv_iconst (v := (5 : Int32)) E.1 E.2.1 dX1_pullsBy_27 (by decide) ?_
    refine lv_iload_n E.1 E.2.1 dX1_pullsBy_28 rfl (lv_at hl 2 rfl) ?_
    refine lv_imul E.1 E.2.1 dX1_pullsBy_29 ?_
    refine lv_iload_n E.1 E.2.1 dX1_pullsBy_30 rfl (lv_at hl 3 rfl) ?_
    refine lv_iadd E.1 E.2.1 dX1_pullsBy_31 ?_
    refine lv_iload E.1 E.2.1 dX1_pullsBy_32 (lv_at hl 0 rfl) ?_
    refine lv_iload_n E.1 E.2.1 dX1_pullsBy_34 rfl (lv_at hl 4 rfl) ?_
    refine lv_iadd E.1 E.2.1 dX1_pullsBy_35 ?_
    obtain ⟨h36, hF⟩ := gd_some hF
    refine mk_ast E hB hK hP hS (q := 6) (j := 10) (n := 25) rfl h36 dX1_pullsBy_36 (fun H locs hP hS => ?_)
    refine lv_aload_n E.1 E.2.1 dX1_pullsBy_37 rfl (lv_at hl 1 rfl) ?_
    refine lv_iload E.1 E.2.1 dX1_pullsBy_38 (lv_at hl 5 rfl) ?_
    obtain ⟨r40, hq40, hF⟩ := bnd hF
    refine mk_call (As := [.int x4]) (rest := []) (v := (some (.int r40.1))) E hcl hK hP hS (mm_X1_pullersOf l hcl hB x4 (mz_a z0 10 (((5 : Int32) * x1) + x2).toNatClampNeg ((z0.2 10 (((5 : Int32) * x1) + x2).toNatClampNeg) + x3)) _ hq40) (cwV 1 E.2.2.2.2 (lw_V q1290 q1292 qs43 q58 q1293) rfl rfl rfl (by decide +kernel) ⟨Nat.le_of_ble_eq_true rfl, Nat.le_of_ble_eq_true rfl⟩) hl rfl rfl (Nat.le_of_ble_eq_true rfl) ⟨Nat.zero_le _, Nat.zero_le _⟩ dX1_pullsBy_40 (fun H locs hP hS => ?_)
    refine lv_iconst (v := (1 : Int32)) E.1 E.2.1 dX1_pullsBy_43 (by decide) ?_
    refine lv_iload_n E.1 E.2.1 dX1_pullsBy_44 rfl (lv_at hl 2 rfl) ?_
    refine lv_ishl E.1 E.2.1 dX1_pullsBy_45 ?_
    obtain ⟨k54, hk54, hF⟩ := jn_split hF
    have J54 : ∀ (v54_0 : Int32) (z54 : MZ) (H : Heap) (locs : List Loc) (ls : Array Slot), k54 v54_0 z54 = some res → va_P D cl (mW ci d B z54) H → va_S A s.heap H locs → lv_has ls 7 [(0, .ref (B 0)), (1, .int x1), (2, .int x2), (5, .int (z0.2 10 (((5 : Int32) * x1) + x2).toNatClampNeg))] → W p l e rmX1_pullsBy s m args below meth c H locs 0 0 (MQ below (mQ D cl ci d B A (some (.int res.1)) res.2) args s 0 0 A) (F0 m 54 ls [.int v54_0]) := by
      intro v54_0 z54 H locs ls hF hP hS hl
      rw [hk54] at hF
      refine lv_istore (lv' := [(6, .int v54_0), (0, .ref (B 0)), (1, .int x1), (2, .int x2), (5, .int (z0.2 10 (((5 : Int32) * x1) + x2).toNatClampNeg))]) E.1 E.2.1 dX1_pullsBy_54 hl (by decide) rfl (fun ls hl => ?_)
      refine lv_aload_n E.1 E.2.1 dX1_pullsBy_56 rfl (lv_at hl 1 rfl) ?_
      refine mk_get E hcl hK hP 10 (by decide) q1120 rfl (v := .ref (B 10)) rfl dX1_pullsBy_57 ?_
      refine lv_iconst (v := (5 : Int32)) E.1 E.2.1 dX1_pullsBy_60 (by decide) ?_
      refine lv_iload_n E.1 E.2.1 dX1_pullsBy_61 rfl (lv_at hl 2 rfl) ?_
      refine lv_imul E.1 E.2.1 dX1_pullsBy_62 ?_
      refine lv_iload_n E.1 E.2.1 dX1_pullsBy_63 rfl (lv_at hl 3 rfl) ?_
      refine lv_iadd E.1 E.2.1 dX1_pullsBy_64 ?_
      refine lv_iload E.1 E.2.1 dX1_pullsBy_65 (lv_at hl 4 rfl) ?_
      obtain ⟨h67, hF⟩ := gd_some hF
      refine mk_ast E hB hK hP hS (q := 6) (j := 10) (n := 25) rfl h67 dX1_pullsBy_67 (fun H locs hP hS => ?_)
      refine lv_iload E.1 E.2.1 dX1_pullsBy_68 (lv_at hl 0 rfl) ?_
      exact mk_zret E hr hlocks hP hS hF dX1_pullsBy_70
    refine lv_icmp_ne (tgt := 53) E.1 E.2.1 dX1_pullsBy_46 (by decide) (fun h => ?_) (fun h => ?_)
    · have hF := ite_f h hF
      refine lv_iconst (v := (0 : Int32)) E.1 E.2.1 dX1_pullsBy_53 (by decide) ?_
      exact J54 (0 : Int32) r40.2 H locs ls hF hP hS (lv_sub hl [1, 2, 3, 0] rfl)
    · have hF := ite_t h hF
      refine lv_iconst (v := (1 : Int32)) E.1 E.2.1 dX1_pullsBy_49 (by decide) ?_
      refine lv_goto (tgt := 54) E.1 E.2.1 dX1_pullsBy_50 (by decide) ?_
      exact J54 (1 : Int32) r40.2 H locs ls hF hP hS (lv_sub hl [1, 2, 3, 0] rfl)
  · have hF := ite_f h hF
    refine lv_iconst (v := (0 : Int32)) E.1 E.2.1 dX1_pullsBy_21 (by decide) ?_
    exact mk_zret E hr hlocks hP hS hF dX1_pullsBy_22
/-! DebtFerryModel.loan(III)I -/
def m_loan_L76 (k104 : Int32 → Int32 → MZ → Option (Int32 × MZ)) (k122 : MZ → Option (Int32 × MZ)) (x1 : Int32) (x2 : Int32) (x3 : Int32) (y66_4 : Int32) : Nat → Int32 → MZ → Option (Int32 × MZ)
  | 0, _, _ => none
  | n + 1, y76_5, z76 =>
    if (z76.1 5) ≤ y76_5 then k122  z76 else if y76_5 = x1 then m_loan_L76 k104 k122 x1 x2 x3 y66_4 n (y76_5 + 1) z76 else (m_pullsBy x1 y76_5 y66_4 x2 z76).bind (fun r98 => if r98.1 = 0 then m_loan_L76 k104 k122 x1 x2 x3 y66_4 n (y76_5 + 1) r98.2 else k104 y66_4 y76_5 r98.2)
def m_loan_L66 (k104 : Int32 → Int32 → MZ → Option (Int32 × MZ)) (x1 : Int32) (x2 : Int32) (x3 : Int32) : Nat → Int32 → MZ → Option (Int32 × MZ)
  | 0, _, _ => none
  | n + 1, y66_4, z66 =>
    if (9 : Int32) < y66_4 then some ((-9 : Int32), z66) else m_loan_L76 k104 (fun  (z76 : MZ) => m_loan_L66 k104 x1 x2 x3 n (y66_4 + 1) z76) x1 x2 x3 y66_4 FU (0 : Int32) z66
def m_loan (x1 : Int32) (x2 : Int32) (x3 : Int32) (z0 : MZ) : Option (Int32 × MZ) :=
  (m_isPerson x1 z0).bind (fun r2 => if r2.1 = 0 then some ((-1 : Int32), r2.2) else (m_isSet x2 r2.2).bind (fun r12 => if r12.1 = 0 then some ((-2 : Int32), r12.2) else (m_within x3 (0 : Int32) (1 : Int32)).bind (fun r21 => if r21 = 0 then some ((-2 : Int32), r12.2) else (m_isOf x2 x1).bind (fun r32 => if r32 = 0 then some ((-3 : Int32), r12.2) else (m_pullersOf x2 r12.2).bind (fun r43 => if r43.1 = ((1 : Int32) <<< (x1 &&& 31)) then if x3 = 0 then some ((0 : Int32), r43.2) else some ((-9 : Int32), r43.2) else m_loan_L66 (fun (y66_4 : Int32) (y66_5 : Int32) (z66 : MZ) => if x3 = 0 then some (y66_4, z66) else some (y66_5, z66)) x1 x2 x3 FU (1 : Int32) r43.2)))))
abbrev rmX1_loan : Room := { frames := 5, cells := 0, slots := 0, locals := 109 }
set_option maxHeartbeats 4000000 in
set_option maxRecDepth 100000 in
theorem mm_X1_loan (l : Launch) {D : va_G} {cl : List vw_C} {ci : Nat} {d : ClassId} {B : Nat → Nat} {A : Nat → Prop} (hcl : cl[ci]? = some (RX1, TX1, 29)) (hB : ∀ z, va_D A (mW ci d B z)) (x1 : Int32) (x2 : Int32) (x3 : Int32) (z0 : MZ) (res : Int32 × MZ) (hF : m_loan x1 x2 x3 z0 = some res) : Met l yX1_loan (ws_ yX1_loan cX1_loan 6 (some .int)) rmX1_loan (mPc D cl ci d B z0 [.int x1, .int x2, .int x3]) (mQ D cl ci d B A (some (.int res.1)) res.2) 0 0 A := by
  refine mk_start (A := A) (by decide) rfl (Nat.le_of_ble_eq_true rfl) ?_
  intro p e s m args below meth c H locs ls E hr hlocks hK hP hS hl
  have hl : lv_has ls 6 [(0, .ref (B 0)), (1, .int x1), (2, .int x2), (3, .int x3)] := hl
  unfold m_loan at hF
  refine lv_aload_n E.1 E.2.1 dX1_loan_0 rfl (lv_at hl 0 rfl) ?_
  refine lv_iload_n E.1 E.2.1 dX1_loan_1 rfl (lv_at hl 1 rfl) ?_
  obtain ⟨r2, hq2, hF⟩ := bnd hF
  refine mk_call (As := [.int x1]) (rest := []) (v := (some (.int r2.1))) E hcl hK hP hS (mm_X1_isPerson l hcl hB x1 z0 _ hq2) (cwV 1 E.2.2.2.2 (lw_V q1243 q1245 qs38 q58 q1246) rfl rfl rfl (by decide +kernel) ⟨Nat.le_of_ble_eq_true rfl, Nat.le_of_ble_eq_true rfl⟩) hl rfl rfl (Nat.le_of_ble_eq_true rfl) ⟨Nat.zero_le _, Nat.zero_le _⟩ dX1_loan_2 (fun H locs hP hS => ?_)
  refine lv_if_ne (tgt := 10) E.1 E.2.1 dX1_loan_5 (by decide) (fun h => ?_) (fun h => ?_)
  · have hF := ite_f h hF
    refine lv_aload_n E.1 E.2.1 dX1_loan_10 rfl (lv_at hl 0 rfl) ?_
    refine lv_iload_n E.1 E.2.1 dX1_loan_11 rfl (lv_at hl 2 rfl) ?_
    obtain ⟨r12, hq12, hF⟩ := bnd hF
    refine mk_call (As := [.int x2]) (rest := []) (v := (some (.int r12.1))) E hcl hK hP hS (mm_X1_isSet l hcl hB x2 r2.2 _ hq12) (cwV 1 E.2.2.2.2 (lw_V q1275 q1277 qs41 q58 q1278) rfl rfl rfl (by decide +kernel) ⟨Nat.le_of_ble_eq_true rfl, Nat.le_of_ble_eq_true rfl⟩) hl rfl rfl (Nat.le_of_ble_eq_true rfl) ⟨Nat.zero_le _, Nat.zero_le _⟩ dX1_loan_12 (fun H locs hP hS => ?_)
    refine lv_if_eq (tgt := 27) E.1 E.2.1 dX1_loan_15 (by decide) (fun h => ?_) (fun h => ?_)
    · have hF := ite_t h hF
      refine lv_bipush (v := (-2 : Int32)) E.1 E.2.1 dX1_loan_27 (by decide) ?_
      exact mk_iret E hr hlocks hP hS hF dX1_loan_29
    · have hF := ite_f h hF
      refine lv_iload_n E.1 E.2.1 dX1_loan_18 rfl (lv_at hl 3 rfl) ?_
      refine lv_iconst (v := (0 : Int32)) E.1 E.2.1 dX1_loan_19 (by decide) ?_
      refine lv_iconst (v := (1 : Int32)) E.1 E.2.1 dX1_loan_20 (by decide) ?_
      obtain ⟨r21, hq21, hF⟩ := bnd hF
      refine px_call (As := [.int x3, .int (0 : Int32), .int (1 : Int32)]) (rest := []) (v := .int r21) E (mm_X1_within l x3 (0 : Int32) (1 : Int32) _ hq21) (va_cwS 3 E.2.2.2.2 (lw_S q1205 q1206 q58 q1207) rfl rfl rfl (by decide +kernel) ⟨Nat.le_of_ble_eq_true rfl, Nat.le_of_ble_eq_true rfl⟩) hl rfl rfl (Nat.le_of_ble_eq_true rfl) ⟨Nat.zero_le _, Nat.zero_le _⟩ dX1_loan_21 ?_
      refine lv_if_ne (tgt := 30) E.1 E.2.1 dX1_loan_24 (by decide) (fun h => ?_) (fun h => ?_)
      · have hF := ite_f h hF
        refine lv_iload_n E.1 E.2.1 dX1_loan_30 rfl (lv_at hl 2 rfl) ?_
        refine lv_iload_n E.1 E.2.1 dX1_loan_31 rfl (lv_at hl 1 rfl) ?_
        obtain ⟨r32, hq32, hF⟩ := bnd hF
        refine px_call (As := [.int x2, .int x1]) (rest := []) (v := .int r32) E (mm_X1_isOf l x2 x1 _ hq32) (va_cwS 2 E.2.2.2.2 (lw_S q1279 q1280 q58 q1281) rfl rfl rfl (by decide +kernel) ⟨Nat.le_of_ble_eq_true rfl, Nat.le_of_ble_eq_true rfl⟩) hl rfl rfl (Nat.le_of_ble_eq_true rfl) ⟨Nat.zero_le _, Nat.zero_le _⟩ dX1_loan_32 ?_
        refine lv_if_ne (tgt := 41) E.1 E.2.1 dX1_loan_35 (by decide) (fun h => ?_) (fun h => ?_)
        · have hF := ite_f h hF
          refine lv_aload_n E.1 E.2.1 dX1_loan_41 rfl (lv_at hl 0 rfl) ?_
          refine lv_iload_n E.1 E.2.1 dX1_loan_42 rfl (lv_at hl 2 rfl) ?_
          obtain ⟨r43, hq43, hF⟩ := bnd hF
          refine mk_call (As := [.int x2]) (rest := []) (v := (some (.int r43.1))) E hcl hK hP hS (mm_X1_pullersOf l hcl hB x2 r12.2 _ hq43) (cwV 1 E.2.2.2.2 (lw_V q1290 q1292 qs43 q58 q1293) rfl rfl rfl (by decide +kernel) ⟨Nat.le_of_ble_eq_true rfl, Nat.le_of_ble_eq_true rfl⟩) hl rfl rfl (Nat.le_of_ble_eq_true rfl) ⟨Nat.zero_le _, Nat.zero_le _⟩ dX1_loan_43 (fun H locs hP hS => ?_)
          refine lv_iconst (v := (1 : Int32)) E.1 E.2.1 dX1_loan_46 (by decide) ?_
          refine lv_iload_n E.1 E.2.1 dX1_loan_47 rfl (lv_at hl 1 rfl) ?_
          refine lv_ishl E.1 E.2.1 dX1_loan_48 ?_
          refine lv_icmp_ne (tgt := 63) E.1 E.2.1 dX1_loan_49 (by decide) (fun h => ?_) (fun h => ?_)
          · have hF := ite_f h hF
            refine lv_iconst (v := (1 : Int32)) E.1 E.2.1 dX1_loan_63 (by decide) ?_
            refine lv_istore (lv' := [(4, .int (1 : Int32)), (0, .ref (B 0)), (1, .int x1), (2, .int x2), (3, .int x3)]) E.1 E.2.1 dX1_loan_64 hl (by decide) rfl (fun ls hl => ?_)
            obtain ⟨k104, hk104, hF⟩ : ∃ k104, k104 = _ ∧ m_loan_L66 k104 x1 x2 x3 FU (1 : Int32) r43.2 = some res := ⟨_, rfl, hF⟩
            have K104 : ∀ (y66_4 : Int32) (y66_5 : Int32) (z66 : MZ) (H : Heap) (locs : List Loc) (ls : Array Slot), k104 y66_4 y66_5 z66 = some res → va_P D cl (mW ci d B z66) H → va_S A s.heap H locs → lv_has ls 6 [(3, .int x3), (4, .int y66_4), (5, .int y66_5)] → W p l e rmX1_loan s m args below meth c H locs 0 0 (MQ below (mQ D cl ci d B A (some (.int res.1)) res.2) args s 0 0 A) (F0 m 104 ls []) := by
              intro y66_4 y66_5 z66 H locs ls hF hP hS hl
              rw [hk104] at hF
              refine lv_iload_n E.1 E.2.1 dX1_loan_104 rfl (lv_at hl 0 rfl) ?_
              refine lv_if_ne (tgt := 113) E.1 E.2.1 dX1_loan_105 (by decide) (fun h => ?_) (fun h => ?_)
              · have hF := ite_f h hF
                refine lv_iload E.1 E.2.1 dX1_loan_113 (lv_at hl 2 rfl) ?_
                exact mk_iret E hr hlocks hP hS hF dX1_loan_115
              · have hF := ite_t h hF
                refine lv_iload E.1 E.2.1 dX1_loan_108 (lv_at hl 1 rfl) ?_
                refine lv_goto (tgt := 115) E.1 E.2.1 dX1_loan_110 (by decide) ?_
                exact mk_iret E hr hlocks hP hS hF dX1_loan_115
            have L66 : ∀ (n : Nat) (y66_4 : Int32) (z66 : MZ) (H : Heap) (locs : List Loc) (ls : Array Slot), m_loan_L66 k104 x1 x2 x3 n y66_4 z66 = some res → va_P D cl (mW ci d B z66) H → va_S A s.heap H locs → lv_has ls 6 [(0, .ref (B 0)), (1, .int x1), (2, .int x2), (3, .int x3), (4, .int y66_4)] → W p l e rmX1_loan s m args below meth c H locs 0 0 (MQ below (mQ D cl ci d B A (some (.int res.1)) res.2) args s 0 0 A) (F0 m 66 ls []) := by
              intro n
              induction n with
              | zero =>
                intro y66_4 z66 H locs ls hF
                rw [m_loan_L66] at hF
                cases hF
              | succ n ih =>
                intro y66_4 z66 H locs ls hF hP hS hl
                rw [m_loan_L66] at hF
                refine lv_iload E.1 E.2.1 dX1_loan_66 (lv_at hl 4 rfl) ?_
                refine lv_bipush (v := (9 : Int32)) E.1 E.2.1 dX1_loan_68 (by decide) ?_
                refine lv_icmp_gt (tgt := 128) E.1 E.2.1 dX1_loan_70 (by decide) (fun h => ?_) (fun h => ?_)
                · have hF := ite_t h hF
                  refine lv_bipush (v := (-9 : Int32)) E.1 E.2.1 dX1_loan_128 (by decide) ?_
                  exact mk_iret E hr hlocks hP hS hF dX1_loan_130
                · have hF := ite_f h hF
                  refine lv_iconst (v := (0 : Int32)) E.1 E.2.1 dX1_loan_73 (by decide) ?_
                  refine lv_istore (lv' := [(5, .int (0 : Int32)), (0, .ref (B 0)), (1, .int x1), (2, .int x2), (3, .int x3), (4, .int y66_4)]) E.1 E.2.1 dX1_loan_74 hl (by decide) rfl (fun ls hl => ?_)
                  obtain ⟨k122, hk122, hF⟩ : ∃ k122, k122 = _ ∧ m_loan_L76 k104 k122 x1 x2 x3 y66_4 FU (0 : Int32) z66 = some res := ⟨_, rfl, hF⟩
                  have K122 : ∀  (z76 : MZ) (H : Heap) (locs : List Loc) (ls : Array Slot), k122  z76 = some res → va_P D cl (mW ci d B z76) H → va_S A s.heap H locs → lv_has ls 6 [(0, .ref (B 0)), (1, .int x1), (2, .int x2), (3, .int x3), (4, .int y66_4)] → W p l e rmX1_loan s m args below meth c H locs 0 0 (MQ below (mQ D cl ci d B A (some (.int res.1)) res.2) args s 0 0 A) (F0 m 122 ls []) := by
                    intro  z76 H locs ls hF hP hS hl
                    rw [hk122] at hF
                    refine lv_iinc (v := y66_4 + 1) (lv' := [(4, .int (y66_4 + 1)), (0, .ref (B 0)), (1, .int x1), (2, .int x2), (3, .int x3)]) E.1 E.2.1 dX1_loan_122 hl (k := 4) rfl rfl (by decide) rfl (fun ls hl => ?_)
                    refine lv_goto (tgt := 66) E.1 E.2.1 dX1_loan_125 (by decide) ?_
                    exact ih (y66_4 + 1) z76 H locs ls hF hP hS (lv_sub hl [1, 2, 3, 4, 0] rfl)
                  have L76 : ∀ (n : Nat) (y76_5 : Int32) (z76 : MZ) (H : Heap) (locs : List Loc) (ls : Array Slot), m_loan_L76 k104 k122 x1 x2 x3 y66_4 n y76_5 z76 = some res → va_P D cl (mW ci d B z76) H → va_S A s.heap H locs → lv_has ls 6 [(0, .ref (B 0)), (1, .int x1), (2, .int x2), (3, .int x3), (4, .int y66_4), (5, .int y76_5)] → W p l e rmX1_loan s m args below meth c H locs 0 0 (MQ below (mQ D cl ci d B A (some (.int res.1)) res.2) args s 0 0 A) (F0 m 76 ls []) := by
                    intro n
                    induction n with
                    | zero =>
                      intro y76_5 z76 H locs ls hF
                      rw [m_loan_L76] at hF
                      cases hF
                    | succ n ih =>
                      intro y76_5 z76 H locs ls hF hP hS hl
                      rw [m_loan_L76] at hF
                      refine lv_iload E.1 E.2.1 dX1_loan_76 (lv_at hl 5 rfl) ?_
                      refine lv_aload_n E.1 E.2.1 dX1_loan_78 rfl (lv_at hl 0 rfl) ?_
                      refine mk_get E hcl hK hP 5 (by decide) q1115 rfl (v := .int (z76.1 5)) rfl dX1_loan_79 ?_
                      refine lv_icmp_ge (tgt := 122) E.1 E.2.1 dX1_loan_82 (by decide) (fun h => ?_) (fun h => ?_)
                      · have hF := ite_t h hF
                        exact K122  z76 H locs ls hF hP hS (lv_sub hl [0, 1, 2, 3, 4] rfl)
                      · have hF := ite_f h hF
                        refine lv_iload E.1 E.2.1 dX1_loan_85 (lv_at hl 5 rfl) ?_
                        refine lv_iload_n E.1 E.2.1 dX1_loan_87 rfl (lv_at hl 1 rfl) ?_
                        refine lv_icmp_eq (tgt := 116) E.1 E.2.1 dX1_loan_88 (by decide) (fun h => ?_) (fun h => ?_)
                        · have hF := ite_t h hF
                          refine lv_iinc (v := y76_5 + 1) (lv' := [(5, .int (y76_5 + 1)), (0, .ref (B 0)), (1, .int x1), (2, .int x2), (3, .int x3), (4, .int y66_4)]) E.1 E.2.1 dX1_loan_116 hl (k := 5) rfl rfl (by decide) rfl (fun ls hl => ?_)
                          refine lv_goto (tgt := 76) E.1 E.2.1 dX1_loan_119 (by decide) ?_
                          exact ih (y76_5 + 1) z76 H locs ls hF hP hS (lv_sub hl [1, 2, 3, 4, 5, 0] rfl)
                        · have hF := ite_f h hF
                          refine lv_aload_n E.1 E.2.1 dX1_loan_91 rfl (lv_at hl 0 rfl) ?_
                          refine lv_iload_n E.1 E.2.1 dX1_loan_92 rfl (lv_at hl 1 rfl) ?_
                          refine lv_iload E.1 E.2.1 dX1_loan_93 (lv_at hl 5 rfl) ?_
                          refine lv_iload E.1 E.2.1 dX1_loan_95 (lv_at hl 4 rfl) ?_
                          refine lv_iload_n E.1 E.2.1 dX1_loan_97 rfl (lv_at hl 2 rfl) ?_
                          obtain ⟨r98, hq98, hF⟩ := bnd hF
                          refine mk_call (As := [.int x1, .int y76_5, .int y66_4, .int x2]) (rest := []) (v := (some (.int r98.1))) E hcl hK hP hS (mm_X1_pullsBy l hcl hB x1 y76_5 y66_4 x2 z76 _ hq98) (cwV 4 E.2.2.2.2 (lw_V q1333 q1335 qs49 q58 q1336) rfl rfl rfl (by decide +kernel) ⟨Nat.le_of_ble_eq_true rfl, Nat.le_of_ble_eq_true rfl⟩) hl rfl rfl (Nat.le_of_ble_eq_true rfl) ⟨Nat.zero_le _, Nat.zero_le _⟩ dX1_loan_98 (fun H locs hP hS => ?_)
                          refine lv_if_eq (tgt := 116) E.1 E.2.1 dX1_loan_101 (by decide) (fun h => ?_) (fun h => ?_)
                          · have hF := ite_t h hF
                            refine lv_iinc (v := y76_5 + 1) (lv' := [(5, .int (y76_5 + 1)), (0, .ref (B 0)), (1, .int x1), (2, .int x2), (3, .int x3), (4, .int y66_4)]) E.1 E.2.1 dX1_loan_116 hl (k := 5) rfl rfl (by decide) rfl (fun ls hl => ?_)
                            refine lv_goto (tgt := 76) E.1 E.2.1 dX1_loan_119 (by decide) ?_
                            exact ih (y76_5 + 1) r98.2 H locs ls hF hP hS (lv_sub hl [1, 2, 3, 4, 5, 0] rfl)
                          · have hF := ite_f h hF
                            exact K104 y66_4 y76_5 r98.2 H locs ls hF hP hS (lv_sub hl [3, 4, 5] rfl)
                  exact L76 FU (0 : Int32) z66 H locs ls hF hP hS (lv_sub hl [1, 2, 3, 4, 5, 0] rfl)
            exact L66 FU (1 : Int32) r43.2 H locs ls hF hP hS (lv_sub hl [1, 2, 3, 4, 0] rfl)
          · have hF := ite_t h hF
            refine lv_iload_n E.1 E.2.1 dX1_loan_52 rfl (lv_at hl 3 rfl) ?_
            refine lv_if_ne (tgt := 60) E.1 E.2.1 dX1_loan_53 (by decide) (fun h => ?_) (fun h => ?_)
            · have hF := ite_f h hF
              refine lv_bipush (v := (-9 : Int32)) E.1 E.2.1 dX1_loan_60 (by decide) ?_
              exact mk_iret E hr hlocks hP hS hF dX1_loan_62
            · have hF := ite_t h hF
              refine lv_iconst (v := (0 : Int32)) E.1 E.2.1 dX1_loan_56 (by decide) ?_
              refine lv_goto (tgt := 62) E.1 E.2.1 dX1_loan_57 (by decide) ?_
              exact mk_iret E hr hlocks hP hS hF dX1_loan_62
        · have hF := ite_t h hF
          refine lv_bipush (v := (-3 : Int32)) E.1 E.2.1 dX1_loan_38 (by decide) ?_
          exact mk_iret E hr hlocks hP hS hF dX1_loan_40
      · have hF := ite_t h hF
        refine lv_bipush (v := (-2 : Int32)) E.1 E.2.1 dX1_loan_27 (by decide) ?_
        exact mk_iret E hr hlocks hP hS hF dX1_loan_29
  · have hF := ite_t h hF
    refine lv_iconst (v := (-1 : Int32)) E.1 E.2.1 dX1_loan_8 (by decide) ?_
    exact mk_iret E hr hlocks hP hS hF dX1_loan_9
/-! DebtFerryModel.forgave(I)I -/
def m_forgave_L26 (x1 : Int32) : Nat → Int32 → Int32 → MZ → Option (Int32 × MZ)
  | 0, _, _, _ => none
  | n + 1, y26_2, y26_3, z26 =>
    if x1 < y26_3 then some (y26_2, (mz_f z26 19 (0 : Int32))) else if (y26_3 &&& (x1 ^^^ (-1 : Int32))) = 0 then jn (fun  (z56 : MZ) => (m_pullersOf x1 (mz_f z56 19 y26_3)).bind (fun r63 => jn (fun (v74_0 : Int32) (z74 : MZ) => m_forgave_L26 x1 n v74_0 (y26_3 + 1) z74) (fun (k74 : Int32 → MZ → Option (Int32 × MZ)) => if r63.1 = 0 then k74 y26_3 r63.2 else k74 y26_2 r63.2))) (fun (k56 : MZ → Option (Int32 × MZ)) => if y26_2 = (-9 : Int32) then k56  z26 else (m_size y26_3).bind (fun r46 => (m_size y26_2).bind (fun r50 => if r50 ≤ r46 then m_forgave_L26 x1 n y26_2 (y26_3 + 1) z26 else k56  z26))) else m_forgave_L26 x1 n y26_2 (y26_3 + 1) z26
def m_forgave (x1 : Int32) (z0 : MZ) : Option (Int32 × MZ) :=
  if (z0.1 5) = 0 then some ((-3 : Int32), z0) else (m_isSet x1 z0).bind (fun r12 => if r12.1 = 0 then some ((-2 : Int32), r12.2) else m_forgave_L26 x1 FU (-9 : Int32) (0 : Int32) r12.2)
abbrev rmX1_forgave : Room := { frames := 4, cells := 0, slots := 0, locals := 83 }
set_option maxHeartbeats 4000000 in
set_option maxRecDepth 100000 in
theorem mm_X1_forgave (l : Launch) {D : va_G} {cl : List vw_C} {ci : Nat} {d : ClassId} {B : Nat → Nat} {A : Nat → Prop} (hcl : cl[ci]? = some (RX1, TX1, 29)) (hB : ∀ z, va_D A (mW ci d B z)) (x1 : Int32) (z0 : MZ) (res : Int32 × MZ) (hF : m_forgave x1 z0 = some res) : Met l yX1_forgave (ws_ yX1_forgave cX1_forgave 4 (some .int)) rmX1_forgave (mPc D cl ci d B z0 [.int x1]) (mQ D cl ci d B A (some (.int res.1)) res.2) 0 0 A := by
  refine mk_start (A := A) (by decide) rfl (Nat.le_of_ble_eq_true rfl) ?_
  intro p e s m args below meth c H locs ls E hr hlocks hK hP hS hl
  have hl : lv_has ls 4 [(0, .ref (B 0)), (1, .int x1)] := hl
  unfold m_forgave at hF
  refine lv_aload_n E.1 E.2.1 dX1_forgave_0 rfl (lv_at hl 0 rfl) ?_
  refine mk_get E hcl hK hP 5 (by decide) q1115 rfl (v := .int (z0.1 5)) rfl dX1_forgave_1 ?_
  refine lv_if_ne (tgt := 10) E.1 E.2.1 dX1_forgave_4 (by decide) (fun h => ?_) (fun h => ?_)
  · have hF := ite_f h hF
    refine lv_aload_n E.1 E.2.1 dX1_forgave_10 rfl (lv_at hl 0 rfl) ?_
    refine lv_iload_n E.1 E.2.1 dX1_forgave_11 rfl (lv_at hl 1 rfl) ?_
    obtain ⟨r12, hq12, hF⟩ := bnd hF
    refine mk_call (As := [.int x1]) (rest := []) (v := (some (.int r12.1))) E hcl hK hP hS (mm_X1_isSet l hcl hB x1 z0 _ hq12) (cwV 1 E.2.2.2.2 (lw_V q1275 q1277 qs41 q58 q1278) rfl rfl rfl (by decide +kernel) ⟨Nat.le_of_ble_eq_true rfl, Nat.le_of_ble_eq_true rfl⟩) hl rfl rfl (Nat.le_of_ble_eq_true rfl) ⟨Nat.zero_le _, Nat.zero_le _⟩ dX1_forgave_12 (fun H locs hP hS => ?_)
    refine lv_if_ne (tgt := 21) E.1 E.2.1 dX1_forgave_15 (by decide) (fun h => ?_) (fun h => ?_)
    · have hF := ite_f h hF
      refine lv_bipush (v := (-9 : Int32)) E.1 E.2.1 dX1_forgave_21 (by decide) ?_
      refine lv_istore_n (lv' := [(2, .int (-9 : Int32)), (0, .ref (B 0)), (1, .int x1)]) E.1 E.2.1 dX1_forgave_23 rfl hl (by decide) rfl (fun ls hl => ?_)
      refine lv_iconst (v := (0 : Int32)) E.1 E.2.1 dX1_forgave_24 (by decide) ?_
      refine lv_istore_n (lv' := [(3, .int (0 : Int32)), (2, .int (-9 : Int32)), (0, .ref (B 0)), (1, .int x1)]) E.1 E.2.1 dX1_forgave_25 rfl hl (by decide) rfl (fun ls hl => ?_)
      have L26 : ∀ (n : Nat) (y26_2 : Int32) (y26_3 : Int32) (z26 : MZ) (H : Heap) (locs : List Loc) (ls : Array Slot), m_forgave_L26 x1 n y26_2 y26_3 z26 = some res → va_P D cl (mW ci d B z26) H → va_S A s.heap H locs → lv_has ls 4 [(0, .ref (B 0)), (1, .int x1), (2, .int y26_2), (3, .int y26_3)] → W p l e rmX1_forgave s m args below meth c H locs 0 0 (MQ below (mQ D cl ci d B A (some (.int res.1)) res.2) args s 0 0 A) (F0 m 26 ls []) := by
        intro n
        induction n with
        | zero =>
          intro y26_2 y26_3 z26 H locs ls hF
          rw [m_forgave_L26] at hF
          cases hF
        | succ n ih =>
          intro y26_2 y26_3 z26 H locs ls hF hP hS hl
          rw [m_forgave_L26] at hF
          refine lv_iload_n E.1 E.2.1 dX1_forgave_26 rfl (lv_at hl 3 rfl) ?_
          refine lv_iload_n E.1 E.2.1 dX1_forgave_27 rfl (lv_at hl 1 rfl) ?_
          refine lv_icmp_gt (tgt := 81) E.1 E.2.1 dX1_forgave_28 (by decide) (fun h => ?_) (fun h => ?_)
          · have hF := ite_t h hF
            refine lv_aload_n E.1 E.2.1 dX1_forgave_81 rfl (lv_at hl 0 rfl) ?_
            refine lv_iconst (v := (0 : Int32)) E.1 E.2.1 dX1_forgave_82 (by decide) ?_
            refine mk_put E hcl hB hK hP hS 19 rfl q1129 rfl dX1_forgave_83 (fun H locs hP hS => ?_)
            refine lv_iload_n E.1 E.2.1 dX1_forgave_86 rfl (lv_at hl 2 rfl) ?_
            exact mk_iret E hr hlocks hP hS hF dX1_forgave_87
          · have hF := ite_f h hF
            refine lv_iload_n E.1 E.2.1 dX1_forgave_31 rfl (lv_at hl 3 rfl) ?_
            refine lv_iload_n E.1 E.2.1 dX1_forgave_32 rfl (lv_at hl 1 rfl) ?_
            refine lv_iconst (v := (-1 : Int32)) E.1 E.2.1 dX1_forgave_33 (by decide) ?_
            refine lv_ixor E.1 E.2.1 dX1_forgave_34 ?_
            refine lv_iand E.1 E.2.1 dX1_forgave_35 ?_
            refine lv_if_ne (tgt := 75) E.1 E.2.1 dX1_forgave_36 (by decide) (fun h => ?_) (fun h => ?_)
            · have hF := ite_f h hF
              refine lv_iinc (v := y26_3 + 1) (lv' := [(3, .int (y26_3 + 1)), (0, .ref (B 0)), (1, .int x1), (2, .int y26_2)]) E.1 E.2.1 dX1_forgave_75 hl (k := 3) rfl rfl (by decide) rfl (fun ls hl => ?_)
              refine lv_goto (tgt := 26) E.1 E.2.1 dX1_forgave_78 (by decide) ?_
              exact ih y26_2 (y26_3 + 1) z26 H locs ls hF hP hS (lv_sub hl [1, 2, 3, 0] rfl)
            · have hF := ite_t h hF
              refine lv_iload_n E.1 E.2.1 dX1_forgave_39 rfl (lv_at hl 2 rfl) ?_
              refine lv_bipush (v := (-9 : Int32)) E.1 E.2.1 dX1_forgave_40 (by decide) ?_
              obtain ⟨k56, hk56, hF⟩ := jn_split hF
              have J56 : ∀  (z56 : MZ) (H : Heap) (locs : List Loc) (ls : Array Slot), k56  z56 = some res → va_P D cl (mW ci d B z56) H → va_S A s.heap H locs → lv_has ls 4 [(0, .ref (B 0)), (1, .int x1), (2, .int y26_2), (3, .int y26_3)] → W p l e rmX1_forgave s m args below meth c H locs 0 0 (MQ below (mQ D cl ci d B A (some (.int res.1)) res.2) args s 0 0 A) (F0 m 56 ls []) := by
                intro  z56 H locs ls hF hP hS hl
                rw [hk56] at hF
                refine lv_aload_n E.1 E.2.1 dX1_forgave_56 rfl (lv_at hl 0 rfl) ?_
                refine lv_iload_n E.1 E.2.1 dX1_forgave_57 rfl (lv_at hl 3 rfl) ?_
                refine mk_put E hcl hB hK hP hS 19 rfl q1129 rfl dX1_forgave_58 (fun H locs hP hS => ?_)
                refine lv_aload_n E.1 E.2.1 dX1_forgave_61 rfl (lv_at hl 0 rfl) ?_
                refine lv_iload_n E.1 E.2.1 dX1_forgave_62 rfl (lv_at hl 1 rfl) ?_
                obtain ⟨r63, hq63, hF⟩ := bnd hF
                refine mk_call (As := [.int x1]) (rest := []) (v := (some (.int r63.1))) E hcl hK hP hS (mm_X1_pullersOf l hcl hB x1 (mz_f z56 19 y26_3) _ hq63) (cwV 1 E.2.2.2.2 (lw_V q1290 q1292 qs43 q58 q1293) rfl rfl rfl (by decide +kernel) ⟨Nat.le_of_ble_eq_true rfl, Nat.le_of_ble_eq_true rfl⟩) hl rfl rfl (Nat.le_of_ble_eq_true rfl) ⟨Nat.zero_le _, Nat.zero_le _⟩ dX1_forgave_63 (fun H locs hP hS => ?_)
                obtain ⟨k74, hk74, hF⟩ := jn_split hF
                have J74 : ∀ (v74_0 : Int32) (z74 : MZ) (H : Heap) (locs : List Loc) (ls : Array Slot), k74 v74_0 z74 = some res → va_P D cl (mW ci d B z74) H → va_S A s.heap H locs → lv_has ls 4 [(0, .ref (B 0)), (1, .int x1), (3, .int y26_3)] → W p l e rmX1_forgave s m args below meth c H locs 0 0 (MQ below (mQ D cl ci d B A (some (.int res.1)) res.2) args s 0 0 A) (F0 m 74 ls [.int v74_0]) := by
                  intro v74_0 z74 H locs ls hF hP hS hl
                  rw [hk74] at hF
                  refine lv_istore_n (lv' := [(2, .int v74_0), (0, .ref (B 0)), (1, .int x1), (3, .int y26_3)]) E.1 E.2.1 dX1_forgave_74 rfl hl (by decide) rfl (fun ls hl => ?_)
                  refine lv_iinc (v := y26_3 + 1) (lv' := [(3, .int (y26_3 + 1)), (2, .int v74_0), (0, .ref (B 0)), (1, .int x1)]) E.1 E.2.1 dX1_forgave_75 hl (k := 3) rfl rfl (by decide) rfl (fun ls hl => ?_)
                  refine lv_goto (tgt := 26) E.1 E.2.1 dX1_forgave_78 (by decide) ?_
                  exact ih v74_0 (y26_3 + 1) z74 H locs ls hF hP hS (lv_sub hl [2, 3, 1, 0] rfl)
                refine lv_if_ne (tgt := 73) E.1 E.2.1 dX1_forgave_66 (by decide) (fun h => ?_) (fun h => ?_)
                · have hF := ite_f h hF
                  refine lv_iload_n E.1 E.2.1 dX1_forgave_73 rfl (lv_at hl 2 rfl) ?_
                  exact J74 y26_2 r63.2 H locs ls hF hP hS (lv_sub hl [0, 1, 3] rfl)
                · have hF := ite_t h hF
                  refine lv_iload_n E.1 E.2.1 dX1_forgave_69 rfl (lv_at hl 3 rfl) ?_
                  refine lv_goto (tgt := 74) E.1 E.2.1 dX1_forgave_70 (by decide) ?_
                  exact J74 y26_3 r63.2 H locs ls hF hP hS (lv_sub hl [0, 1, 3] rfl)
              refine lv_icmp_eq (tgt := 56) E.1 E.2.1 dX1_forgave_42 (by decide) (fun h => ?_) (fun h => ?_)
              · have hF := ite_t h hF
                exact J56  z26 H locs ls hF hP hS (lv_sub hl [0, 1, 2, 3] rfl)
              · have hF := ite_f h hF
                refine lv_iload_n E.1 E.2.1 dX1_forgave_45 rfl (lv_at hl 3 rfl) ?_
                obtain ⟨r46, hq46, hF⟩ := bnd hF
                refine px_call (As := [.int y26_3]) (rest := []) (v := .int r46) E (mm_X1_size l y26_3 _ hq46) (va_cwS 1 E.2.2.2.2 (lw_S q1302 q1303 q58 q1304) rfl rfl rfl (by decide +kernel) ⟨Nat.le_of_ble_eq_true rfl, Nat.le_of_ble_eq_true rfl⟩) hl rfl rfl (Nat.le_of_ble_eq_true rfl) ⟨Nat.zero_le _, Nat.zero_le _⟩ dX1_forgave_46 ?_
                refine lv_iload_n E.1 E.2.1 dX1_forgave_49 rfl (lv_at hl 2 rfl) ?_
                obtain ⟨r50, hq50, hF⟩ := bnd hF
                refine px_call (As := [.int y26_2]) (rest := [.int r46]) (v := .int r50) E (mm_X1_size l y26_2 _ hq50) (va_cwS 1 E.2.2.2.2 (lw_S q1302 q1303 q58 q1304) rfl rfl rfl (by decide +kernel) ⟨Nat.le_of_ble_eq_true rfl, Nat.le_of_ble_eq_true rfl⟩) hl rfl rfl (Nat.le_of_ble_eq_true rfl) ⟨Nat.zero_le _, Nat.zero_le _⟩ dX1_forgave_50 ?_
                refine lv_icmp_ge (tgt := 75) E.1 E.2.1 dX1_forgave_53 (by decide) (fun h => ?_) (fun h => ?_)
                · have hF := ite_t h hF
                  refine lv_iinc (v := y26_3 + 1) (lv' := [(3, .int (y26_3 + 1)), (0, .ref (B 0)), (1, .int x1), (2, .int y26_2)]) E.1 E.2.1 dX1_forgave_75 hl (k := 3) rfl rfl (by decide) rfl (fun ls hl => ?_)
                  refine lv_goto (tgt := 26) E.1 E.2.1 dX1_forgave_78 (by decide) ?_
                  exact ih y26_2 (y26_3 + 1) z26 H locs ls hF hP hS (lv_sub hl [1, 2, 3, 0] rfl)
                · have hF := ite_f h hF
                  exact J56  z26 H locs ls hF hP hS (lv_sub hl [0, 1, 2, 3] rfl)
      exact L26 FU (-9 : Int32) (0 : Int32) r12.2 H locs ls hF hP hS (lv_sub hl [2, 3, 1, 0] rfl)
    · have hF := ite_t h hF
      refine lv_bipush (v := (-2 : Int32)) E.1 E.2.1 dX1_forgave_18 (by decide) ?_
      exact mk_iret E hr hlocks hP hS hF dX1_forgave_20
  · have hF := ite_t h hF
    refine lv_bipush (v := (-3 : Int32)) E.1 E.2.1 dX1_forgave_7 (by decide) ?_
    exact mk_iret E hr hlocks hP hS hF dX1_forgave_9
/-! DebtFerryModel.reading(II)I -/
def m_reading (x1 : Int32) (x2 : Int32) (z0 : MZ) : Option (Int32 × MZ) :=
  if (z0.1 5) = 0 then some ((-3 : Int32), z0) else (m_isSet x1 z0).bind (fun r12 => if r12.1 = 0 then some ((-2 : Int32), r12.2) else if x2 < 0 then some ((-2 : Int32), r12.2) else if (x2 &&& (x1 ^^^ (-1 : Int32))) = 0 then if (r12.2.1 26) = (8 : Int32) then some ((-4 : Int32), r12.2) else gd (inb (r12.2.1 26) 8) (gd (inb ((mz_a r12.2 27 (r12.2.1 26).toNatClampNeg x1).1 26) 8) (some ((((mz_f (mz_a (mz_a r12.2 27 (r12.2.1 26).toNatClampNeg x1) 28 ((mz_a r12.2 27 (r12.2.1 26).toNatClampNeg x1).1 26).toNatClampNeg x2) 26 (((mz_a (mz_a r12.2 27 (r12.2.1 26).toNatClampNeg x1) 28 ((mz_a r12.2 27 (r12.2.1 26).toNatClampNeg x1).1 26).toNatClampNeg x2).1 26) + (1 : Int32))).1 26) - (1 : Int32)), (mz_f (mz_a (mz_a r12.2 27 (r12.2.1 26).toNatClampNeg x1) 28 ((mz_a r12.2 27 (r12.2.1 26).toNatClampNeg x1).1 26).toNatClampNeg x2) 26 (((mz_a (mz_a r12.2 27 (r12.2.1 26).toNatClampNeg x1) 28 ((mz_a r12.2 27 (r12.2.1 26).toNatClampNeg x1).1 26).toNatClampNeg x2).1 26) + (1 : Int32)))))) else some ((-2 : Int32), r12.2))
abbrev rmX1_reading : Room := { frames := 2, cells := 0, slots := 0, locals := 33 }
set_option maxHeartbeats 4000000 in
set_option maxRecDepth 100000 in
theorem mm_X1_reading (l : Launch) {D : va_G} {cl : List vw_C} {ci : Nat} {d : ClassId} {B : Nat → Nat} {A : Nat → Prop} (hcl : cl[ci]? = some (RX1, TX1, 29)) (hB : ∀ z, va_D A (mW ci d B z)) (x1 : Int32) (x2 : Int32) (z0 : MZ) (res : Int32 × MZ) (hF : m_reading x1 x2 z0 = some res) : Met l yX1_reading (ws_ yX1_reading cX1_reading 3 (some .int)) rmX1_reading (mPc D cl ci d B z0 [.int x1, .int x2]) (mQ D cl ci d B A (some (.int res.1)) res.2) 0 0 A := by
  refine mk_start (A := A) (by decide) rfl (Nat.le_of_ble_eq_true rfl) ?_
  intro p e s m args below meth c H locs ls E hr hlocks hK hP hS hl
  have hl : lv_has ls 3 [(0, .ref (B 0)), (1, .int x1), (2, .int x2)] := hl
  unfold m_reading at hF
  refine lv_aload_n E.1 E.2.1 dX1_reading_0 rfl (lv_at hl 0 rfl) ?_
  refine mk_get E hcl hK hP 5 (by decide) q1115 rfl (v := .int (z0.1 5)) rfl dX1_reading_1 ?_
  refine lv_if_ne (tgt := 10) E.1 E.2.1 dX1_reading_4 (by decide) (fun h => ?_) (fun h => ?_)
  · have hF := ite_f h hF
    refine lv_aload_n E.1 E.2.1 dX1_reading_10 rfl (lv_at hl 0 rfl) ?_
    refine lv_iload_n E.1 E.2.1 dX1_reading_11 rfl (lv_at hl 1 rfl) ?_
    obtain ⟨r12, hq12, hF⟩ := bnd hF
    refine mk_call (As := [.int x1]) (rest := []) (v := (some (.int r12.1))) E hcl hK hP hS (mm_X1_isSet l hcl hB x1 z0 _ hq12) (cwV 1 E.2.2.2.2 (lw_V q1275 q1277 qs41 q58 q1278) rfl rfl rfl (by decide +kernel) ⟨Nat.le_of_ble_eq_true rfl, Nat.le_of_ble_eq_true rfl⟩) hl rfl rfl (Nat.le_of_ble_eq_true rfl) ⟨Nat.zero_le _, Nat.zero_le _⟩ dX1_reading_12 (fun H locs hP hS => ?_)
    refine lv_if_eq (tgt := 30) E.1 E.2.1 dX1_reading_15 (by decide) (fun h => ?_) (fun h => ?_)
    · have hF := ite_t h hF
      refine lv_bipush (v := (-2 : Int32)) E.1 E.2.1 dX1_reading_30 (by decide) ?_
      exact mk_iret E hr hlocks hP hS hF dX1_reading_32
    · have hF := ite_f h hF
      refine lv_iload_n E.1 E.2.1 dX1_reading_18 rfl (lv_at hl 2 rfl) ?_
      refine lv_if_lt (tgt := 30) E.1 E.2.1 dX1_reading_19 (by decide) (fun h => ?_) (fun h => ?_)
      · have hF := ite_t h hF
        refine lv_bipush (v := (-2 : Int32)) E.1 E.2.1 dX1_reading_30 (by decide) ?_
        exact mk_iret E hr hlocks hP hS hF dX1_reading_32
      · have hF := ite_f h hF
        refine lv_iload_n E.1 E.2.1 dX1_reading_22 rfl (lv_at hl 2 rfl) ?_
        refine lv_iload_n E.1 E.2.1 dX1_reading_23 rfl (lv_at hl 1 rfl) ?_
        refine lv_iconst (v := (-1 : Int32)) E.1 E.2.1 dX1_reading_24 (by decide) ?_
        refine lv_ixor E.1 E.2.1 dX1_reading_25 ?_
        refine lv_iand E.1 E.2.1 dX1_reading_26 ?_
        refine lv_if_eq (tgt := 33) E.1 E.2.1 dX1_reading_27 (by decide) (fun h => ?_) (fun h => ?_)
        · have hF := ite_t h hF
          refine lv_aload_n E.1 E.2.1 dX1_reading_33 rfl (lv_at hl 0 rfl) ?_
          refine mk_get E hcl hK hP 26 (by decide) q1136 rfl (v := .int (r12.2.1 26)) rfl dX1_reading_34 ?_
          refine lv_bipush (v := (8 : Int32)) E.1 E.2.1 dX1_reading_37 (by decide) ?_
          refine lv_icmp_ne (tgt := 45) E.1 E.2.1 dX1_reading_39 (by decide) (fun h => ?_) (fun h => ?_)
          · have hF := ite_f h hF
            refine lv_aload_n E.1 E.2.1 dX1_reading_45 rfl (lv_at hl 0 rfl) ?_
            refine mk_get E hcl hK hP 27 (by decide) q1137 rfl (v := .ref (B 27)) rfl dX1_reading_46 ?_
            refine lv_aload_n E.1 E.2.1 dX1_reading_49 rfl (lv_at hl 0 rfl) ?_
            refine mk_get E hcl hK hP 26 (by decide) q1136 rfl (v := .int (r12.2.1 26)) rfl dX1_reading_50 ?_
            refine lv_iload_n E.1 E.2.1 dX1_reading_53 rfl (lv_at hl 1 rfl) ?_
            obtain ⟨h54, hF⟩ := gd_some hF
            refine mk_ast E hB hK hP hS (q := 12) (j := 27) (n := 8) rfl h54 dX1_reading_54 (fun H locs hP hS => ?_)
            refine lv_aload_n E.1 E.2.1 dX1_reading_55 rfl (lv_at hl 0 rfl) ?_
            refine mk_get E hcl hK hP 28 (by decide) q1138 rfl (v := .ref (B 28)) rfl dX1_reading_56 ?_
            refine lv_aload_n E.1 E.2.1 dX1_reading_59 rfl (lv_at hl 0 rfl) ?_
            refine mk_get E hcl hK hP 26 (by decide) q1136 rfl (v := .int ((mz_a r12.2 27 (r12.2.1 26).toNatClampNeg x1).1 26)) rfl dX1_reading_60 ?_
            refine lv_iload_n E.1 E.2.1 dX1_reading_63 rfl (lv_at hl 2 rfl) ?_
            obtain ⟨h64, hF⟩ := gd_some hF
            refine mk_ast E hB hK hP hS (q := 13) (j := 28) (n := 8) rfl h64 dX1_reading_64 (fun H locs hP hS => ?_)
            refine lv_aload_n E.1 E.2.1 dX1_reading_65 rfl (lv_at hl 0 rfl) ?_
            refine lv_dup E.1 E.2.1 dX1_reading_66 rfl ?_
            refine mk_get E hcl hK hP 26 (by decide) q1136 rfl (v := .int ((mz_a (mz_a r12.2 27 (r12.2.1 26).toNatClampNeg x1) 28 ((mz_a r12.2 27 (r12.2.1 26).toNatClampNeg x1).1 26).toNatClampNeg x2).1 26)) rfl dX1_reading_67 ?_
            refine lv_iconst (v := (1 : Int32)) E.1 E.2.1 dX1_reading_70 (by decide) ?_
            refine lv_iadd E.1 E.2.1 dX1_reading_71 ?_
            refine mk_put E hcl hB hK hP hS 26 rfl q1136 rfl dX1_reading_72 (fun H locs hP hS => ?_)
            refine lv_aload_n E.1 E.2.1 dX1_reading_75 rfl (lv_at hl 0 rfl) ?_
            refine mk_get E hcl hK hP 26 (by decide) q1136 rfl (v := .int ((mz_f (mz_a (mz_a r12.2 27 (r12.2.1 26).toNatClampNeg x1) 28 ((mz_a r12.2 27 (r12.2.1 26).toNatClampNeg x1).1 26).toNatClampNeg x2) 26 (((mz_a (mz_a r12.2 27 (r12.2.1 26).toNatClampNeg x1) 28 ((mz_a r12.2 27 (r12.2.1 26).toNatClampNeg x1).1 26).toNatClampNeg x2).1 26) + (1 : Int32))).1 26)) rfl dX1_reading_76 ?_
            refine lv_iconst (v := (1 : Int32)) E.1 E.2.1 dX1_reading_79 (by decide) ?_
            refine lv_isub E.1 E.2.1 dX1_reading_80 ?_
            exact mk_iret E hr hlocks hP hS hF dX1_reading_81
          · have hF := ite_t h hF
            refine lv_bipush (v := (-4 : Int32)) E.1 E.2.1 dX1_reading_42 (by decide) ?_
            exact mk_iret E hr hlocks hP hS hF dX1_reading_44
        · have hF := ite_f h hF
          refine lv_bipush (v := (-2 : Int32)) E.1 E.2.1 dX1_reading_30 (by decide) ?_
          exact mk_iret E hr hlocks hP hS hF dX1_reading_32
  · have hF := ite_t h hF
    refine lv_bipush (v := (-3 : Int32)) E.1 E.2.1 dX1_reading_7 (by decide) ?_
    exact mk_iret E hr hlocks hP hS hF dX1_reading_9
/-! DebtFerryModel.back(I)I -/
def m_back (x1 : Int32) (z0 : MZ) : Option (Int32 × MZ) :=
  (m_within x1 (0 : Int32) (z0.1 26)).bind (fun r6 => if r6 = 0 then some ((-2 : Int32), z0) else some (((mz_f z0 26 ((z0.1 26) - x1)).1 26), (mz_f z0 26 ((z0.1 26) - x1))))
abbrev rmX1_back : Room := { frames := 2, cells := 0, slots := 0, locals := 34 }
set_option maxHeartbeats 4000000 in
set_option maxRecDepth 100000 in
theorem mm_X1_back (l : Launch) {D : va_G} {cl : List vw_C} {ci : Nat} {d : ClassId} {B : Nat → Nat} {A : Nat → Prop} (hcl : cl[ci]? = some (RX1, TX1, 29)) (hB : ∀ z, va_D A (mW ci d B z)) (x1 : Int32) (z0 : MZ) (res : Int32 × MZ) (hF : m_back x1 z0 = some res) : Met l yX1_back (ws_ yX1_back cX1_back 2 (some .int)) rmX1_back (mPc D cl ci d B z0 [.int x1]) (mQ D cl ci d B A (some (.int res.1)) res.2) 0 0 A := by
  refine mk_start (A := A) (by decide) rfl (Nat.le_of_ble_eq_true rfl) ?_
  intro p e s m args below meth c H locs ls E hr hlocks hK hP hS hl
  have hl : lv_has ls 2 [(0, .ref (B 0)), (1, .int x1)] := hl
  unfold m_back at hF
  refine lv_iload_n E.1 E.2.1 dX1_back_0 rfl (lv_at hl 1 rfl) ?_
  refine lv_iconst (v := (0 : Int32)) E.1 E.2.1 dX1_back_1 (by decide) ?_
  refine lv_aload_n E.1 E.2.1 dX1_back_2 rfl (lv_at hl 0 rfl) ?_
  refine mk_get E hcl hK hP 26 (by decide) q1136 rfl (v := .int (z0.1 26)) rfl dX1_back_3 ?_
  obtain ⟨r6, hq6, hF⟩ := bnd hF
  refine px_call (As := [.int x1, .int (0 : Int32), .int (z0.1 26)]) (rest := []) (v := .int r6) E (mm_X1_within l x1 (0 : Int32) (z0.1 26) _ hq6) (va_cwS 3 E.2.2.2.2 (lw_S q1205 q1206 q58 q1207) rfl rfl rfl (by decide +kernel) ⟨Nat.le_of_ble_eq_true rfl, Nat.le_of_ble_eq_true rfl⟩) hl rfl rfl (Nat.le_of_ble_eq_true rfl) ⟨Nat.zero_le _, Nat.zero_le _⟩ dX1_back_6 ?_
  refine lv_if_ne (tgt := 15) E.1 E.2.1 dX1_back_9 (by decide) (fun h => ?_) (fun h => ?_)
  · have hF := ite_f h hF
    refine lv_aload_n E.1 E.2.1 dX1_back_15 rfl (lv_at hl 0 rfl) ?_
    refine lv_dup E.1 E.2.1 dX1_back_16 rfl ?_
    refine mk_get E hcl hK hP 26 (by decide) q1136 rfl (v := .int (z0.1 26)) rfl dX1_back_17 ?_
    refine lv_iload_n E.1 E.2.1 dX1_back_20 rfl (lv_at hl 1 rfl) ?_
    refine lv_isub E.1 E.2.1 dX1_back_21 ?_
    refine mk_put E hcl hB hK hP hS 26 rfl q1136 rfl dX1_back_22 (fun H locs hP hS => ?_)
    refine lv_aload_n E.1 E.2.1 dX1_back_25 rfl (lv_at hl 0 rfl) ?_
    refine mk_get E hcl hK hP 26 (by decide) q1136 rfl (v := .int ((mz_f z0 26 ((z0.1 26) - x1)).1 26)) rfl dX1_back_26 ?_
    exact mk_iret E hr hlocks hP hS hF dX1_back_29
  · have hF := ite_t h hF
    refine lv_bipush (v := (-2 : Int32)) E.1 E.2.1 dX1_back_12 (by decide) ?_
    exact mk_iret E hr hlocks hP hS hF dX1_back_14
/-! DebtFerryModel.areSo()Z -/
def m_areSo_L2 : Nat → Int32 → MZ → Option (Int32 × MZ)
  | 0, _, _ => none
  | n + 1, y2_1, z2 =>
    if (z2.1 26) ≤ y2_1 then (zr (1 : Int32)).bind (fun r => some (r, z2)) else gd (inb y2_1 8) ((m_pullersOf (z2.2 27 y2_1.toNatClampNeg) z2).bind (fun r17 => gd (inb y2_1 8) (if r17.1 = (r17.2.2 28 y2_1.toNatClampNeg) then m_areSo_L2 n (y2_1 + 1) r17.2 else (zr (0 : Int32)).bind (fun r => some (r, r17.2)))))
def m_areSo  (z0 : MZ) : Option (Int32 × MZ) :=
  m_areSo_L2 FU (0 : Int32) z0
abbrev rmX1_areSo : Room := { frames := 4, cells := 0, slots := 0, locals := 83 }
set_option maxHeartbeats 4000000 in
set_option maxRecDepth 100000 in
theorem mm_X1_areSo (l : Launch) {D : va_G} {cl : List vw_C} {ci : Nat} {d : ClassId} {B : Nat → Nat} {A : Nat → Prop} (hcl : cl[ci]? = some (RX1, TX1, 29)) (hB : ∀ z, va_D A (mW ci d B z))  (z0 : MZ) (res : Int32 × MZ) (hF : m_areSo  z0 = some res) : Met l yX1_areSo (ws_ yX1_areSo cX1_areSo 2 (some .boolean)) rmX1_areSo (mPc D cl ci d B z0 []) (mQ D cl ci d B A (some (.int res.1)) res.2) 0 0 A := by
  refine mk_start (A := A) (by decide) rfl (Nat.le_of_ble_eq_true rfl) ?_
  intro p e s m args below meth c H locs ls E hr hlocks hK hP hS hl
  have hl : lv_has ls 2 [(0, .ref (B 0))] := hl
  unfold m_areSo at hF
  refine lv_iconst (v := (0 : Int32)) E.1 E.2.1 dX1_areSo_0 (by decide) ?_
  refine lv_istore_n (lv' := [(1, .int (0 : Int32)), (0, .ref (B 0))]) E.1 E.2.1 dX1_areSo_1 rfl hl (by decide) rfl (fun ls hl => ?_)
  have L2 : ∀ (n : Nat) (y2_1 : Int32) (z2 : MZ) (H : Heap) (locs : List Loc) (ls : Array Slot), m_areSo_L2 n y2_1 z2 = some res → va_P D cl (mW ci d B z2) H → va_S A s.heap H locs → lv_has ls 2 [(0, .ref (B 0)), (1, .int y2_1)] → W p l e rmX1_areSo s m args below meth c H locs 0 0 (MQ below (mQ D cl ci d B A (some (.int res.1)) res.2) args s 0 0 A) (F0 m 2 ls []) := by
    intro n
    induction n with
    | zero =>
      intro y2_1 z2 H locs ls hF
      rw [m_areSo_L2] at hF
      cases hF
    | succ n ih =>
      intro y2_1 z2 H locs ls hF hP hS hl
      rw [m_areSo_L2] at hF
      refine lv_iload_n E.1 E.2.1 dX1_areSo_2 rfl (lv_at hl 1 rfl) ?_
      refine lv_aload_n E.1 E.2.1 dX1_areSo_3 rfl (lv_at hl 0 rfl) ?_
      refine mk_get E hcl hK hP 26 (by decide) q1136 rfl (v := .int (z2.1 26)) rfl dX1_areSo_4 ?_
      refine lv_icmp_ge (tgt := 37) E.1 E.2.1 dX1_areSo_7 (by decide) (fun h => ?_) (fun h => ?_)
      · have hF := ite_t h hF
        refine lv_iconst (v := (1 : Int32)) E.1 E.2.1 dX1_areSo_37 (by decide) ?_
        exact mk_zret E hr hlocks hP hS hF dX1_areSo_38
      · have hF := ite_f h hF
        refine lv_aload_n E.1 E.2.1 dX1_areSo_10 rfl (lv_at hl 0 rfl) ?_
        refine lv_aload_n E.1 E.2.1 dX1_areSo_11 rfl (lv_at hl 0 rfl) ?_
        refine mk_get E hcl hK hP 27 (by decide) q1137 rfl (v := .ref (B 27)) rfl dX1_areSo_12 ?_
        refine lv_iload_n E.1 E.2.1 dX1_areSo_15 rfl (lv_at hl 1 rfl) ?_
        obtain ⟨h16, hF⟩ := gd_some hF
        refine mk_ald E hK hP (q := 12) (j := 27) (n := 8) rfl h16 dX1_areSo_16 ?_
        obtain ⟨r17, hq17, hF⟩ := bnd hF
        refine mk_call (As := [.int (z2.2 27 y2_1.toNatClampNeg)]) (rest := []) (v := (some (.int r17.1))) E hcl hK hP hS (mm_X1_pullersOf l hcl hB (z2.2 27 y2_1.toNatClampNeg) z2 _ hq17) (cwV 1 E.2.2.2.2 (lw_V q1290 q1292 qs43 q58 q1293) rfl rfl rfl (by decide +kernel) ⟨Nat.le_of_ble_eq_true rfl, Nat.le_of_ble_eq_true rfl⟩) hl rfl rfl (Nat.le_of_ble_eq_true rfl) ⟨Nat.zero_le _, Nat.zero_le _⟩ dX1_areSo_17 (fun H locs hP hS => ?_)
        refine lv_aload_n E.1 E.2.1 dX1_areSo_20 rfl (lv_at hl 0 rfl) ?_
        refine mk_get E hcl hK hP 28 (by decide) q1138 rfl (v := .ref (B 28)) rfl dX1_areSo_21 ?_
        refine lv_iload_n E.1 E.2.1 dX1_areSo_24 rfl (lv_at hl 1 rfl) ?_
        obtain ⟨h25, hF⟩ := gd_some hF
        refine mk_ald E hK hP (q := 13) (j := 28) (n := 8) rfl h25 dX1_areSo_25 ?_
        refine lv_icmp_eq (tgt := 31) E.1 E.2.1 dX1_areSo_26 (by decide) (fun h => ?_) (fun h => ?_)
        · have hF := ite_t h hF
          refine lv_iinc (v := y2_1 + 1) (lv' := [(1, .int (y2_1 + 1)), (0, .ref (B 0))]) E.1 E.2.1 dX1_areSo_31 hl (k := 1) rfl rfl (by decide) rfl (fun ls hl => ?_)
          refine lv_goto (tgt := 2) E.1 E.2.1 dX1_areSo_34 (by decide) ?_
          exact ih (y2_1 + 1) r17.2 H locs ls hF hP hS (lv_sub hl [1, 0] rfl)
        · have hF := ite_f h hF
          refine lv_iconst (v := (0 : Int32)) E.1 E.2.1 dX1_areSo_29 (by decide) ?_
          exact mk_zret E hr hlocks hP hS hF dX1_areSo_30
  exact L2 FU (0 : Int32) z0 H locs ls hF hP hS (lv_sub hl [1, 0] rfl)
/-! DebtFerryModel.notes(II)I -/
def m_notes_L28 (k73 : Int32 → Int32 → MZ → Option (Int32 × MZ)) (x1 : Int32) (x2 : Int32) : Nat → Int32 → Int32 → Int32 → MZ → Option (Int32 × MZ)
  | 0, _, _, _, _ => none
  | n + 1, y28_3, y28_4, y28_5, z28 =>
    if (9 : Int32) < y28_5 then k73 y28_3 y28_4 z28 else gd (inb (((5 : Int32) * x1) + x2) 25) ((m_areSo  (mz_a z28 10 (((5 : Int32) * x1) + x2).toNatClampNeg y28_5)).bind (fun r50 => jn (fun (v64_0 : Int32) (z64 : MZ) => m_notes_L28 k73 x1 x2 n y28_3 (y28_4 ||| v64_0) (y28_5 + 1) z64) (fun (k64 : Int32 → MZ → Option (Int32 × MZ)) => if r50.1 = 0 then k64 (0 : Int32) r50.2 else k64 ((1 : Int32) <<< (y28_5 &&& 31)) r50.2)))
def m_notes (x1 : Int32) (x2 : Int32) (z0 : MZ) : Option (Int32 × MZ) :=
  (m_isNote x1 x2 z0).bind (fun r3 => if r3.1 = 0 then some ((-1 : Int32), r3.2) else gd (inb (((5 : Int32) * x1) + x2) 25) (m_notes_L28 (fun (y28_3 : Int32) (y28_4 : Int32) (z28 : MZ) => gd (inb (((5 : Int32) * x1) + x2) 25) (some (y28_4, (mz_a z28 10 (((5 : Int32) * x1) + x2).toNatClampNeg y28_3)))) x1 x2 FU (r3.2.2 10 (((5 : Int32) * x1) + x2).toNatClampNeg) (0 : Int32) (0 : Int32) r3.2))
abbrev rmX1_notes : Room := { frames := 5, cells := 0, slots := 0, locals := 104 }
set_option maxHeartbeats 4000000 in
set_option maxRecDepth 100000 in
theorem mm_X1_notes (l : Launch) {D : va_G} {cl : List vw_C} {ci : Nat} {d : ClassId} {B : Nat → Nat} {A : Nat → Prop} (hcl : cl[ci]? = some (RX1, TX1, 29)) (hB : ∀ z, va_D A (mW ci d B z)) (x1 : Int32) (x2 : Int32) (z0 : MZ) (res : Int32 × MZ) (hF : m_notes x1 x2 z0 = some res) : Met l yX1_notes (ws_ yX1_notes cX1_notes 6 (some .int)) rmX1_notes (mPc D cl ci d B z0 [.int x1, .int x2]) (mQ D cl ci d B A (some (.int res.1)) res.2) 0 0 A := by
  refine mk_start (A := A) (by decide) rfl (Nat.le_of_ble_eq_true rfl) ?_
  intro p e s m args below meth c H locs ls E hr hlocks hK hP hS hl
  have hl : lv_has ls 6 [(0, .ref (B 0)), (1, .int x1), (2, .int x2)] := hl
  unfold m_notes at hF
  refine lv_aload_n E.1 E.2.1 dX1_notes_0 rfl (lv_at hl 0 rfl) ?_
  refine lv_iload_n E.1 E.2.1 dX1_notes_1 rfl (lv_at hl 1 rfl) ?_
  refine lv_iload_n E.1 E.2.1 dX1_notes_2 rfl (lv_at hl 2 rfl) ?_
  obtain ⟨r3, hq3, hF⟩ := bnd hF
  refine mk_call (As := [.int x1, .int x2]) (rest := []) (v := (some (.int r3.1))) E hcl hK hP hS (mm_X1_isNote l hcl hB x1 x2 z0 _ hq3) (cwV 2 E.2.2.2.2 (lw_V q1259 q1261 qs40 q58 q1262) rfl rfl rfl (by decide +kernel) ⟨Nat.le_of_ble_eq_true rfl, Nat.le_of_ble_eq_true rfl⟩) hl rfl rfl (Nat.le_of_ble_eq_true rfl) ⟨Nat.zero_le _, Nat.zero_le _⟩ dX1_notes_3 (fun H locs hP hS => ?_)
  refine lv_if_ne (tgt := 11) E.1 E.2.1 dX1_notes_6 (by decide) (fun h => ?_) (fun h => ?_)
  · have hF := ite_f h hF
    refine lv_aload_n E.1 E.2.1 dX1_notes_11 rfl (lv_at hl 0 rfl) ?_
    refine mk_get E hcl hK hP 10 (by decide) q1120 rfl (v := .ref (B 10)) rfl dX1_notes_12 ?_
    refine lv_iconst (v := (5 : Int32)) E.1 E.2.1 dX1_notes_15 (by decide) ?_
    refine lv_iload_n E.1 E.2.1 dX1_notes_16 rfl (lv_at hl 1 rfl) ?_
    refine lv_imul E.1 E.2.1 dX1_notes_17 ?_
    refine lv_iload_n E.1 E.2.1 dX1_notes_18 rfl (lv_at hl 2 rfl) ?_
    refine lv_iadd E.1 E.2.1 dX1_notes_19 ?_
    obtain ⟨h20, hF⟩ := gd_some hF
    refine mk_ald E hK hP (q := 6) (j := 10) (n := 25) rfl h20 dX1_notes_20 ?_
    refine lv_istore_n (lv' := [(3, .int (r3.2.2 10 (((5 : Int32) * x1) + x2).toNatClampNeg)), (0, .ref (B 0)), (1, .int x1), (2, .int x2)]) E.1 E.2.1 dX1_notes_21 rfl hl (by decide) rfl (fun ls hl => ?_)
    refine lv_iconst (v := (0 : Int32)) E.1 E.2.1 dX1_notes_22 (by decide) ?_
    refine lv_istore (lv' := [(4, .int (0 : Int32)), (3, .int (r3.2.2 10 (((5 : Int32) * x1) + x2).toNatClampNeg)), (0, .ref (B 0)), (1, .int x1), (2, .int x2)]) E.1 E.2.1 dX1_notes_23 hl (by decide) rfl (fun ls hl => ?_)
    refine lv_iconst (v := (0 : Int32)) E.1 E.2.1 dX1_notes_25 (by decide) ?_
    refine lv_istore (lv' := [(5, .int (0 : Int32)), (4, .int (0 : Int32)), (3, .int (r3.2.2 10 (((5 : Int32) * x1) + x2).toNatClampNeg)), (0, .ref (B 0)), (1, .int x1), (2, .int x2)]) E.1 E.2.1 dX1_notes_26 hl (by decide) rfl (fun ls hl => ?_)
    obtain ⟨k73, hk73, hF⟩ : ∃ k73, k73 = _ ∧ m_notes_L28 k73 x1 x2 FU (r3.2.2 10 (((5 : Int32) * x1) + x2).toNatClampNeg) (0 : Int32) (0 : Int32) r3.2 = some res := ⟨_, rfl, hF⟩
    have K73 : ∀ (y28_3 : Int32) (y28_4 : Int32) (z28 : MZ) (H : Heap) (locs : List Loc) (ls : Array Slot), k73 y28_3 y28_4 z28 = some res → va_P D cl (mW ci d B z28) H → va_S A s.heap H locs → lv_has ls 6 [(0, .ref (B 0)), (1, .int x1), (2, .int x2), (3, .int y28_3), (4, .int y28_4)] → W p l e rmX1_notes s m args below meth c H locs 0 0 (MQ below (mQ D cl ci d B A (some (.int res.1)) res.2) args s 0 0 A) (F0 m 73 ls []) := by
      intro y28_3 y28_4 z28 H locs ls hF hP hS hl
      rw [hk73] at hF
      refine lv_aload_n E.1 E.2.1 dX1_notes_73 rfl (lv_at hl 0 rfl) ?_
      refine mk_get E hcl hK hP 10 (by decide) q1120 rfl (v := .ref (B 10)) rfl dX1_notes_74 ?_
      refine lv_iconst (v := (5 : Int32)) E.1 E.2.1 dX1_notes_77 (by decide) ?_
      refine lv_iload_n E.1 E.2.1 dX1_notes_78 rfl (lv_at hl 1 rfl) ?_
      refine lv_imul E.1 E.2.1 dX1_notes_79 ?_
      refine lv_iload_n E.1 E.2.1 dX1_notes_80 rfl (lv_at hl 2 rfl) ?_
      refine lv_iadd E.1 E.2.1 dX1_notes_81 ?_
      refine lv_iload_n E.1 E.2.1 dX1_notes_82 rfl (lv_at hl 3 rfl) ?_
      obtain ⟨h83, hF⟩ := gd_some hF
      refine mk_ast E hB hK hP hS (q := 6) (j := 10) (n := 25) rfl h83 dX1_notes_83 (fun H locs hP hS => ?_)
      refine lv_iload E.1 E.2.1 dX1_notes_84 (lv_at hl 4 rfl) ?_
      exact mk_iret E hr hlocks hP hS hF dX1_notes_86
    have L28 : ∀ (n : Nat) (y28_3 : Int32) (y28_4 : Int32) (y28_5 : Int32) (z28 : MZ) (H : Heap) (locs : List Loc) (ls : Array Slot), m_notes_L28 k73 x1 x2 n y28_3 y28_4 y28_5 z28 = some res → va_P D cl (mW ci d B z28) H → va_S A s.heap H locs → lv_has ls 6 [(0, .ref (B 0)), (1, .int x1), (2, .int x2), (3, .int y28_3), (4, .int y28_4), (5, .int y28_5)] → W p l e rmX1_notes s m args below meth c H locs 0 0 (MQ below (mQ D cl ci d B A (some (.int res.1)) res.2) args s 0 0 A) (F0 m 28 ls []) := by
      intro n
      induction n with
      | zero =>
        intro y28_3 y28_4 y28_5 z28 H locs ls hF
        rw [m_notes_L28] at hF
        cases hF
      | succ n ih =>
        intro y28_3 y28_4 y28_5 z28 H locs ls hF hP hS hl
        rw [m_notes_L28] at hF
        refine lv_iload E.1 E.2.1 dX1_notes_28 (lv_at hl 5 rfl) ?_
        refine lv_bipush (v := (9 : Int32)) E.1 E.2.1 dX1_notes_30 (by decide) ?_
        refine lv_icmp_gt (tgt := 73) E.1 E.2.1 dX1_notes_32 (by decide) (fun h => ?_) (fun h => ?_)
        · have hF := ite_t h hF
          exact K73 y28_3 y28_4 z28 H locs ls hF hP hS (lv_sub hl [0, 1, 2, 3, 4] rfl)
        · have hF := ite_f h hF
          refine lv_aload_n E.1 E.2.1 dX1_notes_35 rfl (lv_at hl 0 rfl) ?_
          refine mk_get E hcl hK hP 10 (by decide) q1120 rfl (v := .ref (B 10)) rfl dX1_notes_36 ?_
          refine lv_iconst (v := (5 : Int32)) E.1 E.2.1 dX1_notes_39 (by decide) ?_
          refine lv_iload_n E.1 E.2.1 dX1_notes_40 rfl (lv_at hl 1 rfl) ?_
          refine lv_imul E.1 E.2.1 dX1_notes_41 ?_
          refine lv_iload_n E.1 E.2.1 dX1_notes_42 rfl (lv_at hl 2 rfl) ?_
          refine lv_iadd E.1 E.2.1 dX1_notes_43 ?_
          refine lv_iload E.1 E.2.1 dX1_notes_44 (lv_at hl 5 rfl) ?_
          obtain ⟨h46, hF⟩ := gd_some hF
          refine mk_ast E hB hK hP hS (q := 6) (j := 10) (n := 25) rfl h46 dX1_notes_46 (fun H locs hP hS => ?_)
          refine lv_iload E.1 E.2.1 dX1_notes_47 (lv_at hl 4 rfl) ?_
          refine lv_aload_n E.1 E.2.1 dX1_notes_49 rfl (lv_at hl 0 rfl) ?_
          obtain ⟨r50, hq50, hF⟩ := bnd hF
          refine mk_call (As := []) (rest := [.int y28_4]) (v := (some (.int r50.1))) E hcl hK hP hS (mm_X1_areSo l hcl hB  (mz_a z28 10 (((5 : Int32) * x1) + x2).toNatClampNeg y28_5) _ hq50) (cwV 0 E.2.2.2.2 (lw_V q1353 q1355 qs50 q58 q1356) rfl rfl rfl (by decide +kernel) ⟨Nat.le_of_ble_eq_true rfl, Nat.le_of_ble_eq_true rfl⟩) hl rfl rfl (Nat.le_of_ble_eq_true rfl) ⟨Nat.zero_le _, Nat.zero_le _⟩ dX1_notes_50 (fun H locs hP hS => ?_)
          obtain ⟨k64, hk64, hF⟩ := jn_split hF
          have J64 : ∀ (v64_0 : Int32) (z64 : MZ) (H : Heap) (locs : List Loc) (ls : Array Slot), k64 v64_0 z64 = some res → va_P D cl (mW ci d B z64) H → va_S A s.heap H locs → lv_has ls 6 [(0, .ref (B 0)), (1, .int x1), (2, .int x2), (3, .int y28_3), (5, .int y28_5)] → W p l e rmX1_notes s m args below meth c H locs 0 0 (MQ below (mQ D cl ci d B A (some (.int res.1)) res.2) args s 0 0 A) (F0 m 64 ls [.int v64_0, .int y28_4]) := by
            intro v64_0 z64 H locs ls hF hP hS hl
            rw [hk64] at hF
            refine lv_ior E.1 E.2.1 dX1_notes_64 ?_
            refine lv_istore (lv' := [(4, .int (y28_4 ||| v64_0)), (0, .ref (B 0)), (1, .int x1), (2, .int x2), (3, .int y28_3), (5, .int y28_5)]) E.1 E.2.1 dX1_notes_65 hl (by decide) rfl (fun ls hl => ?_)
            refine lv_iinc (v := y28_5 + 1) (lv' := [(5, .int (y28_5 + 1)), (4, .int (y28_4 ||| v64_0)), (0, .ref (B 0)), (1, .int x1), (2, .int x2), (3, .int y28_3)]) E.1 E.2.1 dX1_notes_67 hl (k := 5) rfl rfl (by decide) rfl (fun ls hl => ?_)
            refine lv_goto (tgt := 28) E.1 E.2.1 dX1_notes_70 (by decide) ?_
            exact ih y28_3 (y28_4 ||| v64_0) (y28_5 + 1) z64 H locs ls hF hP hS (lv_sub hl [2, 3, 4, 5, 1, 0] rfl)
          refine lv_if_eq (tgt := 63) E.1 E.2.1 dX1_notes_53 (by decide) (fun h => ?_) (fun h => ?_)
          · have hF := ite_t h hF
            refine lv_iconst (v := (0 : Int32)) E.1 E.2.1 dX1_notes_63 (by decide) ?_
            exact J64 (0 : Int32) r50.2 H locs ls hF hP hS (lv_sub hl [0, 1, 2, 3, 5] rfl)
          · have hF := ite_f h hF
            refine lv_iconst (v := (1 : Int32)) E.1 E.2.1 dX1_notes_56 (by decide) ?_
            refine lv_iload E.1 E.2.1 dX1_notes_57 (lv_at hl 5 rfl) ?_
            refine lv_ishl E.1 E.2.1 dX1_notes_59 ?_
            refine lv_goto (tgt := 64) E.1 E.2.1 dX1_notes_60 (by decide) ?_
            exact J64 ((1 : Int32) <<< (y28_5 &&& 31)) r50.2 H locs ls hF hP hS (lv_sub hl [0, 1, 2, 3, 5] rfl)
    exact L28 FU (r3.2.2 10 (((5 : Int32) * x1) + x2).toNatClampNeg) (0 : Int32) (0 : Int32) r3.2 H locs ls hF hP hS (lv_sub hl [3, 4, 5, 2, 1, 0] rfl)
  · have hF := ite_t h hF
    refine lv_iconst (v := (-1 : Int32)) E.1 E.2.1 dX1_notes_9 (by decide) ?_
    exact mk_iret E hr hlocks hP hS hF dX1_notes_10
/-! DebtFerryModel.kinds(I)I -/
def m_kinds_L22 (x1 : Int32) : Nat → Int32 → Int32 → Int32 → MZ → Option (Int32 × MZ)
  | 0, _, _, _, _ => none
  | n + 1, y22_2, y22_3, y22_4, z22 =>
    if (3 : Int32) ≤ y22_4 then gd (inb x1 5) (some (y22_3, (mz_a z22 8 x1.toNatClampNeg y22_2))) else gd (inb x1 5) ((m_areSo  (mz_a z22 8 x1.toNatClampNeg y22_4)).bind (fun r38 => jn (fun (v52_0 : Int32) (z52 : MZ) => m_kinds_L22 x1 n y22_2 (y22_3 ||| v52_0) (y22_4 + 1) z52) (fun (k52 : Int32 → MZ → Option (Int32 × MZ)) => if r38.1 = 0 then k52 (0 : Int32) r38.2 else k52 ((1 : Int32) <<< (y22_4 &&& 31)) r38.2)))
def m_kinds (x1 : Int32) (z0 : MZ) : Option (Int32 × MZ) :=
  (m_isPerson x1 z0).bind (fun r2 => if r2.1 = 0 then some ((-1 : Int32), r2.2) else gd (inb x1 5) (m_kinds_L22 x1 FU (r2.2.2 8 x1.toNatClampNeg) (0 : Int32) (0 : Int32) r2.2))
abbrev rmX1_kinds : Room := { frames := 5, cells := 0, slots := 0, locals := 104 }
set_option maxHeartbeats 4000000 in
set_option maxRecDepth 100000 in
theorem mm_X1_kinds (l : Launch) {D : va_G} {cl : List vw_C} {ci : Nat} {d : ClassId} {B : Nat → Nat} {A : Nat → Prop} (hcl : cl[ci]? = some (RX1, TX1, 29)) (hB : ∀ z, va_D A (mW ci d B z)) (x1 : Int32) (z0 : MZ) (res : Int32 × MZ) (hF : m_kinds x1 z0 = some res) : Met l yX1_kinds (ws_ yX1_kinds cX1_kinds 5 (some .int)) rmX1_kinds (mPc D cl ci d B z0 [.int x1]) (mQ D cl ci d B A (some (.int res.1)) res.2) 0 0 A := by
  refine mk_start (A := A) (by decide) rfl (Nat.le_of_ble_eq_true rfl) ?_
  intro p e s m args below meth c H locs ls E hr hlocks hK hP hS hl
  have hl : lv_has ls 5 [(0, .ref (B 0)), (1, .int x1)] := hl
  unfold m_kinds at hF
  refine lv_aload_n E.1 E.2.1 dX1_kinds_0 rfl (lv_at hl 0 rfl) ?_
  refine lv_iload_n E.1 E.2.1 dX1_kinds_1 rfl (lv_at hl 1 rfl) ?_
  obtain ⟨r2, hq2, hF⟩ := bnd hF
  refine mk_call (As := [.int x1]) (rest := []) (v := (some (.int r2.1))) E hcl hK hP hS (mm_X1_isPerson l hcl hB x1 z0 _ hq2) (cwV 1 E.2.2.2.2 (lw_V q1243 q1245 qs38 q58 q1246) rfl rfl rfl (by decide +kernel) ⟨Nat.le_of_ble_eq_true rfl, Nat.le_of_ble_eq_true rfl⟩) hl rfl rfl (Nat.le_of_ble_eq_true rfl) ⟨Nat.zero_le _, Nat.zero_le _⟩ dX1_kinds_2 (fun H locs hP hS => ?_)
  refine lv_if_ne (tgt := 10) E.1 E.2.1 dX1_kinds_5 (by decide) (fun h => ?_) (fun h => ?_)
  · have hF := ite_f h hF
    refine lv_aload_n E.1 E.2.1 dX1_kinds_10 rfl (lv_at hl 0 rfl) ?_
    refine mk_get E hcl hK hP 8 (by decide) q1118 rfl (v := .ref (B 8)) rfl dX1_kinds_11 ?_
    refine lv_iload_n E.1 E.2.1 dX1_kinds_14 rfl (lv_at hl 1 rfl) ?_
    obtain ⟨h15, hF⟩ := gd_some hF
    refine mk_ald E hK hP (q := 4) (j := 8) (n := 5) rfl h15 dX1_kinds_15 ?_
    refine lv_istore_n (lv' := [(2, .int (r2.2.2 8 x1.toNatClampNeg)), (0, .ref (B 0)), (1, .int x1)]) E.1 E.2.1 dX1_kinds_16 rfl hl (by decide) rfl (fun ls hl => ?_)
    refine lv_iconst (v := (0 : Int32)) E.1 E.2.1 dX1_kinds_17 (by decide) ?_
    refine lv_istore_n (lv' := [(3, .int (0 : Int32)), (2, .int (r2.2.2 8 x1.toNatClampNeg)), (0, .ref (B 0)), (1, .int x1)]) E.1 E.2.1 dX1_kinds_18 rfl hl (by decide) rfl (fun ls hl => ?_)
    refine lv_iconst (v := (0 : Int32)) E.1 E.2.1 dX1_kinds_19 (by decide) ?_
    refine lv_istore (lv' := [(4, .int (0 : Int32)), (3, .int (0 : Int32)), (2, .int (r2.2.2 8 x1.toNatClampNeg)), (0, .ref (B 0)), (1, .int x1)]) E.1 E.2.1 dX1_kinds_20 hl (by decide) rfl (fun ls hl => ?_)
    have L22 : ∀ (n : Nat) (y22_2 : Int32) (y22_3 : Int32) (y22_4 : Int32) (z22 : MZ) (H : Heap) (locs : List Loc) (ls : Array Slot), m_kinds_L22 x1 n y22_2 y22_3 y22_4 z22 = some res → va_P D cl (mW ci d B z22) H → va_S A s.heap H locs → lv_has ls 5 [(0, .ref (B 0)), (1, .int x1), (2, .int y22_2), (3, .int y22_3), (4, .int y22_4)] → W p l e rmX1_kinds s m args below meth c H locs 0 0 (MQ below (mQ D cl ci d B A (some (.int res.1)) res.2) args s 0 0 A) (F0 m 22 ls []) := by
      intro n
      induction n with
      | zero =>
        intro y22_2 y22_3 y22_4 z22 H locs ls hF
        rw [m_kinds_L22] at hF
        cases hF
      | succ n ih =>
        intro y22_2 y22_3 y22_4 z22 H locs ls hF hP hS hl
        rw [m_kinds_L22] at hF
        refine lv_iload E.1 E.2.1 dX1_kinds_22 (lv_at hl 4 rfl) ?_
        refine lv_iconst (v := (3 : Int32)) E.1 E.2.1 dX1_kinds_24 (by decide) ?_
        refine lv_icmp_ge (tgt := 60) E.1 E.2.1 dX1_kinds_25 (by decide) (fun h => ?_) (fun h => ?_)
        · have hF := ite_t h hF
          refine lv_aload_n E.1 E.2.1 dX1_kinds_60 rfl (lv_at hl 0 rfl) ?_
          refine mk_get E hcl hK hP 8 (by decide) q1118 rfl (v := .ref (B 8)) rfl dX1_kinds_61 ?_
          refine lv_iload_n E.1 E.2.1 dX1_kinds_64 rfl (lv_at hl 1 rfl) ?_
          refine lv_iload_n E.1 E.2.1 dX1_kinds_65 rfl (lv_at hl 2 rfl) ?_
          obtain ⟨h66, hF⟩ := gd_some hF
          refine mk_ast E hB hK hP hS (q := 4) (j := 8) (n := 5) rfl h66 dX1_kinds_66 (fun H locs hP hS => ?_)
          refine lv_iload_n E.1 E.2.1 dX1_kinds_67 rfl (lv_at hl 3 rfl) ?_
          exact mk_iret E hr hlocks hP hS hF dX1_kinds_68
        · have hF := ite_f h hF
          refine lv_aload_n E.1 E.2.1 dX1_kinds_28 rfl (lv_at hl 0 rfl) ?_
          refine mk_get E hcl hK hP 8 (by decide) q1118 rfl (v := .ref (B 8)) rfl dX1_kinds_29 ?_
          refine lv_iload_n E.1 E.2.1 dX1_kinds_32 rfl (lv_at hl 1 rfl) ?_
          refine lv_iload E.1 E.2.1 dX1_kinds_33 (lv_at hl 4 rfl) ?_
          obtain ⟨h35, hF⟩ := gd_some hF
          refine mk_ast E hB hK hP hS (q := 4) (j := 8) (n := 5) rfl h35 dX1_kinds_35 (fun H locs hP hS => ?_)
          refine lv_iload_n E.1 E.2.1 dX1_kinds_36 rfl (lv_at hl 3 rfl) ?_
          refine lv_aload_n E.1 E.2.1 dX1_kinds_37 rfl (lv_at hl 0 rfl) ?_
          obtain ⟨r38, hq38, hF⟩ := bnd hF
          refine mk_call (As := []) (rest := [.int y22_3]) (v := (some (.int r38.1))) E hcl hK hP hS (mm_X1_areSo l hcl hB  (mz_a z22 8 x1.toNatClampNeg y22_4) _ hq38) (cwV 0 E.2.2.2.2 (lw_V q1353 q1355 qs50 q58 q1356) rfl rfl rfl (by decide +kernel) ⟨Nat.le_of_ble_eq_true rfl, Nat.le_of_ble_eq_true rfl⟩) hl rfl rfl (Nat.le_of_ble_eq_true rfl) ⟨Nat.zero_le _, Nat.zero_le _⟩ dX1_kinds_38 (fun H locs hP hS => ?_)
          obtain ⟨k52, hk52, hF⟩ := jn_split hF
          have J52 : ∀ (v52_0 : Int32) (z52 : MZ) (H : Heap) (locs : List Loc) (ls : Array Slot), k52 v52_0 z52 = some res → va_P D cl (mW ci d B z52) H → va_S A s.heap H locs → lv_has ls 5 [(0, .ref (B 0)), (1, .int x1), (2, .int y22_2), (4, .int y22_4)] → W p l e rmX1_kinds s m args below meth c H locs 0 0 (MQ below (mQ D cl ci d B A (some (.int res.1)) res.2) args s 0 0 A) (F0 m 52 ls [.int v52_0, .int y22_3]) := by
            intro v52_0 z52 H locs ls hF hP hS hl
            rw [hk52] at hF
            refine lv_ior E.1 E.2.1 dX1_kinds_52 ?_
            refine lv_istore_n (lv' := [(3, .int (y22_3 ||| v52_0)), (0, .ref (B 0)), (1, .int x1), (2, .int y22_2), (4, .int y22_4)]) E.1 E.2.1 dX1_kinds_53 rfl hl (by decide) rfl (fun ls hl => ?_)
            refine lv_iinc (v := y22_4 + 1) (lv' := [(4, .int (y22_4 + 1)), (3, .int (y22_3 ||| v52_0)), (0, .ref (B 0)), (1, .int x1), (2, .int y22_2)]) E.1 E.2.1 dX1_kinds_54 hl (k := 4) rfl rfl (by decide) rfl (fun ls hl => ?_)
            refine lv_goto (tgt := 22) E.1 E.2.1 dX1_kinds_57 (by decide) ?_
            exact ih y22_2 (y22_3 ||| v52_0) (y22_4 + 1) z52 H locs ls hF hP hS (lv_sub hl [2, 3, 4, 1, 0] rfl)
          refine lv_if_eq (tgt := 51) E.1 E.2.1 dX1_kinds_41 (by decide) (fun h => ?_) (fun h => ?_)
          · have hF := ite_t h hF
            refine lv_iconst (v := (0 : Int32)) E.1 E.2.1 dX1_kinds_51 (by decide) ?_
            exact J52 (0 : Int32) r38.2 H locs ls hF hP hS (lv_sub hl [0, 1, 2, 4] rfl)
          · have hF := ite_f h hF
            refine lv_iconst (v := (1 : Int32)) E.1 E.2.1 dX1_kinds_44 (by decide) ?_
            refine lv_iload E.1 E.2.1 dX1_kinds_45 (lv_at hl 4 rfl) ?_
            refine lv_ishl E.1 E.2.1 dX1_kinds_47 ?_
            refine lv_goto (tgt := 52) E.1 E.2.1 dX1_kinds_48 (by decide) ?_
            exact J52 ((1 : Int32) <<< (y22_4 &&& 31)) r38.2 H locs ls hF hP hS (lv_sub hl [0, 1, 2, 4] rfl)
    exact L22 FU (r2.2.2 8 x1.toNatClampNeg) (0 : Int32) (0 : Int32) r2.2 H locs ls hF hP hS (lv_sub hl [3, 4, 2, 1, 0] rfl)
  · have hF := ite_t h hF
    refine lv_iconst (v := (-1 : Int32)) E.1 E.2.1 dX1_kinds_8 (by decide) ?_
    exact mk_iret E hr hlocks hP hS hF dX1_kinds_9
/-! DebtFerryModel.often()I -/
def m_often_L19 : Nat → Int32 → Int32 → Int32 → MZ → Option (Int32 × MZ)
  | 0, _, _, _, _ => none
  | n + 1, y19_1, y19_2, y19_3, z19 =>
    if (3 : Int32) < y19_3 then some (y19_2, (mz_f z19 7 y19_1)) else (m_areSo  (mz_f z19 7 y19_3)).bind (fun r31 => jn (fun (v44_0 : Int32) (z44 : MZ) => m_often_L19 n y19_1 (y19_2 ||| v44_0) (y19_3 + 1) z44) (fun (k44 : Int32 → MZ → Option (Int32 × MZ)) => if r31.1 = 0 then k44 (0 : Int32) r31.2 else k44 ((1 : Int32) <<< (y19_3 &&& 31)) r31.2))
def m_often  (z0 : MZ) : Option (Int32 × MZ) :=
  if (z0.1 5) = 0 then some ((-3 : Int32), z0) else m_often_L19 FU (z0.1 7) (0 : Int32) (1 : Int32) z0
abbrev rmX1_often : Room := { frames := 5, cells := 0, slots := 0, locals := 104 }
set_option maxHeartbeats 4000000 in
set_option maxRecDepth 100000 in
theorem mm_X1_often (l : Launch) {D : va_G} {cl : List vw_C} {ci : Nat} {d : ClassId} {B : Nat → Nat} {A : Nat → Prop} (hcl : cl[ci]? = some (RX1, TX1, 29)) (hB : ∀ z, va_D A (mW ci d B z))  (z0 : MZ) (res : Int32 × MZ) (hF : m_often  z0 = some res) : Met l yX1_often (ws_ yX1_often cX1_often 4 (some .int)) rmX1_often (mPc D cl ci d B z0 []) (mQ D cl ci d B A (some (.int res.1)) res.2) 0 0 A := by
  refine mk_start (A := A) (by decide) rfl (Nat.le_of_ble_eq_true rfl) ?_
  intro p e s m args below meth c H locs ls E hr hlocks hK hP hS hl
  have hl : lv_has ls 4 [(0, .ref (B 0))] := hl
  unfold m_often at hF
  refine lv_aload_n E.1 E.2.1 dX1_often_0 rfl (lv_at hl 0 rfl) ?_
  refine mk_get E hcl hK hP 5 (by decide) q1115 rfl (v := .int (z0.1 5)) rfl dX1_often_1 ?_
  refine lv_if_ne (tgt := 10) E.1 E.2.1 dX1_often_4 (by decide) (fun h => ?_) (fun h => ?_)
  · have hF := ite_f h hF
    refine lv_aload_n E.1 E.2.1 dX1_often_10 rfl (lv_at hl 0 rfl) ?_
    refine mk_get E hcl hK hP 7 (by decide) q1117 rfl (v := .int (z0.1 7)) rfl dX1_often_11 ?_
    refine lv_istore_n (lv' := [(1, .int (z0.1 7)), (0, .ref (B 0))]) E.1 E.2.1 dX1_often_14 rfl hl (by decide) rfl (fun ls hl => ?_)
    refine lv_iconst (v := (0 : Int32)) E.1 E.2.1 dX1_often_15 (by decide) ?_
    refine lv_istore_n (lv' := [(2, .int (0 : Int32)), (1, .int (z0.1 7)), (0, .ref (B 0))]) E.1 E.2.1 dX1_often_16 rfl hl (by decide) rfl (fun ls hl => ?_)
    refine lv_iconst (v := (1 : Int32)) E.1 E.2.1 dX1_often_17 (by decide) ?_
    refine lv_istore_n (lv' := [(3, .int (1 : Int32)), (2, .int (0 : Int32)), (1, .int (z0.1 7)), (0, .ref (B 0))]) E.1 E.2.1 dX1_often_18 rfl hl (by decide) rfl (fun ls hl => ?_)
    have L19 : ∀ (n : Nat) (y19_1 : Int32) (y19_2 : Int32) (y19_3 : Int32) (z19 : MZ) (H : Heap) (locs : List Loc) (ls : Array Slot), m_often_L19 n y19_1 y19_2 y19_3 z19 = some res → va_P D cl (mW ci d B z19) H → va_S A s.heap H locs → lv_has ls 4 [(0, .ref (B 0)), (1, .int y19_1), (2, .int y19_2), (3, .int y19_3)] → W p l e rmX1_often s m args below meth c H locs 0 0 (MQ below (mQ D cl ci d B A (some (.int res.1)) res.2) args s 0 0 A) (F0 m 19 ls []) := by
      intro n
      induction n with
      | zero =>
        intro y19_1 y19_2 y19_3 z19 H locs ls hF
        rw [m_often_L19] at hF
        cases hF
      | succ n ih =>
        intro y19_1 y19_2 y19_3 z19 H locs ls hF hP hS hl
        rw [m_often_L19] at hF
        refine lv_iload_n E.1 E.2.1 dX1_often_19 rfl (lv_at hl 3 rfl) ?_
        refine lv_iconst (v := (3 : Int32)) E.1 E.2.1 dX1_often_20 (by decide) ?_
        refine lv_icmp_gt (tgt := 52) E.1 E.2.1 dX1_often_21 (by decide) (fun h => ?_) (fun h => ?_)
        · have hF := ite_t h hF
          refine lv_aload_n E.1 E.2.1 dX1_often_52 rfl (lv_at hl 0 rfl) ?_
          refine lv_iload_n E.1 E.2.1 dX1_often_53 rfl (lv_at hl 1 rfl) ?_
          refine mk_put E hcl hB hK hP hS 7 rfl q1117 rfl dX1_often_54 (fun H locs hP hS => ?_)
          refine lv_iload_n E.1 E.2.1 dX1_often_57 rfl (lv_at hl 2 rfl) ?_
          exact mk_iret E hr hlocks hP hS hF dX1_often_58
        · have hF := ite_f h hF
          refine lv_aload_n E.1 E.2.1 dX1_often_24 rfl (lv_at hl 0 rfl) ?_
          refine lv_iload_n E.1 E.2.1 dX1_often_25 rfl (lv_at hl 3 rfl) ?_
          refine mk_put E hcl hB hK hP hS 7 rfl q1117 rfl dX1_often_26 (fun H locs hP hS => ?_)
          refine lv_iload_n E.1 E.2.1 dX1_often_29 rfl (lv_at hl 2 rfl) ?_
          refine lv_aload_n E.1 E.2.1 dX1_often_30 rfl (lv_at hl 0 rfl) ?_
          obtain ⟨r31, hq31, hF⟩ := bnd hF
          refine mk_call (As := []) (rest := [.int y19_2]) (v := (some (.int r31.1))) E hcl hK hP hS (mm_X1_areSo l hcl hB  (mz_f z19 7 y19_3) _ hq31) (cwV 0 E.2.2.2.2 (lw_V q1353 q1355 qs50 q58 q1356) rfl rfl rfl (by decide +kernel) ⟨Nat.le_of_ble_eq_true rfl, Nat.le_of_ble_eq_true rfl⟩) hl rfl rfl (Nat.le_of_ble_eq_true rfl) ⟨Nat.zero_le _, Nat.zero_le _⟩ dX1_often_31 (fun H locs hP hS => ?_)
          obtain ⟨k44, hk44, hF⟩ := jn_split hF
          have J44 : ∀ (v44_0 : Int32) (z44 : MZ) (H : Heap) (locs : List Loc) (ls : Array Slot), k44 v44_0 z44 = some res → va_P D cl (mW ci d B z44) H → va_S A s.heap H locs → lv_has ls 4 [(0, .ref (B 0)), (1, .int y19_1), (3, .int y19_3)] → W p l e rmX1_often s m args below meth c H locs 0 0 (MQ below (mQ D cl ci d B A (some (.int res.1)) res.2) args s 0 0 A) (F0 m 44 ls [.int v44_0, .int y19_2]) := by
            intro v44_0 z44 H locs ls hF hP hS hl
            rw [hk44] at hF
            refine lv_ior E.1 E.2.1 dX1_often_44 ?_
            refine lv_istore_n (lv' := [(2, .int (y19_2 ||| v44_0)), (0, .ref (B 0)), (1, .int y19_1), (3, .int y19_3)]) E.1 E.2.1 dX1_often_45 rfl hl (by decide) rfl (fun ls hl => ?_)
            refine lv_iinc (v := y19_3 + 1) (lv' := [(3, .int (y19_3 + 1)), (2, .int (y19_2 ||| v44_0)), (0, .ref (B 0)), (1, .int y19_1)]) E.1 E.2.1 dX1_often_46 hl (k := 3) rfl rfl (by decide) rfl (fun ls hl => ?_)
            refine lv_goto (tgt := 19) E.1 E.2.1 dX1_often_49 (by decide) ?_
            exact ih y19_1 (y19_2 ||| v44_0) (y19_3 + 1) z44 H locs ls hF hP hS (lv_sub hl [2, 3, 1, 0] rfl)
          refine lv_if_eq (tgt := 43) E.1 E.2.1 dX1_often_34 (by decide) (fun h => ?_) (fun h => ?_)
          · have hF := ite_t h hF
            refine lv_iconst (v := (0 : Int32)) E.1 E.2.1 dX1_often_43 (by decide) ?_
            exact J44 (0 : Int32) r31.2 H locs ls hF hP hS (lv_sub hl [0, 1, 3] rfl)
          · have hF := ite_f h hF
            refine lv_iconst (v := (1 : Int32)) E.1 E.2.1 dX1_often_37 (by decide) ?_
            refine lv_iload_n E.1 E.2.1 dX1_often_38 rfl (lv_at hl 3 rfl) ?_
            refine lv_ishl E.1 E.2.1 dX1_often_39 ?_
            refine lv_goto (tgt := 44) E.1 E.2.1 dX1_often_40 (by decide) ?_
            exact J44 ((1 : Int32) <<< (y19_3 &&& 31)) r31.2 H locs ls hF hP hS (lv_sub hl [0, 1, 3] rfl)
    exact L19 FU (z0.1 7) (0 : Int32) (1 : Int32) z0 H locs ls hF hP hS (lv_sub hl [3, 2, 1, 0] rfl)
  · have hF := ite_t h hF
    refine lv_bipush (v := (-3 : Int32)) E.1 E.2.1 dX1_often_7 (by decide) ?_
    exact mk_iret E hr hlocks hP hS hF dX1_often_9
/-! DebtFerryModel.inLeastTerms(JJI)J -/
def m_inLeastTerms_L6 (k31 : Int64 → Option Int64) (x0 : Int64) (x2 : Int64) (x4 : Int32) : Nat → Int64 → Int64 → Option Int64
  | 0, _, _ => none
  | n + 1, y6_5, y6_7 =>
    if (lg_cmp y6_7 (0 : Int64)) = 0 then k31 y6_5 else gd (decide (¬ y6_7 = 0)) (m_inLeastTerms_L6 k31 x0 x2 x4 n y6_7 (y6_5 - y6_5 / y6_7 * y6_7))
def m_inLeastTerms (x0 : Int64) (x2 : Int64) (x4 : Int32) : Option Int64 :=
  m_inLeastTerms_L6 (fun (y6_5 : Int64) => if x4 = 0 then gd (decide (¬ y6_5 = 0)) (some (x0 / y6_5)) else gd (decide (¬ y6_5 = 0)) (some (x2 / y6_5))) x0 x2 x4 FU x0 x2
abbrev rmX1_inLeastTerms : Room := { frames := 1, cells := 0, slots := 0, locals := 12 }
set_option maxHeartbeats 4000000 in
set_option maxRecDepth 100000 in
theorem mm_X1_inLeastTerms (l : Launch) (x0 : Int64) (x2 : Int64) (x4 : Int32) (res : Int64) (hF : m_inLeastTerms x0 x2 x4 = some res) : Met l yX1_inLeastTerms (ws_ yX1_inLeastTerms cX1_inLeastTerms 11 (some .long)) rmX1_inLeastTerms (pPc [.long x0, .long x2, .int x4]) (pQ (.long res)) 0 0 (fun _ => False) := by
  refine px_start RX1 (by decide) rfl (Nat.le_of_ble_eq_true rfl) ?_
  intro p e s m args below meth c ls E hr hlocks hl
  have hl : lv_has ls 11 [(0, .long x0), (2, .long x2), (4, .int x4)] := hl
  unfold m_inLeastTerms at hF
  refine lv_lload_n E.1 E.2.1 dX1_inLeastTerms_0 rfl (lv_at hl 0 rfl) ?_
  refine lv_lstore (lv' := [(5, .long x0), (0, .long x0), (2, .long x2), (4, .int x4)]) E.1 E.2.1 dX1_inLeastTerms_1 hl (by decide) rfl (fun ls hl => ?_)
  refine lv_lload_n E.1 E.2.1 dX1_inLeastTerms_3 rfl (lv_at hl 2 rfl) ?_
  refine lv_lstore (lv' := [(7, .long x2), (5, .long x0), (0, .long x0), (2, .long x2), (4, .int x4)]) E.1 E.2.1 dX1_inLeastTerms_4 hl (by decide) rfl (fun ls hl => ?_)
  obtain ⟨k31, hk31, hF⟩ : ∃ k31, k31 = _ ∧ m_inLeastTerms_L6 k31 x0 x2 x4 FU x0 x2 = some res := ⟨_, rfl, hF⟩
  have K31 : ∀ (y6_5 : Int64) (ls : Array Slot), k31 y6_5 = some res → lv_has ls 11 [(0, .long x0), (2, .long x2), (4, .int x4), (5, .long y6_5)] → W p l e rmX1_inLeastTerms s m args below meth c s.heap [] 0 0 (MQ below (pQ (.long res)) args s 0 0 (fun _ => False)) (F0 m 31 ls []) := by
    intro y6_5 ls hF hl
    rw [hk31] at hF
    refine lv_iload E.1 E.2.1 dX1_inLeastTerms_31 (lv_at hl 2 rfl) ?_
    refine lv_if_ne (tgt := 43) E.1 E.2.1 dX1_inLeastTerms_33 (by decide) (fun h => ?_) (fun h => ?_)
    · have hF := ite_f h hF
      refine lv_lload_n E.1 E.2.1 dX1_inLeastTerms_43 rfl (lv_at hl 1 rfl) ?_
      refine lv_lload E.1 E.2.1 dX1_inLeastTerms_44 (lv_at hl 3 rfl) ?_
      obtain ⟨h46, hF⟩ := gd_some hF
      refine lv_ldiv E.1 E.2.1 dX1_inLeastTerms_46 (of_decide_eq_true h46) ?_
      exact px_lret E hr hlocks rfl hF dX1_inLeastTerms_47
    · have hF := ite_t h hF
      refine lv_lload_n E.1 E.2.1 dX1_inLeastTerms_36 rfl (lv_at hl 0 rfl) ?_
      refine lv_lload E.1 E.2.1 dX1_inLeastTerms_37 (lv_at hl 3 rfl) ?_
      obtain ⟨h39, hF⟩ := gd_some hF
      refine lv_ldiv E.1 E.2.1 dX1_inLeastTerms_39 (of_decide_eq_true h39) ?_
      refine lv_goto (tgt := 47) E.1 E.2.1 dX1_inLeastTerms_40 (by decide) ?_
      exact px_lret E hr hlocks rfl hF dX1_inLeastTerms_47
  have L6 : ∀ (n : Nat) (y6_5 : Int64) (y6_7 : Int64) (ls : Array Slot), m_inLeastTerms_L6 k31 x0 x2 x4 n y6_5 y6_7 = some res → lv_has ls 11 [(0, .long x0), (2, .long x2), (4, .int x4), (5, .long y6_5), (7, .long y6_7)] → W p l e rmX1_inLeastTerms s m args below meth c s.heap [] 0 0 (MQ below (pQ (.long res)) args s 0 0 (fun _ => False)) (F0 m 6 ls []) := by
    intro n
    induction n with
    | zero =>
      intro y6_5 y6_7 ls hF
      rw [m_inLeastTerms_L6] at hF
      cases hF
    | succ n ih =>
      intro y6_5 y6_7 ls hF hl
      rw [m_inLeastTerms_L6] at hF
      refine lv_lload E.1 E.2.1 dX1_inLeastTerms_6 (lv_at hl 4 rfl) ?_
      refine lv_lconst (v := (0 : Int64)) E.1 E.2.1 dX1_inLeastTerms_8 (by decide) ?_
      refine W.lcmp E.1 E.2.1 dX1_inLeastTerms_9 ?_
      refine lv_if_eq (tgt := 31) E.1 E.2.1 dX1_inLeastTerms_10 (by decide) (fun h => ?_) (fun h => ?_)
      · have hF := ite_t h hF
        exact K31 y6_5 ls hF (lv_sub hl [0, 1, 2, 3] rfl)
      · have hF := ite_f h hF
        refine lv_lload E.1 E.2.1 dX1_inLeastTerms_13 (lv_at hl 3 rfl) ?_
        refine lv_lload E.1 E.2.1 dX1_inLeastTerms_15 (lv_at hl 4 rfl) ?_
        obtain ⟨h17, hF⟩ := gd_some hF
        refine lv_lrem E.1 E.2.1 dX1_inLeastTerms_17 (of_decide_eq_true h17) ?_
        refine lv_lstore (lv' := [(9, .long (y6_5 - y6_5 / y6_7 * y6_7)), (0, .long x0), (2, .long x2), (4, .int x4), (5, .long y6_5), (7, .long y6_7)]) E.1 E.2.1 dX1_inLeastTerms_18 hl (by decide) rfl (fun ls hl => ?_)
        refine lv_lload E.1 E.2.1 dX1_inLeastTerms_20 (lv_at hl 5 rfl) ?_
        refine lv_lstore (lv' := [(5, .long y6_7), (9, .long (y6_5 - y6_5 / y6_7 * y6_7)), (0, .long x0), (2, .long x2), (4, .int x4), (7, .long y6_7)]) E.1 E.2.1 dX1_inLeastTerms_22 hl (by decide) rfl (fun ls hl => ?_)
        refine lv_lload E.1 E.2.1 dX1_inLeastTerms_24 (lv_at hl 1 rfl) ?_
        refine lv_lstore (lv' := [(7, .long (y6_5 - y6_5 / y6_7 * y6_7)), (5, .long y6_7), (9, .long (y6_5 - y6_5 / y6_7 * y6_7)), (0, .long x0), (2, .long x2), (4, .int x4)]) E.1 E.2.1 dX1_inLeastTerms_26 hl (by decide) rfl (fun ls hl => ?_)
        refine lv_goto (tgt := 6) E.1 E.2.1 dX1_inLeastTerms_28 (by decide) ?_
        exact ih y6_7 (y6_5 - y6_5 / y6_7 * y6_7) ls hF (lv_sub hl [3, 4, 5, 1, 0] rfl)
  exact L6 FU x0 x2 ls hF (lv_sub hl [2, 3, 4, 1, 0] rfl)
/-! DebtFerryModel.odds(III)J -/
def m_odds_L53 (k97 : Int32 → Int32 → MZ → Option (Int64 × MZ)) (x1 : Int32) (x2 : Int32) (x3 : Int32) : Nat → Int32 → Int32 → MZ → Option (Int64 × MZ)
  | 0, _, _, _ => none
  | n + 1, y53_4, y53_5, z53 =>
    if y53_5 ≤ (z53.1 18) then k97 y53_4 y53_5 z53 else (m_pullersOf x2 z53).bind (fun r66 => (m_isOf r66.1 x1).bind (fun r70 => jn (fun (v81_0 : Int32) (z81 : MZ) => m_odds_L53 k97 x1 x2 x3 n (y53_4 + v81_0) y53_5 (mz_f z81 18 ((z81.1 18) + (1 : Int32)))) (fun (k81 : Int32 → MZ → Option (Int64 × MZ)) => if r70 = 0 then k81 (0 : Int32) r66.2 else k81 (1 : Int32) r66.2)))
def m_odds (x1 : Int32) (x2 : Int32) (x3 : Int32) (z0 : MZ) : Option (Int64 × MZ) :=
  (m_isPerson x1 z0).bind (fun r2 => if r2.1 = 0 then some ((-9223372036854775808 : Int64), r2.2) else (m_isSet x2 r2.2).bind (fun r10 => if r10.1 = 0 then some ((-9223372036854775808 : Int64), r10.2) else (m_within x3 (0 : Int32) (1 : Int32)).bind (fun r19 => if r19 = 0 then some ((-9223372036854775808 : Int64), r10.2) else (m_isOf x2 x1).bind (fun r27 => if r27 = 0 then some ((-9223372036854775808 : Int64), r10.2) else m_odds_L53 (fun (y53_4 : Int32) (y53_5 : Int32) (z53 : MZ) => (m_inLeastTerms (y53_4.toInt64) (y53_5.toInt64) x3).bind (fun r109 => some (r109, (mz_f z53 18 (0 : Int32))))) x1 x2 x3 FU (0 : Int32) ((1 : Int32) <<< ((r10.2.1 5) &&& 31)) (mz_f r10.2 18 (0 : Int32))))))
abbrev rmX1_odds : Room := { frames := 4, cells := 0, slots := 0, locals := 83 }
set_option maxHeartbeats 4000000 in
set_option maxRecDepth 100000 in
theorem mm_X1_odds (l : Launch) {D : va_G} {cl : List vw_C} {ci : Nat} {d : ClassId} {B : Nat → Nat} {A : Nat → Prop} (hcl : cl[ci]? = some (RX1, TX1, 29)) (hB : ∀ z, va_D A (mW ci d B z)) (x1 : Int32) (x2 : Int32) (x3 : Int32) (z0 : MZ) (res : Int64 × MZ) (hF : m_odds x1 x2 x3 z0 = some res) : Met l yX1_odds (ws_ yX1_odds cX1_odds 6 (some .long)) rmX1_odds (mPc D cl ci d B z0 [.int x1, .int x2, .int x3]) (mQ D cl ci d B A (some (.long res.1)) res.2) 0 0 A := by
  refine mk_start (A := A) (by decide) rfl (Nat.le_of_ble_eq_true rfl) ?_
  intro p e s m args below meth c H locs ls E hr hlocks hK hP hS hl
  have hl : lv_has ls 6 [(0, .ref (B 0)), (1, .int x1), (2, .int x2), (3, .int x3)] := hl
  unfold m_odds at hF
  refine lv_aload_n E.1 E.2.1 dX1_odds_0 rfl (lv_at hl 0 rfl) ?_
  refine lv_iload_n E.1 E.2.1 dX1_odds_1 rfl (lv_at hl 1 rfl) ?_
  obtain ⟨r2, hq2, hF⟩ := bnd hF
  refine mk_call (As := [.int x1]) (rest := []) (v := (some (.int r2.1))) E hcl hK hP hS (mm_X1_isPerson l hcl hB x1 z0 _ hq2) (cwV 1 E.2.2.2.2 (lw_V q1243 q1245 qs38 q58 q1246) rfl rfl rfl (by decide +kernel) ⟨Nat.le_of_ble_eq_true rfl, Nat.le_of_ble_eq_true rfl⟩) hl rfl rfl (Nat.le_of_ble_eq_true rfl) ⟨Nat.zero_le _, Nat.zero_le _⟩ dX1_odds_2 (fun H locs hP hS => ?_)
  refine lv_if_eq (tgt := 33) E.1 E.2.1 dX1_odds_5 (by decide) (fun h => ?_) (fun h => ?_)
  · have hF := ite_t h hF
    refine lv_ldc2 (v := (-9223372036854775808 : Int64)) E.1 E.2.1 E.2.2.2.1 (E.2.2.2.2 _ q1369) dX1_odds_33 ?_
    exact mk_lret E hr hlocks hP hS hF dX1_odds_36
  · have hF := ite_f h hF
    refine lv_aload_n E.1 E.2.1 dX1_odds_8 rfl (lv_at hl 0 rfl) ?_
    refine lv_iload_n E.1 E.2.1 dX1_odds_9 rfl (lv_at hl 2 rfl) ?_
    obtain ⟨r10, hq10, hF⟩ := bnd hF
    refine mk_call (As := [.int x2]) (rest := []) (v := (some (.int r10.1))) E hcl hK hP hS (mm_X1_isSet l hcl hB x2 r2.2 _ hq10) (cwV 1 E.2.2.2.2 (lw_V q1275 q1277 qs41 q58 q1278) rfl rfl rfl (by decide +kernel) ⟨Nat.le_of_ble_eq_true rfl, Nat.le_of_ble_eq_true rfl⟩) hl rfl rfl (Nat.le_of_ble_eq_true rfl) ⟨Nat.zero_le _, Nat.zero_le _⟩ dX1_odds_10 (fun H locs hP hS => ?_)
    refine lv_if_eq (tgt := 33) E.1 E.2.1 dX1_odds_13 (by decide) (fun h => ?_) (fun h => ?_)
    · have hF := ite_t h hF
      refine lv_ldc2 (v := (-9223372036854775808 : Int64)) E.1 E.2.1 E.2.2.2.1 (E.2.2.2.2 _ q1369) dX1_odds_33 ?_
      exact mk_lret E hr hlocks hP hS hF dX1_odds_36
    · have hF := ite_f h hF
      refine lv_iload_n E.1 E.2.1 dX1_odds_16 rfl (lv_at hl 3 rfl) ?_
      refine lv_iconst (v := (0 : Int32)) E.1 E.2.1 dX1_odds_17 (by decide) ?_
      refine lv_iconst (v := (1 : Int32)) E.1 E.2.1 dX1_odds_18 (by decide) ?_
      obtain ⟨r19, hq19, hF⟩ := bnd hF
      refine px_call (As := [.int x3, .int (0 : Int32), .int (1 : Int32)]) (rest := []) (v := .int r19) E (mm_X1_within l x3 (0 : Int32) (1 : Int32) _ hq19) (va_cwS 3 E.2.2.2.2 (lw_S q1205 q1206 q58 q1207) rfl rfl rfl (by decide +kernel) ⟨Nat.le_of_ble_eq_true rfl, Nat.le_of_ble_eq_true rfl⟩) hl rfl rfl (Nat.le_of_ble_eq_true rfl) ⟨Nat.zero_le _, Nat.zero_le _⟩ dX1_odds_19 ?_
      refine lv_if_eq (tgt := 33) E.1 E.2.1 dX1_odds_22 (by decide) (fun h => ?_) (fun h => ?_)
      · have hF := ite_t h hF
        refine lv_ldc2 (v := (-9223372036854775808 : Int64)) E.1 E.2.1 E.2.2.2.1 (E.2.2.2.2 _ q1369) dX1_odds_33 ?_
        exact mk_lret E hr hlocks hP hS hF dX1_odds_36
      · have hF := ite_f h hF
        refine lv_iload_n E.1 E.2.1 dX1_odds_25 rfl (lv_at hl 2 rfl) ?_
        refine lv_iload_n E.1 E.2.1 dX1_odds_26 rfl (lv_at hl 1 rfl) ?_
        obtain ⟨r27, hq27, hF⟩ := bnd hF
        refine px_call (As := [.int x2, .int x1]) (rest := []) (v := .int r27) E (mm_X1_isOf l x2 x1 _ hq27) (va_cwS 2 E.2.2.2.2 (lw_S q1279 q1280 q58 q1281) rfl rfl rfl (by decide +kernel) ⟨Nat.le_of_ble_eq_true rfl, Nat.le_of_ble_eq_true rfl⟩) hl rfl rfl (Nat.le_of_ble_eq_true rfl) ⟨Nat.zero_le _, Nat.zero_le _⟩ dX1_odds_27 ?_
        refine lv_if_ne (tgt := 37) E.1 E.2.1 dX1_odds_30 (by decide) (fun h => ?_) (fun h => ?_)
        · have hF := ite_f h hF
          refine lv_iconst (v := (0 : Int32)) E.1 E.2.1 dX1_odds_37 (by decide) ?_
          refine lv_istore (lv' := [(4, .int (0 : Int32)), (0, .ref (B 0)), (1, .int x1), (2, .int x2), (3, .int x3)]) E.1 E.2.1 dX1_odds_38 hl (by decide) rfl (fun ls hl => ?_)
          refine lv_iconst (v := (1 : Int32)) E.1 E.2.1 dX1_odds_40 (by decide) ?_
          refine lv_aload_n E.1 E.2.1 dX1_odds_41 rfl (lv_at hl 1 rfl) ?_
          refine mk_get E hcl hK hP 5 (by decide) q1115 rfl (v := .int (r10.2.1 5)) rfl dX1_odds_42 ?_
          refine lv_ishl E.1 E.2.1 dX1_odds_45 ?_
          refine lv_istore (lv' := [(5, .int ((1 : Int32) <<< ((r10.2.1 5) &&& 31))), (4, .int (0 : Int32)), (0, .ref (B 0)), (1, .int x1), (2, .int x2), (3, .int x3)]) E.1 E.2.1 dX1_odds_46 hl (by decide) rfl (fun ls hl => ?_)
          refine lv_aload_n E.1 E.2.1 dX1_odds_48 rfl (lv_at hl 2 rfl) ?_
          refine lv_iconst (v := (0 : Int32)) E.1 E.2.1 dX1_odds_49 (by decide) ?_
          refine mk_put E hcl hB hK hP hS 18 rfl q1128 rfl dX1_odds_50 (fun H locs hP hS => ?_)
          obtain ⟨k97, hk97, hF⟩ : ∃ k97, k97 = _ ∧ m_odds_L53 k97 x1 x2 x3 FU (0 : Int32) ((1 : Int32) <<< ((r10.2.1 5) &&& 31)) (mz_f r10.2 18 (0 : Int32)) = some res := ⟨_, rfl, hF⟩
          have K97 : ∀ (y53_4 : Int32) (y53_5 : Int32) (z53 : MZ) (H : Heap) (locs : List Loc) (ls : Array Slot), k97 y53_4 y53_5 z53 = some res → va_P D cl (mW ci d B z53) H → va_S A s.heap H locs → lv_has ls 6 [(0, .ref (B 0)), (3, .int x3), (4, .int y53_4), (5, .int y53_5)] → W p l e rmX1_odds s m args below meth c H locs 0 0 (MQ below (mQ D cl ci d B A (some (.long res.1)) res.2) args s 0 0 A) (F0 m 97 ls []) := by
            intro y53_4 y53_5 z53 H locs ls hF hP hS hl
            rw [hk97] at hF
            refine lv_aload_n E.1 E.2.1 dX1_odds_97 rfl (lv_at hl 0 rfl) ?_
            refine lv_iconst (v := (0 : Int32)) E.1 E.2.1 dX1_odds_98 (by decide) ?_
            refine mk_put E hcl hB hK hP hS 18 rfl q1128 rfl dX1_odds_99 (fun H locs hP hS => ?_)
            refine lv_iload E.1 E.2.1 dX1_odds_102 (lv_at hl 2 rfl) ?_
            refine lv_i2l E.1 E.2.1 dX1_odds_104 rfl ?_
            refine lv_iload E.1 E.2.1 dX1_odds_105 (lv_at hl 3 rfl) ?_
            refine lv_i2l E.1 E.2.1 dX1_odds_107 rfl ?_
            refine lv_iload_n E.1 E.2.1 dX1_odds_108 rfl (lv_at hl 1 rfl) ?_
            obtain ⟨r109, hq109, hF⟩ := bnd hF
            refine px_call (As := [.long (y53_4.toInt64), .long (y53_5.toInt64), .int x3]) (rest := []) (v := .long r109) E (mm_X1_inLeastTerms l (y53_4.toInt64) (y53_5.toInt64) x3 _ hq109) (va_cwS 3 E.2.2.2.2 (lw_S q1370 q1371 q58 q1372) rfl rfl rfl (by decide +kernel) ⟨Nat.le_of_ble_eq_true rfl, Nat.le_of_ble_eq_true rfl⟩) hl rfl rfl (Nat.le_of_ble_eq_true rfl) ⟨Nat.zero_le _, Nat.zero_le _⟩ dX1_odds_109 ?_
            exact mk_lret E hr hlocks hP hS hF dX1_odds_112
          have L53 : ∀ (n : Nat) (y53_4 : Int32) (y53_5 : Int32) (z53 : MZ) (H : Heap) (locs : List Loc) (ls : Array Slot), m_odds_L53 k97 x1 x2 x3 n y53_4 y53_5 z53 = some res → va_P D cl (mW ci d B z53) H → va_S A s.heap H locs → lv_has ls 6 [(0, .ref (B 0)), (1, .int x1), (2, .int x2), (3, .int x3), (4, .int y53_4), (5, .int y53_5)] → W p l e rmX1_odds s m args below meth c H locs 0 0 (MQ below (mQ D cl ci d B A (some (.long res.1)) res.2) args s 0 0 A) (F0 m 53 ls []) := by
            intro n
            induction n with
            | zero =>
              intro y53_4 y53_5 z53 H locs ls hF
              rw [m_odds_L53] at hF
              cases hF
            | succ n ih =>
              intro y53_4 y53_5 z53 H locs ls hF hP hS hl
              rw [m_odds_L53] at hF
              refine lv_aload_n E.1 E.2.1 dX1_odds_53 rfl (lv_at hl 0 rfl) ?_
              refine mk_get E hcl hK hP 18 (by decide) q1128 rfl (v := .int (z53.1 18)) rfl dX1_odds_54 ?_
              refine lv_iload E.1 E.2.1 dX1_odds_57 (lv_at hl 5 rfl) ?_
              refine lv_icmp_ge (tgt := 97) E.1 E.2.1 dX1_odds_59 (by decide) (fun h => ?_) (fun h => ?_)
              · have hF := ite_t h hF
                exact K97 y53_4 y53_5 z53 H locs ls hF hP hS (lv_sub hl [0, 3, 4, 5] rfl)
              · have hF := ite_f h hF
                refine lv_iload E.1 E.2.1 dX1_odds_62 (lv_at hl 4 rfl) ?_
                refine lv_aload_n E.1 E.2.1 dX1_odds_64 rfl (lv_at hl 0 rfl) ?_
                refine lv_iload_n E.1 E.2.1 dX1_odds_65 rfl (lv_at hl 2 rfl) ?_
                obtain ⟨r66, hq66, hF⟩ := bnd hF
                refine mk_call (As := [.int x2]) (rest := [.int y53_4]) (v := (some (.int r66.1))) E hcl hK hP hS (mm_X1_pullersOf l hcl hB x2 z53 _ hq66) (cwV 1 E.2.2.2.2 (lw_V q1290 q1292 qs43 q58 q1293) rfl rfl rfl (by decide +kernel) ⟨Nat.le_of_ble_eq_true rfl, Nat.le_of_ble_eq_true rfl⟩) hl rfl rfl (Nat.le_of_ble_eq_true rfl) ⟨Nat.zero_le _, Nat.zero_le _⟩ dX1_odds_66 (fun H locs hP hS => ?_)
                refine lv_iload_n E.1 E.2.1 dX1_odds_69 rfl (lv_at hl 1 rfl) ?_
                obtain ⟨r70, hq70, hF⟩ := bnd hF
                refine px_call (As := [.int r66.1, .int x1]) (rest := [.int y53_4]) (v := .int r70) E (mm_X1_isOf l r66.1 x1 _ hq70) (va_cwS 2 E.2.2.2.2 (lw_S q1279 q1280 q58 q1281) rfl rfl rfl (by decide +kernel) ⟨Nat.le_of_ble_eq_true rfl, Nat.le_of_ble_eq_true rfl⟩) hl rfl rfl (Nat.le_of_ble_eq_true rfl) ⟨Nat.zero_le _, Nat.zero_le _⟩ dX1_odds_70 ?_
                obtain ⟨k81, hk81, hF⟩ := jn_split hF
                have J81 : ∀ (v81_0 : Int32) (z81 : MZ) (H : Heap) (locs : List Loc) (ls : Array Slot), k81 v81_0 z81 = some res → va_P D cl (mW ci d B z81) H → va_S A s.heap H locs → lv_has ls 6 [(0, .ref (B 0)), (1, .int x1), (2, .int x2), (3, .int x3), (5, .int y53_5)] → W p l e rmX1_odds s m args below meth c H locs 0 0 (MQ below (mQ D cl ci d B A (some (.long res.1)) res.2) args s 0 0 A) (F0 m 81 ls [.int v81_0, .int y53_4]) := by
                  intro v81_0 z81 H locs ls hF hP hS hl
                  rw [hk81] at hF
                  refine lv_iadd E.1 E.2.1 dX1_odds_81 ?_
                  refine lv_istore (lv' := [(4, .int (y53_4 + v81_0)), (0, .ref (B 0)), (1, .int x1), (2, .int x2), (3, .int x3), (5, .int y53_5)]) E.1 E.2.1 dX1_odds_82 hl (by decide) rfl (fun ls hl => ?_)
                  refine lv_aload_n E.1 E.2.1 dX1_odds_84 rfl (lv_at hl 1 rfl) ?_
                  refine lv_dup E.1 E.2.1 dX1_odds_85 rfl ?_
                  refine mk_get E hcl hK hP 18 (by decide) q1128 rfl (v := .int (z81.1 18)) rfl dX1_odds_86 ?_
                  refine lv_iconst (v := (1 : Int32)) E.1 E.2.1 dX1_odds_89 (by decide) ?_
                  refine lv_iadd E.1 E.2.1 dX1_odds_90 ?_
                  refine mk_put E hcl hB hK hP hS 18 rfl q1128 rfl dX1_odds_91 (fun H locs hP hS => ?_)
                  refine lv_goto (tgt := 53) E.1 E.2.1 dX1_odds_94 (by decide) ?_
                  exact ih (y53_4 + v81_0) y53_5 (mz_f z81 18 ((z81.1 18) + (1 : Int32))) H locs ls hF hP hS (lv_sub hl [1, 2, 3, 4, 0, 5] rfl)
                refine lv_if_eq (tgt := 80) E.1 E.2.1 dX1_odds_73 (by decide) (fun h => ?_) (fun h => ?_)
                · have hF := ite_t h hF
                  refine lv_iconst (v := (0 : Int32)) E.1 E.2.1 dX1_odds_80 (by decide) ?_
                  exact J81 (0 : Int32) r66.2 H locs ls hF hP hS (lv_sub hl [0, 1, 2, 3, 5] rfl)
                · have hF := ite_f h hF
                  refine lv_iconst (v := (1 : Int32)) E.1 E.2.1 dX1_odds_76 (by decide) ?_
                  refine lv_goto (tgt := 81) E.1 E.2.1 dX1_odds_77 (by decide) ?_
                  exact J81 (1 : Int32) r66.2 H locs ls hF hP hS (lv_sub hl [0, 1, 2, 3, 5] rfl)
          exact L53 FU (0 : Int32) ((1 : Int32) <<< ((r10.2.1 5) &&& 31)) (mz_f r10.2 18 (0 : Int32)) H locs ls hF hP hS (lv_sub hl [2, 3, 4, 5, 1, 0] rfl)
        · have hF := ite_t h hF
          refine lv_ldc2 (v := (-9223372036854775808 : Int64)) E.1 E.2.1 E.2.2.2.1 (E.2.2.2.2 _ q1369) dX1_odds_33 ?_
          exact mk_lret E hr hlocks hP hS hF dX1_odds_36
/-! DebtFerryModel.sheet(III)I -/
def m_sheet_L57 (x1 : Int32) : Nat → Int32 → MZ → Option (Int32 × MZ)
  | 0, _, _ => none
  | n + 1, y57_4, z57 =>
    if (60 : Int32) ≤ y57_4 then some ((1 : Int32), z57) else gd (inb (((60 : Int32) * x1) + y57_4) 240) (m_sheet_L57 x1 n (y57_4 + 1) (mz_a z57 4 (((60 : Int32) * x1) + y57_4).toNatClampNeg (0 : Int32)))
def m_sheet (x1 : Int32) (x2 : Int32) (x3 : Int32) (z0 : MZ) : Option (Int32 × MZ) :=
  (m_isSheet x1).bind (fun r6 => if r6 = 0 then some ((-1 : Int32), (mz_f z0 0 (0 : Int32))) else (m_isSort x2).bind (fun r15 => if r15 = 0 then some ((-2 : Int32), (mz_f z0 0 (0 : Int32))) else if x3 ≤ (60 : Int32) then if 0 ≤ x3 then gd (inb x1 4) (gd (inb x1 4) (m_sheet_L57 x1 FU (0 : Int32) (mz_a (mz_a (mz_f z0 0 (0 : Int32)) 2 x1.toNatClampNeg x2) 3 x1.toNatClampNeg x3))) else (m_fails (4 : Int32) (mz_f z0 0 (0 : Int32))).bind (fun r36 => some (r36.1, r36.2)) else some ((-2 : Int32), (mz_f z0 0 (0 : Int32)))))
abbrev rmX1_sheet : Room := { frames := 3, cells := 0, slots := 0, locals := 54 }
set_option maxHeartbeats 4000000 in
set_option maxRecDepth 100000 in
theorem mm_X1_sheet (l : Launch) {D : va_G} {cl : List vw_C} {ci : Nat} {d : ClassId} {B : Nat → Nat} {A : Nat → Prop} (hcl : cl[ci]? = some (RX1, TX1, 29)) (hB : ∀ z, va_D A (mW ci d B z)) (x1 : Int32) (x2 : Int32) (x3 : Int32) (z0 : MZ) (res : Int32 × MZ) (hF : m_sheet x1 x2 x3 z0 = some res) : Met l yX1_sheet (ws_ yX1_sheet cX1_sheet 5 (some .int)) rmX1_sheet (mPc D cl ci d B z0 [.int x1, .int x2, .int x3]) (mQ D cl ci d B A (some (.int res.1)) res.2) 0 0 A := by
  refine mk_start (A := A) (by decide) rfl (Nat.le_of_ble_eq_true rfl) ?_
  intro p e s m args below meth c H locs ls E hr hlocks hK hP hS hl
  have hl : lv_has ls 5 [(0, .ref (B 0)), (1, .int x1), (2, .int x2), (3, .int x3)] := hl
  unfold m_sheet at hF
  refine lv_aload_n E.1 E.2.1 dX1_sheet_0 rfl (lv_at hl 0 rfl) ?_
  refine lv_iconst (v := (0 : Int32)) E.1 E.2.1 dX1_sheet_1 (by decide) ?_
  refine mk_put E hcl hB hK hP hS 0 rfl q1110 rfl dX1_sheet_2 (fun H locs hP hS => ?_)
  refine lv_iload_n E.1 E.2.1 dX1_sheet_5 rfl (lv_at hl 1 rfl) ?_
  obtain ⟨r6, hq6, hF⟩ := bnd hF
  refine px_call (As := [.int x1]) (rest := []) (v := .int r6) E (mm_X1_isSheet l x1 _ hq6) (va_cwS 1 E.2.2.2.2 (lw_S q1202 q1203 q58 q1204) rfl rfl rfl (by decide +kernel) ⟨Nat.le_of_ble_eq_true rfl, Nat.le_of_ble_eq_true rfl⟩) hl rfl rfl (Nat.le_of_ble_eq_true rfl) ⟨Nat.zero_le _, Nat.zero_le _⟩ dX1_sheet_6 ?_
  refine lv_if_ne (tgt := 14) E.1 E.2.1 dX1_sheet_9 (by decide) (fun h => ?_) (fun h => ?_)
  · have hF := ite_f h hF
    refine lv_iload_n E.1 E.2.1 dX1_sheet_14 rfl (lv_at hl 2 rfl) ?_
    obtain ⟨r15, hq15, hF⟩ := bnd hF
    refine px_call (As := [.int x2]) (rest := []) (v := .int r15) E (mm_X1_isSort l x2 _ hq15) (va_cwS 1 E.2.2.2.2 (lw_S q1208 q1209 q58 q1210) rfl rfl rfl (by decide +kernel) ⟨Nat.le_of_ble_eq_true rfl, Nat.le_of_ble_eq_true rfl⟩) hl rfl rfl (Nat.le_of_ble_eq_true rfl) ⟨Nat.zero_le _, Nat.zero_le _⟩ dX1_sheet_15 ?_
    refine lv_if_eq (tgt := 27) E.1 E.2.1 dX1_sheet_18 (by decide) (fun h => ?_) (fun h => ?_)
    · have hF := ite_t h hF
      refine lv_bipush (v := (-2 : Int32)) E.1 E.2.1 dX1_sheet_27 (by decide) ?_
      exact mk_iret E hr hlocks hP hS hF dX1_sheet_29
    · have hF := ite_f h hF
      refine lv_iload_n E.1 E.2.1 dX1_sheet_21 rfl (lv_at hl 3 rfl) ?_
      refine lv_bipush (v := (60 : Int32)) E.1 E.2.1 dX1_sheet_22 (by decide) ?_
      refine lv_icmp_le (tgt := 30) E.1 E.2.1 dX1_sheet_24 (by decide) (fun h => ?_) (fun h => ?_)
      · have hF := ite_t h hF
        refine lv_iload_n E.1 E.2.1 dX1_sheet_30 rfl (lv_at hl 3 rfl) ?_
        refine lv_if_ge (tgt := 40) E.1 E.2.1 dX1_sheet_31 (by decide) (fun h => ?_) (fun h => ?_)
        · have hF := ite_t h hF
          refine lv_aload_n E.1 E.2.1 dX1_sheet_40 rfl (lv_at hl 0 rfl) ?_
          refine mk_get E hcl hK hP 2 (by decide) q1112 rfl (v := .ref (B 2)) rfl dX1_sheet_41 ?_
          refine lv_iload_n E.1 E.2.1 dX1_sheet_44 rfl (lv_at hl 1 rfl) ?_
          refine lv_iload_n E.1 E.2.1 dX1_sheet_45 rfl (lv_at hl 2 rfl) ?_
          obtain ⟨h46, hF⟩ := gd_some hF
          refine mk_ast E hB hK hP hS (q := 1) (j := 2) (n := 4) rfl h46 dX1_sheet_46 (fun H locs hP hS => ?_)
          refine lv_aload_n E.1 E.2.1 dX1_sheet_47 rfl (lv_at hl 0 rfl) ?_
          refine mk_get E hcl hK hP 3 (by decide) q1113 rfl (v := .ref (B 3)) rfl dX1_sheet_48 ?_
          refine lv_iload_n E.1 E.2.1 dX1_sheet_51 rfl (lv_at hl 1 rfl) ?_
          refine lv_iload_n E.1 E.2.1 dX1_sheet_52 rfl (lv_at hl 3 rfl) ?_
          obtain ⟨h53, hF⟩ := gd_some hF
          refine mk_ast E hB hK hP hS (q := 2) (j := 3) (n := 4) rfl h53 dX1_sheet_53 (fun H locs hP hS => ?_)
          refine lv_iconst (v := (0 : Int32)) E.1 E.2.1 dX1_sheet_54 (by decide) ?_
          refine lv_istore (lv' := [(4, .int (0 : Int32)), (0, .ref (B 0)), (1, .int x1), (2, .int x2), (3, .int x3)]) E.1 E.2.1 dX1_sheet_55 hl (by decide) rfl (fun ls hl => ?_)
          have L57 : ∀ (n : Nat) (y57_4 : Int32) (z57 : MZ) (H : Heap) (locs : List Loc) (ls : Array Slot), m_sheet_L57 x1 n y57_4 z57 = some res → va_P D cl (mW ci d B z57) H → va_S A s.heap H locs → lv_has ls 5 [(0, .ref (B 0)), (1, .int x1), (4, .int y57_4)] → W p l e rmX1_sheet s m args below meth c H locs 0 0 (MQ below (mQ D cl ci d B A (some (.int res.1)) res.2) args s 0 0 A) (F0 m 57 ls []) := by
            intro n
            induction n with
            | zero =>
              intro y57_4 z57 H locs ls hF
              rw [m_sheet_L57] at hF
              cases hF
            | succ n ih =>
              intro y57_4 z57 H locs ls hF hP hS hl
              rw [m_sheet_L57] at hF
              refine lv_iload E.1 E.2.1 dX1_sheet_57 (lv_at hl 2 rfl) ?_
              refine lv_bipush (v := (60 : Int32)) E.1 E.2.1 dX1_sheet_59 (by decide) ?_
              refine lv_icmp_ge (tgt := 83) E.1 E.2.1 dX1_sheet_61 (by decide) (fun h => ?_) (fun h => ?_)
              · have hF := ite_t h hF
                refine lv_iconst (v := (1 : Int32)) E.1 E.2.1 dX1_sheet_83 (by decide) ?_
                exact mk_iret E hr hlocks hP hS hF dX1_sheet_84
              · have hF := ite_f h hF
                refine lv_aload_n E.1 E.2.1 dX1_sheet_64 rfl (lv_at hl 0 rfl) ?_
                refine mk_get E hcl hK hP 4 (by decide) q1114 rfl (v := .ref (B 4)) rfl dX1_sheet_65 ?_
                refine lv_bipush (v := (60 : Int32)) E.1 E.2.1 dX1_sheet_68 (by decide) ?_
                refine lv_iload_n E.1 E.2.1 dX1_sheet_70 rfl (lv_at hl 1 rfl) ?_
                refine lv_imul E.1 E.2.1 dX1_sheet_71 ?_
                refine lv_iload E.1 E.2.1 dX1_sheet_72 (lv_at hl 2 rfl) ?_
                refine lv_iadd E.1 E.2.1 dX1_sheet_74 ?_
                refine lv_iconst (v := (0 : Int32)) E.1 E.2.1 dX1_sheet_75 (by decide) ?_
                obtain ⟨h76, hF⟩ := gd_some hF
                refine mk_ast E hB hK hP hS (q := 3) (j := 4) (n := 240) rfl h76 dX1_sheet_76 (fun H locs hP hS => ?_)
                refine lv_iinc (v := y57_4 + 1) (lv' := [(4, .int (y57_4 + 1)), (0, .ref (B 0)), (1, .int x1)]) E.1 E.2.1 dX1_sheet_77 hl (k := 2) rfl rfl (by decide) rfl (fun ls hl => ?_)
                refine lv_goto (tgt := 57) E.1 E.2.1 dX1_sheet_80 (by decide) ?_
                exact ih (y57_4 + 1) (mz_a z57 4 (((60 : Int32) * x1) + y57_4).toNatClampNeg (0 : Int32)) H locs ls hF hP hS (lv_sub hl [1, 2, 0] rfl)
          exact L57 FU (0 : Int32) (mz_a (mz_a (mz_f z0 0 (0 : Int32)) 2 x1.toNatClampNeg x2) 3 x1.toNatClampNeg x3) H locs ls hF hP hS (lv_sub hl [1, 2, 0] rfl)
        · have hF := ite_f h hF
          refine lv_aload_n E.1 E.2.1 dX1_sheet_34 rfl (lv_at hl 0 rfl) ?_
          refine lv_iconst (v := (4 : Int32)) E.1 E.2.1 dX1_sheet_35 (by decide) ?_
          obtain ⟨r36, hq36, hF⟩ := bnd hF
          refine mk_call (As := [.int (4 : Int32)]) (rest := []) (v := (some (.int r36.1))) E hcl hK hP hS (mm_X1_fails l hcl hB (4 : Int32) (mz_f z0 0 (0 : Int32)) _ hq36) (cwV 1 E.2.2.2.2 (lw_V q1215 q1217 qs32 q58 q1218) rfl rfl rfl (by decide +kernel) ⟨Nat.le_of_ble_eq_true rfl, Nat.le_of_ble_eq_true rfl⟩) hl rfl rfl (Nat.le_of_ble_eq_true rfl) ⟨Nat.zero_le _, Nat.zero_le _⟩ dX1_sheet_36 (fun H locs hP hS => ?_)
          exact mk_iret E hr hlocks hP hS hF dX1_sheet_39
      · have hF := ite_f h hF
        refine lv_bipush (v := (-2 : Int32)) E.1 E.2.1 dX1_sheet_27 (by decide) ?_
        exact mk_iret E hr hlocks hP hS hF dX1_sheet_29
  · have hF := ite_t h hF
    refine lv_iconst (v := (-1 : Int32)) E.1 E.2.1 dX1_sheet_12 (by decide) ?_
    exact mk_iret E hr hlocks hP hS hF dX1_sheet_13
/-! DebtFerryModel.lose(I)I -/
def m_lose (x1 : Int32) (z0 : MZ) : Option (Int32 × MZ) :=
  (m_isSheet x1).bind (fun r1 => if r1 = 0 then some ((-1 : Int32), z0) else gd (inb x1 4) (jn (fun (v25_0 : Int32) (z25 : MZ) => gd (inb x1 4) (some (v25_0, (mz_a z25 2 x1.toNatClampNeg (-9 : Int32))))) (fun (k25 : Int32 → MZ → Option (Int32 × MZ)) => if (z0.2 2 x1.toNatClampNeg) = (-9 : Int32) then k25 (0 : Int32) z0 else k25 (1 : Int32) z0)))
abbrev rmX1_lose : Room := { frames := 3, cells := 0, slots := 0, locals := 54 }
set_option maxHeartbeats 4000000 in
set_option maxRecDepth 100000 in
theorem mm_X1_lose (l : Launch) {D : va_G} {cl : List vw_C} {ci : Nat} {d : ClassId} {B : Nat → Nat} {A : Nat → Prop} (hcl : cl[ci]? = some (RX1, TX1, 29)) (hB : ∀ z, va_D A (mW ci d B z)) (x1 : Int32) (z0 : MZ) (res : Int32 × MZ) (hF : m_lose x1 z0 = some res) : Met l yX1_lose (ws_ yX1_lose cX1_lose 3 (some .int)) rmX1_lose (mPc D cl ci d B z0 [.int x1]) (mQ D cl ci d B A (some (.int res.1)) res.2) 0 0 A := by
  refine mk_start (A := A) (by decide) rfl (Nat.le_of_ble_eq_true rfl) ?_
  intro p e s m args below meth c H locs ls E hr hlocks hK hP hS hl
  have hl : lv_has ls 3 [(0, .ref (B 0)), (1, .int x1)] := hl
  unfold m_lose at hF
  refine lv_iload_n E.1 E.2.1 dX1_lose_0 rfl (lv_at hl 1 rfl) ?_
  obtain ⟨r1, hq1, hF⟩ := bnd hF
  refine px_call (As := [.int x1]) (rest := []) (v := .int r1) E (mm_X1_isSheet l x1 _ hq1) (va_cwS 1 E.2.2.2.2 (lw_S q1202 q1203 q58 q1204) rfl rfl rfl (by decide +kernel) ⟨Nat.le_of_ble_eq_true rfl, Nat.le_of_ble_eq_true rfl⟩) hl rfl rfl (Nat.le_of_ble_eq_true rfl) ⟨Nat.zero_le _, Nat.zero_le _⟩ dX1_lose_1 ?_
  refine lv_if_ne (tgt := 9) E.1 E.2.1 dX1_lose_4 (by decide) (fun h => ?_) (fun h => ?_)
  · have hF := ite_f h hF
    refine lv_aload_n E.1 E.2.1 dX1_lose_9 rfl (lv_at hl 0 rfl) ?_
    refine mk_get E hcl hK hP 2 (by decide) q1112 rfl (v := .ref (B 2)) rfl dX1_lose_10 ?_
    refine lv_iload_n E.1 E.2.1 dX1_lose_13 rfl (lv_at hl 1 rfl) ?_
    obtain ⟨h14, hF⟩ := gd_some hF
    refine mk_ald E hK hP (q := 1) (j := 2) (n := 4) rfl h14 dX1_lose_14 ?_
    refine lv_bipush (v := (-9 : Int32)) E.1 E.2.1 dX1_lose_15 (by decide) ?_
    obtain ⟨k25, hk25, hF⟩ := jn_split hF
    have J25 : ∀ (v25_0 : Int32) (z25 : MZ) (H : Heap) (locs : List Loc) (ls : Array Slot), k25 v25_0 z25 = some res → va_P D cl (mW ci d B z25) H → va_S A s.heap H locs → lv_has ls 3 [(0, .ref (B 0)), (1, .int x1)] → W p l e rmX1_lose s m args below meth c H locs 0 0 (MQ below (mQ D cl ci d B A (some (.int res.1)) res.2) args s 0 0 A) (F0 m 25 ls [.int v25_0]) := by
      intro v25_0 z25 H locs ls hF hP hS hl
      rw [hk25] at hF
      refine lv_istore_n (lv' := [(2, .int v25_0), (0, .ref (B 0)), (1, .int x1)]) E.1 E.2.1 dX1_lose_25 rfl hl (by decide) rfl (fun ls hl => ?_)
      refine lv_aload_n E.1 E.2.1 dX1_lose_26 rfl (lv_at hl 1 rfl) ?_
      refine mk_get E hcl hK hP 2 (by decide) q1112 rfl (v := .ref (B 2)) rfl dX1_lose_27 ?_
      refine lv_iload_n E.1 E.2.1 dX1_lose_30 rfl (lv_at hl 2 rfl) ?_
      refine lv_bipush (v := (-9 : Int32)) E.1 E.2.1 dX1_lose_31 (by decide) ?_
      obtain ⟨h33, hF⟩ := gd_some hF
      refine mk_ast E hB hK hP hS (q := 1) (j := 2) (n := 4) rfl h33 dX1_lose_33 (fun H locs hP hS => ?_)
      refine lv_iload_n E.1 E.2.1 dX1_lose_34 rfl (lv_at hl 0 rfl) ?_
      exact mk_iret E hr hlocks hP hS hF dX1_lose_35
    refine lv_icmp_ne (tgt := 24) E.1 E.2.1 dX1_lose_17 (by decide) (fun h => ?_) (fun h => ?_)
    · have hF := ite_f h hF
      refine lv_iconst (v := (1 : Int32)) E.1 E.2.1 dX1_lose_24 (by decide) ?_
      exact J25 (1 : Int32) z0 H locs ls hF hP hS (lv_sub hl [0, 1] rfl)
    · have hF := ite_t h hF
      refine lv_iconst (v := (0 : Int32)) E.1 E.2.1 dX1_lose_20 (by decide) ?_
      refine lv_goto (tgt := 25) E.1 E.2.1 dX1_lose_21 (by decide) ?_
      exact J25 (0 : Int32) z0 H locs ls hF hP hS (lv_sub hl [0, 1] rfl)
  · have hF := ite_t h hF
    refine lv_iconst (v := (-1 : Int32)) E.1 E.2.1 dX1_lose_7 (by decide) ?_
    exact mk_iret E hr hlocks hP hS hF dX1_lose_8
/-! DebtFerryModel.put(III)I -/
def m_put (x1 : Int32) (x2 : Int32) (x3 : Int32) (z0 : MZ) : Option (Int32 × MZ) :=
  (m_isSheet x1).bind (fun r6 => if r6 = 0 then some ((-1 : Int32), (mz_f z0 0 (0 : Int32))) else gd (inb x1 4) (if ((mz_f z0 0 (0 : Int32)).2 2 x1.toNatClampNeg) = (-9 : Int32) then (m_fails (1 : Int32) (mz_f z0 0 (0 : Int32))).bind (fun r27 => some (r27.1, r27.2)) else gd (inb x1 4) ((m_within x2 (0 : Int32) (((mz_f z0 0 (0 : Int32)).2 3 x1.toNatClampNeg) - (1 : Int32))).bind (fun r41 => if r41 = 0 then (m_fails (3 : Int32) (mz_f z0 0 (0 : Int32))).bind (fun r49 => some (r49.1, r49.2)) else gd (inb x1 4) (jn (fun (v93_0 : Int32) (z93 : MZ) => gd (inb (((60 : Int32) * x1) + x2) 240) (some ((1 : Int32), (mz_a z93 4 (((60 : Int32) * x1) + x2).toNatClampNeg v93_0)))) (fun (k93 : Int32 → MZ → Option (Int32 × MZ)) => if ((mz_f z0 0 (0 : Int32)).2 2 x1.toNatClampNeg) = 0 then k93 (x3.toInt8.toInt32) (mz_f z0 0 (0 : Int32)) else gd (inb x1 4) (if ((mz_f z0 0 (0 : Int32)).2 2 x1.toNatClampNeg) = (1 : Int32) then k93 (x3.toInt16.toInt32) (mz_f z0 0 (0 : Int32)) else k93 x3 (mz_f z0 0 (0 : Int32)))))))))
abbrev rmX1_put : Room := { frames := 3, cells := 0, slots := 0, locals := 54 }
set_option maxHeartbeats 4000000 in
set_option maxRecDepth 100000 in
theorem mm_X1_put (l : Launch) {D : va_G} {cl : List vw_C} {ci : Nat} {d : ClassId} {B : Nat → Nat} {A : Nat → Prop} (hcl : cl[ci]? = some (RX1, TX1, 29)) (hB : ∀ z, va_D A (mW ci d B z)) (x1 : Int32) (x2 : Int32) (x3 : Int32) (z0 : MZ) (res : Int32 × MZ) (hF : m_put x1 x2 x3 z0 = some res) : Met l yX1_put (ws_ yX1_put cX1_put 4 (some .int)) rmX1_put (mPc D cl ci d B z0 [.int x1, .int x2, .int x3]) (mQ D cl ci d B A (some (.int res.1)) res.2) 0 0 A := by
  refine mk_start (A := A) (by decide) rfl (Nat.le_of_ble_eq_true rfl) ?_
  intro p e s m args below meth c H locs ls E hr hlocks hK hP hS hl
  have hl : lv_has ls 4 [(0, .ref (B 0)), (1, .int x1), (2, .int x2), (3, .int x3)] := hl
  unfold m_put at hF
  refine lv_aload_n E.1 E.2.1 dX1_put_0 rfl (lv_at hl 0 rfl) ?_
  refine lv_iconst (v := (0 : Int32)) E.1 E.2.1 dX1_put_1 (by decide) ?_
  refine mk_put E hcl hB hK hP hS 0 rfl q1110 rfl dX1_put_2 (fun H locs hP hS => ?_)
  refine lv_iload_n E.1 E.2.1 dX1_put_5 rfl (lv_at hl 1 rfl) ?_
  obtain ⟨r6, hq6, hF⟩ := bnd hF
  refine px_call (As := [.int x1]) (rest := []) (v := .int r6) E (mm_X1_isSheet l x1 _ hq6) (va_cwS 1 E.2.2.2.2 (lw_S q1202 q1203 q58 q1204) rfl rfl rfl (by decide +kernel) ⟨Nat.le_of_ble_eq_true rfl, Nat.le_of_ble_eq_true rfl⟩) hl rfl rfl (Nat.le_of_ble_eq_true rfl) ⟨Nat.zero_le _, Nat.zero_le _⟩ dX1_put_6 ?_
  refine lv_if_ne (tgt := 14) E.1 E.2.1 dX1_put_9 (by decide) (fun h => ?_) (fun h => ?_)
  · have hF := ite_f h hF
    refine lv_aload_n E.1 E.2.1 dX1_put_14 rfl (lv_at hl 0 rfl) ?_
    refine mk_get E hcl hK hP 2 (by decide) q1112 rfl (v := .ref (B 2)) rfl dX1_put_15 ?_
    refine lv_iload_n E.1 E.2.1 dX1_put_18 rfl (lv_at hl 1 rfl) ?_
    obtain ⟨h19, hF⟩ := gd_some hF
    refine mk_ald E hK hP (q := 1) (j := 2) (n := 4) rfl h19 dX1_put_19 ?_
    refine lv_bipush (v := (-9 : Int32)) E.1 E.2.1 dX1_put_20 (by decide) ?_
    refine lv_icmp_ne (tgt := 31) E.1 E.2.1 dX1_put_22 (by decide) (fun h => ?_) (fun h => ?_)
    · have hF := ite_f h hF
      refine lv_iload_n E.1 E.2.1 dX1_put_31 rfl (lv_at hl 2 rfl) ?_
      refine lv_iconst (v := (0 : Int32)) E.1 E.2.1 dX1_put_32 (by decide) ?_
      refine lv_aload_n E.1 E.2.1 dX1_put_33 rfl (lv_at hl 0 rfl) ?_
      refine mk_get E hcl hK hP 3 (by decide) q1113 rfl (v := .ref (B 3)) rfl dX1_put_34 ?_
      refine lv_iload_n E.1 E.2.1 dX1_put_37 rfl (lv_at hl 1 rfl) ?_
      obtain ⟨h38, hF⟩ := gd_some hF
      refine mk_ald E hK hP (q := 2) (j := 3) (n := 4) rfl h38 dX1_put_38 ?_
      refine lv_iconst (v := (1 : Int32)) E.1 E.2.1 dX1_put_39 (by decide) ?_
      refine lv_isub E.1 E.2.1 dX1_put_40 ?_
      obtain ⟨r41, hq41, hF⟩ := bnd hF
      refine px_call (As := [.int x2, .int (0 : Int32), .int (((mz_f z0 0 (0 : Int32)).2 3 x1.toNatClampNeg) - (1 : Int32))]) (rest := []) (v := .int r41) E (mm_X1_within l x2 (0 : Int32) (((mz_f z0 0 (0 : Int32)).2 3 x1.toNatClampNeg) - (1 : Int32)) _ hq41) (va_cwS 3 E.2.2.2.2 (lw_S q1205 q1206 q58 q1207) rfl rfl rfl (by decide +kernel) ⟨Nat.le_of_ble_eq_true rfl, Nat.le_of_ble_eq_true rfl⟩) hl rfl rfl (Nat.le_of_ble_eq_true rfl) ⟨Nat.zero_le _, Nat.zero_le _⟩ dX1_put_41 ?_
      refine lv_if_ne (tgt := 53) E.1 E.2.1 dX1_put_44 (by decide) (fun h => ?_) (fun h => ?_)
      · have hF := ite_f h hF
        refine lv_aload_n E.1 E.2.1 dX1_put_53 rfl (lv_at hl 0 rfl) ?_
        refine mk_get E hcl hK hP 4 (by decide) q1114 rfl (v := .ref (B 4)) rfl dX1_put_54 ?_
        refine lv_bipush (v := (60 : Int32)) E.1 E.2.1 dX1_put_57 (by decide) ?_
        refine lv_iload_n E.1 E.2.1 dX1_put_59 rfl (lv_at hl 1 rfl) ?_
        refine lv_imul E.1 E.2.1 dX1_put_60 ?_
        refine lv_iload_n E.1 E.2.1 dX1_put_61 rfl (lv_at hl 2 rfl) ?_
        refine lv_iadd E.1 E.2.1 dX1_put_62 ?_
        refine lv_aload_n E.1 E.2.1 dX1_put_63 rfl (lv_at hl 0 rfl) ?_
        refine mk_get E hcl hK hP 2 (by decide) q1112 rfl (v := .ref (B 2)) rfl dX1_put_64 ?_
        refine lv_iload_n E.1 E.2.1 dX1_put_67 rfl (lv_at hl 1 rfl) ?_
        obtain ⟨h68, hF⟩ := gd_some hF
        refine mk_ald E hK hP (q := 1) (j := 2) (n := 4) rfl h68 dX1_put_68 ?_
        obtain ⟨k93, hk93, hF⟩ := jn_split hF
        have J93 : ∀ (v93_0 : Int32) (z93 : MZ) (H : Heap) (locs : List Loc) (ls : Array Slot), k93 v93_0 z93 = some res → va_P D cl (mW ci d B z93) H → va_S A s.heap H locs → lv_has ls 4 [] → W p l e rmX1_put s m args below meth c H locs 0 0 (MQ below (mQ D cl ci d B A (some (.int res.1)) res.2) args s 0 0 A) (F0 m 93 ls [.int v93_0, .int (((60 : Int32) * x1) + x2), .ref (B 4)]) := by
          intro v93_0 z93 H locs ls hF hP hS hl
          rw [hk93] at hF
          obtain ⟨h93, hF⟩ := gd_some hF
          refine mk_ast E hB hK hP hS (q := 3) (j := 4) (n := 240) rfl h93 dX1_put_93 (fun H locs hP hS => ?_)
          refine lv_iconst (v := (1 : Int32)) E.1 E.2.1 dX1_put_94 (by decide) ?_
          exact mk_iret E hr hlocks hP hS hF dX1_put_95
        refine lv_if_ne (tgt := 77) E.1 E.2.1 dX1_put_69 (by decide) (fun h => ?_) (fun h => ?_)
        · have hF := ite_f h hF
          refine lv_aload_n E.1 E.2.1 dX1_put_77 rfl (lv_at hl 0 rfl) ?_
          refine mk_get E hcl hK hP 2 (by decide) q1112 rfl (v := .ref (B 2)) rfl dX1_put_78 ?_
          refine lv_iload_n E.1 E.2.1 dX1_put_81 rfl (lv_at hl 1 rfl) ?_
          obtain ⟨h82, hF⟩ := gd_some hF
          refine mk_ald E hK hP (q := 1) (j := 2) (n := 4) rfl h82 dX1_put_82 ?_
          refine lv_iconst (v := (1 : Int32)) E.1 E.2.1 dX1_put_83 (by decide) ?_
          refine lv_icmp_ne (tgt := 92) E.1 E.2.1 dX1_put_84 (by decide) (fun h => ?_) (fun h => ?_)
          · have hF := ite_f h hF
            refine lv_iload_n E.1 E.2.1 dX1_put_92 rfl (lv_at hl 3 rfl) ?_
            exact J93 x3 (mz_f z0 0 (0 : Int32)) H locs ls hF hP hS (lv_sub hl [] rfl)
          · have hF := ite_t h hF
            refine lv_iload_n E.1 E.2.1 dX1_put_87 rfl (lv_at hl 3 rfl) ?_
            refine lv_i2s E.1 E.2.1 dX1_put_88 rfl ?_
            refine lv_goto (tgt := 93) E.1 E.2.1 dX1_put_89 (by decide) ?_
            exact J93 (x3.toInt16.toInt32) (mz_f z0 0 (0 : Int32)) H locs ls hF hP hS (lv_sub hl [] rfl)
        · have hF := ite_t h hF
          refine lv_iload_n E.1 E.2.1 dX1_put_72 rfl (lv_at hl 3 rfl) ?_
          refine lv_i2b E.1 E.2.1 dX1_put_73 rfl ?_
          refine lv_goto (tgt := 93) E.1 E.2.1 dX1_put_74 (by decide) ?_
          exact J93 (x3.toInt8.toInt32) (mz_f z0 0 (0 : Int32)) H locs ls hF hP hS (lv_sub hl [] rfl)
      · have hF := ite_t h hF
        refine lv_aload_n E.1 E.2.1 dX1_put_47 rfl (lv_at hl 0 rfl) ?_
        refine lv_iconst (v := (3 : Int32)) E.1 E.2.1 dX1_put_48 (by decide) ?_
        obtain ⟨r49, hq49, hF⟩ := bnd hF
        refine mk_call (As := [.int (3 : Int32)]) (rest := []) (v := (some (.int r49.1))) E hcl hK hP hS (mm_X1_fails l hcl hB (3 : Int32) (mz_f z0 0 (0 : Int32)) _ hq49) (cwV 1 E.2.2.2.2 (lw_V q1215 q1217 qs32 q58 q1218) rfl rfl rfl (by decide +kernel) ⟨Nat.le_of_ble_eq_true rfl, Nat.le_of_ble_eq_true rfl⟩) hl rfl rfl (Nat.le_of_ble_eq_true rfl) ⟨Nat.zero_le _, Nat.zero_le _⟩ dX1_put_49 (fun H locs hP hS => ?_)
        exact mk_iret E hr hlocks hP hS hF dX1_put_52
    · have hF := ite_t h hF
      refine lv_aload_n E.1 E.2.1 dX1_put_25 rfl (lv_at hl 0 rfl) ?_
      refine lv_iconst (v := (1 : Int32)) E.1 E.2.1 dX1_put_26 (by decide) ?_
      obtain ⟨r27, hq27, hF⟩ := bnd hF
      refine mk_call (As := [.int (1 : Int32)]) (rest := []) (v := (some (.int r27.1))) E hcl hK hP hS (mm_X1_fails l hcl hB (1 : Int32) (mz_f z0 0 (0 : Int32)) _ hq27) (cwV 1 E.2.2.2.2 (lw_V q1215 q1217 qs32 q58 q1218) rfl rfl rfl (by decide +kernel) ⟨Nat.le_of_ble_eq_true rfl, Nat.le_of_ble_eq_true rfl⟩) hl rfl rfl (Nat.le_of_ble_eq_true rfl) ⟨Nat.zero_le _, Nat.zero_le _⟩ dX1_put_27 (fun H locs hP hS => ?_)
      exact mk_iret E hr hlocks hP hS hF dX1_put_30
  · have hF := ite_t h hF
    refine lv_iconst (v := (-1 : Int32)) E.1 E.2.1 dX1_put_12 (by decide) ?_
    exact mk_iret E hr hlocks hP hS hF dX1_put_13
/-! DebtFerryModel.lost(I)J -/
def m_lost (x1 : Int32) (z0 : MZ) : Option (Int64 × MZ) :=
  some ((-9223372036854775808 : Int64), (mz_f z0 0 x1))
abbrev rmX1_lost : Room := { frames := 1, cells := 0, slots := 0, locals := 12 }
set_option maxHeartbeats 4000000 in
set_option maxRecDepth 100000 in
theorem mm_X1_lost (l : Launch) {D : va_G} {cl : List vw_C} {ci : Nat} {d : ClassId} {B : Nat → Nat} {A : Nat → Prop} (hcl : cl[ci]? = some (RX1, TX1, 29)) (hB : ∀ z, va_D A (mW ci d B z)) (x1 : Int32) (z0 : MZ) (res : Int64 × MZ) (hF : m_lost x1 z0 = some res) : Met l yX1_lost (ws_ yX1_lost cX1_lost 2 (some .long)) rmX1_lost (mPc D cl ci d B z0 [.int x1]) (mQ D cl ci d B A (some (.long res.1)) res.2) 0 0 A := by
  refine mk_start (A := A) (by decide) rfl (Nat.le_of_ble_eq_true rfl) ?_
  intro p e s m args below meth c H locs ls E hr hlocks hK hP hS hl
  have hl : lv_has ls 2 [(0, .ref (B 0)), (1, .int x1)] := hl
  unfold m_lost at hF
  refine lv_aload_n E.1 E.2.1 dX1_lost_0 rfl (lv_at hl 0 rfl) ?_
  refine lv_iload_n E.1 E.2.1 dX1_lost_1 rfl (lv_at hl 1 rfl) ?_
  refine mk_put E hcl hB hK hP hS 0 rfl q1110 rfl dX1_lost_2 (fun H locs hP hS => ?_)
  refine lv_ldc2 (v := (-9223372036854775808 : Int64)) E.1 E.2.1 E.2.2.2.1 (E.2.2.2.2 _ q1369) dX1_lost_5 ?_
  exact mk_lret E hr hlocks hP hS hF dX1_lost_8
/-! DebtFerryModel.cell(III)J -/
def m_cell (x1 : Int32) (x2 : Int32) (x3 : Int32) (z0 : MZ) : Option (Int64 × MZ) :=
  (m_isSheet x1).bind (fun r6 => if r6 = 0 then some ((-9223372036854775808 : Int64), (mz_f z0 0 (0 : Int32))) else (m_isSort x3).bind (fun r13 => if r13 = 0 then some ((-9223372036854775808 : Int64), (mz_f z0 0 (0 : Int32))) else gd (inb x1 4) (jn (fun  (z50 : MZ) => gd (inb x1 4) (if (z50.2 2 x1.toNatClampNeg) = (-9 : Int32) then (m_lost (1 : Int32) z50).bind (fun r63 => some (r63.1, r63.2)) else gd (inb x1 4) ((m_within x2 (0 : Int32) ((z50.2 3 x1.toNatClampNeg) - (1 : Int32))).bind (fun r77 => if r77 = 0 then (m_lost (3 : Int32) z50).bind (fun r85 => some (r85.1, r85.2)) else gd (inb (((60 : Int32) * x1) + x2) 240) (some (((z50.2 4 (((60 : Int32) * x1) + x2).toNatClampNeg).toInt64), z50)))))) (fun (k50 : MZ → Option (Int64 × MZ)) => if ((mz_f z0 0 (0 : Int32)).2 2 x1.toNatClampNeg) = (-9 : Int32) then k50  (mz_f z0 0 (0 : Int32)) else gd (inb x1 4) (if ((mz_f z0 0 (0 : Int32)).2 2 x1.toNatClampNeg) = x3 then k50  (mz_f z0 0 (0 : Int32)) else (m_lost (2 : Int32) (mz_f z0 0 (0 : Int32))).bind (fun r46 => some (r46.1, r46.2)))))))
abbrev rmX1_cell : Room := { frames := 3, cells := 0, slots := 0, locals := 54 }
set_option maxHeartbeats 4000000 in
set_option maxRecDepth 100000 in
theorem mm_X1_cell (l : Launch) {D : va_G} {cl : List vw_C} {ci : Nat} {d : ClassId} {B : Nat → Nat} {A : Nat → Prop} (hcl : cl[ci]? = some (RX1, TX1, 29)) (hB : ∀ z, va_D A (mW ci d B z)) (x1 : Int32) (x2 : Int32) (x3 : Int32) (z0 : MZ) (res : Int64 × MZ) (hF : m_cell x1 x2 x3 z0 = some res) : Met l yX1_cell (ws_ yX1_cell cX1_cell 4 (some .long)) rmX1_cell (mPc D cl ci d B z0 [.int x1, .int x2, .int x3]) (mQ D cl ci d B A (some (.long res.1)) res.2) 0 0 A := by
  refine mk_start (A := A) (by decide) rfl (Nat.le_of_ble_eq_true rfl) ?_
  intro p e s m args below meth c H locs ls E hr hlocks hK hP hS hl
  have hl : lv_has ls 4 [(0, .ref (B 0)), (1, .int x1), (2, .int x2), (3, .int x3)] := hl
  unfold m_cell at hF
  refine lv_aload_n E.1 E.2.1 dX1_cell_0 rfl (lv_at hl 0 rfl) ?_
  refine lv_iconst (v := (0 : Int32)) E.1 E.2.1 dX1_cell_1 (by decide) ?_
  refine mk_put E hcl hB hK hP hS 0 rfl q1110 rfl dX1_cell_2 (fun H locs hP hS => ?_)
  refine lv_iload_n E.1 E.2.1 dX1_cell_5 rfl (lv_at hl 1 rfl) ?_
  obtain ⟨r6, hq6, hF⟩ := bnd hF
  refine px_call (As := [.int x1]) (rest := []) (v := .int r6) E (mm_X1_isSheet l x1 _ hq6) (va_cwS 1 E.2.2.2.2 (lw_S q1202 q1203 q58 q1204) rfl rfl rfl (by decide +kernel) ⟨Nat.le_of_ble_eq_true rfl, Nat.le_of_ble_eq_true rfl⟩) hl rfl rfl (Nat.le_of_ble_eq_true rfl) ⟨Nat.zero_le _, Nat.zero_le _⟩ dX1_cell_6 ?_
  refine lv_if_eq (tgt := 19) E.1 E.2.1 dX1_cell_9 (by decide) (fun h => ?_) (fun h => ?_)
  · have hF := ite_t h hF
    refine lv_ldc2 (v := (-9223372036854775808 : Int64)) E.1 E.2.1 E.2.2.2.1 (E.2.2.2.2 _ q1369) dX1_cell_19 ?_
    exact mk_lret E hr hlocks hP hS hF dX1_cell_22
  · have hF := ite_f h hF
    refine lv_iload_n E.1 E.2.1 dX1_cell_12 rfl (lv_at hl 3 rfl) ?_
    obtain ⟨r13, hq13, hF⟩ := bnd hF
    refine px_call (As := [.int x3]) (rest := []) (v := .int r13) E (mm_X1_isSort l x3 _ hq13) (va_cwS 1 E.2.2.2.2 (lw_S q1208 q1209 q58 q1210) rfl rfl rfl (by decide +kernel) ⟨Nat.le_of_ble_eq_true rfl, Nat.le_of_ble_eq_true rfl⟩) hl rfl rfl (Nat.le_of_ble_eq_true rfl) ⟨Nat.zero_le _, Nat.zero_le _⟩ dX1_cell_13 ?_
    refine lv_if_ne (tgt := 23) E.1 E.2.1 dX1_cell_16 (by decide) (fun h => ?_) (fun h => ?_)
    · have hF := ite_f h hF
      refine lv_aload_n E.1 E.2.1 dX1_cell_23 rfl (lv_at hl 0 rfl) ?_
      refine mk_get E hcl hK hP 2 (by decide) q1112 rfl (v := .ref (B 2)) rfl dX1_cell_24 ?_
      refine lv_iload_n E.1 E.2.1 dX1_cell_27 rfl (lv_at hl 1 rfl) ?_
      obtain ⟨h28, hF⟩ := gd_some hF
      refine mk_ald E hK hP (q := 1) (j := 2) (n := 4) rfl h28 dX1_cell_28 ?_
      refine lv_bipush (v := (-9 : Int32)) E.1 E.2.1 dX1_cell_29 (by decide) ?_
      obtain ⟨k50, hk50, hF⟩ := jn_split hF
      have J50 : ∀  (z50 : MZ) (H : Heap) (locs : List Loc) (ls : Array Slot), k50  z50 = some res → va_P D cl (mW ci d B z50) H → va_S A s.heap H locs → lv_has ls 4 [(0, .ref (B 0)), (1, .int x1), (2, .int x2)] → W p l e rmX1_cell s m args below meth c H locs 0 0 (MQ below (mQ D cl ci d B A (some (.long res.1)) res.2) args s 0 0 A) (F0 m 50 ls []) := by
        intro  z50 H locs ls hF hP hS hl
        rw [hk50] at hF
        refine lv_aload_n E.1 E.2.1 dX1_cell_50 rfl (lv_at hl 0 rfl) ?_
        refine mk_get E hcl hK hP 2 (by decide) q1112 rfl (v := .ref (B 2)) rfl dX1_cell_51 ?_
        refine lv_iload_n E.1 E.2.1 dX1_cell_54 rfl (lv_at hl 1 rfl) ?_
        obtain ⟨h55, hF⟩ := gd_some hF
        refine mk_ald E hK hP (q := 1) (j := 2) (n := 4) rfl h55 dX1_cell_55 ?_
        refine lv_bipush (v := (-9 : Int32)) E.1 E.2.1 dX1_cell_56 (by decide) ?_
        refine lv_icmp_ne (tgt := 67) E.1 E.2.1 dX1_cell_58 (by decide) (fun h => ?_) (fun h => ?_)
        · have hF := ite_f h hF
          refine lv_iload_n E.1 E.2.1 dX1_cell_67 rfl (lv_at hl 2 rfl) ?_
          refine lv_iconst (v := (0 : Int32)) E.1 E.2.1 dX1_cell_68 (by decide) ?_
          refine lv_aload_n E.1 E.2.1 dX1_cell_69 rfl (lv_at hl 0 rfl) ?_
          refine mk_get E hcl hK hP 3 (by decide) q1113 rfl (v := .ref (B 3)) rfl dX1_cell_70 ?_
          refine lv_iload_n E.1 E.2.1 dX1_cell_73 rfl (lv_at hl 1 rfl) ?_
          obtain ⟨h74, hF⟩ := gd_some hF
          refine mk_ald E hK hP (q := 2) (j := 3) (n := 4) rfl h74 dX1_cell_74 ?_
          refine lv_iconst (v := (1 : Int32)) E.1 E.2.1 dX1_cell_75 (by decide) ?_
          refine lv_isub E.1 E.2.1 dX1_cell_76 ?_
          obtain ⟨r77, hq77, hF⟩ := bnd hF
          refine px_call (As := [.int x2, .int (0 : Int32), .int ((z50.2 3 x1.toNatClampNeg) - (1 : Int32))]) (rest := []) (v := .int r77) E (mm_X1_within l x2 (0 : Int32) ((z50.2 3 x1.toNatClampNeg) - (1 : Int32)) _ hq77) (va_cwS 3 E.2.2.2.2 (lw_S q1205 q1206 q58 q1207) rfl rfl rfl (by decide +kernel) ⟨Nat.le_of_ble_eq_true rfl, Nat.le_of_ble_eq_true rfl⟩) hl rfl rfl (Nat.le_of_ble_eq_true rfl) ⟨Nat.zero_le _, Nat.zero_le _⟩ dX1_cell_77 ?_
          refine lv_if_ne (tgt := 89) E.1 E.2.1 dX1_cell_80 (by decide) (fun h => ?_) (fun h => ?_)
          · have hF := ite_f h hF
            refine lv_aload_n E.1 E.2.1 dX1_cell_89 rfl (lv_at hl 0 rfl) ?_
            refine mk_get E hcl hK hP 4 (by decide) q1114 rfl (v := .ref (B 4)) rfl dX1_cell_90 ?_
            refine lv_bipush (v := (60 : Int32)) E.1 E.2.1 dX1_cell_93 (by decide) ?_
            refine lv_iload_n E.1 E.2.1 dX1_cell_95 rfl (lv_at hl 1 rfl) ?_
            refine lv_imul E.1 E.2.1 dX1_cell_96 ?_
            refine lv_iload_n E.1 E.2.1 dX1_cell_97 rfl (lv_at hl 2 rfl) ?_
            refine lv_iadd E.1 E.2.1 dX1_cell_98 ?_
            obtain ⟨h99, hF⟩ := gd_some hF
            refine mk_ald E hK hP (q := 3) (j := 4) (n := 240) rfl h99 dX1_cell_99 ?_
            refine lv_i2l E.1 E.2.1 dX1_cell_100 rfl ?_
            exact mk_lret E hr hlocks hP hS hF dX1_cell_101
          · have hF := ite_t h hF
            refine lv_aload_n E.1 E.2.1 dX1_cell_83 rfl (lv_at hl 0 rfl) ?_
            refine lv_iconst (v := (3 : Int32)) E.1 E.2.1 dX1_cell_84 (by decide) ?_
            obtain ⟨r85, hq85, hF⟩ := bnd hF
            refine mk_call (As := [.int (3 : Int32)]) (rest := []) (v := (some (.long r85.1))) E hcl hK hP hS (mm_X1_lost l hcl hB (3 : Int32) z50 _ hq85) (cwV 1 E.2.2.2.2 (lw_V q1389 q1391 qs51 q58 q1392) rfl rfl rfl (by decide +kernel) ⟨Nat.le_of_ble_eq_true rfl, Nat.le_of_ble_eq_true rfl⟩) hl rfl rfl (Nat.le_of_ble_eq_true rfl) ⟨Nat.zero_le _, Nat.zero_le _⟩ dX1_cell_85 (fun H locs hP hS => ?_)
            exact mk_lret E hr hlocks hP hS hF dX1_cell_88
        · have hF := ite_t h hF
          refine lv_aload_n E.1 E.2.1 dX1_cell_61 rfl (lv_at hl 0 rfl) ?_
          refine lv_iconst (v := (1 : Int32)) E.1 E.2.1 dX1_cell_62 (by decide) ?_
          obtain ⟨r63, hq63, hF⟩ := bnd hF
          refine mk_call (As := [.int (1 : Int32)]) (rest := []) (v := (some (.long r63.1))) E hcl hK hP hS (mm_X1_lost l hcl hB (1 : Int32) z50 _ hq63) (cwV 1 E.2.2.2.2 (lw_V q1389 q1391 qs51 q58 q1392) rfl rfl rfl (by decide +kernel) ⟨Nat.le_of_ble_eq_true rfl, Nat.le_of_ble_eq_true rfl⟩) hl rfl rfl (Nat.le_of_ble_eq_true rfl) ⟨Nat.zero_le _, Nat.zero_le _⟩ dX1_cell_63 (fun H locs hP hS => ?_)
          exact mk_lret E hr hlocks hP hS hF dX1_cell_66
      refine lv_icmp_eq (tgt := 50) E.1 E.2.1 dX1_cell_31 (by decide) (fun h => ?_) (fun h => ?_)
      · have hF := ite_t h hF
        exact J50  (mz_f z0 0 (0 : Int32)) H locs ls hF hP hS (lv_sub hl [0, 1, 2] rfl)
      · have hF := ite_f h hF
        refine lv_aload_n E.1 E.2.1 dX1_cell_34 rfl (lv_at hl 0 rfl) ?_
        refine mk_get E hcl hK hP 2 (by decide) q1112 rfl (v := .ref (B 2)) rfl dX1_cell_35 ?_
        refine lv_iload_n E.1 E.2.1 dX1_cell_38 rfl (lv_at hl 1 rfl) ?_
        obtain ⟨h39, hF⟩ := gd_some hF
        refine mk_ald E hK hP (q := 1) (j := 2) (n := 4) rfl h39 dX1_cell_39 ?_
        refine lv_iload_n E.1 E.2.1 dX1_cell_40 rfl (lv_at hl 3 rfl) ?_
        refine lv_icmp_eq (tgt := 50) E.1 E.2.1 dX1_cell_41 (by decide) (fun h => ?_) (fun h => ?_)
        · have hF := ite_t h hF
          exact J50  (mz_f z0 0 (0 : Int32)) H locs ls hF hP hS (lv_sub hl [0, 1, 2] rfl)
        · have hF := ite_f h hF
          refine lv_aload_n E.1 E.2.1 dX1_cell_44 rfl (lv_at hl 0 rfl) ?_
          refine lv_iconst (v := (2 : Int32)) E.1 E.2.1 dX1_cell_45 (by decide) ?_
          obtain ⟨r46, hq46, hF⟩ := bnd hF
          refine mk_call (As := [.int (2 : Int32)]) (rest := []) (v := (some (.long r46.1))) E hcl hK hP hS (mm_X1_lost l hcl hB (2 : Int32) (mz_f z0 0 (0 : Int32)) _ hq46) (cwV 1 E.2.2.2.2 (lw_V q1389 q1391 qs51 q58 q1392) rfl rfl rfl (by decide +kernel) ⟨Nat.le_of_ble_eq_true rfl, Nat.le_of_ble_eq_true rfl⟩) hl rfl rfl (Nat.le_of_ble_eq_true rfl) ⟨Nat.zero_le _, Nat.zero_le _⟩ dX1_cell_46 (fun H locs hP hS => ?_)
          exact mk_lret E hr hlocks hP hS hF dX1_cell_49
    · have hF := ite_t h hF
      refine lv_ldc2 (v := (-9223372036854775808 : Int64)) E.1 E.2.1 E.2.2.2.1 (E.2.2.2.2 _ q1369) dX1_cell_19 ?_
      exact mk_lret E hr hlocks hP hS hF dX1_cell_22
/-! DebtFerryModel.copy(IIIII)I -/
def m_copy_L166 (x1 : Int32) (x2 : Int32) (x3 : Int32) (x4 : Int32) (x5 : Int32) (v161_0 : Int32) : Nat → Int32 → MZ → Option (Int32 × MZ)
  | 0, _, _ => none
  | n + 1, y166_8, z166 =>
    if x5 ≤ y166_8 then some (x5, z166) else jn (fun (v190_0 : Int32) (z190 : MZ) => gd (inb ((((60 : Int32) * x1) + x2) + v190_0) 240) (gd (inb ((((60 : Int32) * x3) + x4) + v190_0) 240) (m_copy_L166 x1 x2 x3 x4 x5 v161_0 n (y166_8 + 1) (mz_a z190 4 ((((60 : Int32) * x3) + x4) + v190_0).toNatClampNeg (z190.2 4 ((((60 : Int32) * x1) + x2) + v190_0).toNatClampNeg))))) (fun (k190 : Int32 → MZ → Option (Int32 × MZ)) => if v161_0 = 0 then k190 y166_8 z166 else k190 ((x5 - (1 : Int32)) - y166_8) z166)
def m_copy (x1 : Int32) (x2 : Int32) (x3 : Int32) (x4 : Int32) (x5 : Int32) (z0 : MZ) : Option (Int32 × MZ) :=
  (m_isSheet x1).bind (fun r6 => if r6 = 0 then some ((-1 : Int32), (mz_f z0 0 (0 : Int32))) else (m_isSheet x3).bind (fun r13 => if r13 = 0 then some ((-1 : Int32), (mz_f z0 0 (0 : Int32))) else gd (inb x1 4) (jn (fun  (z43 : MZ) => (m_fails (1 : Int32) z43).bind (fun r45 => some (r45.1, r45.2))) (fun (k43 : MZ → Option (Int32 × MZ)) => if ((mz_f z0 0 (0 : Int32)).2 2 x1.toNatClampNeg) = (-9 : Int32) then k43  (mz_f z0 0 (0 : Int32)) else gd (inb x3 4) (if ((mz_f z0 0 (0 : Int32)).2 2 x3.toNatClampNeg) = (-9 : Int32) then k43  (mz_f z0 0 (0 : Int32)) else gd (inb x1 4) (gd (inb x3 4) (if ((mz_f z0 0 (0 : Int32)).2 2 x1.toNatClampNeg) = ((mz_f z0 0 (0 : Int32)).2 2 x3.toNatClampNeg) then jn (fun (v110_0 : Int32) (z110 : MZ) => jn (fun  (z144 : MZ) => (m_fails (3 : Int32) z144).bind (fun r146 => some (r146.1, r146.2))) (fun (k144 : MZ → Option (Int32 × MZ)) => if v110_0 = 0 then k144  z110 else gd (inb x1 4) (if ((z110.2 3 x1.toNatClampNeg) - x2) < x5 then k144  z110 else gd (inb x3 4) (if x5 ≤ ((z110.2 3 x3.toNatClampNeg) - x4) then jn (fun (v161_0 : Int32) (z161 : MZ) => m_copy_L166 x1 x2 x3 x4 x5 v161_0 FU (0 : Int32) z161) (fun (k161 : Int32 → MZ → Option (Int32 × MZ)) => if x4 ≤ x2 then k161 (0 : Int32) z110 else k161 (1 : Int32) z110) else k144  z110)))) (fun (k110 : Int32 → MZ → Option (Int32 × MZ)) => jn (fun  (z109 : MZ) => k110 (0 : Int32) z109) (fun (k109 : MZ → Option (Int32 × MZ)) => if x2 < 0 then k109  (mz_f z0 0 (0 : Int32)) else if x4 < 0 then k109  (mz_f z0 0 (0 : Int32)) else if x5 < 0 then k109  (mz_f z0 0 (0 : Int32)) else gd (inb x1 4) (if ((mz_f z0 0 (0 : Int32)).2 3 x1.toNatClampNeg) < x2 then k109  (mz_f z0 0 (0 : Int32)) else gd (inb x3 4) (if ((mz_f z0 0 (0 : Int32)).2 3 x3.toNatClampNeg) < x4 then k109  (mz_f z0 0 (0 : Int32)) else k110 (1 : Int32) (mz_f z0 0 (0 : Int32)))))) else (m_fails (2 : Int32) (mz_f z0 0 (0 : Int32))).bind (fun r66 => some (r66.1, r66.2)))))))))
abbrev rmX1_copy : Room := { frames := 3, cells := 0, slots := 0, locals := 54 }
set_option maxHeartbeats 4000000 in
set_option maxRecDepth 100000 in
theorem mm_X1_copy (l : Launch) {D : va_G} {cl : List vw_C} {ci : Nat} {d : ClassId} {B : Nat → Nat} {A : Nat → Prop} (hcl : cl[ci]? = some (RX1, TX1, 29)) (hB : ∀ z, va_D A (mW ci d B z)) (x1 : Int32) (x2 : Int32) (x3 : Int32) (x4 : Int32) (x5 : Int32) (z0 : MZ) (res : Int32 × MZ) (hF : m_copy x1 x2 x3 x4 x5 z0 = some res) : Met l yX1_copy (ws_ yX1_copy cX1_copy 10 (some .int)) rmX1_copy (mPc D cl ci d B z0 [.int x1, .int x2, .int x3, .int x4, .int x5]) (mQ D cl ci d B A (some (.int res.1)) res.2) 0 0 A := by
  refine mk_start (A := A) (by decide) rfl (Nat.le_of_ble_eq_true rfl) ?_
  intro p e s m args below meth c H locs ls E hr hlocks hK hP hS hl
  have hl : lv_has ls 10 [(0, .ref (B 0)), (1, .int x1), (2, .int x2), (3, .int x3), (4, .int x4), (5, .int x5)] := hl
  unfold m_copy at hF
  refine lv_aload_n E.1 E.2.1 dX1_copy_0 rfl (lv_at hl 0 rfl) ?_
  refine lv_iconst (v := (0 : Int32)) E.1 E.2.1 dX1_copy_1 (by decide) ?_
  refine mk_put E hcl hB hK hP hS 0 rfl q1110 rfl dX1_copy_2 (fun H locs hP hS => ?_)
  refine lv_iload_n E.1 E.2.1 dX1_copy_5 rfl (lv_at hl 1 rfl) ?_
  obtain ⟨r6, hq6, hF⟩ := bnd hF
  refine px_call (As := [.int x1]) (rest := []) (v := .int r6) E (mm_X1_isSheet l x1 _ hq6) (va_cwS 1 E.2.2.2.2 (lw_S q1202 q1203 q58 q1204) rfl rfl rfl (by decide +kernel) ⟨Nat.le_of_ble_eq_true rfl, Nat.le_of_ble_eq_true rfl⟩) hl rfl rfl (Nat.le_of_ble_eq_true rfl) ⟨Nat.zero_le _, Nat.zero_le _⟩ dX1_copy_6 ?_
  refine lv_if_eq (tgt := 19) E.1 E.2.1 dX1_copy_9 (by decide) (fun h => ?_) (fun h => ?_)
  · have hF := ite_t h hF
    refine lv_iconst (v := (-1 : Int32)) E.1 E.2.1 dX1_copy_19 (by decide) ?_
    exact mk_iret E hr hlocks hP hS hF dX1_copy_20
  · have hF := ite_f h hF
    refine lv_iload_n E.1 E.2.1 dX1_copy_12 rfl (lv_at hl 3 rfl) ?_
    obtain ⟨r13, hq13, hF⟩ := bnd hF
    refine px_call (As := [.int x3]) (rest := []) (v := .int r13) E (mm_X1_isSheet l x3 _ hq13) (va_cwS 1 E.2.2.2.2 (lw_S q1202 q1203 q58 q1204) rfl rfl rfl (by decide +kernel) ⟨Nat.le_of_ble_eq_true rfl, Nat.le_of_ble_eq_true rfl⟩) hl rfl rfl (Nat.le_of_ble_eq_true rfl) ⟨Nat.zero_le _, Nat.zero_le _⟩ dX1_copy_13 ?_
    refine lv_if_ne (tgt := 21) E.1 E.2.1 dX1_copy_16 (by decide) (fun h => ?_) (fun h => ?_)
    · have hF := ite_f h hF
      refine lv_aload_n E.1 E.2.1 dX1_copy_21 rfl (lv_at hl 0 rfl) ?_
      refine mk_get E hcl hK hP 2 (by decide) q1112 rfl (v := .ref (B 2)) rfl dX1_copy_22 ?_
      refine lv_iload_n E.1 E.2.1 dX1_copy_25 rfl (lv_at hl 1 rfl) ?_
      obtain ⟨h26, hF⟩ := gd_some hF
      refine mk_ald E hK hP (q := 1) (j := 2) (n := 4) rfl h26 dX1_copy_26 ?_
      refine lv_bipush (v := (-9 : Int32)) E.1 E.2.1 dX1_copy_27 (by decide) ?_
      obtain ⟨k43, hk43, hF⟩ := jn_split hF
      have J43 : ∀  (z43 : MZ) (H : Heap) (locs : List Loc) (ls : Array Slot), k43  z43 = some res → va_P D cl (mW ci d B z43) H → va_S A s.heap H locs → lv_has ls 10 [(0, .ref (B 0))] → W p l e rmX1_copy s m args below meth c H locs 0 0 (MQ below (mQ D cl ci d B A (some (.int res.1)) res.2) args s 0 0 A) (F0 m 43 ls []) := by
        intro  z43 H locs ls hF hP hS hl
        rw [hk43] at hF
        refine lv_aload_n E.1 E.2.1 dX1_copy_43 rfl (lv_at hl 0 rfl) ?_
        refine lv_iconst (v := (1 : Int32)) E.1 E.2.1 dX1_copy_44 (by decide) ?_
        obtain ⟨r45, hq45, hF⟩ := bnd hF
        refine mk_call (As := [.int (1 : Int32)]) (rest := []) (v := (some (.int r45.1))) E hcl hK hP hS (mm_X1_fails l hcl hB (1 : Int32) z43 _ hq45) (cwV 1 E.2.2.2.2 (lw_V q1215 q1217 qs32 q58 q1218) rfl rfl rfl (by decide +kernel) ⟨Nat.le_of_ble_eq_true rfl, Nat.le_of_ble_eq_true rfl⟩) hl rfl rfl (Nat.le_of_ble_eq_true rfl) ⟨Nat.zero_le _, Nat.zero_le _⟩ dX1_copy_45 (fun H locs hP hS => ?_)
        exact mk_iret E hr hlocks hP hS hF dX1_copy_48
      refine lv_icmp_eq (tgt := 43) E.1 E.2.1 dX1_copy_29 (by decide) (fun h => ?_) (fun h => ?_)
      · have hF := ite_t h hF
        exact J43  (mz_f z0 0 (0 : Int32)) H locs ls hF hP hS (lv_sub hl [0] rfl)
      · have hF := ite_f h hF
        refine lv_aload_n E.1 E.2.1 dX1_copy_32 rfl (lv_at hl 0 rfl) ?_
        refine mk_get E hcl hK hP 2 (by decide) q1112 rfl (v := .ref (B 2)) rfl dX1_copy_33 ?_
        refine lv_iload_n E.1 E.2.1 dX1_copy_36 rfl (lv_at hl 3 rfl) ?_
        obtain ⟨h37, hF⟩ := gd_some hF
        refine mk_ald E hK hP (q := 1) (j := 2) (n := 4) rfl h37 dX1_copy_37 ?_
        refine lv_bipush (v := (-9 : Int32)) E.1 E.2.1 dX1_copy_38 (by decide) ?_
        refine lv_icmp_ne (tgt := 49) E.1 E.2.1 dX1_copy_40 (by decide) (fun h => ?_) (fun h => ?_)
        · have hF := ite_f h hF
          refine lv_aload_n E.1 E.2.1 dX1_copy_49 rfl (lv_at hl 0 rfl) ?_
          refine mk_get E hcl hK hP 2 (by decide) q1112 rfl (v := .ref (B 2)) rfl dX1_copy_50 ?_
          refine lv_iload_n E.1 E.2.1 dX1_copy_53 rfl (lv_at hl 1 rfl) ?_
          obtain ⟨h54, hF⟩ := gd_some hF
          refine mk_ald E hK hP (q := 1) (j := 2) (n := 4) rfl h54 dX1_copy_54 ?_
          refine lv_aload_n E.1 E.2.1 dX1_copy_55 rfl (lv_at hl 0 rfl) ?_
          refine mk_get E hcl hK hP 2 (by decide) q1112 rfl (v := .ref (B 2)) rfl dX1_copy_56 ?_
          refine lv_iload_n E.1 E.2.1 dX1_copy_59 rfl (lv_at hl 3 rfl) ?_
          obtain ⟨h60, hF⟩ := gd_some hF
          refine mk_ald E hK hP (q := 1) (j := 2) (n := 4) rfl h60 dX1_copy_60 ?_
          refine lv_icmp_eq (tgt := 70) E.1 E.2.1 dX1_copy_61 (by decide) (fun h => ?_) (fun h => ?_)
          · have hF := ite_t h hF
            refine lv_iload_n E.1 E.2.1 dX1_copy_70 rfl (lv_at hl 2 rfl) ?_
            obtain ⟨k110, hk110, hF⟩ := jn_split hF
            have J110 : ∀ (v110_0 : Int32) (z110 : MZ) (H : Heap) (locs : List Loc) (ls : Array Slot), k110 v110_0 z110 = some res → va_P D cl (mW ci d B z110) H → va_S A s.heap H locs → lv_has ls 10 [(0, .ref (B 0)), (1, .int x1), (2, .int x2), (3, .int x3), (4, .int x4), (5, .int x5)] → W p l e rmX1_copy s m args below meth c H locs 0 0 (MQ below (mQ D cl ci d B A (some (.int res.1)) res.2) args s 0 0 A) (F0 m 110 ls [.int v110_0]) := by
              intro v110_0 z110 H locs ls hF hP hS hl
              rw [hk110] at hF
              refine lv_istore (lv' := [(6, .int v110_0), (0, .ref (B 0)), (1, .int x1), (2, .int x2), (3, .int x3), (4, .int x4), (5, .int x5)]) E.1 E.2.1 dX1_copy_110 hl (by decide) rfl (fun ls hl => ?_)
              refine lv_iload E.1 E.2.1 dX1_copy_112 (lv_at hl 0 rfl) ?_
              obtain ⟨k144, hk144, hF⟩ := jn_split hF
              have J144 : ∀  (z144 : MZ) (H : Heap) (locs : List Loc) (ls : Array Slot), k144  z144 = some res → va_P D cl (mW ci d B z144) H → va_S A s.heap H locs → lv_has ls 10 [(0, .ref (B 0))] → W p l e rmX1_copy s m args below meth c H locs 0 0 (MQ below (mQ D cl ci d B A (some (.int res.1)) res.2) args s 0 0 A) (F0 m 144 ls []) := by
                intro  z144 H locs ls hF hP hS hl
                rw [hk144] at hF
                refine lv_aload_n E.1 E.2.1 dX1_copy_144 rfl (lv_at hl 0 rfl) ?_
                refine lv_iconst (v := (3 : Int32)) E.1 E.2.1 dX1_copy_145 (by decide) ?_
                obtain ⟨r146, hq146, hF⟩ := bnd hF
                refine mk_call (As := [.int (3 : Int32)]) (rest := []) (v := (some (.int r146.1))) E hcl hK hP hS (mm_X1_fails l hcl hB (3 : Int32) z144 _ hq146) (cwV 1 E.2.2.2.2 (lw_V q1215 q1217 qs32 q58 q1218) rfl rfl rfl (by decide +kernel) ⟨Nat.le_of_ble_eq_true rfl, Nat.le_of_ble_eq_true rfl⟩) hl rfl rfl (Nat.le_of_ble_eq_true rfl) ⟨Nat.zero_le _, Nat.zero_le _⟩ dX1_copy_146 (fun H locs hP hS => ?_)
                exact mk_iret E hr hlocks hP hS hF dX1_copy_149
              refine lv_if_eq (tgt := 144) E.1 E.2.1 dX1_copy_114 (by decide) (fun h => ?_) (fun h => ?_)
              · have hF := ite_t h hF
                exact J144  z110 H locs ls hF hP hS (lv_sub hl [1] rfl)
              · have hF := ite_f h hF
                refine lv_iload E.1 E.2.1 dX1_copy_117 (lv_at hl 6 rfl) ?_
                refine lv_aload_n E.1 E.2.1 dX1_copy_119 rfl (lv_at hl 1 rfl) ?_
                refine mk_get E hcl hK hP 3 (by decide) q1113 rfl (v := .ref (B 3)) rfl dX1_copy_120 ?_
                refine lv_iload_n E.1 E.2.1 dX1_copy_123 rfl (lv_at hl 2 rfl) ?_
                obtain ⟨h124, hF⟩ := gd_some hF
                refine mk_ald E hK hP (q := 2) (j := 3) (n := 4) rfl h124 dX1_copy_124 ?_
                refine lv_iload_n E.1 E.2.1 dX1_copy_125 rfl (lv_at hl 3 rfl) ?_
                refine lv_isub E.1 E.2.1 dX1_copy_126 ?_
                refine lv_icmp_gt (tgt := 144) E.1 E.2.1 dX1_copy_127 (by decide) (fun h => ?_) (fun h => ?_)
                · have hF := ite_t h hF
                  exact J144  z110 H locs ls hF hP hS (lv_sub hl [1] rfl)
                · have hF := ite_f h hF
                  refine lv_iload E.1 E.2.1 dX1_copy_130 (lv_at hl 6 rfl) ?_
                  refine lv_aload_n E.1 E.2.1 dX1_copy_132 rfl (lv_at hl 1 rfl) ?_
                  refine mk_get E hcl hK hP 3 (by decide) q1113 rfl (v := .ref (B 3)) rfl dX1_copy_133 ?_
                  refine lv_iload_n E.1 E.2.1 dX1_copy_136 rfl (lv_at hl 4 rfl) ?_
                  obtain ⟨h137, hF⟩ := gd_some hF
                  refine mk_ald E hK hP (q := 2) (j := 3) (n := 4) rfl h137 dX1_copy_137 ?_
                  refine lv_iload E.1 E.2.1 dX1_copy_138 (lv_at hl 5 rfl) ?_
                  refine lv_isub E.1 E.2.1 dX1_copy_140 ?_
                  refine lv_icmp_le (tgt := 150) E.1 E.2.1 dX1_copy_141 (by decide) (fun h => ?_) (fun h => ?_)
                  · have hF := ite_t h hF
                    refine lv_iload_n E.1 E.2.1 dX1_copy_150 rfl (lv_at hl 3 rfl) ?_
                    refine lv_iload E.1 E.2.1 dX1_copy_151 (lv_at hl 5 rfl) ?_
                    obtain ⟨k161, hk161, hF⟩ := jn_split hF
                    have J161 : ∀ (v161_0 : Int32) (z161 : MZ) (H : Heap) (locs : List Loc) (ls : Array Slot), k161 v161_0 z161 = some res → va_P D cl (mW ci d B z161) H → va_S A s.heap H locs → lv_has ls 10 [(0, .ref (B 0)), (1, .int x1), (2, .int x2), (3, .int x3), (4, .int x4), (5, .int x5)] → W p l e rmX1_copy s m args below meth c H locs 0 0 (MQ below (mQ D cl ci d B A (some (.int res.1)) res.2) args s 0 0 A) (F0 m 161 ls [.int v161_0]) := by
                      intro v161_0 z161 H locs ls hF hP hS hl
                      rw [hk161] at hF
                      refine lv_istore (lv' := [(7, .int v161_0), (0, .ref (B 0)), (1, .int x1), (2, .int x2), (3, .int x3), (4, .int x4), (5, .int x5)]) E.1 E.2.1 dX1_copy_161 hl (by decide) rfl (fun ls hl => ?_)
                      refine lv_iconst (v := (0 : Int32)) E.1 E.2.1 dX1_copy_163 (by decide) ?_
                      refine lv_istore (lv' := [(8, .int (0 : Int32)), (7, .int v161_0), (0, .ref (B 0)), (1, .int x1), (2, .int x2), (3, .int x3), (4, .int x4), (5, .int x5)]) E.1 E.2.1 dX1_copy_164 hl (by decide) rfl (fun ls hl => ?_)
                      have L166 : ∀ (n : Nat) (y166_8 : Int32) (z166 : MZ) (H : Heap) (locs : List Loc) (ls : Array Slot), m_copy_L166 x1 x2 x3 x4 x5 v161_0 n y166_8 z166 = some res → va_P D cl (mW ci d B z166) H → va_S A s.heap H locs → lv_has ls 10 [(0, .ref (B 0)), (1, .int x1), (2, .int x2), (3, .int x3), (4, .int x4), (5, .int x5), (7, .int v161_0), (8, .int y166_8)] → W p l e rmX1_copy s m args below meth c H locs 0 0 (MQ below (mQ D cl ci d B A (some (.int res.1)) res.2) args s 0 0 A) (F0 m 166 ls []) := by
                        intro n
                        induction n with
                        | zero =>
                          intro y166_8 z166 H locs ls hF
                          rw [m_copy_L166] at hF
                          cases hF
                        | succ n ih =>
                          intro y166_8 z166 H locs ls hF hP hS hl
                          rw [m_copy_L166] at hF
                          refine lv_iload E.1 E.2.1 dX1_copy_166 (lv_at hl 7 rfl) ?_
                          refine lv_iload E.1 E.2.1 dX1_copy_168 (lv_at hl 5 rfl) ?_
                          refine lv_icmp_ge (tgt := 227) E.1 E.2.1 dX1_copy_170 (by decide) (fun h => ?_) (fun h => ?_)
                          · have hF := ite_t h hF
                            refine lv_iload E.1 E.2.1 dX1_copy_227 (lv_at hl 5 rfl) ?_
                            exact mk_iret E hr hlocks hP hS hF dX1_copy_229
                          · have hF := ite_f h hF
                            refine lv_iload E.1 E.2.1 dX1_copy_173 (lv_at hl 6 rfl) ?_
                            obtain ⟨k190, hk190, hF⟩ := jn_split hF
                            have J190 : ∀ (v190_0 : Int32) (z190 : MZ) (H : Heap) (locs : List Loc) (ls : Array Slot), k190 v190_0 z190 = some res → va_P D cl (mW ci d B z190) H → va_S A s.heap H locs → lv_has ls 10 [(0, .ref (B 0)), (1, .int x1), (2, .int x2), (3, .int x3), (4, .int x4), (5, .int x5), (7, .int v161_0), (8, .int y166_8)] → W p l e rmX1_copy s m args below meth c H locs 0 0 (MQ below (mQ D cl ci d B A (some (.int res.1)) res.2) args s 0 0 A) (F0 m 190 ls [.int v190_0]) := by
                              intro v190_0 z190 H locs ls hF hP hS hl
                              rw [hk190] at hF
                              refine lv_istore (lv' := [(9, .int v190_0), (0, .ref (B 0)), (1, .int x1), (2, .int x2), (3, .int x3), (4, .int x4), (5, .int x5), (7, .int v161_0), (8, .int y166_8)]) E.1 E.2.1 dX1_copy_190 hl (by decide) rfl (fun ls hl => ?_)
                              refine lv_aload_n E.1 E.2.1 dX1_copy_192 rfl (lv_at hl 1 rfl) ?_
                              refine mk_get E hcl hK hP 4 (by decide) q1114 rfl (v := .ref (B 4)) rfl dX1_copy_193 ?_
                              refine lv_bipush (v := (60 : Int32)) E.1 E.2.1 dX1_copy_196 (by decide) ?_
                              refine lv_iload_n E.1 E.2.1 dX1_copy_198 rfl (lv_at hl 4 rfl) ?_
                              refine lv_imul E.1 E.2.1 dX1_copy_199 ?_
                              refine lv_iload E.1 E.2.1 dX1_copy_200 (lv_at hl 5 rfl) ?_
                              refine lv_iadd E.1 E.2.1 dX1_copy_202 ?_
                              refine lv_iload E.1 E.2.1 dX1_copy_203 (lv_at hl 0 rfl) ?_
                              refine lv_iadd E.1 E.2.1 dX1_copy_205 ?_
                              refine lv_aload_n E.1 E.2.1 dX1_copy_206 rfl (lv_at hl 1 rfl) ?_
                              refine mk_get E hcl hK hP 4 (by decide) q1114 rfl (v := .ref (B 4)) rfl dX1_copy_207 ?_
                              refine lv_bipush (v := (60 : Int32)) E.1 E.2.1 dX1_copy_210 (by decide) ?_
                              refine lv_iload_n E.1 E.2.1 dX1_copy_212 rfl (lv_at hl 2 rfl) ?_
                              refine lv_imul E.1 E.2.1 dX1_copy_213 ?_
                              refine lv_iload_n E.1 E.2.1 dX1_copy_214 rfl (lv_at hl 3 rfl) ?_
                              refine lv_iadd E.1 E.2.1 dX1_copy_215 ?_
                              refine lv_iload E.1 E.2.1 dX1_copy_216 (lv_at hl 0 rfl) ?_
                              refine lv_iadd E.1 E.2.1 dX1_copy_218 ?_
                              obtain ⟨h219, hF⟩ := gd_some hF
                              refine mk_ald E hK hP (q := 3) (j := 4) (n := 240) rfl h219 dX1_copy_219 ?_
                              obtain ⟨h220, hF⟩ := gd_some hF
                              refine mk_ast E hB hK hP hS (q := 3) (j := 4) (n := 240) rfl h220 dX1_copy_220 (fun H locs hP hS => ?_)
                              refine lv_iinc (v := y166_8 + 1) (lv' := [(8, .int (y166_8 + 1)), (9, .int v190_0), (0, .ref (B 0)), (1, .int x1), (2, .int x2), (3, .int x3), (4, .int x4), (5, .int x5), (7, .int v161_0)]) E.1 E.2.1 dX1_copy_221 hl (k := 8) rfl rfl (by decide) rfl (fun ls hl => ?_)
                              refine lv_goto (tgt := 166) E.1 E.2.1 dX1_copy_224 (by decide) ?_
                              exact ih (y166_8 + 1) (mz_a z190 4 ((((60 : Int32) * x3) + x4) + v190_0).toNatClampNeg (z190.2 4 ((((60 : Int32) * x1) + x2) + v190_0).toNatClampNeg)) H locs ls hF hP hS (lv_sub hl [2, 3, 4, 5, 6, 7, 8, 0] rfl)
                            refine lv_if_eq (tgt := 188) E.1 E.2.1 dX1_copy_175 (by decide) (fun h => ?_) (fun h => ?_)
                            · have hF := ite_t h hF
                              refine lv_iload E.1 E.2.1 dX1_copy_188 (lv_at hl 7 rfl) ?_
                              exact J190 y166_8 z166 H locs ls hF hP hS (lv_sub hl [0, 1, 2, 3, 4, 5, 6, 7] rfl)
                            · have hF := ite_f h hF
                              refine lv_iload E.1 E.2.1 dX1_copy_178 (lv_at hl 5 rfl) ?_
                              refine lv_iconst (v := (1 : Int32)) E.1 E.2.1 dX1_copy_180 (by decide) ?_
                              refine lv_isub E.1 E.2.1 dX1_copy_181 ?_
                              refine lv_iload E.1 E.2.1 dX1_copy_182 (lv_at hl 7 rfl) ?_
                              refine lv_isub E.1 E.2.1 dX1_copy_184 ?_
                              refine lv_goto (tgt := 190) E.1 E.2.1 dX1_copy_185 (by decide) ?_
                              exact J190 ((x5 - (1 : Int32)) - y166_8) z166 H locs ls hF hP hS (lv_sub hl [0, 1, 2, 3, 4, 5, 6, 7] rfl)
                      exact L166 FU (0 : Int32) z161 H locs ls hF hP hS (lv_sub hl [2, 3, 4, 5, 6, 7, 1, 0] rfl)
                    refine lv_icmp_ge (tgt := 160) E.1 E.2.1 dX1_copy_153 (by decide) (fun h => ?_) (fun h => ?_)
                    · have hF := ite_t h hF
                      refine lv_iconst (v := (0 : Int32)) E.1 E.2.1 dX1_copy_160 (by decide) ?_
                      exact J161 (0 : Int32) z110 H locs ls hF hP hS (lv_sub hl [1, 2, 3, 4, 5, 6] rfl)
                    · have hF := ite_f h hF
                      refine lv_iconst (v := (1 : Int32)) E.1 E.2.1 dX1_copy_156 (by decide) ?_
                      refine lv_goto (tgt := 161) E.1 E.2.1 dX1_copy_157 (by decide) ?_
                      exact J161 (1 : Int32) z110 H locs ls hF hP hS (lv_sub hl [1, 2, 3, 4, 5, 6] rfl)
                  · have hF := ite_f h hF
                    exact J144  z110 H locs ls hF hP hS (lv_sub hl [1] rfl)
            obtain ⟨k109, hk109, hF⟩ := jn_split hF
            have J109 : ∀  (z109 : MZ) (H : Heap) (locs : List Loc) (ls : Array Slot), k109  z109 = some res → va_P D cl (mW ci d B z109) H → va_S A s.heap H locs → lv_has ls 10 [(0, .ref (B 0)), (1, .int x1), (2, .int x2), (3, .int x3), (4, .int x4), (5, .int x5)] → W p l e rmX1_copy s m args below meth c H locs 0 0 (MQ below (mQ D cl ci d B A (some (.int res.1)) res.2) args s 0 0 A) (F0 m 109 ls []) := by
              intro  z109 H locs ls hF hP hS hl
              rw [hk109] at hF
              refine lv_iconst (v := (0 : Int32)) E.1 E.2.1 dX1_copy_109 (by decide) ?_
              exact J110 (0 : Int32) z109 H locs ls hF hP hS (lv_sub hl [0, 1, 2, 3, 4, 5] rfl)
            refine lv_if_lt (tgt := 109) E.1 E.2.1 dX1_copy_71 (by decide) (fun h => ?_) (fun h => ?_)
            · have hF := ite_t h hF
              exact J109  (mz_f z0 0 (0 : Int32)) H locs ls hF hP hS (lv_sub hl [0, 1, 2, 3, 4, 5] rfl)
            · have hF := ite_f h hF
              refine lv_iload E.1 E.2.1 dX1_copy_74 (lv_at hl 4 rfl) ?_
              refine lv_if_lt (tgt := 109) E.1 E.2.1 dX1_copy_76 (by decide) (fun h => ?_) (fun h => ?_)
              · have hF := ite_t h hF
                exact J109  (mz_f z0 0 (0 : Int32)) H locs ls hF hP hS (lv_sub hl [0, 1, 2, 3, 4, 5] rfl)
              · have hF := ite_f h hF
                refine lv_iload E.1 E.2.1 dX1_copy_79 (lv_at hl 5 rfl) ?_
                refine lv_if_lt (tgt := 109) E.1 E.2.1 dX1_copy_81 (by decide) (fun h => ?_) (fun h => ?_)
                · have hF := ite_t h hF
                  exact J109  (mz_f z0 0 (0 : Int32)) H locs ls hF hP hS (lv_sub hl [0, 1, 2, 3, 4, 5] rfl)
                · have hF := ite_f h hF
                  refine lv_iload_n E.1 E.2.1 dX1_copy_84 rfl (lv_at hl 2 rfl) ?_
                  refine lv_aload_n E.1 E.2.1 dX1_copy_85 rfl (lv_at hl 0 rfl) ?_
                  refine mk_get E hcl hK hP 3 (by decide) q1113 rfl (v := .ref (B 3)) rfl dX1_copy_86 ?_
                  refine lv_iload_n E.1 E.2.1 dX1_copy_89 rfl (lv_at hl 1 rfl) ?_
                  obtain ⟨h90, hF⟩ := gd_some hF
                  refine mk_ald E hK hP (q := 2) (j := 3) (n := 4) rfl h90 dX1_copy_90 ?_
                  refine lv_icmp_gt (tgt := 109) E.1 E.2.1 dX1_copy_91 (by decide) (fun h => ?_) (fun h => ?_)
                  · have hF := ite_t h hF
                    exact J109  (mz_f z0 0 (0 : Int32)) H locs ls hF hP hS (lv_sub hl [0, 1, 2, 3, 4, 5] rfl)
                  · have hF := ite_f h hF
                    refine lv_iload E.1 E.2.1 dX1_copy_94 (lv_at hl 4 rfl) ?_
                    refine lv_aload_n E.1 E.2.1 dX1_copy_96 rfl (lv_at hl 0 rfl) ?_
                    refine mk_get E hcl hK hP 3 (by decide) q1113 rfl (v := .ref (B 3)) rfl dX1_copy_97 ?_
                    refine lv_iload_n E.1 E.2.1 dX1_copy_100 rfl (lv_at hl 3 rfl) ?_
                    obtain ⟨h101, hF⟩ := gd_some hF
                    refine mk_ald E hK hP (q := 2) (j := 3) (n := 4) rfl h101 dX1_copy_101 ?_
                    refine lv_icmp_gt (tgt := 109) E.1 E.2.1 dX1_copy_102 (by decide) (fun h => ?_) (fun h => ?_)
                    · have hF := ite_t h hF
                      exact J109  (mz_f z0 0 (0 : Int32)) H locs ls hF hP hS (lv_sub hl [0, 1, 2, 3, 4, 5] rfl)
                    · have hF := ite_f h hF
                      refine lv_iconst (v := (1 : Int32)) E.1 E.2.1 dX1_copy_105 (by decide) ?_
                      refine lv_goto (tgt := 110) E.1 E.2.1 dX1_copy_106 (by decide) ?_
                      exact J110 (1 : Int32) (mz_f z0 0 (0 : Int32)) H locs ls hF hP hS (lv_sub hl [0, 1, 2, 3, 4, 5] rfl)
          · have hF := ite_f h hF
            refine lv_aload_n E.1 E.2.1 dX1_copy_64 rfl (lv_at hl 0 rfl) ?_
            refine lv_iconst (v := (2 : Int32)) E.1 E.2.1 dX1_copy_65 (by decide) ?_
            obtain ⟨r66, hq66, hF⟩ := bnd hF
            refine mk_call (As := [.int (2 : Int32)]) (rest := []) (v := (some (.int r66.1))) E hcl hK hP hS (mm_X1_fails l hcl hB (2 : Int32) (mz_f z0 0 (0 : Int32)) _ hq66) (cwV 1 E.2.2.2.2 (lw_V q1215 q1217 qs32 q58 q1218) rfl rfl rfl (by decide +kernel) ⟨Nat.le_of_ble_eq_true rfl, Nat.le_of_ble_eq_true rfl⟩) hl rfl rfl (Nat.le_of_ble_eq_true rfl) ⟨Nat.zero_le _, Nat.zero_le _⟩ dX1_copy_66 (fun H locs hP hS => ?_)
            exact mk_iret E hr hlocks hP hS hF dX1_copy_69
        · have hF := ite_t h hF
          exact J43  (mz_f z0 0 (0 : Int32)) H locs ls hF hP hS (lv_sub hl [0] rfl)
    · have hF := ite_t h hF
      refine lv_iconst (v := (-1 : Int32)) E.1 E.2.1 dX1_copy_19 (by decide) ?_
      exact mk_iret E hr hlocks hP hS hF dX1_copy_20
/-! DebtFerryModel.begins(I)V -/
def m_begins (x1 : Int32) (z0 : MZ) : Option MZ :=
  some (mz_f z0 1 (((31 : Int32) * (z0.1 1)) + x1))
abbrev rmX1_begins : Room := { frames := 1, cells := 0, slots := 0, locals := 12 }
set_option maxHeartbeats 4000000 in
set_option maxRecDepth 100000 in
theorem mm_X1_begins (l : Launch) {D : va_G} {cl : List vw_C} {ci : Nat} {d : ClassId} {B : Nat → Nat} {A : Nat → Prop} (hcl : cl[ci]? = some (RX1, TX1, 29)) (hB : ∀ z, va_D A (mW ci d B z)) (x1 : Int32) (z0 : MZ) (res : MZ) (hF : m_begins x1 z0 = some res) : Met l yX1_begins (ws_ yX1_begins cX1_begins 2 none) rmX1_begins (mPc D cl ci d B z0 [.int x1]) (mQ D cl ci d B A none res) 0 0 A := by
  refine mk_start (A := A) (by decide) rfl (Nat.le_of_ble_eq_true rfl) ?_
  intro p e s m args below meth c H locs ls E hr hlocks hK hP hS hl
  have hl : lv_has ls 2 [(0, .ref (B 0)), (1, .int x1)] := hl
  unfold m_begins at hF
  refine lv_aload_n E.1 E.2.1 dX1_begins_0 rfl (lv_at hl 0 rfl) ?_
  refine lv_bipush (v := (31 : Int32)) E.1 E.2.1 dX1_begins_1 (by decide) ?_
  refine lv_aload_n E.1 E.2.1 dX1_begins_3 rfl (lv_at hl 0 rfl) ?_
  refine mk_get E hcl hK hP 1 (by decide) q1111 rfl (v := .int (z0.1 1)) rfl dX1_begins_4 ?_
  refine lv_imul E.1 E.2.1 dX1_begins_7 ?_
  refine lv_iload_n E.1 E.2.1 dX1_begins_8 rfl (lv_at hl 1 rfl) ?_
  refine lv_iadd E.1 E.2.1 dX1_begins_9 ?_
  refine mk_put E hcl hB hK hP hS 1 rfl q1111 rfl dX1_begins_10 (fun H locs hP hS => ?_)
  exact mk_vret E hr hlocks hP hS hF dX1_begins_13
/-! DebtFerryModel.tell(I)I -/
def m_tell (x1 : Int32) (z0 : MZ) : Option (Int32 × MZ) :=
  (m_isPerson x1 z0).bind (fun r2 => if r2.1 = 0 then some ((-1 : Int32), r2.2) else (m_allOf x1 r2.2).bind (fun r12 => gd (inb x1 5) (if (r12.2.2 8 x1.toNatClampNeg) = (1 : Int32) then (m_begins (2 : Int32) r12.2).bind (fun r50 => (m_begins (1 : Int32) r50).bind (fun r55 => some ((r12.1 + (100 : Int32)), r55))) else if (r12.2.2 8 x1.toNatClampNeg) = (2 : Int32) then (m_begins (3 : Int32) r12.2).bind (fun r65 => (m_begins (2 : Int32) r65).bind (fun r70 => (m_begins (1 : Int32) r70).bind (fun r75 => (m_begins (1 : Int32) r75).bind (fun r80 => some ((((2 : Int32) * r12.1) + (100 : Int32)), r80))))) else (m_begins (1 : Int32) r12.2).bind (fun r92 => some (r12.1, r92)))))
abbrev rmX1_tell : Room := { frames := 2, cells := 0, slots := 0, locals := 35 }
set_option maxHeartbeats 4000000 in
set_option maxRecDepth 100000 in
theorem mm_X1_tell (l : Launch) {D : va_G} {cl : List vw_C} {ci : Nat} {d : ClassId} {B : Nat → Nat} {A : Nat → Prop} (hcl : cl[ci]? = some (RX1, TX1, 29)) (hB : ∀ z, va_D A (mW ci d B z)) (x1 : Int32) (z0 : MZ) (res : Int32 × MZ) (hF : m_tell x1 z0 = some res) : Met l yX1_tell (ws_ yX1_tell cX1_tell 3 (some .int)) rmX1_tell (mPc D cl ci d B z0 [.int x1]) (mQ D cl ci d B A (some (.int res.1)) res.2) 0 0 A := by
  refine mk_start (A := A) (by decide) rfl (Nat.le_of_ble_eq_true rfl) ?_
  intro p e s m args below meth c H locs ls E hr hlocks hK hP hS hl
  have hl : lv_has ls 3 [(0, .ref (B 0)), (1, .int x1)] := hl
  unfold m_tell at hF
  refine lv_aload_n E.1 E.2.1 dX1_tell_0 rfl (lv_at hl 0 rfl) ?_
  refine lv_iload_n E.1 E.2.1 dX1_tell_1 rfl (lv_at hl 1 rfl) ?_
  obtain ⟨r2, hq2, hF⟩ := bnd hF
  refine mk_call (As := [.int x1]) (rest := []) (v := (some (.int r2.1))) E hcl hK hP hS (mm_X1_isPerson l hcl hB x1 z0 _ hq2) (cwV 1 E.2.2.2.2 (lw_V q1243 q1245 qs38 q58 q1246) rfl rfl rfl (by decide +kernel) ⟨Nat.le_of_ble_eq_true rfl, Nat.le_of_ble_eq_true rfl⟩) hl rfl rfl (Nat.le_of_ble_eq_true rfl) ⟨Nat.zero_le _, Nat.zero_le _⟩ dX1_tell_2 (fun H locs hP hS => ?_)
  refine lv_if_ne (tgt := 10) E.1 E.2.1 dX1_tell_5 (by decide) (fun h => ?_) (fun h => ?_)
  · have hF := ite_f h hF
    refine lv_aload_n E.1 E.2.1 dX1_tell_10 rfl (lv_at hl 0 rfl) ?_
    refine lv_iload_n E.1 E.2.1 dX1_tell_11 rfl (lv_at hl 1 rfl) ?_
    obtain ⟨r12, hq12, hF⟩ := bnd hF
    refine mk_call (As := [.int x1]) (rest := []) (v := (some (.int r12.1))) E hcl hK hP hS (mm_X1_allOf l hcl hB x1 r2.2 _ hq12) (cwV 1 E.2.2.2.2 (lw_V q1247 q1249 qs39 q58 q1250) rfl rfl rfl (by decide +kernel) ⟨Nat.le_of_ble_eq_true rfl, Nat.le_of_ble_eq_true rfl⟩) hl rfl rfl (Nat.le_of_ble_eq_true rfl) ⟨Nat.zero_le _, Nat.zero_le _⟩ dX1_tell_12 (fun H locs hP hS => ?_)
    refine lv_istore_n (lv' := [(2, .int r12.1), (0, .ref (B 0)), (1, .int x1)]) E.1 E.2.1 dX1_tell_15 rfl hl (by decide) rfl (fun ls hl => ?_)
    refine lv_aload_n E.1 E.2.1 dX1_tell_16 rfl (lv_at hl 1 rfl) ?_
    refine mk_get E hcl hK hP 8 (by decide) q1118 rfl (v := .ref (B 8)) rfl dX1_tell_17 ?_
    refine lv_iload_n E.1 E.2.1 dX1_tell_20 rfl (lv_at hl 2 rfl) ?_
    obtain ⟨h21, hF⟩ := gd_some hF
    refine mk_ald E hK hP (q := 4) (j := 8) (n := 5) rfl h21 dX1_tell_21 ?_
    rcases Decidable.em ((r12.2.2 8 x1.toNatClampNeg) = (1 : Int32)) with h22_1 | h22_1
    · have hF := ite_t h22_1 hF
      refine lv_lookup (off := 26) (tgt := 48) E.1 E.2.1 dX1_tell_22 (by decide) (by rw [h22_1]; decide) (by decide) ?_
      refine lv_aload_n E.1 E.2.1 dX1_tell_48 rfl (lv_at hl 1 rfl) ?_
      refine lv_iconst (v := (2 : Int32)) E.1 E.2.1 dX1_tell_49 (by decide) ?_
      obtain ⟨r50, hq50, hF⟩ := bnd hF
      refine mk_call (As := [.int (2 : Int32)]) (rest := []) (v := none) E hcl hK hP hS (mm_X1_begins l hcl hB (2 : Int32) r12.2 _ hq50) (cwV 1 E.2.2.2.2 (lw_V q1401 q1403 qs52 q58 q1404) rfl rfl rfl (by decide +kernel) ⟨Nat.le_of_ble_eq_true rfl, Nat.le_of_ble_eq_true rfl⟩) hl rfl rfl (Nat.le_of_ble_eq_true rfl) ⟨Nat.zero_le _, Nat.zero_le _⟩ dX1_tell_50 (fun H locs hP hS => ?_)
      refine lv_aload_n E.1 E.2.1 dX1_tell_53 rfl (lv_at hl 1 rfl) ?_
      refine lv_iconst (v := (1 : Int32)) E.1 E.2.1 dX1_tell_54 (by decide) ?_
      obtain ⟨r55, hq55, hF⟩ := bnd hF
      refine mk_call (As := [.int (1 : Int32)]) (rest := []) (v := none) E hcl hK hP hS (mm_X1_begins l hcl hB (1 : Int32) r50 _ hq55) (cwV 1 E.2.2.2.2 (lw_V q1401 q1403 qs52 q58 q1404) rfl rfl rfl (by decide +kernel) ⟨Nat.le_of_ble_eq_true rfl, Nat.le_of_ble_eq_true rfl⟩) hl rfl rfl (Nat.le_of_ble_eq_true rfl) ⟨Nat.zero_le _, Nat.zero_le _⟩ dX1_tell_55 (fun H locs hP hS => ?_)
      refine lv_iload_n E.1 E.2.1 dX1_tell_58 rfl (lv_at hl 0 rfl) ?_
      refine lv_bipush (v := (100 : Int32)) E.1 E.2.1 dX1_tell_59 (by decide) ?_
      refine lv_iadd E.1 E.2.1 dX1_tell_61 ?_
      exact mk_iret E hr hlocks hP hS hF dX1_tell_62
    have hF := ite_f h22_1 hF
    rcases Decidable.em ((r12.2.2 8 x1.toNatClampNeg) = (2 : Int32)) with h22_2 | h22_2
    · have hF := ite_t h22_2 hF
      refine lv_lookup (off := 41) (tgt := 63) E.1 E.2.1 dX1_tell_22 (by decide) (by rw [h22_2]; decide) (by decide) ?_
      refine lv_aload_n E.1 E.2.1 dX1_tell_63 rfl (lv_at hl 1 rfl) ?_
      refine lv_iconst (v := (3 : Int32)) E.1 E.2.1 dX1_tell_64 (by decide) ?_
      obtain ⟨r65, hq65, hF⟩ := bnd hF
      refine mk_call (As := [.int (3 : Int32)]) (rest := []) (v := none) E hcl hK hP hS (mm_X1_begins l hcl hB (3 : Int32) r12.2 _ hq65) (cwV 1 E.2.2.2.2 (lw_V q1401 q1403 qs52 q58 q1404) rfl rfl rfl (by decide +kernel) ⟨Nat.le_of_ble_eq_true rfl, Nat.le_of_ble_eq_true rfl⟩) hl rfl rfl (Nat.le_of_ble_eq_true rfl) ⟨Nat.zero_le _, Nat.zero_le _⟩ dX1_tell_65 (fun H locs hP hS => ?_)
      refine lv_aload_n E.1 E.2.1 dX1_tell_68 rfl (lv_at hl 1 rfl) ?_
      refine lv_iconst (v := (2 : Int32)) E.1 E.2.1 dX1_tell_69 (by decide) ?_
      obtain ⟨r70, hq70, hF⟩ := bnd hF
      refine mk_call (As := [.int (2 : Int32)]) (rest := []) (v := none) E hcl hK hP hS (mm_X1_begins l hcl hB (2 : Int32) r65 _ hq70) (cwV 1 E.2.2.2.2 (lw_V q1401 q1403 qs52 q58 q1404) rfl rfl rfl (by decide +kernel) ⟨Nat.le_of_ble_eq_true rfl, Nat.le_of_ble_eq_true rfl⟩) hl rfl rfl (Nat.le_of_ble_eq_true rfl) ⟨Nat.zero_le _, Nat.zero_le _⟩ dX1_tell_70 (fun H locs hP hS => ?_)
      refine lv_aload_n E.1 E.2.1 dX1_tell_73 rfl (lv_at hl 1 rfl) ?_
      refine lv_iconst (v := (1 : Int32)) E.1 E.2.1 dX1_tell_74 (by decide) ?_
      obtain ⟨r75, hq75, hF⟩ := bnd hF
      refine mk_call (As := [.int (1 : Int32)]) (rest := []) (v := none) E hcl hK hP hS (mm_X1_begins l hcl hB (1 : Int32) r70 _ hq75) (cwV 1 E.2.2.2.2 (lw_V q1401 q1403 qs52 q58 q1404) rfl rfl rfl (by decide +kernel) ⟨Nat.le_of_ble_eq_true rfl, Nat.le_of_ble_eq_true rfl⟩) hl rfl rfl (Nat.le_of_ble_eq_true rfl) ⟨Nat.zero_le _, Nat.zero_le _⟩ dX1_tell_75 (fun H locs hP hS => ?_)
      refine lv_aload_n E.1 E.2.1 dX1_tell_78 rfl (lv_at hl 1 rfl) ?_
      refine lv_iconst (v := (1 : Int32)) E.1 E.2.1 dX1_tell_79 (by decide) ?_
      obtain ⟨r80, hq80, hF⟩ := bnd hF
      refine mk_call (As := [.int (1 : Int32)]) (rest := []) (v := none) E hcl hK hP hS (mm_X1_begins l hcl hB (1 : Int32) r75 _ hq80) (cwV 1 E.2.2.2.2 (lw_V q1401 q1403 qs52 q58 q1404) rfl rfl rfl (by decide +kernel) ⟨Nat.le_of_ble_eq_true rfl, Nat.le_of_ble_eq_true rfl⟩) hl rfl rfl (Nat.le_of_ble_eq_true rfl) ⟨Nat.zero_le _, Nat.zero_le _⟩ dX1_tell_80 (fun H locs hP hS => ?_)
      refine lv_iconst (v := (2 : Int32)) E.1 E.2.1 dX1_tell_83 (by decide) ?_
      refine lv_iload_n E.1 E.2.1 dX1_tell_84 rfl (lv_at hl 0 rfl) ?_
      refine lv_imul E.1 E.2.1 dX1_tell_85 ?_
      refine lv_bipush (v := (100 : Int32)) E.1 E.2.1 dX1_tell_86 (by decide) ?_
      refine lv_iadd E.1 E.2.1 dX1_tell_88 ?_
      exact mk_iret E hr hlocks hP hS hF dX1_tell_89
    have hF := ite_f h22_2 hF
    refine lv_lookup (off := 68) (tgt := 90) E.1 E.2.1 dX1_tell_22 (by decide) ((lv_osw h22_1 (by decide)).trans ((lv_osw h22_2 (by decide)).trans (rfl))) (by decide) ?_
    refine lv_aload_n E.1 E.2.1 dX1_tell_90 rfl (lv_at hl 1 rfl) ?_
    refine lv_iconst (v := (1 : Int32)) E.1 E.2.1 dX1_tell_91 (by decide) ?_
    obtain ⟨r92, hq92, hF⟩ := bnd hF
    refine mk_call (As := [.int (1 : Int32)]) (rest := []) (v := none) E hcl hK hP hS (mm_X1_begins l hcl hB (1 : Int32) r12.2 _ hq92) (cwV 1 E.2.2.2.2 (lw_V q1401 q1403 qs52 q58 q1404) rfl rfl rfl (by decide +kernel) ⟨Nat.le_of_ble_eq_true rfl, Nat.le_of_ble_eq_true rfl⟩) hl rfl rfl (Nat.le_of_ble_eq_true rfl) ⟨Nat.zero_le _, Nat.zero_le _⟩ dX1_tell_92 (fun H locs hP hS => ?_)
    refine lv_iload_n E.1 E.2.1 dX1_tell_95 rfl (lv_at hl 0 rfl) ?_
    exact mk_iret E hr hlocks hP hS hF dX1_tell_96
  · have hF := ite_t h hF
    refine lv_iconst (v := (-1 : Int32)) E.1 E.2.1 dX1_tell_8 (by decide) ?_
    exact mk_iret E hr hlocks hP hS hF dX1_tell_9
/-! DebtFerryModel.hail(I)I -/
def m_hail (x1 : Int32) (z0 : MZ) : Option (Int32 × MZ) :=
  (m_isPerson x1 z0).bind (fun r2 => if r2.1 = 0 then some ((-1 : Int32), r2.2) else gd (inb x1 5) (jn (fun (v26_0 : Int32) (z26 : MZ) => (m_begins v26_0 z26).bind (fun r26 => gd (inb x1 5) (if (r26.2 8 x1.toNatClampNeg) = (2 : Int32) then some ((40 : Int32), r26) else some (x1, r26)))) (fun (k26 : Int32 → MZ → Option (Int32 × MZ)) => if (r2.2.2 8 x1.toNatClampNeg) = (2 : Int32) then k26 (5 : Int32) r2.2 else k26 (4 : Int32) r2.2)))
abbrev rmX1_hail : Room := { frames := 2, cells := 0, slots := 0, locals := 33 }
set_option maxHeartbeats 4000000 in
set_option maxRecDepth 100000 in
theorem mm_X1_hail (l : Launch) {D : va_G} {cl : List vw_C} {ci : Nat} {d : ClassId} {B : Nat → Nat} {A : Nat → Prop} (hcl : cl[ci]? = some (RX1, TX1, 29)) (hB : ∀ z, va_D A (mW ci d B z)) (x1 : Int32) (z0 : MZ) (res : Int32 × MZ) (hF : m_hail x1 z0 = some res) : Met l yX1_hail (ws_ yX1_hail cX1_hail 2 (some .int)) rmX1_hail (mPc D cl ci d B z0 [.int x1]) (mQ D cl ci d B A (some (.int res.1)) res.2) 0 0 A := by
  refine mk_start (A := A) (by decide) rfl (Nat.le_of_ble_eq_true rfl) ?_
  intro p e s m args below meth c H locs ls E hr hlocks hK hP hS hl
  have hl : lv_has ls 2 [(0, .ref (B 0)), (1, .int x1)] := hl
  unfold m_hail at hF
  refine lv_aload_n E.1 E.2.1 dX1_hail_0 rfl (lv_at hl 0 rfl) ?_
  refine lv_iload_n E.1 E.2.1 dX1_hail_1 rfl (lv_at hl 1 rfl) ?_
  obtain ⟨r2, hq2, hF⟩ := bnd hF
  refine mk_call (As := [.int x1]) (rest := []) (v := (some (.int r2.1))) E hcl hK hP hS (mm_X1_isPerson l hcl hB x1 z0 _ hq2) (cwV 1 E.2.2.2.2 (lw_V q1243 q1245 qs38 q58 q1246) rfl rfl rfl (by decide +kernel) ⟨Nat.le_of_ble_eq_true rfl, Nat.le_of_ble_eq_true rfl⟩) hl rfl rfl (Nat.le_of_ble_eq_true rfl) ⟨Nat.zero_le _, Nat.zero_le _⟩ dX1_hail_2 (fun H locs hP hS => ?_)
  refine lv_if_ne (tgt := 10) E.1 E.2.1 dX1_hail_5 (by decide) (fun h => ?_) (fun h => ?_)
  · have hF := ite_f h hF
    refine lv_aload_n E.1 E.2.1 dX1_hail_10 rfl (lv_at hl 0 rfl) ?_
    refine lv_aload_n E.1 E.2.1 dX1_hail_11 rfl (lv_at hl 0 rfl) ?_
    refine mk_get E hcl hK hP 8 (by decide) q1118 rfl (v := .ref (B 8)) rfl dX1_hail_12 ?_
    refine lv_iload_n E.1 E.2.1 dX1_hail_15 rfl (lv_at hl 1 rfl) ?_
    obtain ⟨h16, hF⟩ := gd_some hF
    refine mk_ald E hK hP (q := 4) (j := 8) (n := 5) rfl h16 dX1_hail_16 ?_
    refine lv_iconst (v := (2 : Int32)) E.1 E.2.1 dX1_hail_17 (by decide) ?_
    obtain ⟨k26, hk26, hF⟩ := jn_split hF
    have J26 : ∀ (v26_0 : Int32) (z26 : MZ) (H : Heap) (locs : List Loc) (ls : Array Slot), k26 v26_0 z26 = some res → va_P D cl (mW ci d B z26) H → va_S A s.heap H locs → lv_has ls 2 [(0, .ref (B 0)), (1, .int x1)] → W p l e rmX1_hail s m args below meth c H locs 0 0 (MQ below (mQ D cl ci d B A (some (.int res.1)) res.2) args s 0 0 A) (F0 m 26 ls [.int v26_0, .ref (B 0)]) := by
      intro v26_0 z26 H locs ls hF hP hS hl
      rw [hk26] at hF
      obtain ⟨r26, hq26, hF⟩ := bnd hF
      refine mk_call (As := [.int v26_0]) (rest := []) (v := none) E hcl hK hP hS (mm_X1_begins l hcl hB v26_0 z26 _ hq26) (cwV 1 E.2.2.2.2 (lw_V q1401 q1403 qs52 q58 q1404) rfl rfl rfl (by decide +kernel) ⟨Nat.le_of_ble_eq_true rfl, Nat.le_of_ble_eq_true rfl⟩) hl rfl rfl (Nat.le_of_ble_eq_true rfl) ⟨Nat.zero_le _, Nat.zero_le _⟩ dX1_hail_26 (fun H locs hP hS => ?_)
      refine lv_aload_n E.1 E.2.1 dX1_hail_29 rfl (lv_at hl 0 rfl) ?_
      refine mk_get E hcl hK hP 8 (by decide) q1118 rfl (v := .ref (B 8)) rfl dX1_hail_30 ?_
      refine lv_iload_n E.1 E.2.1 dX1_hail_33 rfl (lv_at hl 1 rfl) ?_
      obtain ⟨h34, hF⟩ := gd_some hF
      refine mk_ald E hK hP (q := 4) (j := 8) (n := 5) rfl h34 dX1_hail_34 ?_
      refine lv_iconst (v := (2 : Int32)) E.1 E.2.1 dX1_hail_35 (by decide) ?_
      refine lv_icmp_ne (tgt := 44) E.1 E.2.1 dX1_hail_36 (by decide) (fun h => ?_) (fun h => ?_)
      · have hF := ite_f h hF
        refine lv_iload_n E.1 E.2.1 dX1_hail_44 rfl (lv_at hl 1 rfl) ?_
        exact mk_iret E hr hlocks hP hS hF dX1_hail_45
      · have hF := ite_t h hF
        refine lv_bipush (v := (40 : Int32)) E.1 E.2.1 dX1_hail_39 (by decide) ?_
        refine lv_goto (tgt := 45) E.1 E.2.1 dX1_hail_41 (by decide) ?_
        exact mk_iret E hr hlocks hP hS hF dX1_hail_45
    refine lv_icmp_ne (tgt := 25) E.1 E.2.1 dX1_hail_18 (by decide) (fun h => ?_) (fun h => ?_)
    · have hF := ite_f h hF
      refine lv_iconst (v := (4 : Int32)) E.1 E.2.1 dX1_hail_25 (by decide) ?_
      exact J26 (4 : Int32) r2.2 H locs ls hF hP hS (lv_sub hl [0, 1] rfl)
    · have hF := ite_t h hF
      refine lv_iconst (v := (5 : Int32)) E.1 E.2.1 dX1_hail_21 (by decide) ?_
      refine lv_goto (tgt := 26) E.1 E.2.1 dX1_hail_22 (by decide) ?_
      exact J26 (5 : Int32) r2.2 H locs ls hF hP hS (lv_sub hl [0, 1] rfl)
  · have hF := ite_t h hF
    refine lv_iconst (v := (-1 : Int32)) E.1 E.2.1 dX1_hail_8 (by decide) ?_
    exact mk_iret E hr hlocks hP hS hF dX1_hail_9
/-! DebtFerryModel.as(II)I -/
def m_as (x1 : Int32) (x2 : Int32) (z0 : MZ) : Option (Int32 × MZ) :=
  (m_isPerson x1 (mz_f z0 0 (0 : Int32))).bind (fun r7 => if r7.1 = 0 then some ((-1 : Int32), r7.2) else (m_within x2 (0 : Int32) (2 : Int32)).bind (fun r18 => if r18 = 0 then some ((-2 : Int32), r7.2) else gd (inb x1 5) (if (r7.2.2 8 x1.toNatClampNeg) < x2 then (m_fails (2 : Int32) r7.2).bind (fun r43 => some (r43.1, r43.2)) else some ((1 : Int32), r7.2))))
abbrev rmX1_as : Room := { frames := 2, cells := 0, slots := 0, locals := 34 }
set_option maxHeartbeats 4000000 in
set_option maxRecDepth 100000 in
theorem mm_X1_as (l : Launch) {D : va_G} {cl : List vw_C} {ci : Nat} {d : ClassId} {B : Nat → Nat} {A : Nat → Prop} (hcl : cl[ci]? = some (RX1, TX1, 29)) (hB : ∀ z, va_D A (mW ci d B z)) (x1 : Int32) (x2 : Int32) (z0 : MZ) (res : Int32 × MZ) (hF : m_as x1 x2 z0 = some res) : Met l yX1_as (ws_ yX1_as cX1_as 3 (some .int)) rmX1_as (mPc D cl ci d B z0 [.int x1, .int x2]) (mQ D cl ci d B A (some (.int res.1)) res.2) 0 0 A := by
  refine mk_start (A := A) (by decide) rfl (Nat.le_of_ble_eq_true rfl) ?_
  intro p e s m args below meth c H locs ls E hr hlocks hK hP hS hl
  have hl : lv_has ls 3 [(0, .ref (B 0)), (1, .int x1), (2, .int x2)] := hl
  unfold m_as at hF
  refine lv_aload_n E.1 E.2.1 dX1_as_0 rfl (lv_at hl 0 rfl) ?_
  refine lv_iconst (v := (0 : Int32)) E.1 E.2.1 dX1_as_1 (by decide) ?_
  refine mk_put E hcl hB hK hP hS 0 rfl q1110 rfl dX1_as_2 (fun H locs hP hS => ?_)
  refine lv_aload_n E.1 E.2.1 dX1_as_5 rfl (lv_at hl 0 rfl) ?_
  refine lv_iload_n E.1 E.2.1 dX1_as_6 rfl (lv_at hl 1 rfl) ?_
  obtain ⟨r7, hq7, hF⟩ := bnd hF
  refine mk_call (As := [.int x1]) (rest := []) (v := (some (.int r7.1))) E hcl hK hP hS (mm_X1_isPerson l hcl hB x1 (mz_f z0 0 (0 : Int32)) _ hq7) (cwV 1 E.2.2.2.2 (lw_V q1243 q1245 qs38 q58 q1246) rfl rfl rfl (by decide +kernel) ⟨Nat.le_of_ble_eq_true rfl, Nat.le_of_ble_eq_true rfl⟩) hl rfl rfl (Nat.le_of_ble_eq_true rfl) ⟨Nat.zero_le _, Nat.zero_le _⟩ dX1_as_7 (fun H locs hP hS => ?_)
  refine lv_if_ne (tgt := 15) E.1 E.2.1 dX1_as_10 (by decide) (fun h => ?_) (fun h => ?_)
  · have hF := ite_f h hF
    refine lv_iload_n E.1 E.2.1 dX1_as_15 rfl (lv_at hl 2 rfl) ?_
    refine lv_iconst (v := (0 : Int32)) E.1 E.2.1 dX1_as_16 (by decide) ?_
    refine lv_iconst (v := (2 : Int32)) E.1 E.2.1 dX1_as_17 (by decide) ?_
    obtain ⟨r18, hq18, hF⟩ := bnd hF
    refine px_call (As := [.int x2, .int (0 : Int32), .int (2 : Int32)]) (rest := []) (v := .int r18) E (mm_X1_within l x2 (0 : Int32) (2 : Int32) _ hq18) (va_cwS 3 E.2.2.2.2 (lw_S q1205 q1206 q58 q1207) rfl rfl rfl (by decide +kernel) ⟨Nat.le_of_ble_eq_true rfl, Nat.le_of_ble_eq_true rfl⟩) hl rfl rfl (Nat.le_of_ble_eq_true rfl) ⟨Nat.zero_le _, Nat.zero_le _⟩ dX1_as_18 ?_
    refine lv_if_ne (tgt := 27) E.1 E.2.1 dX1_as_21 (by decide) (fun h => ?_) (fun h => ?_)
    · have hF := ite_f h hF
      refine lv_aload_n E.1 E.2.1 dX1_as_27 rfl (lv_at hl 0 rfl) ?_
      refine mk_get E hcl hK hP 8 (by decide) q1118 rfl (v := .ref (B 8)) rfl dX1_as_28 ?_
      refine lv_iload_n E.1 E.2.1 dX1_as_31 rfl (lv_at hl 1 rfl) ?_
      obtain ⟨h32, hF⟩ := gd_some hF
      refine mk_ald E hK hP (q := 4) (j := 8) (n := 5) rfl h32 dX1_as_32 ?_
      refine lv_iload_n E.1 E.2.1 dX1_as_33 rfl (lv_at hl 2 rfl) ?_
      refine lv_icmp_lt (tgt := 41) E.1 E.2.1 dX1_as_34 (by decide) (fun h => ?_) (fun h => ?_)
      · have hF := ite_t h hF
        refine lv_aload_n E.1 E.2.1 dX1_as_41 rfl (lv_at hl 0 rfl) ?_
        refine lv_iconst (v := (2 : Int32)) E.1 E.2.1 dX1_as_42 (by decide) ?_
        obtain ⟨r43, hq43, hF⟩ := bnd hF
        refine mk_call (As := [.int (2 : Int32)]) (rest := []) (v := (some (.int r43.1))) E hcl hK hP hS (mm_X1_fails l hcl hB (2 : Int32) r7.2 _ hq43) (cwV 1 E.2.2.2.2 (lw_V q1215 q1217 qs32 q58 q1218) rfl rfl rfl (by decide +kernel) ⟨Nat.le_of_ble_eq_true rfl, Nat.le_of_ble_eq_true rfl⟩) hl rfl rfl (Nat.le_of_ble_eq_true rfl) ⟨Nat.zero_le _, Nat.zero_le _⟩ dX1_as_43 (fun H locs hP hS => ?_)
        exact mk_iret E hr hlocks hP hS hF dX1_as_46
      · have hF := ite_f h hF
        refine lv_iconst (v := (1 : Int32)) E.1 E.2.1 dX1_as_37 (by decide) ?_
        refine lv_goto (tgt := 46) E.1 E.2.1 dX1_as_38 (by decide) ?_
        exact mk_iret E hr hlocks hP hS hF dX1_as_46
    · have hF := ite_t h hF
      refine lv_bipush (v := (-2 : Int32)) E.1 E.2.1 dX1_as_24 (by decide) ?_
      exact mk_iret E hr hlocks hP hS hF dX1_as_26
  · have hF := ite_t h hF
    refine lv_iconst (v := (-1 : Int32)) E.1 E.2.1 dX1_as_13 (by decide) ?_
    exact mk_iret E hr hlocks hP hS hF dX1_as_14
/-! DebtFerryModel.trace()I -/
def m_trace  (z0 : MZ) : Option (Int32 × MZ) :=
  some ((z0.1 1), z0)
abbrev rmX1_trace : Room := { frames := 1, cells := 0, slots := 0, locals := 12 }
set_option maxHeartbeats 4000000 in
set_option maxRecDepth 100000 in
theorem mm_X1_trace (l : Launch) {D : va_G} {cl : List vw_C} {ci : Nat} {d : ClassId} {B : Nat → Nat} {A : Nat → Prop} (hcl : cl[ci]? = some (RX1, TX1, 29)) (hB : ∀ z, va_D A (mW ci d B z))  (z0 : MZ) (res : Int32 × MZ) (hF : m_trace  z0 = some res) : Met l yX1_trace (ws_ yX1_trace cX1_trace 1 (some .int)) rmX1_trace (mPc D cl ci d B z0 []) (mQ D cl ci d B A (some (.int res.1)) res.2) 0 0 A := by
  refine mk_start (A := A) (by decide) rfl (Nat.le_of_ble_eq_true rfl) ?_
  intro p e s m args below meth c H locs ls E hr hlocks hK hP hS hl
  have hl : lv_has ls 1 [(0, .ref (B 0))] := hl
  unfold m_trace at hF
  refine lv_aload_n E.1 E.2.1 dX1_trace_0 rfl (lv_at hl 0 rfl) ?_
  refine mk_get E hcl hK hP 1 (by decide) q1111 rfl (v := .int (z0.1 1)) rfl dX1_trace_1 ?_
  exact mk_iret E hr hlocks hP hS hF dX1_trace_4
/-! DebtFerryModel.fault()I -/
def m_fault  (z0 : MZ) : Option (Int32 × MZ) :=
  some ((z0.1 0), z0)
abbrev rmX1_fault : Room := { frames := 1, cells := 0, slots := 0, locals := 12 }
set_option maxHeartbeats 4000000 in
set_option maxRecDepth 100000 in
theorem mm_X1_fault (l : Launch) {D : va_G} {cl : List vw_C} {ci : Nat} {d : ClassId} {B : Nat → Nat} {A : Nat → Prop} (hcl : cl[ci]? = some (RX1, TX1, 29)) (hB : ∀ z, va_D A (mW ci d B z))  (z0 : MZ) (res : Int32 × MZ) (hF : m_fault  z0 = some res) : Met l yX1_fault (ws_ yX1_fault cX1_fault 1 (some .int)) rmX1_fault (mPc D cl ci d B z0 []) (mQ D cl ci d B A (some (.int res.1)) res.2) 0 0 A := by
  refine mk_start (A := A) (by decide) rfl (Nat.le_of_ble_eq_true rfl) ?_
  intro p e s m args below meth c H locs ls E hr hlocks hK hP hS hl
  have hl : lv_has ls 1 [(0, .ref (B 0))] := hl
  unfold m_fault at hF
  refine lv_aload_n E.1 E.2.1 dX1_fault_0 rfl (lv_at hl 0 rfl) ?_
  refine mk_get E hcl hK hP 0 (by decide) q1110 rfl (v := .int (z0.1 0)) rfl dX1_fault_1 ?_
  exact mk_iret E hr hlocks hP hS hF dX1_fault_4
/-! DebtFerryModel.many(I)I -/
def m_many (x1 : Int32) (z0 : MZ) : Option (Int32 × MZ) :=
  if x1 = 0 then some ((z0.1 5), z0) else if x1 = (1 : Int32) then some ((z0.1 6), z0) else if x1 = (2 : Int32) then some ((z0.1 7), z0) else if x1 = (3 : Int32) then some ((z0.1 26), z0) else some ((-2 : Int32), z0)
abbrev rmX1_many : Room := { frames := 1, cells := 0, slots := 0, locals := 12 }
set_option maxHeartbeats 4000000 in
set_option maxRecDepth 100000 in
theorem mm_X1_many (l : Launch) {D : va_G} {cl : List vw_C} {ci : Nat} {d : ClassId} {B : Nat → Nat} {A : Nat → Prop} (hcl : cl[ci]? = some (RX1, TX1, 29)) (hB : ∀ z, va_D A (mW ci d B z)) (x1 : Int32) (z0 : MZ) (res : Int32 × MZ) (hF : m_many x1 z0 = some res) : Met l yX1_many (ws_ yX1_many cX1_many 2 (some .int)) rmX1_many (mPc D cl ci d B z0 [.int x1]) (mQ D cl ci d B A (some (.int res.1)) res.2) 0 0 A := by
  refine mk_start (A := A) (by decide) rfl (Nat.le_of_ble_eq_true rfl) ?_
  intro p e s m args below meth c H locs ls E hr hlocks hK hP hS hl
  have hl : lv_has ls 2 [(0, .ref (B 0)), (1, .int x1)] := hl
  unfold m_many at hF
  refine lv_iload_n E.1 E.2.1 dX1_many_0 rfl (lv_at hl 1 rfl) ?_
  refine lv_if_ne (tgt := 11) E.1 E.2.1 dX1_many_1 (by decide) (fun h => ?_) (fun h => ?_)
  · have hF := ite_f h hF
    refine lv_iload_n E.1 E.2.1 dX1_many_11 rfl (lv_at hl 1 rfl) ?_
    refine lv_iconst (v := (1 : Int32)) E.1 E.2.1 dX1_many_12 (by decide) ?_
    refine lv_icmp_ne (tgt := 23) E.1 E.2.1 dX1_many_13 (by decide) (fun h => ?_) (fun h => ?_)
    · have hF := ite_f h hF
      refine lv_iload_n E.1 E.2.1 dX1_many_23 rfl (lv_at hl 1 rfl) ?_
      refine lv_iconst (v := (2 : Int32)) E.1 E.2.1 dX1_many_24 (by decide) ?_
      refine lv_icmp_ne (tgt := 35) E.1 E.2.1 dX1_many_25 (by decide) (fun h => ?_) (fun h => ?_)
      · have hF := ite_f h hF
        refine lv_iload_n E.1 E.2.1 dX1_many_35 rfl (lv_at hl 1 rfl) ?_
        refine lv_iconst (v := (3 : Int32)) E.1 E.2.1 dX1_many_36 (by decide) ?_
        refine lv_icmp_ne (tgt := 47) E.1 E.2.1 dX1_many_37 (by decide) (fun h => ?_) (fun h => ?_)
        · have hF := ite_f h hF
          refine lv_bipush (v := (-2 : Int32)) E.1 E.2.1 dX1_many_47 (by decide) ?_
          exact mk_iret E hr hlocks hP hS hF dX1_many_49
        · have hF := ite_t h hF
          refine lv_aload_n E.1 E.2.1 dX1_many_40 rfl (lv_at hl 0 rfl) ?_
          refine mk_get E hcl hK hP 26 (by decide) q1136 rfl (v := .int (z0.1 26)) rfl dX1_many_41 ?_
          refine lv_goto (tgt := 49) E.1 E.2.1 dX1_many_44 (by decide) ?_
          exact mk_iret E hr hlocks hP hS hF dX1_many_49
      · have hF := ite_t h hF
        refine lv_aload_n E.1 E.2.1 dX1_many_28 rfl (lv_at hl 0 rfl) ?_
        refine mk_get E hcl hK hP 7 (by decide) q1117 rfl (v := .int (z0.1 7)) rfl dX1_many_29 ?_
        refine lv_goto (tgt := 49) E.1 E.2.1 dX1_many_32 (by decide) ?_
        exact mk_iret E hr hlocks hP hS hF dX1_many_49
    · have hF := ite_t h hF
      refine lv_aload_n E.1 E.2.1 dX1_many_16 rfl (lv_at hl 0 rfl) ?_
      refine mk_get E hcl hK hP 6 (by decide) q1116 rfl (v := .int (z0.1 6)) rfl dX1_many_17 ?_
      refine lv_goto (tgt := 49) E.1 E.2.1 dX1_many_20 (by decide) ?_
      exact mk_iret E hr hlocks hP hS hF dX1_many_49
  · have hF := ite_t h hF
    refine lv_aload_n E.1 E.2.1 dX1_many_4 rfl (lv_at hl 0 rfl) ?_
    refine mk_get E hcl hK hP 5 (by decide) q1115 rfl (v := .int (z0.1 5)) rfl dX1_many_5 ?_
    refine lv_goto (tgt := 49) E.1 E.2.1 dX1_many_8 (by decide) ?_
    exact mk_iret E hr hlocks hP hS hF dX1_many_49
