/-! DebtFerry.hail(I)I -/
def c_hail (x1 : Int32) (z0 : CZ) : Option (Int32 × CZ) :=
  (c_noPerson x1 z0).bind (fun r2 => if r2.1 = 0 then gd (inb x1 (cz_np r2.2)) (gd (decide (x1.toNatClampNeg < cz_np r2.2)) (gd (decide (x1.toNatClampNeg < cz_np r2.2)) ((if cz_k r2.2 x1.toNatClampNeg = 2 then c7_hailed x1.toNatClampNeg r2.2 else c13_hailed x1.toNatClampNeg r2.2).bind (fun r25 => some (r25.1, r25.2))))) else some ((-1 : Int32), r2.2))
abbrev rmX0_hail : Room := { frames := 8, cells := 0, slots := 0, locals := 400 }
set_option maxHeartbeats 4000000 in
set_option maxRecDepth 100000 in
theorem mm_X0_hail (l : Launch) {D : va_G} {K : Nat → ClassId} {s0 : State} {a0 : Array Value} {B : Nat → Nat} {ad : CA} {A : Nat → Prop} (hT : ∀ w ∈ lw_tbl, w.before a0 s0 = true) (hD : ∀ z, va_D A (cW K B ad z)) (hL : ldF "DebtFerry$Rider" yX13_hailed yX13_hailed s0 ∧ ldF "DebtFerry$Friend" yX13_hailed yX13_hailed s0) (x1 : Int32) (z0 : CZ) (res : Int32 × CZ) (hF : c_hail x1 z0 = some res) : Met l yX0_hail (ws_ yX0_hail cX0_hail 3 (some .int)) rmX0_hail (cPc D K s0 B ad z0 [.ref (B 0), .int x1]) (cQ D K B ad A (some (.int res.1)) res.2) 0 0 A := by
  refine ck_start (A := A) RX0 (by decide) rfl (Nat.le_of_ble_eq_true rfl) ?_
  intro p e s m args below meth c H locs ls E hr hlocks hK hN hP hS hl
  have hl : lv_has ls 3 [(0, .ref (B 0)), (1, .int x1)] := hl
  unfold c_hail at hF
  refine lv_aload_n E.1 E.2.1 dX0_hail_0 rfl (lv_at hl 0 rfl) ?_
  refine lv_iload_n E.1 E.2.1 dX0_hail_1 rfl (lv_at hl 1 rfl) ?_
  obtain ⟨r2, hq2, hF⟩ := bnd hF
  refine cx_go (va_runV (As := [.int x1]) (rest := []) E (mm_X0_noPerson l hT hD x1 z0 _ hq2) (cwV 1 E.2.2.2.2 (lw_V q163 q165 qs0 q54 q166) rfl rfl rfl (by decide +kernel) ⟨Nat.le_of_ble_eq_true rfl, Nat.le_of_ble_eq_true rfl⟩) (ck_pre hK hN hP (ck_me hK hP)) rfl rfl hl.1 rfl (lv_room (Nat.le_of_ble_eq_true rfl)) dX0_hail_2 ⟨Nat.zero_le _, Nat.zero_le _⟩) hS (fun H locs hP hS => ?_)
  refine lv_if_eq (tgt := 10) E.1 E.2.1 dX0_hail_5 (by decide) (fun h => ?_) (fun h => ?_)
  · have hF := ite_t h hF
    refine lv_aload_n E.1 E.2.1 dX0_hail_10 rfl (lv_at hl 0 rfl) ?_
    refine ck_get E hK hP 4 (by decide) q130 rfl (v := .ref (B 4)) rfl dX0_hail_11 ?_
    refine lv_iload_n E.1 E.2.1 dX0_hail_14 rfl (lv_at hl 1 rfl) ?_
    obtain ⟨h15, hF⟩ := gd_some hF
    refine ck_lget E hT hN hK hP (q0 := 5) (j := 4) (n := cz_np r2.2) (o := 100) rfl hP.2.1.1 hP.2.2.1 h15 q181 hl (Nat.le_of_ble_eq_true rfl) ⟨Nat.le_of_ble_eq_true rfl, Nat.le_of_ble_eq_true rfl⟩ ⟨Nat.zero_le _, Nat.zero_le _⟩ dX0_hail_15 ?_
    obtain ⟨h20, hF⟩ := gd_some hF
    have h20 : x1.toNatClampNeg < cz_np r2.2 := of_decide_eq_true h20
    refine ck_castH E hT hN hK hP h20 q1026 dX0_hail_20 ?_
    refine lv_astore_n (lv' := [(2, .ref (ad.2.1 (100 + x1.toNatClampNeg))), (0, .ref (B 0)), (1, .int x1)]) E.1 E.2.1 dX0_hail_23 rfl hl (by decide) rfl (fun ls hl => ?_)
    refine lv_aload_n E.1 E.2.1 dX0_hail_24 rfl (lv_at hl 0 rfl) ?_
    obtain ⟨h25, hF⟩ := gd_some hF
    have h25 : x1.toNatClampNeg < cz_np r2.2 := of_decide_eq_true h25
    obtain ⟨r25, hq25, hF⟩ := bnd hF
    have hrun : va_Run5 p l e rmX0_hail s m args below meth c H locs 0 0 0 0 (F0 m 25 ls [.ref (ad.2.1 (100 + x1.toNatClampNeg))]) [] (cQ D K B ad A (some (.int r25.1)) r25.2 (Value.ref (ad.2.1 (100 + x1.toNatClampNeg)) :: []).toArray) A := by
      rcases rd_recv hK hP h25 with ⟨hk, hc⟩ | ⟨hk, hc⟩ | ⟨hk, hc⟩
      · exact runD (y := yX13_hailed) (As := []) (rest := []) (hK.1 3 (RX5, TX5, 3) rfl).2 E (mb_X13_hailed l hT hD x1.toNatClampNeg r2.2 _ (ite_f (by rw [hk]; decide) hq25)) (by decide) rfl (Nat.le_of_ble_eq_true rfl) rfl rfl ⟨Nat.le_of_ble_eq_true rfl, Nat.le_of_ble_eq_true rfl⟩ q1041 q1028 (cN_I (by decide) hT hN q1030 q1029 q1040 q1067 q1051) (ldF.moved hN.alike hL.1) q1039 (by decide) (by decide +kernel) (ck_pre hK hN hP hc) rfl rfl hl.1 rfl (lv_room (Nat.le_of_ble_eq_true rfl)) dX0_hail_25 ⟨Nat.zero_le _, Nat.zero_le _⟩
      · exact runD (y := yX13_hailed) (As := []) (rest := []) (hK.1 4 (RX6, TX6, 4) rfl).2 E (mb_X13_hailed l hT hD x1.toNatClampNeg r2.2 _ (ite_f (by rw [hk]; decide) hq25)) (by decide) rfl (Nat.le_of_ble_eq_true rfl) rfl rfl ⟨Nat.le_of_ble_eq_true rfl, Nat.le_of_ble_eq_true rfl⟩ q1041 q1028 (cN_I (by decide) hT hN q1030 q1029 q1040 q1038 q1037) (ldF.moved hN.alike hL.2) q1039 (by decide) (by decide +kernel) (ck_pre hK hN hP hc) rfl rfl hl.1 rfl (lv_room (Nat.le_of_ble_eq_true rfl)) dX0_hail_25 ⟨Nat.zero_le _, Nat.zero_le _⟩
      · exact va_runF (As := []) (rest := []) (hK.1 5 (RX7, TX7, 5) rfl).2 E (mm_X7_hailed l hT hD x1.toNatClampNeg r2.2 _ (ite_t hk hq25)) (va_cwF 0 E.2.2.2.2 (lw_F q1028 q1032 q1034 q79 q1036) rfl rfl rfl (cN_I (by decide) hT hN q1030 q1029 q1035 q1033 q1031) (by decide +kernel) ⟨Nat.le_of_ble_eq_true rfl, Nat.le_of_ble_eq_true rfl⟩) (ck_pre hK hN hP hc) rfl rfl hl.1 rfl (lv_room (Nat.le_of_ble_eq_true rfl)) dX0_hail_25 ⟨Nat.zero_le _, Nat.zero_le _⟩
    refine cx_go5 hrun hS (fun H locs hP hS => ?_)
    exact ck_iret E hr hlocks hP hS hF dX0_hail_30
  · have hF := ite_f h hF
    refine lv_iconst (v := (-1 : Int32)) E.1 E.2.1 dX0_hail_8 (by decide) ?_
    exact ck_iret E hr hlocks hP hS hF dX0_hail_9
