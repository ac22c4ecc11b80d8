/-! java/lang/Integer.bitCount(I)I -/
def j16_bitCount (x0 : Int32) : Option Int32 :=
  some ((((((((x0 - (((x0.toUInt32 >>> ((1 : Int32).toUInt32 &&& Int32.toUInt32 31)).toInt32) &&& (1431655765 : Int32))) &&& (858993459 : Int32)) + ((((x0 - (((x0.toUInt32 >>> ((1 : Int32).toUInt32 &&& Int32.toUInt32 31)).toInt32) &&& (1431655765 : Int32))).toUInt32 >>> ((2 : Int32).toUInt32 &&& Int32.toUInt32 31)).toInt32) &&& (858993459 : Int32))) + (((((x0 - (((x0.toUInt32 >>> ((1 : Int32).toUInt32 &&& Int32.toUInt32 31)).toInt32) &&& (1431655765 : Int32))) &&& (858993459 : Int32)) + ((((x0 - (((x0.toUInt32 >>> ((1 : Int32).toUInt32 &&& Int32.toUInt32 31)).toInt32) &&& (1431655765 : Int32))).toUInt32 >>> ((2 : Int32).toUInt32 &&& Int32.toUInt32 31)).toInt32) &&& (858993459 : Int32))).toUInt32 >>> ((4 : Int32).toUInt32 &&& Int32.toUInt32 31)).toInt32)) &&& (252645135 : Int32)) + (((((((x0 - (((x0.toUInt32 >>> ((1 : Int32).toUInt32 &&& Int32.toUInt32 31)).toInt32) &&& (1431655765 : Int32))) &&& (858993459 : Int32)) + ((((x0 - (((x0.toUInt32 >>> ((1 : Int32).toUInt32 &&& Int32.toUInt32 31)).toInt32) &&& (1431655765 : Int32))).toUInt32 >>> ((2 : Int32).toUInt32 &&& Int32.toUInt32 31)).toInt32) &&& (858993459 : Int32))) + (((((x0 - (((x0.toUInt32 >>> ((1 : Int32).toUInt32 &&& Int32.toUInt32 31)).toInt32) &&& (1431655765 : Int32))) &&& (858993459 : Int32)) + ((((x0 - (((x0.toUInt32 >>> ((1 : Int32).toUInt32 &&& Int32.toUInt32 31)).toInt32) &&& (1431655765 : Int32))).toUInt32 >>> ((2 : Int32).toUInt32 &&& Int32.toUInt32 31)).toInt32) &&& (858993459 : Int32))).toUInt32 >>> ((4 : Int32).toUInt32 &&& Int32.toUInt32 31)).toInt32)) &&& (252645135 : Int32)).toUInt32 >>> ((8 : Int32).toUInt32 &&& Int32.toUInt32 31)).toInt32)) + ((((((((x0 - (((x0.toUInt32 >>> ((1 : Int32).toUInt32 &&& Int32.toUInt32 31)).toInt32) &&& (1431655765 : Int32))) &&& (858993459 : Int32)) + ((((x0 - (((x0.toUInt32 >>> ((1 : Int32).toUInt32 &&& Int32.toUInt32 31)).toInt32) &&& (1431655765 : Int32))).toUInt32 >>> ((2 : Int32).toUInt32 &&& Int32.toUInt32 31)).toInt32) &&& (858993459 : Int32))) + (((((x0 - (((x0.toUInt32 >>> ((1 : Int32).toUInt32 &&& Int32.toUInt32 31)).toInt32) &&& (1431655765 : Int32))) &&& (858993459 : Int32)) + ((((x0 - (((x0.toUInt32 >>> ((1 : Int32).toUInt32 &&& Int32.toUInt32 31)).toInt32) &&& (1431655765 : Int32))).toUInt32 >>> ((2 : Int32).toUInt32 &&& Int32.toUInt32 31)).toInt32) &&& (858993459 : Int32))).toUInt32 >>> ((4 : Int32).toUInt32 &&& Int32.toUInt32 31)).toInt32)) &&& (252645135 : Int32)) + (((((((x0 - (((x0.toUInt32 >>> ((1 : Int32).toUInt32 &&& Int32.toUInt32 31)).toInt32) &&& (1431655765 : Int32))) &&& (858993459 : Int32)) + ((((x0 - (((x0.toUInt32 >>> ((1 : Int32).toUInt32 &&& Int32.toUInt32 31)).toInt32) &&& (1431655765 : Int32))).toUInt32 >>> ((2 : Int32).toUInt32 &&& Int32.toUInt32 31)).toInt32) &&& (858993459 : Int32))) + (((((x0 - (((x0.toUInt32 >>> ((1 : Int32).toUInt32 &&& Int32.toUInt32 31)).toInt32) &&& (1431655765 : Int32))) &&& (858993459 : Int32)) + ((((x0 - (((x0.toUInt32 >>> ((1 : Int32).toUInt32 &&& Int32.toUInt32 31)).toInt32) &&& (1431655765 : Int32))).toUInt32 >>> ((2 : Int32).toUInt32 &&& Int32.toUInt32 31)).toInt32) &&& (858993459 : Int32))).toUInt32 >>> ((4 : Int32).toUInt32 &&& Int32.toUInt32 31)).toInt32)) &&& (252645135 : Int32)).toUInt32 >>> ((8 : Int32).toUInt32 &&& Int32.toUInt32 31)).toInt32)).toUInt32 >>> ((16 : Int32).toUInt32 &&& Int32.toUInt32 31)).toInt32)) &&& (63 : Int32))
abbrev rmJ16_bitCount : Room := { frames := 1, cells := 0, slots := 0, locals := 12 }
set_option maxHeartbeats 4000000 in
set_option maxRecDepth 100000 in
theorem mm_J16_bitCount (l : Launch) (x0 : Int32) (res : Int32) (hF : j16_bitCount x0 = some res) : Met l yJ16_bitCount (ws_ yJ16_bitCount cJ16_bitCount 1 (some .int)) rmJ16_bitCount (pPc [.int x0]) (pQ (.int res)) 0 0 (fun _ => False) := by
  refine px_start RJ16 (by decide) rfl (Nat.le_of_ble_eq_true rfl) ?_
  intro p e s m args below meth c ls E hr hlocks hl
  have hl : lv_has ls 1 [(0, .int x0)] := hl
  unfold j16_bitCount at hF
  refine lv_iload_n E.1 E.2.1 dJ16_bitCount_0 rfl (lv_at hl 0 rfl) ?_
  refine lv_iload_n E.1 E.2.1 dJ16_bitCount_1 rfl (lv_at hl 0 rfl) ?_
  refine lv_iconst (v := (1 : Int32)) E.1 E.2.1 dJ16_bitCount_2 (by decide) ?_
  refine lv_iushr (v := ((x0.toUInt32 >>> ((1 : Int32).toUInt32 &&& Int32.toUInt32 31)).toInt32)) E.1 E.2.1 dJ16_bitCount_3 rfl ?_
  refine lv_ldcw (v := (1431655765 : Int32)) E.1 E.2.1 E.2.2.2.1 (E.2.2.2.2 _ q316) dJ16_bitCount_4 ?_
  refine lv_iand E.1 E.2.1 dJ16_bitCount_7 ?_
  refine lv_isub E.1 E.2.1 dJ16_bitCount_8 ?_
  refine lv_istore_n (lv' := [(0, .int (x0 - (((x0.toUInt32 >>> ((1 : Int32).toUInt32 &&& Int32.toUInt32 31)).toInt32) &&& (1431655765 : Int32))))]) E.1 E.2.1 dJ16_bitCount_9 rfl hl (by decide) rfl (fun ls hl => ?_)
  refine lv_iload_n E.1 E.2.1 dJ16_bitCount_10 rfl (lv_at hl 0 rfl) ?_
  refine lv_ldcw (v := (858993459 : Int32)) E.1 E.2.1 E.2.2.2.1 (E.2.2.2.2 _ q317) dJ16_bitCount_11 ?_
  refine lv_iand E.1 E.2.1 dJ16_bitCount_14 ?_
  refine lv_iload_n E.1 E.2.1 dJ16_bitCount_15 rfl (lv_at hl 0 rfl) ?_
  refine lv_iconst (v := (2 : Int32)) E.1 E.2.1 dJ16_bitCount_16 (by decide) ?_
  refine lv_iushr (v := (((x0 - (((x0.toUInt32 >>> ((1 : Int32).toUInt32 &&& Int32.toUInt32 31)).toInt32) &&& (1431655765 : Int32))).toUInt32 >>> ((2 : Int32).toUInt32 &&& Int32.toUInt32 31)).toInt32)) E.1 E.2.1 dJ16_bitCount_17 rfl ?_
  refine lv_ldcw (v := (858993459 : Int32)) E.1 E.2.1 E.2.2.2.1 (E.2.2.2.2 _ q317) dJ16_bitCount_18 ?_
  refine lv_iand E.1 E.2.1 dJ16_bitCount_21 ?_
  refine lv_iadd E.1 E.2.1 dJ16_bitCount_22 ?_
  refine lv_istore_n (lv' := [(0, .int (((x0 - (((x0.toUInt32 >>> ((1 : Int32).toUInt32 &&& Int32.toUInt32 31)).toInt32) &&& (1431655765 : Int32))) &&& (858993459 : Int32)) + ((((x0 - (((x0.toUInt32 >>> ((1 : Int32).toUInt32 &&& Int32.toUInt32 31)).toInt32) &&& (1431655765 : Int32))).toUInt32 >>> ((2 : Int32).toUInt32 &&& Int32.toUInt32 31)).toInt32) &&& (858993459 : Int32))))]) E.1 E.2.1 dJ16_bitCount_23 rfl hl (by decide) rfl (fun ls hl => ?_)
  refine lv_iload_n E.1 E.2.1 dJ16_bitCount_24 rfl (lv_at hl 0 rfl) ?_
  refine lv_iload_n E.1 E.2.1 dJ16_bitCount_25 rfl (lv_at hl 0 rfl) ?_
  refine lv_iconst (v := (4 : Int32)) E.1 E.2.1 dJ16_bitCount_26 (by decide) ?_
  refine lv_iushr (v := (((((x0 - (((x0.toUInt32 >>> ((1 : Int32).toUInt32 &&& Int32.toUInt32 31)).toInt32) &&& (1431655765 : Int32))) &&& (858993459 : Int32)) + ((((x0 - (((x0.toUInt32 >>> ((1 : Int32).toUInt32 &&& Int32.toUInt32 31)).toInt32) &&& (1431655765 : Int32))).toUInt32 >>> ((2 : Int32).toUInt32 &&& Int32.toUInt32 31)).toInt32) &&& (858993459 : Int32))).toUInt32 >>> ((4 : Int32).toUInt32 &&& Int32.toUInt32 31)).toInt32)) E.1 E.2.1 dJ16_bitCount_27 rfl ?_
  refine lv_iadd E.1 E.2.1 dJ16_bitCount_28 ?_
  refine lv_ldcw (v := (252645135 : Int32)) E.1 E.2.1 E.2.2.2.1 (E.2.2.2.2 _ q318) dJ16_bitCount_29 ?_
  refine lv_iand E.1 E.2.1 dJ16_bitCount_32 ?_
  refine lv_istore_n (lv' := [(0, .int (((((x0 - (((x0.toUInt32 >>> ((1 : Int32).toUInt32 &&& Int32.toUInt32 31)).toInt32) &&& (1431655765 : Int32))) &&& (858993459 : Int32)) + ((((x0 - (((x0.toUInt32 >>> ((1 : Int32).toUInt32 &&& Int32.toUInt32 31)).toInt32) &&& (1431655765 : Int32))).toUInt32 >>> ((2 : Int32).toUInt32 &&& Int32.toUInt32 31)).toInt32) &&& (858993459 : Int32))) + (((((x0 - (((x0.toUInt32 >>> ((1 : Int32).toUInt32 &&& Int32.toUInt32 31)).toInt32) &&& (1431655765 : Int32))) &&& (858993459 : Int32)) + ((((x0 - (((x0.toUInt32 >>> ((1 : Int32).toUInt32 &&& Int32.toUInt32 31)).toInt32) &&& (1431655765 : Int32))).toUInt32 >>> ((2 : Int32).toUInt32 &&& Int32.toUInt32 31)).toInt32) &&& (858993459 : Int32))).toUInt32 >>> ((4 : Int32).toUInt32 &&& Int32.toUInt32 31)).toInt32)) &&& (252645135 : Int32)))]) E.1 E.2.1 dJ16_bitCount_33 rfl hl (by decide) rfl (fun ls hl => ?_)
  refine lv_iload_n E.1 E.2.1 dJ16_bitCount_34 rfl (lv_at hl 0 rfl) ?_
  refine lv_iload_n E.1 E.2.1 dJ16_bitCount_35 rfl (lv_at hl 0 rfl) ?_
  refine lv_bipush (v := (8 : Int32)) E.1 E.2.1 dJ16_bitCount_36 (by decide) ?_
  refine lv_iushr (v := (((((((x0 - (((x0.toUInt32 >>> ((1 : Int32).toUInt32 &&& Int32.toUInt32 31)).toInt32) &&& (1431655765 : Int32))) &&& (858993459 : Int32)) + ((((x0 - (((x0.toUInt32 >>> ((1 : Int32).toUInt32 &&& Int32.toUInt32 31)).toInt32) &&& (1431655765 : Int32))).toUInt32 >>> ((2 : Int32).toUInt32 &&& Int32.toUInt32 31)).toInt32) &&& (858993459 : Int32))) + (((((x0 - (((x0.toUInt32 >>> ((1 : Int32).toUInt32 &&& Int32.toUInt32 31)).toInt32) &&& (1431655765 : Int32))) &&& (858993459 : Int32)) + ((((x0 - (((x0.toUInt32 >>> ((1 : Int32).toUInt32 &&& Int32.toUInt32 31)).toInt32) &&& (1431655765 : Int32))).toUInt32 >>> ((2 : Int32).toUInt32 &&& Int32.toUInt32 31)).toInt32) &&& (858993459 : Int32))).toUInt32 >>> ((4 : Int32).toUInt32 &&& Int32.toUInt32 31)).toInt32)) &&& (252645135 : Int32)).toUInt32 >>> ((8 : Int32).toUInt32 &&& Int32.toUInt32 31)).toInt32)) E.1 E.2.1 dJ16_bitCount_38 rfl ?_
  refine lv_iadd E.1 E.2.1 dJ16_bitCount_39 ?_
  refine lv_istore_n (lv' := [(0, .int ((((((x0 - (((x0.toUInt32 >>> ((1 : Int32).toUInt32 &&& Int32.toUInt32 31)).toInt32) &&& (1431655765 : Int32))) &&& (858993459 : Int32)) + ((((x0 - (((x0.toUInt32 >>> ((1 : Int32).toUInt32 &&& Int32.toUInt32 31)).toInt32) &&& (1431655765 : Int32))).toUInt32 >>> ((2 : Int32).toUInt32 &&& Int32.toUInt32 31)).toInt32) &&& (858993459 : Int32))) + (((((x0 - (((x0.toUInt32 >>> ((1 : Int32).toUInt32 &&& Int32.toUInt32 31)).toInt32) &&& (1431655765 : Int32))) &&& (858993459 : Int32)) + ((((x0 - (((x0.toUInt32 >>> ((1 : Int32).toUInt32 &&& Int32.toUInt32 31)).toInt32) &&& (1431655765 : Int32))).toUInt32 >>> ((2 : Int32).toUInt32 &&& Int32.toUInt32 31)).toInt32) &&& (858993459 : Int32))).toUInt32 >>> ((4 : Int32).toUInt32 &&& Int32.toUInt32 31)).toInt32)) &&& (252645135 : Int32)) + (((((((x0 - (((x0.toUInt32 >>> ((1 : Int32).toUInt32 &&& Int32.toUInt32 31)).toInt32) &&& (1431655765 : Int32))) &&& (858993459 : Int32)) + ((((x0 - (((x0.toUInt32 >>> ((1 : Int32).toUInt32 &&& Int32.toUInt32 31)).toInt32) &&& (1431655765 : Int32))).toUInt32 >>> ((2 : Int32).toUInt32 &&& Int32.toUInt32 31)).toInt32) &&& (858993459 : Int32))) + (((((x0 - (((x0.toUInt32 >>> ((1 : Int32).toUInt32 &&& Int32.toUInt32 31)).toInt32) &&& (1431655765 : Int32))) &&& (858993459 : Int32)) + ((((x0 - (((x0.toUInt32 >>> ((1 : Int32).toUInt32 &&& Int32.toUInt32 31)).toInt32) &&& (1431655765 : Int32))).toUInt32 >>> ((2 : Int32).toUInt32 &&& Int32.toUInt32 31)).toInt32) &&& (858993459 : Int32))).toUInt32 >>> ((4 : Int32).toUInt32 &&& Int32.toUInt32 31)).toInt32)) &&& (252645135 : Int32)).toUInt32 >>> ((8 : Int32).toUInt32 &&& Int32.toUInt32 31)).toInt32)))]) E.1 E.2.1 dJ16_bitCount_40 rfl hl (by decide) rfl (fun ls hl => ?_)
  refine lv_iload_n E.1 E.2.1 dJ16_bitCount_41 rfl (lv_at hl 0 rfl) ?_
  refine lv_iload_n E.1 E.2.1 dJ16_bitCount_42 rfl (lv_at hl 0 rfl) ?_
  refine lv_bipush (v := (16 : Int32)) E.1 E.2.1 dJ16_bitCount_43 (by decide) ?_
  refine lv_iushr (v := ((((((((x0 - (((x0.toUInt32 >>> ((1 : Int32).toUInt32 &&& Int32.toUInt32 31)).toInt32) &&& (1431655765 : Int32))) &&& (858993459 : Int32)) + ((((x0 - (((x0.toUInt32 >>> ((1 : Int32).toUInt32 &&& Int32.toUInt32 31)).toInt32) &&& (1431655765 : Int32))).toUInt32 >>> ((2 : Int32).toUInt32 &&& Int32.toUInt32 31)).toInt32) &&& (858993459 : Int32))) + (((((x0 - (((x0.toUInt32 >>> ((1 : Int32).toUInt32 &&& Int32.toUInt32 31)).toInt32) &&& (1431655765 : Int32))) &&& (858993459 : Int32)) + ((((x0 - (((x0.toUInt32 >>> ((1 : Int32).toUInt32 &&& Int32.toUInt32 31)).toInt32) &&& (1431655765 : Int32))).toUInt32 >>> ((2 : Int32).toUInt32 &&& Int32.toUInt32 31)).toInt32) &&& (858993459 : Int32))).toUInt32 >>> ((4 : Int32).toUInt32 &&& Int32.toUInt32 31)).toInt32)) &&& (252645135 : Int32)) + (((((((x0 - (((x0.toUInt32 >>> ((1 : Int32).toUInt32 &&& Int32.toUInt32 31)).toInt32) &&& (1431655765 : Int32))) &&& (858993459 : Int32)) + ((((x0 - (((x0.toUInt32 >>> ((1 : Int32).toUInt32 &&& Int32.toUInt32 31)).toInt32) &&& (1431655765 : Int32))).toUInt32 >>> ((2 : Int32).toUInt32 &&& Int32.toUInt32 31)).toInt32) &&& (858993459 : Int32))) + (((((x0 - (((x0.toUInt32 >>> ((1 : Int32).toUInt32 &&& Int32.toUInt32 31)).toInt32) &&& (1431655765 : Int32))) &&& (858993459 : Int32)) + ((((x0 - (((x0.toUInt32 >>> ((1 : Int32).toUInt32 &&& Int32.toUInt32 31)).toInt32) &&& (1431655765 : Int32))).toUInt32 >>> ((2 : Int32).toUInt32 &&& Int32.toUInt32 31)).toInt32) &&& (858993459 : Int32))).toUInt32 >>> ((4 : Int32).toUInt32 &&& Int32.toUInt32 31)).toInt32)) &&& (252645135 : Int32)).toUInt32 >>> ((8 : Int32).toUInt32 &&& Int32.toUInt32 31)).toInt32)).toUInt32 >>> ((16 : Int32).toUInt32 &&& Int32.toUInt32 31)).toInt32)) E.1 E.2.1 dJ16_bitCount_45 rfl ?_
  refine lv_iadd E.1 E.2.1 dJ16_bitCount_46 ?_
  refine lv_istore_n (lv' := [(0, .int (((((((x0 - (((x0.toUInt32 >>> ((1 : Int32).toUInt32 &&& Int32.toUInt32 31)).toInt32) &&& (1431655765 : Int32))) &&& (858993459 : Int32)) + ((((x0 - (((x0.toUInt32 >>> ((1 : Int32).toUInt32 &&& Int32.toUInt32 31)).toInt32) &&& (1431655765 : Int32))).toUInt32 >>> ((2 : Int32).toUInt32 &&& Int32.toUInt32 31)).toInt32) &&& (858993459 : Int32))) + (((((x0 - (((x0.toUInt32 >>> ((1 : Int32).toUInt32 &&& Int32.toUInt32 31)).toInt32) &&& (1431655765 : Int32))) &&& (858993459 : Int32)) + ((((x0 - (((x0.toUInt32 >>> ((1 : Int32).toUInt32 &&& Int32.toUInt32 31)).toInt32) &&& (1431655765 : Int32))).toUInt32 >>> ((2 : Int32).toUInt32 &&& Int32.toUInt32 31)).toInt32) &&& (858993459 : Int32))).toUInt32 >>> ((4 : Int32).toUInt32 &&& Int32.toUInt32 31)).toInt32)) &&& (252645135 : Int32)) + (((((((x0 - (((x0.toUInt32 >>> ((1 : Int32).toUInt32 &&& Int32.toUInt32 31)).toInt32) &&& (1431655765 : Int32))) &&& (858993459 : Int32)) + ((((x0 - (((x0.toUInt32 >>> ((1 : Int32).toUInt32 &&& Int32.toUInt32 31)).toInt32) &&& (1431655765 : Int32))).toUInt32 >>> ((2 : Int32).toUInt32 &&& Int32.toUInt32 31)).toInt32) &&& (858993459 : Int32))) + (((((x0 - (((x0.toUInt32 >>> ((1 : Int32).toUInt32 &&& Int32.toUInt32 31)).toInt32) &&& (1431655765 : Int32))) &&& (858993459 : Int32)) + ((((x0 - (((x0.toUInt32 >>> ((1 : Int32).toUInt32 &&& Int32.toUInt32 31)).toInt32) &&& (1431655765 : Int32))).toUInt32 >>> ((2 : Int32).toUInt32 &&& Int32.toUInt32 31)).toInt32) &&& (858993459 : Int32))).toUInt32 >>> ((4 : Int32).toUInt32 &&& Int32.toUInt32 31)).toInt32)) &&& (252645135 : Int32)).toUInt32 >>> ((8 : Int32).toUInt32 &&& Int32.toUInt32 31)).toInt32)) + ((((((((x0 - (((x0.toUInt32 >>> ((1 : Int32).toUInt32 &&& Int32.toUInt32 31)).toInt32) &&& (1431655765 : Int32))) &&& (858993459 : Int32)) + ((((x0 - (((x0.toUInt32 >>> ((1 : Int32).toUInt32 &&& Int32.toUInt32 31)).toInt32) &&& (1431655765 : Int32))).toUInt32 >>> ((2 : Int32).toUInt32 &&& Int32.toUInt32 31)).toInt32) &&& (858993459 : Int32))) + (((((x0 - (((x0.toUInt32 >>> ((1 : Int32).toUInt32 &&& Int32.toUInt32 31)).toInt32) &&& (1431655765 : Int32))) &&& (858993459 : Int32)) + ((((x0 - (((x0.toUInt32 >>> ((1 : Int32).toUInt32 &&& Int32.toUInt32 31)).toInt32) &&& (1431655765 : Int32))).toUInt32 >>> ((2 : Int32).toUInt32 &&& Int32.toUInt32 31)).toInt32) &&& (858993459 : Int32))).toUInt32 >>> ((4 : Int32).toUInt32 &&& Int32.toUInt32 31)).toInt32)) &&& (252645135 : Int32)) + (((((((x0 - (((x0.toUInt32 >>> ((1 : Int32).toUInt32 &&& Int32.toUInt32 31)).toInt32) &&& (1431655765 : Int32))) &&& (858993459 : Int32)) + ((((x0 - (((x0.toUInt32 >>> ((1 : Int32).toUInt32 &&& Int32.toUInt32 31)).toInt32) &&& (1431655765 : Int32))).toUInt32 >>> ((2 : Int32).toUInt32 &&& Int32.toUInt32 31)).toInt32) &&& (858993459 : Int32))) + (((((x0 - (((x0.toUInt32 >>> ((1 : Int32).toUInt32 &&& Int32.toUInt32 31)).toInt32) &&& (1431655765 : Int32))) &&& (858993459 : Int32)) + ((((x0 - (((x0.toUInt32 >>> ((1 : Int32).toUInt32 &&& Int32.toUInt32 31)).toInt32) &&& (1431655765 : Int32))).toUInt32 >>> ((2 : Int32).toUInt32 &&& Int32.toUInt32 31)).toInt32) &&& (858993459 : Int32))).toUInt32 >>> ((4 : Int32).toUInt32 &&& Int32.toUInt32 31)).toInt32)) &&& (252645135 : Int32)).toUInt32 >>> ((8 : Int32).toUInt32 &&& Int32.toUInt32 31)).toInt32)).toUInt32 >>> ((16 : Int32).toUInt32 &&& Int32.toUInt32 31)).toInt32)))]) E.1 E.2.1 dJ16_bitCount_47 rfl hl (by decide) rfl (fun ls hl => ?_)
  refine lv_iload_n E.1 E.2.1 dJ16_bitCount_48 rfl (lv_at hl 0 rfl) ?_
  refine lv_bipush (v := (63 : Int32)) E.1 E.2.1 dJ16_bitCount_49 (by decide) ?_
  refine lv_iand E.1 E.2.1 dJ16_bitCount_51 ?_
  exact px_iret E hr hlocks rfl hF dJ16_bitCount_52
/-! java/lang/Integer.numberOfTrailingZeros(I)I -/
def j16_numberOfTrailingZeros (x0 : Int32) : Option Int32 :=
  if 0 < ((x0 ^^^ (-1 : Int32)) &&& (x0 - (1 : Int32))) then jn (fun (w34_0 : Int32) (w34_1 : Int32) => jn (fun (w49_0 : Int32) (w49_1 : Int32) => jn (fun (w62_0 : Int32) (w62_1 : Int32) => jn (fun (w74_0 : Int32) (w74_1 : Int32) => some (w74_1 + ((w74_0.toUInt32 >>> ((1 : Int32).toUInt32 &&& Int32.toUInt32 31)).toInt32))) (fun (k74 : Int32 → Int32 → Option Int32) => if w62_0 ≤ (4 : Int32) then k74 w62_0 w62_1 else k74 ((w62_0.toUInt32 >>> ((2 : Int32).toUInt32 &&& Int32.toUInt32 31)).toInt32) (w62_1 + 2))) (fun (k62 : Int32 → Int32 → Option Int32) => if w49_0 ≤ (16 : Int32) then k62 w49_0 w49_1 else k62 ((w49_0.toUInt32 >>> ((4 : Int32).toUInt32 &&& Int32.toUInt32 31)).toInt32) (w49_1 + 4))) (fun (k49 : Int32 → Int32 → Option Int32) => if w34_0 ≤ (256 : Int32) then k49 w34_0 w34_1 else k49 ((w34_0.toUInt32 >>> ((8 : Int32).toUInt32 &&& Int32.toUInt32 31)).toInt32) (w34_1 + 8))) (fun (k34 : Int32 → Int32 → Option Int32) => if ((x0 ^^^ (-1 : Int32)) &&& (x0 - (1 : Int32))) ≤ (65536 : Int32) then k34 ((x0 ^^^ (-1 : Int32)) &&& (x0 - (1 : Int32))) (1 : Int32) else k34 ((((x0 ^^^ (-1 : Int32)) &&& (x0 - (1 : Int32))).toUInt32 >>> ((16 : Int32).toUInt32 &&& Int32.toUInt32 31)).toInt32) ((1 : Int32) + 16)) else some (((x0 ^^^ (-1 : Int32)) &&& (x0 - (1 : Int32))) &&& (32 : Int32))
abbrev rmJ16_numberOfTrailingZeros : Room := { frames := 1, cells := 0, slots := 0, locals := 12 }
set_option maxHeartbeats 4000000 in
set_option maxRecDepth 100000 in
theorem mm_J16_numberOfTrailingZeros (l : Launch) (x0 : Int32) (res : Int32) (hF : j16_numberOfTrailingZeros x0 = some res) : Met l yJ16_numberOfTrailingZeros (ws_ yJ16_numberOfTrailingZeros cJ16_numberOfTrailingZeros 2 (some .int)) rmJ16_numberOfTrailingZeros (pPc [.int x0]) (pQ (.int res)) 0 0 (fun _ => False) := by
  refine px_start RJ16 (by decide) rfl (Nat.le_of_ble_eq_true rfl) ?_
  intro p e s m args below meth c ls E hr hlocks hl
  have hl : lv_has ls 2 [(0, .int x0)] := hl
  unfold j16_numberOfTrailingZeros at hF
  refine lv_iload_n E.1 E.2.1 dJ16_numberOfTrailingZeros_0 rfl (lv_at hl 0 rfl) ?_
  refine lv_iconst (v := (-1 : Int32)) E.1 E.2.1 dJ16_numberOfTrailingZeros_1 (by decide) ?_
  refine lv_ixor E.1 E.2.1 dJ16_numberOfTrailingZeros_2 ?_
  refine lv_iload_n E.1 E.2.1 dJ16_numberOfTrailingZeros_3 rfl (lv_at hl 0 rfl) ?_
  refine lv_iconst (v := (1 : Int32)) E.1 E.2.1 dJ16_numberOfTrailingZeros_4 (by decide) ?_
  refine lv_isub E.1 E.2.1 dJ16_numberOfTrailingZeros_5 ?_
  refine lv_iand E.1 E.2.1 dJ16_numberOfTrailingZeros_6 ?_
  refine lv_istore_n (lv' := [(0, .int ((x0 ^^^ (-1 : Int32)) &&& (x0 - (1 : Int32))))]) E.1 E.2.1 dJ16_numberOfTrailingZeros_7 rfl hl (by decide) rfl (fun ls hl => ?_)
  refine lv_iload_n E.1 E.2.1 dJ16_numberOfTrailingZeros_8 rfl (lv_at hl 0 rfl) ?_
  refine lv_if_gt (tgt := 17) E.1 E.2.1 dJ16_numberOfTrailingZeros_9 (by decide) (fun h => ?_) (fun h => ?_)
  · have hF := ite_t h hF
    refine lv_iconst (v := (1 : Int32)) E.1 E.2.1 dJ16_numberOfTrailingZeros_17 (by decide) ?_
    refine lv_istore_n (lv' := [(1, .int (1 : Int32)), (0, .int ((x0 ^^^ (-1 : Int32)) &&& (x0 - (1 : Int32))))]) E.1 E.2.1 dJ16_numberOfTrailingZeros_18 rfl hl (by decide) rfl (fun ls hl => ?_)
    refine lv_iload_n E.1 E.2.1 dJ16_numberOfTrailingZeros_19 rfl (lv_at hl 1 rfl) ?_
    refine lv_ldcw (v := (65536 : Int32)) E.1 E.2.1 E.2.2.2.1 (E.2.2.2.2 _ q322) dJ16_numberOfTrailingZeros_20 ?_
    obtain ⟨k34, hk34, hF⟩ := jn_split hF
    have J34 : ∀ (w34_0 : Int32) (w34_1 : Int32) (ls : Array Slot), k34 w34_0 w34_1 = some res → lv_has ls 2 [(0, .int w34_0), (1, .int w34_1)] → W p l e rmJ16_numberOfTrailingZeros s m args below meth c s.heap [] 0 0 (MQ below (pQ (.int res)) args s 0 0 (fun _ => False)) (F0 m 34 ls []) := by
      intro w34_0 w34_1 ls hF hl
      rw [hk34] at hF
      refine lv_iload_n E.1 E.2.1 dJ16_numberOfTrailingZeros_34 rfl (lv_at hl 0 rfl) ?_
      refine lv_sipush (v := (256 : Int32)) E.1 E.2.1 dJ16_numberOfTrailingZeros_35 (by decide) ?_
      obtain ⟨k49, hk49, hF⟩ := jn_split hF
      have J49 : ∀ (w49_0 : Int32) (w49_1 : Int32) (ls : Array Slot), k49 w49_0 w49_1 = some res → lv_has ls 2 [(0, .int w49_0), (1, .int w49_1)] → W p l e rmJ16_numberOfTrailingZeros s m args below meth c s.heap [] 0 0 (MQ below (pQ (.int res)) args s 0 0 (fun _ => False)) (F0 m 49 ls []) := by
        intro w49_0 w49_1 ls hF hl
        rw [hk49] at hF
        refine lv_iload_n E.1 E.2.1 dJ16_numberOfTrailingZeros_49 rfl (lv_at hl 0 rfl) ?_
        refine lv_bipush (v := (16 : Int32)) E.1 E.2.1 dJ16_numberOfTrailingZeros_50 (by decide) ?_
        obtain ⟨k62, hk62, hF⟩ := jn_split hF
        have J62 : ∀ (w62_0 : Int32) (w62_1 : Int32) (ls : Array Slot), k62 w62_0 w62_1 = some res → lv_has ls 2 [(0, .int w62_0), (1, .int w62_1)] → W p l e rmJ16_numberOfTrailingZeros s m args below meth c s.heap [] 0 0 (MQ below (pQ (.int res)) args s 0 0 (fun _ => False)) (F0 m 62 ls []) := by
          intro w62_0 w62_1 ls hF hl
          rw [hk62] at hF
          refine lv_iload_n E.1 E.2.1 dJ16_numberOfTrailingZeros_62 rfl (lv_at hl 0 rfl) ?_
          refine lv_iconst (v := (4 : Int32)) E.1 E.2.1 dJ16_numberOfTrailingZeros_63 (by decide) ?_
          obtain ⟨k74, hk74, hF⟩ := jn_split hF
          have J74 : ∀ (w74_0 : Int32) (w74_1 : Int32) (ls : Array Slot), k74 w74_0 w74_1 = some res → lv_has ls 2 [(0, .int w74_0), (1, .int w74_1)] → W p l e rmJ16_numberOfTrailingZeros s m args below meth c s.heap [] 0 0 (MQ below (pQ (.int res)) args s 0 0 (fun _ => False)) (F0 m 74 ls []) := by
            intro w74_0 w74_1 ls hF hl
            rw [hk74] at hF
            refine lv_iload_n E.1 E.2.1 dJ16_numberOfTrailingZeros_74 rfl (lv_at hl 1 rfl) ?_
            refine lv_iload_n E.1 E.2.1 dJ16_numberOfTrailingZeros_75 rfl (lv_at hl 0 rfl) ?_
            refine lv_iconst (v := (1 : Int32)) E.1 E.2.1 dJ16_numberOfTrailingZeros_76 (by decide) ?_
            refine lv_iushr (v := ((w74_0.toUInt32 >>> ((1 : Int32).toUInt32 &&& Int32.toUInt32 31)).toInt32)) E.1 E.2.1 dJ16_numberOfTrailingZeros_77 rfl ?_
            refine lv_iadd E.1 E.2.1 dJ16_numberOfTrailingZeros_78 ?_
            exact px_iret E hr hlocks rfl hF dJ16_numberOfTrailingZeros_79
          refine lv_icmp_le (tgt := 74) E.1 E.2.1 dJ16_numberOfTrailingZeros_64 (by decide) (fun h => ?_) (fun h => ?_)
          · have hF := ite_t h hF
            exact J74 w62_0 w62_1 ls hF (lv_sub hl [0, 1] rfl)
          · have hF := ite_f h hF
            refine lv_iinc (v := w62_1 + 2) (lv' := [(1, .int (w62_1 + 2)), (0, .int w62_0)]) E.1 E.2.1 dJ16_numberOfTrailingZeros_67 hl (k := 1) rfl rfl (by decide) rfl (fun ls hl => ?_)
            refine lv_iload_n E.1 E.2.1 dJ16_numberOfTrailingZeros_70 rfl (lv_at hl 1 rfl) ?_
            refine lv_iconst (v := (2 : Int32)) E.1 E.2.1 dJ16_numberOfTrailingZeros_71 (by decide) ?_
            refine lv_iushr (v := ((w62_0.toUInt32 >>> ((2 : Int32).toUInt32 &&& Int32.toUInt32 31)).toInt32)) E.1 E.2.1 dJ16_numberOfTrailingZeros_72 rfl ?_
            refine lv_istore_n (lv' := [(0, .int ((w62_0.toUInt32 >>> ((2 : Int32).toUInt32 &&& Int32.toUInt32 31)).toInt32)), (1, .int (w62_1 + 2))]) E.1 E.2.1 dJ16_numberOfTrailingZeros_73 rfl hl (by decide) rfl (fun ls hl => ?_)
            exact J74 ((w62_0.toUInt32 >>> ((2 : Int32).toUInt32 &&& Int32.toUInt32 31)).toInt32) (w62_1 + 2) ls hF (lv_sub hl [0, 1] rfl)
        refine lv_icmp_le (tgt := 62) E.1 E.2.1 dJ16_numberOfTrailingZeros_52 (by decide) (fun h => ?_) (fun h => ?_)
        · have hF := ite_t h hF
          exact J62 w49_0 w49_1 ls hF (lv_sub hl [0, 1] rfl)
        · have hF := ite_f h hF
          refine lv_iinc (v := w49_1 + 4) (lv' := [(1, .int (w49_1 + 4)), (0, .int w49_0)]) E.1 E.2.1 dJ16_numberOfTrailingZeros_55 hl (k := 1) rfl rfl (by decide) rfl (fun ls hl => ?_)
          refine lv_iload_n E.1 E.2.1 dJ16_numberOfTrailingZeros_58 rfl (lv_at hl 1 rfl) ?_
          refine lv_iconst (v := (4 : Int32)) E.1 E.2.1 dJ16_numberOfTrailingZeros_59 (by decide) ?_
          refine lv_iushr (v := ((w49_0.toUInt32 >>> ((4 : Int32).toUInt32 &&& Int32.toUInt32 31)).toInt32)) E.1 E.2.1 dJ16_numberOfTrailingZeros_60 rfl ?_
          refine lv_istore_n (lv' := [(0, .int ((w49_0.toUInt32 >>> ((4 : Int32).toUInt32 &&& Int32.toUInt32 31)).toInt32)), (1, .int (w49_1 + 4))]) E.1 E.2.1 dJ16_numberOfTrailingZeros_61 rfl hl (by decide) rfl (fun ls hl => ?_)
          exact J62 ((w49_0.toUInt32 >>> ((4 : Int32).toUInt32 &&& Int32.toUInt32 31)).toInt32) (w49_1 + 4) ls hF (lv_sub hl [0, 1] rfl)
      refine lv_icmp_le (tgt := 49) E.1 E.2.1 dJ16_numberOfTrailingZeros_38 (by decide) (fun h => ?_) (fun h => ?_)
      · have hF := ite_t h hF
        exact J49 w34_0 w34_1 ls hF (lv_sub hl [0, 1] rfl)
      · have hF := ite_f h hF
        refine lv_iinc (v := w34_1 + 8) (lv' := [(1, .int (w34_1 + 8)), (0, .int w34_0)]) E.1 E.2.1 dJ16_numberOfTrailingZeros_41 hl (k := 1) rfl rfl (by decide) rfl (fun ls hl => ?_)
        refine lv_iload_n E.1 E.2.1 dJ16_numberOfTrailingZeros_44 rfl (lv_at hl 1 rfl) ?_
        refine lv_bipush (v := (8 : Int32)) E.1 E.2.1 dJ16_numberOfTrailingZeros_45 (by decide) ?_
        refine lv_iushr (v := ((w34_0.toUInt32 >>> ((8 : Int32).toUInt32 &&& Int32.toUInt32 31)).toInt32)) E.1 E.2.1 dJ16_numberOfTrailingZeros_47 rfl ?_
        refine lv_istore_n (lv' := [(0, .int ((w34_0.toUInt32 >>> ((8 : Int32).toUInt32 &&& Int32.toUInt32 31)).toInt32)), (1, .int (w34_1 + 8))]) E.1 E.2.1 dJ16_numberOfTrailingZeros_48 rfl hl (by decide) rfl (fun ls hl => ?_)
        exact J49 ((w34_0.toUInt32 >>> ((8 : Int32).toUInt32 &&& Int32.toUInt32 31)).toInt32) (w34_1 + 8) ls hF (lv_sub hl [0, 1] rfl)
    refine lv_icmp_le (tgt := 34) E.1 E.2.1 dJ16_numberOfTrailingZeros_23 (by decide) (fun h => ?_) (fun h => ?_)
    · have hF := ite_t h hF
      exact J34 ((x0 ^^^ (-1 : Int32)) &&& (x0 - (1 : Int32))) (1 : Int32) ls hF (lv_sub hl [1, 0] rfl)
    · have hF := ite_f h hF
      refine lv_iinc (v := (1 : Int32) + 16) (lv' := [(1, .int ((1 : Int32) + 16)), (0, .int ((x0 ^^^ (-1 : Int32)) &&& (x0 - (1 : Int32))))]) E.1 E.2.1 dJ16_numberOfTrailingZeros_26 hl (k := 0) rfl rfl (by decide) rfl (fun ls hl => ?_)
      refine lv_iload_n E.1 E.2.1 dJ16_numberOfTrailingZeros_29 rfl (lv_at hl 1 rfl) ?_
      refine lv_bipush (v := (16 : Int32)) E.1 E.2.1 dJ16_numberOfTrailingZeros_30 (by decide) ?_
      refine lv_iushr (v := ((((x0 ^^^ (-1 : Int32)) &&& (x0 - (1 : Int32))).toUInt32 >>> ((16 : Int32).toUInt32 &&& Int32.toUInt32 31)).toInt32)) E.1 E.2.1 dJ16_numberOfTrailingZeros_32 rfl ?_
      refine lv_istore_n (lv' := [(0, .int ((((x0 ^^^ (-1 : Int32)) &&& (x0 - (1 : Int32))).toUInt32 >>> ((16 : Int32).toUInt32 &&& Int32.toUInt32 31)).toInt32)), (1, .int ((1 : Int32) + 16))]) E.1 E.2.1 dJ16_numberOfTrailingZeros_33 rfl hl (by decide) rfl (fun ls hl => ?_)
      exact J34 ((((x0 ^^^ (-1 : Int32)) &&& (x0 - (1 : Int32))).toUInt32 >>> ((16 : Int32).toUInt32 &&& Int32.toUInt32 31)).toInt32) ((1 : Int32) + 16) ls hF (lv_sub hl [0, 1] rfl)
  · have hF := ite_f h hF
    refine lv_iload_n E.1 E.2.1 dJ16_numberOfTrailingZeros_12 rfl (lv_at hl 0 rfl) ?_
    refine lv_bipush (v := (32 : Int32)) E.1 E.2.1 dJ16_numberOfTrailingZeros_13 (by decide) ?_
    refine lv_iand E.1 E.2.1 dJ16_numberOfTrailingZeros_15 ?_
    exact px_iret E hr hlocks rfl hF dJ16_numberOfTrailingZeros_16
/-! jdk/internal/util/Preconditions.checkIndex(IILjava/util/function/BiFunction;)I -/
def j15_checkIndex (x0 : Int32) (x1 : Int32) : Option Int32 :=
  jn (fun (_ : Unit) => none) (fun (k9 : Unit → Option Int32) => if x0 < 0 then k9 () else if x0 < x1 then some x0 else k9 ())
abbrev rmJ15_checkIndex : Room := { frames := 1, cells := 0, slots := 0, locals := 12 }
set_option maxHeartbeats 4000000 in
set_option maxRecDepth 100000 in
theorem mm_J15_checkIndex (l : Launch) (x0 : Int32) (x1 : Int32) (res : Int32) (hF : j15_checkIndex x0 x1 = some res) : Met l yJ15_checkIndex (ws_ yJ15_checkIndex cJ15_checkIndex 3 (some .int)) rmJ15_checkIndex (pPc [.int x0, .int x1, .null]) (pQ (.int res)) 0 0 (fun _ => False) := by
  refine px_start RJ15 (by decide) rfl (Nat.le_of_ble_eq_true rfl) ?_
  intro p e s m args below meth c ls E hr hlocks hl
  have hl : lv_has ls 3 [(0, .int x0), (1, .int x1), (2, .null)] := hl
  unfold j15_checkIndex at hF
  refine lv_iload_n E.1 E.2.1 dJ15_checkIndex_0 rfl (lv_at hl 0 rfl) ?_
  obtain ⟨k9, hk9, hF⟩ := jn_split hF
  have J9 : ∀  (ls : Array Slot), k9 ()  = some res → lv_has ls 3 [(0, .int x0), (1, .int x1), (2, .null)] → W p l e rmJ15_checkIndex s m args below meth c s.heap [] 0 0 (MQ below (pQ (.int res)) args s 0 0 (fun _ => False)) (F0 m 9 ls []) := by
    intro  ls hF hl
    rw [hk9] at hF
    refine lv_aload_nN E.1 E.2.1 dJ15_checkIndex_9 rfl (lv_at hl 2 rfl) ?_
    refine lv_iload_n E.1 E.2.1 dJ15_checkIndex_10 rfl (lv_at hl 0 rfl) ?_
    refine lv_iload_n E.1 E.2.1 dJ15_checkIndex_11 rfl (lv_at hl 1 rfl) ?_
    cases hF
  refine lv_if_lt (tgt := 9) E.1 E.2.1 dJ15_checkIndex_1 (by decide) (fun h => ?_) (fun h => ?_)
  · have hF := ite_t h hF
    exact J9  ls hF (lv_sub hl [0, 1, 2] rfl)
  · have hF := ite_f h hF
    refine lv_iload_n E.1 E.2.1 dJ15_checkIndex_4 rfl (lv_at hl 0 rfl) ?_
    refine lv_iload_n E.1 E.2.1 dJ15_checkIndex_5 rfl (lv_at hl 1 rfl) ?_
    refine lv_icmp_lt (tgt := 16) E.1 E.2.1 dJ15_checkIndex_6 (by decide) (fun h => ?_) (fun h => ?_)
    · have hF := ite_t h hF
      refine lv_iload_n E.1 E.2.1 dJ15_checkIndex_16 rfl (lv_at hl 0 rfl) ?_
      exact px_iret E hr hlocks rfl hF dJ15_checkIndex_17
    · have hF := ite_f h hF
      exact J9  ls hF (lv_sub hl [0, 1, 2] rfl)
/-! java/util/Objects.checkIndex(II)I -/
def j14_checkIndex (x0 : Int32) (x1 : Int32) : Option Int32 :=
  (j15_checkIndex x0 x1).bind (fun r3 => some r3)
abbrev rmJ14_checkIndex : Room := { frames := 2, cells := 0, slots := 0, locals := 34 }
set_option maxHeartbeats 4000000 in
set_option maxRecDepth 100000 in
theorem mm_J14_checkIndex (l : Launch) (x0 : Int32) (x1 : Int32) (res : Int32) (hF : j14_checkIndex x0 x1 = some res) : Met l yJ14_checkIndex (ws_ yJ14_checkIndex cJ14_checkIndex 2 (some .int)) rmJ14_checkIndex (pPc [.int x0, .int x1]) (pQ (.int res)) 0 0 (fun _ => False) := by
  refine px_start RJ14 (by decide) rfl (Nat.le_of_ble_eq_true rfl) ?_
  intro p e s m args below meth c ls E hr hlocks hl
  have hl : lv_has ls 2 [(0, .int x0), (1, .int x1)] := hl
  unfold j14_checkIndex at hF
  refine lv_iload_n E.1 E.2.1 dJ14_checkIndex_0 rfl (lv_at hl 0 rfl) ?_
  refine lv_iload_n E.1 E.2.1 dJ14_checkIndex_1 rfl (lv_at hl 1 rfl) ?_
  refine lv_null E.1 E.2.1 dJ14_checkIndex_2 ?_
  obtain ⟨r3, hq3, hF⟩ := bnd hF
  refine px_call (As := [.int x0, .int x1, .null]) (rest := []) (v := .int r3) E (mm_J15_checkIndex l x0 x1 _ hq3) (va_cwS 3 E.2.2.2.2 (lw_S q192 q193 q75 q194) rfl rfl rfl (by decide +kernel) ⟨Nat.le_of_ble_eq_true rfl, Nat.le_of_ble_eq_true rfl⟩) hl rfl rfl (Nat.le_of_ble_eq_true rfl) ⟨Nat.zero_le _, Nat.zero_le _⟩ dJ14_checkIndex_3 ?_
  exact px_iret E hr hlocks rfl hF dJ14_checkIndex_6
/-! DebtFerry.in(JJJ)Z -/
def c_in (x0 : Int64) (x2 : Int64) (x4 : Int64) : Option Int32 :=
  if (lg_cmp x0 x2) < 0 then zr (0 : Int32) else if 0 < (lg_cmp x0 x4) then zr (0 : Int32) else zr (1 : Int32)
abbrev rmX0_in : Room := { frames := 1, cells := 0, slots := 0, locals := 12 }
set_option maxHeartbeats 4000000 in
set_option maxRecDepth 100000 in
theorem mm_X0_in (l : Launch) (x0 : Int64) (x2 : Int64) (x4 : Int64) (res : Int32) (hF : c_in x0 x2 x4 = some res) : Met l yX0_in (ws_ yX0_in cX0_in 6 (some .boolean)) rmX0_in (pPc [.long x0, .long x2, .long x4]) (pQ (.int res)) 0 0 (fun _ => False) := by
  refine px_start RX0 (by decide) rfl (Nat.le_of_ble_eq_true rfl) ?_
  intro p e s m args below meth c ls E hr hlocks hl
  have hl : lv_has ls 6 [(0, .long x0), (2, .long x2), (4, .long x4)] := hl
  unfold c_in at hF
  refine lv_lload_n E.1 E.2.1 dX0_in_0 rfl (lv_at hl 0 rfl) ?_
  refine lv_lload_n E.1 E.2.1 dX0_in_1 rfl (lv_at hl 1 rfl) ?_
  refine W.lcmp E.1 E.2.1 dX0_in_2 ?_
  refine lv_if_lt (tgt := 17) E.1 E.2.1 dX0_in_3 (by decide) (fun h => ?_) (fun h => ?_)
  · have hF := ite_t h hF
    refine lv_iconst (v := (0 : Int32)) E.1 E.2.1 dX0_in_17 (by decide) ?_
    exact px_zret E hr hlocks rfl hF dX0_in_18
  · have hF := ite_f h hF
    refine lv_lload_n E.1 E.2.1 dX0_in_6 rfl (lv_at hl 0 rfl) ?_
    refine lv_lload E.1 E.2.1 dX0_in_7 (lv_at hl 2 rfl) ?_
    refine W.lcmp E.1 E.2.1 dX0_in_9 ?_
    refine lv_if_gt (tgt := 17) E.1 E.2.1 dX0_in_10 (by decide) (fun h => ?_) (fun h => ?_)
    · have hF := ite_t h hF
      refine lv_iconst (v := (0 : Int32)) E.1 E.2.1 dX0_in_17 (by decide) ?_
      exact px_zret E hr hlocks rfl hF dX0_in_18
    · have hF := ite_f h hF
      refine lv_iconst (v := (1 : Int32)) E.1 E.2.1 dX0_in_13 (by decide) ?_
      refine lv_goto (tgt := 18) E.1 E.2.1 dX0_in_14 (by decide) ?_
      exact px_zret E hr hlocks rfl hF dX0_in_18
/-! DebtFerry.isIn(II)Z -/
def c_isIn (x0 : Int32) (x1 : Int32) : Option Int32 :=
  if ((x0 >>> (x1 &&& 31)) &&& (1 : Int32)) = (1 : Int32) then zr (1 : Int32) else zr (0 : Int32)
abbrev rmX0_isIn : Room := { frames := 1, cells := 0, slots := 0, locals := 12 }
set_option maxHeartbeats 4000000 in
set_option maxRecDepth 100000 in
theorem mm_X0_isIn (l : Launch) (x0 : Int32) (x1 : Int32) (res : Int32) (hF : c_isIn x0 x1 = some res) : Met l yX0_isIn (ws_ yX0_isIn cX0_isIn 2 (some .boolean)) rmX0_isIn (pPc [.int x0, .int x1]) (pQ (.int res)) 0 0 (fun _ => False) := by
  refine px_start RX0 (by decide) rfl (Nat.le_of_ble_eq_true rfl) ?_
  intro p e s m args below meth c ls E hr hlocks hl
  have hl : lv_has ls 2 [(0, .int x0), (1, .int x1)] := hl
  unfold c_isIn at hF
  refine lv_iload_n E.1 E.2.1 dX0_isIn_0 rfl (lv_at hl 0 rfl) ?_
  refine lv_iload_n E.1 E.2.1 dX0_isIn_1 rfl (lv_at hl 1 rfl) ?_
  refine lv_ishr E.1 E.2.1 dX0_isIn_2 ?_
  refine lv_iconst (v := (1 : Int32)) E.1 E.2.1 dX0_isIn_3 (by decide) ?_
  refine lv_iand E.1 E.2.1 dX0_isIn_4 ?_
  refine lv_iconst (v := (1 : Int32)) E.1 E.2.1 dX0_isIn_5 (by decide) ?_
  refine lv_icmp_ne (tgt := 13) E.1 E.2.1 dX0_isIn_6 (by decide) (fun h => ?_) (fun h => ?_)
  · have hF := ite_f h hF
    refine lv_iconst (v := (0 : Int32)) E.1 E.2.1 dX0_isIn_13 (by decide) ?_
    exact px_zret E hr hlocks rfl hF dX0_isIn_14
  · have hF := ite_t h hF
    refine lv_iconst (v := (1 : Int32)) E.1 E.2.1 dX0_isIn_9 (by decide) ?_
    refine lv_goto (tgt := 14) E.1 E.2.1 dX0_isIn_10 (by decide) ?_
    exact px_zret E hr hlocks rfl hF dX0_isIn_14
/-! DebtFerry.noSheet(I)Z -/
def c_noSheet (x0 : Int32) : Option Int32 :=
  (c_in (x0.toInt64) (0 : Int64) (3 : Int64)).bind (fun r6 => if r6 = 0 then zr (1 : Int32) else zr (0 : Int32))
abbrev rmX0_noSheet : Room := { frames := 2, cells := 0, slots := 0, locals := 37 }
set_option maxHeartbeats 4000000 in
set_option maxRecDepth 100000 in
theorem mm_X0_noSheet (l : Launch) (x0 : Int32) (res : Int32) (hF : c_noSheet x0 = some res) : Met l yX0_noSheet (ws_ yX0_noSheet cX0_noSheet 1 (some .boolean)) rmX0_noSheet (pPc [.int x0]) (pQ (.int res)) 0 0 (fun _ => False) := by
  refine px_start RX0 (by decide) rfl (Nat.le_of_ble_eq_true rfl) ?_
  intro p e s m args below meth c ls E hr hlocks hl
  have hl : lv_has ls 1 [(0, .int x0)] := hl
  unfold c_noSheet at hF
  refine lv_iload_n E.1 E.2.1 dX0_noSheet_0 rfl (lv_at hl 0 rfl) ?_
  refine lv_i2l E.1 E.2.1 dX0_noSheet_1 rfl ?_
  refine lv_lconst (v := (0 : Int64)) E.1 E.2.1 dX0_noSheet_2 (by decide) ?_
  refine lv_ldc2 (v := (3 : Int64)) E.1 E.2.1 E.2.2.2.1 (E.2.2.2.2 _ q236) dX0_noSheet_3 ?_
  obtain ⟨r6, hq6, hF⟩ := bnd hF
  refine px_call (As := [.long (x0.toInt64), .long (0 : Int64), .long (3 : Int64)]) (rest := []) (v := .int r6) E (mm_X0_in l (x0.toInt64) (0 : Int64) (3 : Int64) _ hq6) (va_cwS 3 E.2.2.2.2 (lw_S q177 q178 q54 q179) rfl rfl rfl (by decide +kernel) ⟨Nat.le_of_ble_eq_true rfl, Nat.le_of_ble_eq_true rfl⟩) hl rfl rfl (Nat.le_of_ble_eq_true rfl) ⟨Nat.zero_le _, Nat.zero_le _⟩ dX0_noSheet_6 ?_
  refine lv_if_ne (tgt := 16) E.1 E.2.1 dX0_noSheet_9 (by decide) (fun h => ?_) (fun h => ?_)
  · have hF := ite_f h hF
    refine lv_iconst (v := (0 : Int32)) E.1 E.2.1 dX0_noSheet_16 (by decide) ?_
    exact px_zret E hr hlocks rfl hF dX0_noSheet_17
  · have hF := ite_t h hF
    refine lv_iconst (v := (1 : Int32)) E.1 E.2.1 dX0_noSheet_12 (by decide) ?_
    refine lv_goto (tgt := 17) E.1 E.2.1 dX0_noSheet_13 (by decide) ?_
    exact px_zret E hr hlocks rfl hF dX0_noSheet_17
