/-! codeAt, isFigure, figureAt: an int array that only they read -/
abbrev rwW (K : Nat → ClassId) (w n : Nat) (g : Nat → Int32) : Nat × va_E := (w, .inl (K 0, n, .inl g))
theorem js_pre {s : State} {H : Heap} {D : va_G} {K : Nat → ClassId} {ws : va_W} {As : List Value} (hK : va_K D vCl (cT K) s) (hP : va_P D vCl ws H) : PreS s H (jPc D K ws As) As :=
  ⟨fun a U g mk q => by obtain ⟨q0, qP, qK⟩ := q; exact ⟨q0, qP, va_K.moved (u := U) (U := U.calling g mk a) (Vm.Alike.refl U.vm) qK⟩, fun U hU hW => ⟨rfl, by rw [hU]; exact hP, va_K.moved hW.alike hK⟩⟩
def c_codeAt (n : Nat) (g : Nat → Int32) (x1 : Int32) : Option Int32 := if nI n ≤ x1 then some (-9) else gd (inb x1 n) (some (g x1.toNatClampNeg))
def c_figureAt (n : Nat) (g : Nat → Int32) (x1 : Int32) : Option Int32 := gd (inb x1 n) (some (g x1.toNatClampNeg - 48))
def c_isFigure (n : Nat) (g : Nat → Int32) (x1 x2 x3 : Int32) : Option Int32 := (c_codeAt n g x1).bind (fun r2 => (c_in (r2 - 48).toInt64 x2.toInt64 x3.toInt64).bind (fun r13 => zr r13))
abbrev rmX0_codeAt : Room := { frames := 1, cells := 0, slots := 0, locals := 12 }
abbrev rmX0_isFigure : Room := { frames := 2, cells := 0, slots := 0, locals := 60 }
theorem mm_X0_codeAt (l : Launch) (D : va_G) (K : Nat → ClassId) (w n : Nat) (g : Nat → Int32) (x1 res : Int32) (hF : c_codeAt n g x1 = some res) : Met l yX0_codeAt (ws_ yX0_codeAt cX0_codeAt 2 (some .int)) rmX0_codeAt (jPc D K [rwW K w n g] [.ref w, .int x1]) (pQ (.int res)) 0 0 (fun _ => False) := by
  refine gx_start RX0 (by decide) rfl (Nat.le_of_ble_eq_true rfl) ?_
  intro p e s m args below meth c ls E hr hlocks _ hC hl
  obtain ⟨hP, hK⟩ := hC
  have hl : lv_has ls 2 [(0, .ref w), (1, .int x1)] := hl
  unfold c_codeAt at hF
  refine lv_iload_n E.1 E.2.1 dX0_codeAt_0 rfl (lv_at hl 1 rfl) ?_
  refine lv_aload_n E.1 E.2.1 dX0_codeAt_1 rfl (lv_at hl 0 rfl) ?_
  refine va_alen (v := nI n) E.1 E.2.1 hK hP 0 0 rfl rfl rfl dX0_codeAt_2 ?_
  refine lv_icmp_ge (tgt := 12) E.1 E.2.1 dX0_codeAt_3 (by decide) (fun h => ?_) (fun h => ?_)
  · have hF := ite_t h hF
    refine lv_bipush (v := (-9 : Int32)) E.1 E.2.1 dX0_codeAt_12 (by decide) ?_
    exact px_iret E hr hlocks rfl hF dX0_codeAt_14
  · have hF := ite_f h hF
    obtain ⟨h8, hF⟩ := gd_some hF
    refine lv_aload_n E.1 E.2.1 dX0_codeAt_6 rfl (lv_at hl 0 rfl) ?_
    refine lv_iload_n E.1 E.2.1 dX0_codeAt_7 rfl (lv_at hl 1 rfl) ?_
    refine va_iald E.1 E.2.1 hK hP 0 0 rfl rfl (inb_in h8) dX0_codeAt_8 ?_
    refine lv_goto (tgt := 14) E.1 E.2.1 dX0_codeAt_9 (by decide) ?_
    exact px_iret E hr hlocks rfl hF dX0_codeAt_14
theorem mm_X0_figureAt (l : Launch) (D : va_G) (K : Nat → ClassId) (w n : Nat) (g : Nat → Int32) (x1 res : Int32) (hF : c_figureAt n g x1 = some res) : Met l yX0_figureAt (ws_ yX0_figureAt cX0_figureAt 2 (some .int)) rmX0_codeAt (jPc D K [rwW K w n g] [.ref w, .int x1]) (pQ (.int res)) 0 0 (fun _ => False) := by
  refine gx_start RX0 (by decide) rfl (Nat.le_of_ble_eq_true rfl) ?_
  intro p e s m args below meth c ls E hr hlocks _ hC hl
  obtain ⟨hP, hK⟩ := hC
  have hl : lv_has ls 2 [(0, .ref w), (1, .int x1)] := hl
  unfold c_figureAt at hF
  obtain ⟨h8, hF⟩ := gd_some hF
  refine lv_aload_n E.1 E.2.1 dX0_figureAt_0 rfl (lv_at hl 0 rfl) ?_
  refine lv_iload_n E.1 E.2.1 dX0_figureAt_1 rfl (lv_at hl 1 rfl) ?_
  refine va_iald E.1 E.2.1 hK hP 0 0 rfl rfl (inb_in h8) dX0_figureAt_2 ?_
  refine lv_bipush (v := (48 : Int32)) E.1 E.2.1 dX0_figureAt_3 (by decide) ?_
  refine lv_isub E.1 E.2.1 dX0_figureAt_5 ?_
  exact px_iret E hr hlocks rfl hF dX0_figureAt_6
theorem mm_X0_isFigure (l : Launch) (D : va_G) (K : Nat → ClassId) (w n : Nat) (g : Nat → Int32) (x1 x2 x3 res : Int32) (hF : c_isFigure n g x1 x2 x3 = some res) : Met l yX0_isFigure (ws_ yX0_isFigure cX0_isFigure 4 (some .boolean)) rmX0_isFigure (jPc D K [rwW K w n g] [.ref w, .int x1, .int x2, .int x3]) (pQ (.int res)) 0 0 (fun _ => False) := by
  refine gx_start RX0 (by decide) rfl (Nat.le_of_ble_eq_true rfl) ?_
  intro p e s m args below meth c ls E hr hlocks _ hC hl
  obtain ⟨hP, hK⟩ := hC
  have hl : lv_has ls 4 [(0, .ref w), (1, .int x1), (2, .int x2), (3, .int x3)] := hl
  unfold c_isFigure at hF
  obtain ⟨r2, hq2, hF⟩ := bnd hF
  obtain ⟨r13, hq13, hF⟩ := bnd hF
  refine lv_aload_n E.1 E.2.1 dX0_isFigure_0 rfl (lv_at hl 0 rfl) ?_
  refine lv_iload_n E.1 E.2.1 dX0_isFigure_1 rfl (lv_at hl 1 rfl) ?_
  refine px_go (va_runS (As := [.ref w, .int x1]) (rest := []) E (mm_X0_codeAt l D K w n g x1 _ hq2) (va_cwS 2 E.2.2.2.2 (lw_S q879 q880 q54 q881) rfl rfl rfl (by decide +kernel) ⟨Nat.le_of_ble_eq_true rfl, Nat.le_of_ble_eq_true rfl⟩) (js_pre hK hP) rfl rfl hl.1 rfl (lv_room (Nat.le_of_ble_eq_true rfl)) dX0_isFigure_2 ⟨Nat.zero_le _, Nat.zero_le _⟩) ?_
  refine lv_bipush (v := (48 : Int32)) E.1 E.2.1 dX0_isFigure_5 (by decide) ?_
  refine lv_isub E.1 E.2.1 dX0_isFigure_7 ?_
  refine lv_i2l E.1 E.2.1 dX0_isFigure_8 rfl ?_
  refine lv_iload_n E.1 E.2.1 dX0_isFigure_9 rfl (lv_at hl 2 rfl) ?_
  refine lv_i2l E.1 E.2.1 dX0_isFigure_10 rfl ?_
  refine lv_iload_n E.1 E.2.1 dX0_isFigure_11 rfl (lv_at hl 3 rfl) ?_
  refine lv_i2l E.1 E.2.1 dX0_isFigure_12 rfl ?_
  refine px_call (As := [.long (r2 - 48).toInt64, .long x2.toInt64, .long x3.toInt64]) (rest := []) (v := .int r13) E (mm_X0_in l _ _ _ _ hq13) (va_cwS 3 E.2.2.2.2 (lw_S q177 q178 q54 q179) rfl rfl rfl (by decide +kernel) ⟨Nat.le_of_ble_eq_true rfl, Nat.le_of_ble_eq_true rfl⟩) hl rfl rfl (Nat.le_of_ble_eq_true rfl) ⟨Nat.zero_le _, Nat.zero_le _⟩ dX0_isFigure_13 ?_
  exact px_zret E hr hlocks rfl hF dX0_isFigure_16
section ROWC
variable {p : Program} {l : Launch} {e : Env} {R : Room} {s : State} {m : MethodId} {args : Array Value} {below : List Frame} {meth : Method} {c : Code} {H : Heap} {locs : List Loc} {cells slots : Nat} {Q : State → Prop} {cc : ByteArray} {nL pc : Nat} {rest : List Value} {ls : Array Slot} {D : va_G} {K : Nat → ClassId} {B : Nat → Nat} {ad : CA} {z : CZ} {own : String} {w n : Nat} {g : Nat → Int32}
theorem ck_rald (E : CallFix p m c cc nL s args lw_all own) (hK : va_K D vCl (cT K) s) (hP : cP D K B ad z H) (hw : rwW K w n g ∈ ad.2.2) {i : Int32} (hi : inb i n = true) (hdg : decode cc pc = .ok (.iaload, 1))
    (kk : W p l e R s m args below meth c H locs cells slots Q (F0 m (pc + 1) ls (.int (g i.toNatClampNeg) :: rest))) : W p l e R s m args below meth c H locs cells slots Q (F0 m pc ls (.int i :: .ref w :: rest)) := by
  obtain ⟨q, hq⟩ := cW_dy (K := K) (B := B) (z := z) hw
  exact va_iald E.1 E.2.1 hK hP.1 (q + 7) 0 hq rfl (inb_in hi) hdg kk
theorem ck_ralen (E : CallFix p m c cc nL s args lw_all own) (hK : va_K D vCl (cT K) s) (hP : cP D K B ad z H) (hw : rwW K w n g ∈ ad.2.2) (hdg : decode cc pc = .ok (.arraylength, 1))
    (kk : W p l e R s m args below meth c H locs cells slots Q (F0 m (pc + 1) ls (.int (nI n) :: rest))) : W p l e R s m args below meth c H locs cells slots Q (F0 m pc ls (.ref w :: rest)) := by
  obtain ⟨q, hq⟩ := cW_dy (K := K) (B := B) (z := z) hw
  exact va_alen (v := nI n) E.1 E.2.1 hK hP.1 (q + 7) 0 hq rfl rfl hdg kk
theorem row_P (hP : cP D K B ad z H) (hw : rwW K w n g ∈ ad.2.2) : va_P D vCl [rwW K w n g] H := vP_of hP.1 (fun x hx => by
  rw [List.mem_singleton] at hx
  obtain ⟨q, hq⟩ := cW_dy (K := K) (B := B) (z := z) hw
  rw [hx]; exact List.mem_of_getElem? hq)
end ROWC
