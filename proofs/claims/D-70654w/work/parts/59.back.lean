/-! DebtFerry.back(I)I -/
def c_back_L24 (x1 : Int32) : Nat → Int32 → CZ → Option (Int32 × CZ)
  | 0, _, _ => none
  | n + 1, y, z => if x1 ≤ y then some (nI (cz_nr z), z) else gd (decide (0 < cz_nr z)) (c_back_L24 x1 n (y + 1) (cz_R z (cz_nr z - 1) (cz_rl z) (cz_rp z)))
def c_back (x1 : Int32) (z : CZ) : Option (Int32 × CZ) := (c_in x1.toInt64 0 (nI (cz_nr z)).toInt64).bind (fun r => if r = 0 then some (-2, z) else c_back_L24 x1 FU 0 z)
abbrev rmX0_back : Room := { frames := 5, cells := 0, slots := 0, locals := 120 }
section BACK
variable {p : Program} {l : Launch} {e : Env} {R : Room} {s : State} {m : MethodId} {args : Array Value} {below : List Frame} {meth : Method} {c : Code} {H : Heap} {locs : List Loc} {cells slots : Nat} {Q : State → Prop} {cc : ByteArray} {nL pc : Nat} {rest : List Value} {ls : Array Slot} {D : va_G} {K : Nat → ClassId} {s0 : State} {a0 : Array Value} {B : Nat → Nat} {ad : CA} {A : Nat → Prop} {z : CZ} {lv : List (Nat × Value)} {own : String}
theorem cI_iret {v : Int32} {res : Int32 × CZ} (E : CallFix p m c cc nL s args lw_all own) (hr : meth.sig.returnType = some .int) (hlocks : meth.locks = false) (hP : cP D K B ad z H) (hV : cV K B A ad z) (hS : va_S A s.heap H locs) (hF : some (v, z) = some res) (hdg : decode cc pc = .ok (.ireturn, 1)) : W p l e R s m args below meth c H locs cells slots (MQ below (cIQ D K B A (some (.int res.1)) res.2) args s cells slots A) (F0 m pc ls [.int v]) := by
  cases hF
  exact W.iret E.1 E.2.1 hr (fun t ht _ => ⟨⟨rfl, ad, by rw [ht]; exact hP, hV⟩, hS.F ht⟩) hS.2.2 hdg hlocks
end BACK
set_option maxHeartbeats 1000000 in
theorem mm_X0_back (l : Launch) {D : va_G} {K : Nat → ClassId} {s0 : State} {a0 : Array Value} {B : Nat → Nat} {ad : CA} {A : Nat → Prop} (hT : ∀ w ∈ lw_tbl, w.before a0 s0 = true) (hB : ¬ A (B 10)) (x1 : Int32) (z0 : CZ) (res : Int32 × CZ) (hF : c_back x1 z0 = some res) : Met l yX0_back (ws_ yX0_back cX0_back 3 (some .int)) rmX0_back (cIPc D K s0 B A ad z0 [.ref (B 0), .int x1]) (cIQ D K B A (some (.int res.1)) res.2) 0 0 A := by
  refine cI_start RX0 (by decide) rfl (Nat.le_of_ble_eq_true rfl) ?_
  intro p e s m args below meth c H locs ls E hr hlocks hK hX hA hP hV hS hl
  have hN := hX.1
  have hl : lv_has ls 3 [(0, .ref (B 0)), (1, .int x1)] := hl
  unfold c_back at hF
  obtain ⟨r, hq, hF⟩ := bnd hF
  refine lv_iload_n E.1 E.2.1 dX0_back_0 rfl (lv_at hl 1 rfl) ?_
  refine lv_i2l E.1 E.2.1 dX0_back_1 rfl ?_
  refine lv_lconst (v := (0 : Int64)) E.1 E.2.1 dX0_back_2 (by decide) ?_
  refine lv_aload_n E.1 E.2.1 dX0_back_3 rfl (lv_at hl 0 rfl) ?_
  refine ck_get E hK hP 7 (by decide) q134 rfl (v := .ref (B 7)) rfl dX0_back_4 ?_
  refine ck_size E hT hN hK hP (q0 := 6) (j := 7) (n := cz_nr z0) rfl q168 hl (Nat.le_of_ble_eq_true rfl) ⟨Nat.le_of_ble_eq_true rfl, Nat.le_of_ble_eq_true rfl⟩ ⟨Nat.zero_le _, Nat.zero_le _⟩ dX0_back_7 ?_
  refine lv_i2l E.1 E.2.1 dX0_back_12 rfl ?_
  refine px_call (As := [.long x1.toInt64, .long 0, .long (nI (cz_nr z0)).toInt64]) (rest := []) (v := .int r) E (mm_X0_in l _ _ _ _ hq) (va_cwS 3 E.2.2.2.2 (lw_S q177 q178 q54 q179) rfl rfl rfl (by decide +kernel) ⟨Nat.le_of_ble_eq_true rfl, Nat.le_of_ble_eq_true rfl⟩) hl rfl rfl (Nat.le_of_ble_eq_true rfl) ⟨Nat.zero_le _, Nat.zero_le _⟩ dX0_back_13 ?_
  refine lv_if_ne (tgt := 22) E.1 E.2.1 dX0_back_16 (by decide) (fun h => ?_) (fun h => ?_)
  · have hF := ite_f h hF
    refine lv_iconst (v := (0 : Int32)) E.1 E.2.1 dX0_back_22 (by decide) ?_
    refine lv_istore_n (lv' := [(2, .int (0 : Int32)), (0, .ref (B 0)), (1, .int x1)]) E.1 E.2.1 dX0_back_23 rfl hl (by decide) rfl (fun ls hl => ?_)
    have L24 : ∀ (n : Nat) (y : Int32) (z : CZ) (ad : CA) (H : Heap) (locs : List Loc) (ls : Array Slot), c_back_L24 x1 n y z = some res → cP D K B ad z H → cV K B A ad z → va_S A s.heap H locs → lv_has ls 3 [(2, .int y), (0, .ref (B 0)), (1, .int x1)] → W p l e rmX0_back s m args below meth c H locs 0 0 (MQ below (cIQ D K B A (some (.int res.1)) res.2) args s 0 0 A) (F0 m 24 ls []) := by
      intro n
      induction n with
      | zero => intro y z ad H locs ls hF; cases hF
      | succ n ih =>
        intro y z ad H locs ls hF hP hV hS hl
        unfold c_back_L24 at hF
        refine lv_iload_n E.1 E.2.1 dX0_back_24 rfl (lv_at hl 0 rfl) ?_
        refine lv_iload_n E.1 E.2.1 dX0_back_25 rfl (lv_at hl 2 rfl) ?_
        refine lv_icmp_ge (tgt := 56) E.1 E.2.1 dX0_back_26 (by decide) (fun h => ?_) (fun h => ?_)
        · have hF := ite_t h hF
          refine lv_aload_n E.1 E.2.1 dX0_back_56 rfl (lv_at hl 1 rfl) ?_
          refine ck_get E hK hP 7 (by decide) q134 rfl (v := .ref (B 7)) rfl dX0_back_57 ?_
          refine ck_size E hT hN hK hP (q0 := 6) (j := 7) (n := cz_nr z) rfl q168 hl (Nat.le_of_ble_eq_true rfl) ⟨Nat.le_of_ble_eq_true rfl, Nat.le_of_ble_eq_true rfl⟩ ⟨Nat.zero_le _, Nat.zero_le _⟩ dX0_back_60 ?_
          exact cI_iret E hr hlocks hP hV hS hF dX0_back_65
        · have hF := ite_f h hF
          obtain ⟨h0, hF⟩ := gd_some hF
          have h0 : 0 < cz_nr z := of_decide_eq_true h0
          have hs1 : nI (cz_nr z) - 1 = nI (cz_nr z - 1) := by
            obtain ⟨k, hk⟩ : ∃ k, cz_nr z = k + 1 := ⟨cz_nr z - 1, by omega⟩
            rw [hk, ← nI_1 k]; exact Int32.add_sub_cancel _ _
          refine lv_aload_n E.1 E.2.1 dX0_back_29 rfl (lv_at hl 1 rfl) ?_
          refine ck_get E hK hP 7 (by decide) q134 rfl (v := .ref (B 7)) rfl dX0_back_30 ?_
          refine lv_aload_n E.1 E.2.1 dX0_back_33 rfl (lv_at hl 1 rfl) ?_
          refine ck_get E hK hP 7 (by decide) q134 rfl (v := .ref (B 7)) rfl dX0_back_34 ?_
          refine ck_size E hT hN hK hP (q0 := 6) (j := 7) (n := cz_nr z) rfl q168 hl (Nat.le_of_ble_eq_true rfl) ⟨Nat.le_of_ble_eq_true rfl, Nat.le_of_ble_eq_true rfl⟩ ⟨Nat.zero_le _, Nat.zero_le _⟩ dX0_back_37 ?_
          refine lv_iconst (v := (1 : Int32)) E.1 E.2.1 dX0_back_42 (by decide) ?_
          refine lv_isub E.1 E.2.1 dX0_back_43 ?_
          rw [hs1]
          refine ck_lrem E hT hN hK hP hV hB hS (k := cz_nr z - 1) (by omega) q454 hl (Nat.le_of_ble_eq_true rfl) ⟨Nat.le_of_ble_eq_true rfl, Nat.le_of_ble_eq_true rfl⟩ ⟨Nat.zero_le _, Nat.zero_le _⟩ dX0_back_44 (fun ad1 q H locs hP hV hS => ?_)
          refine lv_pop E.1 E.2.1 dX0_back_49 rfl ?_
          refine lv_iinc (v := y + 1) (lv' := [(2, .int (y + 1)), (0, .ref (B 0)), (1, .int x1)]) E.1 E.2.1 dX0_back_50 hl (k := 0) rfl rfl (by decide) rfl (fun ls hl => ?_)
          refine lv_goto (tgt := 24) E.1 E.2.1 dX0_back_53 (by decide) ?_
          exact ih (y + 1) _ ad1 H locs ls hF hP hV hS hl
    exact L24 FU 0 z0 ad H locs ls hF hP hV hS hl
  · have hF := ite_t h hF
    refine lv_bipush (v := (-2 : Int32)) E.1 E.2.1 dX0_back_19 (by decide) ?_
    exact cI_iret E hr hlocks hP hV hS hF dX0_back_21
