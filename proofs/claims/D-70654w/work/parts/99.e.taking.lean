/-! Taking.done -/
abbrev acT (B : Nat → Nat) (r : Nat) (x : Int32) : List Value := [.ref (B 0), .ref r, .int x, .ref (B 0)]
section TAK
variable {p : Program} {l : Launch} {e : Env} {R : Room} {s : State} {m : MethodId} {args : Array Value} {below : List Frame} {meth : Method} {c : Code} {H : Heap} {locs : List Loc} {cells slots : Nat} {Q : State → Prop} {pc : Nat} {rest : List Value} {ls : Array Slot} {D : va_G} {K : Nat → ClassId} {s0 : State} {a0 : Array Value} {B : Nat → Nat} {ad : CA} {A : Nat → Prop} {z : CZ}
theorem ck_tk (E : CallFix p m c cX12_done 2 s args lw_all RX12) (hK : va_K D vCl (cT K) s) (hP : cP D K B ad z H) {qa r : Nat} {x : Int32} (hqa : (qa, .inr (11, acT B r x)) ∈ ad.2.2) (k : Nat) (hk : k = 1 ∨ k = 2) {idx : Nat} {v : Value} (hv : (acT B r x)[k]? = some v) (hl : Cond.fieldLink RX12 idx RX12 (TX12 k).2.1 (TX12 k).2.2.1 ∈ lw_all) (hdg : decode cX12_done pc = .ok (.getfield idx, 3))
    (kk : W p l e R s m args below meth c H locs cells slots Q (F0 m (pc + 3) ls (v :: rest))) : W p l e R s m args below meth c H locs cells slots Q (F0 m pc ls (.ref qa :: rest)) := by
  obtain ⟨i, hi⟩ := cW_dy (K := K) (B := B) (z := z) hqa
  rcases hk with rfl | rfl
  · exact va_get E.1 E.2.1 E.2.2.2.2 in_X12 E.2.2.2.1 hK hP.1 (i + 7) hi (ci := 11) (C := RX12) (T := TX12) (N := 4) rfl 1 (by decide) (ref := RX12) (E.2.2.2.2 _ hl) (fun x h => h) hv hdg kk
  · exact va_get E.1 E.2.1 E.2.2.2.2 in_X12 E.2.2.2.1 hK hP.1 (i + 7) hi (ci := 11) (C := RX12) (T := TX12) (N := 4) rfl 2 (by decide) (ref := RX12) (E.2.2.2.2 _ hl) (fun x h => h) hv hdg kk
/-- a rider's number, by whatever name of its class -/
theorem ck_num (E : CallFix p m c cX12_done 2 s args lw_all RX12) (hK : va_K D vCl (cT K) s) (hP : cP D K B ad z H) {r kd i : Nat} {lm : Int32} (hkd : kd ≤ 2) (hv : (r, cRi B kd i lm) ∈ ad.2.2) {idx : Nat} {ref : String} (hl : Cond.fieldLink RX12 idx ref "number" "I" ∈ lw_all) (hsm : ∀ x, s.fieldFound? RX5 "number" "I" = some x → s.fieldFound? ref "number" "I" = some x) (hdg : decode cX12_done pc = .ok (.getfield idx, 3))
    (kk : W p l e R s m args below meth c H locs cells slots Q (F0 m (pc + 3) ls (.int (nI i) :: rest))) : W p l e R s m args below meth c H locs cells slots Q (F0 m pc ls (.ref r :: rest)) := by
  obtain ⟨j, hj⟩ := cW_dy (K := K) (B := B) (z := z) hv
  have h3 : kd = 0 ∨ kd = 1 ∨ kd = 2 := by omega
  rcases h3 with rfl | rfl | rfl
  · exact va_get E.1 E.2.1 E.2.2.2.2 in_X5 E.2.2.2.1 hK hP.1 (j + 7) hj (ci := 3) (C := RX5) (T := TX5) (N := 3) rfl 0 (by decide) (ref := ref) (E.2.2.2.2 _ hl) hsm rfl hdg kk
  · exact va_get E.1 E.2.1 E.2.2.2.2 in_X6 E.2.2.2.1 hK hP.1 (j + 7) hj (ci := 4) (C := RX6) (T := TX6) (N := 4) rfl 0 (by decide) (ref := ref) (E.2.2.2.2 _ hl) hsm rfl hdg kk
  · exact va_get E.1 E.2.1 E.2.2.2.2 in_X7 E.2.2.2.1 hK hP.1 (j + 7) hj (ci := 5) (C := RX7) (T := TX7) (N := 5) rfl 0 (by decide) (ref := ref) (E.2.2.2.2 _ hl) hsm rfl hdg kk
theorem rk_recv (hK : va_K D vCl (cT K) s) (hP : cP D K B ad z H) {r i ci : Nat} {lm : Int32} {q : vw_C} {kd : Nat} (hc : vCl[3 + kd]? = some q) (hv : (r, cRi B kd i lm) ∈ ad.2.2) : ∃ cell : Cell, H[r]? = some cell ∧ cell.vm.isStatics = false ∧ s.vm.findClass q.1 = some cell.cls := by
  obtain ⟨j, hj⟩ := cW_dy (K := K) (B := B) (z := z) hv
  exact va_recv hK hP.1 hc hj
end TAK
abbrev rmX12_done : Room := { frames := 1, cells := 0, slots := 0, locals := 20 }
set_option maxHeartbeats 1000000 in
theorem taking_ret (l : Launch) {D : va_G} {K : Nat → ClassId} {s0 : State} {a0 : Array Value} {B : Nat → Nat} {ad : CA} {A : Nat → Prop} (hT : ∀ w ∈ lw_tbl, w.before a0 s0 = true) {z : CZ} {qa r kd kx i : Nat} {lm : Int32} (hqa : (qa, .inr (11, acT B r (nI kx))) ∈ ad.2.2) (hkd : kd ≤ 2) (hx : kx ≤ kd) (hi : i ≤ 10) (hv : (r, cRi B kd i lm) ∈ ad.2.2) :
    Met l yX12_done (ws_ yX12_done cX12_done 2 (some .int)) rmX12_done (cIPc D K s0 B A ad z [.ref qa]) (cIQ D K B A (some (.int (1, z).1)) (1, z).2) 0 0 A := by
  refine cI_start RX12 (by decide) rfl (Nat.le_of_ble_eq_true rfl) ?_
  intro p e s m args below meth c H locs ls E hr hlocks hK hX hA hP hV hS hl
  have hl : lv_has ls 2 [(0, .ref qa)] := hl
  have hN := hX.1
  have fin : W p l e rmX12_done s m args below meth c H locs 0 0 (MQ below (cIQ D K B A (some (.int (1, z).1)) (1, z).2) args s 0 0 A) (F0 m 48 ls [.int (nI i)]) := by
    refine lv_istore_n (lv' := [(1, .int (nI i)), (0, .ref qa)]) E.1 E.2.1 dX12_done_48 rfl hl (by decide) rfl (fun ls hl => ?_)
    refine lv_iload_n E.1 E.2.1 dX12_done_49 rfl (lv_at hl 0 rfl) ?_
    refine lv_if_ge (tgt := 57) E.1 E.2.1 dX12_done_50 (by decide) (fun _ => ?_) (fun h => absurd (nI_pos' (by omega)) h)
    refine lv_iconst (v := (1 : Int32)) E.1 E.2.1 dX12_done_57 (by decide) ?_
    exact cI_iret E hr hlocks hP hV hS rfl dX12_done_58
  refine lv_aload_n E.1 E.2.1 dX12_done_0 rfl (lv_at hl 0 rfl) ?_
  refine ck_tk E hK hP hqa 2 (Or.inr rfl) (v := .int (nI kx)) rfl q1079 dX12_done_1 ?_
  have h3 : kx = 0 ∨ kx = 1 ∨ kx = 2 := by omega
  rcases h3 with rfl | rfl | rfl
  · refine lv_if_ne (tgt := 17) E.1 E.2.1 dX12_done_4 (by decide) (fun h => absurd rfl h) (fun _ => ?_)
    refine lv_aload_n E.1 E.2.1 dX12_done_7 rfl (lv_at hl 0 rfl) ?_
    refine ck_tk E hK hP hqa 1 (Or.inl rfl) (v := .ref r) rfl q1078 dX12_done_8 ?_
    refine ck_num E hK hP hkd hv q489 (fun x h => h) dX12_done_11 ?_
    refine lv_goto (tgt := 48) E.1 E.2.1 dX12_done_14 (by decide) ?_
    exact fin
  · refine lv_if_ne (tgt := 17) E.1 E.2.1 dX12_done_4 (by decide) (fun _ => ?_) (fun h => absurd h (by decide))
    refine lv_aload_n E.1 E.2.1 dX12_done_17 rfl (lv_at hl 0 rfl) ?_
    refine ck_tk E hK hP hqa 2 (Or.inr rfl) (v := .int (nI 1)) rfl q1079 dX12_done_18 ?_
    refine lv_iconst (v := (1 : Int32)) E.1 E.2.1 dX12_done_21 (by decide) ?_
    refine lv_icmp_ne (tgt := 38) E.1 E.2.1 dX12_done_22 (by decide) (fun h => absurd rfl h) (fun _ => ?_)
    refine lv_aload_n E.1 E.2.1 dX12_done_25 rfl (lv_at hl 0 rfl) ?_
    refine ck_tk E hK hP hqa 1 (Or.inl rfl) (v := .ref r) rfl q1078 dX12_done_26 ?_
    have go : W p l e rmX12_done s m args below meth c H locs 0 0 (MQ below (cIQ D K B A (some (.int (1, z).1)) (1, z).2) args s 0 0 A) (F0 m 32 ls [.ref r]) := by
      refine ck_num E hK hP hkd hv q490 (u_same (E.2.2.2.2 _ q491)) dX12_done_32 ?_
      refine lv_goto (tgt := 48) E.1 E.2.1 dX12_done_35 (by decide) ?_
      exact fin
    have h4 : kd = 1 ∨ kd = 2 := by omega
    rcases h4 with rfl | rfl
    · exact va_castE (nm := "DebtFerry$Friend") E.1 E.2.1 E.2.2.2.1 (E.2.2.2.2 _ q925) (rk_recv (ci := 0) hK hP (q := (RX6, TX6, 4)) rfl hv) dX12_done_29 go
    · exact va_castY (C := "DebtFerry$Banker") (nm := "DebtFerry$Friend") E.1 E.2.1 E.2.2.2.1 (E.2.2.2.2 _ q925) (cN_C hT hN q1437) (rk_recv (ci := 0) hK hP (q := (RX7, TX7, 5)) rfl hv) dX12_done_29 go
  · refine lv_if_ne (tgt := 17) E.1 E.2.1 dX12_done_4 (by decide) (fun _ => ?_) (fun h => absurd h (by decide))
    refine lv_aload_n E.1 E.2.1 dX12_done_17 rfl (lv_at hl 0 rfl) ?_
    refine ck_tk E hK hP hqa 2 (Or.inr rfl) (v := .int (nI 2)) rfl q1079 dX12_done_18 ?_
    refine lv_iconst (v := (1 : Int32)) E.1 E.2.1 dX12_done_21 (by decide) ?_
    refine lv_icmp_ne (tgt := 38) E.1 E.2.1 dX12_done_22 (by decide) (fun _ => ?_) (fun h => absurd h (by decide))
    refine lv_aload_n E.1 E.2.1 dX12_done_38 rfl (lv_at hl 0 rfl) ?_
    refine ck_tk E hK hP hqa 1 (Or.inl rfl) (v := .ref r) rfl q1078 dX12_done_39 ?_
    have h4 : kd = 2 := by omega
    subst h4
    refine va_castE (nm := "DebtFerry$Banker") E.1 E.2.1 E.2.2.2.1 (E.2.2.2.2 _ q926) (rk_recv (ci := 0) hK hP (q := (RX7, TX7, 5)) rfl hv) dX12_done_42 ?_
    refine ck_num E hK hP hkd hv q492 (u_same (E.2.2.2.2 _ q493)) dX12_done_45 ?_
    exact fin
set_option maxHeartbeats 1000000 in
theorem taking_thr (l : Launch) {D : va_G} {K : Nat → ClassId} {s0 : State} {a0 : Array Value} {B : Nat → Nat} {ad : CA} {A : Nat → Prop} (G : cG l s0 a0) {z : CZ} {qa r kd kx i : Nat} {lm : Int32} (hqa : (qa, .inr (11, acT B r (nI kx))) ∈ ad.2.2) (hkx : kx ≤ 2) (hx : kd < kx) (hv : (r, cRi B kd i lm) ∈ ad.2.2) :
    MetT l yX12_done (ws_ yX12_done cX12_done 2 (some .int)) rmXT (cIPc D K s0 B A ad z [.ref qa]) "java/lang/ClassCastException" 3 1610 := by
  refine tx_start RX12 (by decide) rfl (Nat.le_of_ble_eq_true rfl) ?_
  intro p e s m args below meth c ls E hr hlocks hxt hC hl
  obtain ⟨hP, hK, hX, hV, hA⟩ := hC
  have hl : lv_has ls 2 [(0, .ref qa)] := hl
  have hN := hX.1
  have ha := xa_cce G.1 E.2.2.2.2 hN hX.2 (cG_x G hN hX.2)
  refine lv_aload_n E.1 E.2.1 dX12_done_0 rfl (lv_at hl 0 rfl) ?_
  refine ck_tk E hK hP hqa 2 (Or.inr rfl) (v := .int (nI kx)) rfl q1079 dX12_done_1 ?_
  have h3 : kx = 1 ∨ kx = 2 := by omega
  rcases h3 with rfl | rfl
  · refine lv_if_ne (tgt := 17) E.1 E.2.1 dX12_done_4 (by decide) (fun _ => ?_) (fun h => absurd h (by decide))
    refine lv_aload_n E.1 E.2.1 dX12_done_17 rfl (lv_at hl 0 rfl) ?_
    refine ck_tk E hK hP hqa 2 (Or.inr rfl) (v := .int (nI 1)) rfl q1079 dX12_done_18 ?_
    refine lv_iconst (v := (1 : Int32)) E.1 E.2.1 dX12_done_21 (by decide) ?_
    refine lv_icmp_ne (tgt := 38) E.1 E.2.1 dX12_done_22 (by decide) (fun h => absurd rfl h) (fun _ => ?_)
    refine lv_aload_n E.1 E.2.1 dX12_done_25 rfl (lv_at hl 0 rfl) ?_
    refine ck_tk E hK hP hqa 1 (Or.inl rfl) (v := .ref r) rfl q1078 dX12_done_26 ?_
    have h4 : kd = 0 := by omega
    subst h4
    exact tx_cast (N := "DebtFerry$Friend") (N' := "DebtFerry$Rider") (rest := []) G.2.2.2 E ha (cG_mod G hN) q925 (rk_recv (ci := 0) hK hP (q := (RX5, TX5, 3)) rfl hv) (cG_nc G hN (by decide +kernel)) (fun k h1 h2 h3 _ _ => ⟨h2, h3, by rw [h1]; decide +kernel, Or.inr (by rw [h1]; decide +kernel)⟩) (fun k h1 h2 h3 _ _ => ⟨h2, h3, by rw [h1]; decide +kernel, Or.inr (by rw [h1]; decide +kernel)⟩) hxt hlocks hl (Nat.le_of_ble_eq_true rfl) ⟨by decide, by decide⟩ ⟨by decide, by decide⟩ ⟨by decide, by decide⟩ dX12_done_29
  · refine lv_if_ne (tgt := 17) E.1 E.2.1 dX12_done_4 (by decide) (fun _ => ?_) (fun h => absurd h (by decide))
    refine lv_aload_n E.1 E.2.1 dX12_done_17 rfl (lv_at hl 0 rfl) ?_
    refine ck_tk E hK hP hqa 2 (Or.inr rfl) (v := .int (nI 2)) rfl q1079 dX12_done_18 ?_
    refine lv_iconst (v := (1 : Int32)) E.1 E.2.1 dX12_done_21 (by decide) ?_
    refine lv_icmp_ne (tgt := 38) E.1 E.2.1 dX12_done_22 (by decide) (fun _ => ?_) (fun h => absurd h (by decide))
    refine lv_aload_n E.1 E.2.1 dX12_done_38 rfl (lv_at hl 0 rfl) ?_
    refine ck_tk E hK hP hqa 1 (Or.inl rfl) (v := .ref r) rfl q1078 dX12_done_39 ?_
    have h4 : kd = 0 ∨ kd = 1 := by omega
    rcases h4 with rfl | rfl
    · exact tx_cast (N := "DebtFerry$Banker") (N' := "DebtFerry$Rider") (rest := []) G.2.2.2 E ha (cG_mod G hN) q926 (rk_recv (ci := 0) hK hP (q := (RX5, TX5, 3)) rfl hv) (cG_nc G hN (by decide +kernel)) (fun k h1 h2 h3 _ _ => ⟨h2, h3, by rw [h1]; decide +kernel, Or.inr (by rw [h1]; decide +kernel)⟩) (fun k h1 h2 h3 _ _ => ⟨h2, h3, by rw [h1]; decide +kernel, Or.inr (by rw [h1]; decide +kernel)⟩) hxt hlocks hl (Nat.le_of_ble_eq_true rfl) ⟨by decide, by decide⟩ ⟨by decide, by decide⟩ ⟨by decide, by decide⟩ dX12_done_42
    · exact tx_cast (N := "DebtFerry$Banker") (N' := "DebtFerry$Friend") (rest := []) G.2.2.2 E ha (cG_mod G hN) q926 (rk_recv (ci := 0) hK hP (q := (RX6, TX6, 4)) rfl hv) (cG_nc G hN (by decide +kernel)) (fun k h1 h2 h3 _ _ => ⟨h2, h3, by rw [h1]; decide +kernel, Or.inr (by rw [h1]; decide +kernel)⟩) (fun k h1 h2 h3 _ _ => ⟨h2, h3, by rw [h1]; decide +kernel, Or.inr (by rw [h1]; decide +kernel)⟩) hxt hlocks hl (Nat.le_of_ble_eq_true rfl) ⟨by decide, by decide⟩ ⟨by decide, by decide⟩ ⟨by decide, by decide⟩ dX12_done_42
