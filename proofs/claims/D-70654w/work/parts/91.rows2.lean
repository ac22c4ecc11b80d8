/-! rowOf, rowIn, setIn; the sheets' cells -/
/-- one cell, changed by a call -/
abbrev eQ (D : va_G) (q : Nat) (x : va_E) : Array Value → State → Outcome → State → Prop := fun _ st o t => (o = .returned none ∧ va_P D vCl [(q, x)] t.heap) ∧ va_F (fun y => y = q) st t
abbrev rowV (ad : CA) (z : CZ) (k : Nat) : Value := va_rf ((cz_sh z k).map (fun _ => ad.2.1 (400 + k)))
abbrev rwE (K : Nat → ClassId) (kd n : Nat) (g : Nat → Int32) : va_E := .inl (K (cRowK kd), n, .inl g)
section SHC
variable {p : Program} {l : Launch} {e : Env} {R : Room} {s : State} {m : MethodId} {args : Array Value} {below : List Frame} {meth : Method} {c : Code} {H : Heap} {locs : List Loc} {cells slots : Nat} {Q : State → Prop} {cc : ByteArray} {nL pc : Nat} {rest : List Value} {ls : Array Slot} {D : va_G} {K : Nat → ClassId} {s0 : State} {a0 : Array Value} {B : Nat → Nat} {ad : CA} {A : Nat → Prop} {z : CZ} {lv : List (Nat × Value)} {own : String}
theorem ck_cellAt {mc ms q q0 : Nat} {av : Array Value} {x x' : va_E} {st0 : List Value} {Wd : va_W} (hr : va_Run p l e R s m args below meth c H locs cells slots mc ms (F0 m pc ls st0) rest (eQ D q x' av) (fun x => x = q)) (hP : va_P D vCl Wd H) (hD : va_D A Wd) (h0 : Wd[q0]? = some (q, x)) (hS : va_S A s.heap H locs)
    (kk : ∀ (H : Heap) (locs : List Loc), va_P D vCl (Wd.set q0 (q, x')) H → va_D A (Wd.set q0 (q, x')) → va_S A s.heap H locs → W p l e R s m args below meth c H locs (cells + mc) (slots + ms) Q (F0 m (pc + 3) ls rest)) : W p l e R s m args below meth c H locs cells slots Q (F0 m pc ls st0) := by
  intro T hT X
  obtain ⟨v', st₀, t, T', L, e0, X', hL, h1, -, ⟨⟨hq, hq2⟩, hq3⟩, st⟩ := hr T hT X
  cases hq
  have hAq : A q := hD.2 _ _ h0
  have hS1 : va_S A s.heap t.heap (locs ++ L) := vS_call hS e0 hq3 (fun x _ hx => by rw [hx]; exact hAq) (fun x hx => by rw [hL x hx]; exact hAq) rfl
  have hP1 : va_P D vCl (Wd.set q0 (q, x')) t.heap := by
    intro k y hk
    by_cases hkq : k = q0
    · subst hkq
      rw [List.getElem?_set_self (List.getElem?_eq_some_iff.mp h0).1] at hk
      cases hk
      exact hq2 0 _ rfl
    · rw [List.getElem?_set_ne (Ne.symm hkq)] at hk
      have hx := hP k y hk
      refine hx.kept ?_
      have := hq3.2 y.1 (by rw [e0]; exact hx.lt) (fun h => hkq (hD.1 k q0 y _ hk h0 h))
      rw [e0] at this
      exact this
  obtain ⟨t2, a1, b1⟩ := kk t.heap (locs ++ L) hP1 (hD.set h0) hS1 T' h1 X'
  exact ⟨t2, st t2 a1, b1⟩
/-- the sheets' array, read -/
theorem ck_shl (E : CallFix p m c cc nL s args lw_all own) (hK : va_K D vCl (cT K) s) (hP : cP D K B ad z H) {k : Nat} (hk : k < 4) {v : Value} (hv : va_rf ((cz_sh z k).map (fun _ => ad.2.1 (300 + k))) = v) (hdg : decode cc pc = .ok (.aaload, 1))
    (kk : W p l e R s m args below meth c H locs cells slots Q (F0 m (pc + 1) ls (v :: rest))) : W p l e R s m args below meth c H locs cells slots Q (F0 m pc ls (.int (nI k) :: .ref (B 9) :: rest)) := by
  have key : va_rf ((fun k => (cz_sh z k).map (fun _ => ad.2.1 (300 + k))) (nI k).toNatClampNeg) = v := by rw [nI_clamp (by omega)]; exact hv
  exact va_aldq (f := fun k => (cz_sh z k).map (fun _ => ad.2.1 (300 + k))) E.1 E.2.1 hK hP.1 4 4 rfl rfl (vp_in_nI hk (by decide)) hdg (Eq.mpr (congrArg (fun v => W p l e R s m args below meth c H locs cells slots Q (F0 m (pc + 1) ls (v :: rest))) key) kk)
/-- a sheet's row, read -/
theorem ck_shrow (E : CallFix p m c cc nL s args lw_all RX0) (hK : va_K D vCl (cT K) s) (hP : cP D K B ad z H) {k : Nat} (hk : k < 4) {q : Nat × Nat × (Nat → Int32)} (hz : cz_sh z k = some q) (hdg : decode cc pc = .ok (.getfield 227, 3))
    (kk : W p l e R s m args below meth c H locs cells slots Q (F0 m (pc + 3) ls (.ref (ad.2.1 (400 + k)) :: rest))) : W p l e R s m args below meth c H locs cells slots Q (F0 m pc ls (.ref (ad.2.1 (300 + k)) :: rest)) := by
  obtain ⟨i, hi⟩ := cW_dy (K := K) (B := B) (z := z) (hP.2.2.2.2.2.2 k hk q hz).2.2.1
  exact va_get E.1 E.2.1 E.2.2.2.2 in_X10 E.2.2.2.1 hK hP.1 (i + 7) hi (ci := 7) (C := RX10) (T := TX10) (N := 1) rfl 0 (by decide) (E.2.2.2.2 _ q659) (fun x h => h) (v := .ref (ad.2.1 (400 + k))) rfl hdg kk
theorem px_aret {v : Value} {ty : FieldType} (E : CallFix p m c cc nL s args lw_all own) (hr : meth.sig.returnType = some ty) (hty : (∃ C, ty = .object C) ∨ ∃ C, ty = .array C) (hv : v = .null ∨ ∃ a, v = .ref a) (hlocks : meth.locks = false) (hH : H = s.heap) (hdg : decode cc pc = .ok (.areturn, 1)) : W p l e R s m args below meth c H [] 0 0 (MQ below (pQ v) args s 0 0 (fun _ => False)) (F0 m pc ls [v]) := by
  exact W.aret E.1 E.2.1 hr hty hv (fun t ht _ => ⟨rfl, by rw [ht]; exact hH⟩) (fun x hx => by cases hx) hdg hlocks
end SHC
abbrev rmX0_rowIn : Room := { frames := 1, cells := 0, slots := 0, locals := 12 }
theorem mm_X0_rowIn (l : Launch) {D : va_G} {K : Nat → ClassId} {s0 : State} {B : Nat → Nat} {ad : CA} (z : CZ) {k : Nat} (hk : k < 4) : Met l yX0_rowIn (ws_ yX0_rowIn cX0_rowIn 2 (some (.object "java/lang/Object"))) rmX0_rowIn (cPc D K s0 B ad z [.ref (B 0), .int (nI k)]) (pQ (rowV ad z k)) 0 0 (fun _ => False) := by
  refine gx_start RX0 (by decide) rfl (Nat.le_of_ble_eq_true rfl) ?_
  intro p e s m args below meth c ls E hr hlocks _ hC hl
  obtain ⟨hP, hK, hN⟩ := hC
  have hl : lv_has ls 2 [(0, .ref (B 0)), (1, .int (nI k))] := hl
  refine lv_aload_n E.1 E.2.1 dX0_rowIn_0 rfl (lv_at hl 0 rfl) ?_
  refine ck_get E hK hP 9 (by decide) q137 rfl (v := .ref (B 9)) rfl dX0_rowIn_1 ?_
  refine lv_iload_n E.1 E.2.1 dX0_rowIn_4 rfl (lv_at hl 1 rfl) ?_
  cases hz : cz_sh z k with
  | none =>
    refine ck_shl E hK hP hk (v := .null) (by rw [hz]; rfl) dX0_rowIn_5 ?_
    refine lv_ifnonnullN E.1 E.2.1 dX0_rowIn_6 ?_
    refine lv_null E.1 E.2.1 dX0_rowIn_9 ?_
    refine lv_goto (tgt := 22) E.1 E.2.1 dX0_rowIn_10 (by decide) ?_
    have e1 : rowV ad z k = .null := by show va_rf ((cz_sh z k).map _) = _; rw [hz]; rfl
    rw [e1]
    exact px_aret E hr (Or.inl ⟨_, rfl⟩) (Or.inl rfl) hlocks rfl dX0_rowIn_22
  | some q =>
    refine ck_shl E hK hP hk (v := .ref (ad.2.1 (300 + k))) (by rw [hz]; rfl) dX0_rowIn_5 ?_
    refine lv_ifnonnull (tgt := 13) E.1 E.2.1 dX0_rowIn_6 (by decide) ?_
    refine lv_aload_n E.1 E.2.1 dX0_rowIn_13 rfl (lv_at hl 0 rfl) ?_
    refine ck_get E hK hP 9 (by decide) q137 rfl (v := .ref (B 9)) rfl dX0_rowIn_14 ?_
    refine lv_iload_n E.1 E.2.1 dX0_rowIn_17 rfl (lv_at hl 1 rfl) ?_
    refine ck_shl E hK hP hk (v := .ref (ad.2.1 (300 + k))) (by rw [hz]; rfl) dX0_rowIn_18 ?_
    refine ck_shrow E hK hP hk hz dX0_rowIn_19 ?_
    have e1 : rowV ad z k = .ref (ad.2.1 (400 + k)) := by show va_rf ((cz_sh z k).map _) = _; rw [hz]; rfl
    rw [e1]
    exact px_aret E hr (Or.inl ⟨_, rfl⟩) (Or.inr ⟨_, rfl⟩) hlocks rfl dX0_rowIn_22
abbrev rmX0_rowOf : Room := { frames := 1, cells := 1, slots := 60, locals := 12 }
set_option maxHeartbeats 1000000 in
theorem mm_X0_rowOf (l : Launch) {D : va_G} {K : Nat → ClassId} {s0 : State} {B : Nat → Nat} {ad : CA} {A : Nat → Prop} (z : CZ) {kd n : Nat} (hk : kd ≤ 2) (hn : n ≤ 60) : Met l yX0_rowOf (ws_ yX0_rowOf cX0_rowOf 2 (some (.object "java/lang/Object"))) rmX0_rowOf (cIPc D K s0 B A ad z [.int (nI kd), .int (nI n)]) (cIQr D K B A ad z (rwE K kd n (fun _ => 0))) 1 60 A := by
  refine cI_start RX0 (by decide) rfl (Nat.le_of_ble_eq_true rfl) ?_
  intro p e s m args below meth c H locs ls E hr hlocks hK hX hA hP hV hS hl
  have hl : lv_has ls 2 [(0, .int (nI kd)), (1, .int (nI n))] := hl
  have hn0 : ¬ nI n < 0 := nI_pos (by omega)
  have hnc : (nI n).toNatClampNeg = n := nI_clamp (by omega)
  have fin : ∀ (q : Nat) (cA : ClassId) (H1 : Heap), cA = K (cRowK kd) → va_P D vCl (cW K B ad z ++ [(q, .inl (cA, n, .inl (fun _ => 0)))]) H1 → va_D A (cW K B ad z ++ [(q, .inl (cA, n, .inl (fun _ => 0)))]) → va_S A s.heap H1 locs → W p l e rmX0_rowOf s m args below meth c H1 locs (0 + 1) (0 + n) (MQ below (cIQr D K B A ad z (rwE K kd n (fun _ => 0))) args s 1 60 A) (F0 m 24 ls [.ref q]) := by
    intro q cA H1 hc hP1 hD1 hS1
    subst hc
    refine W_pad (c' := 1) (s' := 60) (by decide) (by omega) ?_
    exact W.aret E.1 E.2.1 hr (Or.inl ⟨_, rfl⟩) (Or.inr ⟨_, rfl⟩) (fun t ht _ => ⟨⟨q, rfl, by rw [ht]; exact ⟨hP1, cDy_push hP.2⟩, hD1, hV.2⟩, hS1.F ht⟩) hS1.2.2 dX0_rowOf_24 hlocks
  have hk3 : kd = 0 ∨ kd = 1 ∨ kd = 2 := by omega
  refine lv_iload_n E.1 E.2.1 dX0_rowOf_0 rfl (lv_at hl 0 rfl) ?_
  rcases hk3 with rfl | rfl | rfl
  · refine lv_if_ne (tgt := 10) E.1 E.2.1 dX0_rowOf_1 (by decide) (fun h => absurd rfl h) (fun _ => ?_)
    refine lv_iload_n E.1 E.2.1 dX0_rowOf_4 rfl (lv_at hl 1 rfl) ?_
    refine va_newa (atype := .byte) (ty := .byte) (a0 := (n, .inl (fun _ => 0))) E.1 E.2.1 (E.2.2.2.2 _ q637) rfl hK hP.1 hV.1 hS hA (fun cA => rfl) hn0 hnc (by show n * 1 ≤ _; omega) (by decide) (by show 0 + n ≤ 60; omega) dX0_rowOf_5 (fun q cA H1 hK1 hP1 hD1 hS1 => ?_)
    refine lv_goto (tgt := 24) E.1 E.2.1 dX0_rowOf_7 (by decide) ?_
    exact fin q cA H1 (Option.some.inj (((hK1.2 5 (cA, .byte) rfl).2 : s.vm.findClass _ = _).symm.trans (hK.2 1 (K 1, .byte) rfl).2)) hP1 hD1 hS1
  · refine lv_if_ne (tgt := 10) E.1 E.2.1 dX0_rowOf_1 (by decide) (fun _ => ?_) (fun h => absurd h (by decide))
    refine lv_iload_n E.1 E.2.1 dX0_rowOf_10 rfl (lv_at hl 0 rfl) ?_
    refine lv_iconst (v := (1 : Int32)) E.1 E.2.1 dX0_rowOf_11 (by decide) ?_
    refine lv_icmp_ne (tgt := 21) E.1 E.2.1 dX0_rowOf_12 (by decide) (fun h => absurd rfl h) (fun _ => ?_)
    refine lv_iload_n E.1 E.2.1 dX0_rowOf_15 rfl (lv_at hl 1 rfl) ?_
    refine va_newa (atype := .short) (ty := .short) (a0 := (n, .inl (fun _ => 0))) E.1 E.2.1 (E.2.2.2.2 _ q663) rfl hK hP.1 hV.1 hS hA (fun cA => rfl) hn0 hnc (by show n * 2 ≤ _; omega) (by decide) (by show 0 + n ≤ 60; omega) dX0_rowOf_16 (fun q cA H1 hK1 hP1 hD1 hS1 => ?_)
    refine lv_goto (tgt := 24) E.1 E.2.1 dX0_rowOf_18 (by decide) ?_
    exact fin q cA H1 (Option.some.inj (((hK1.2 5 (cA, .short) rfl).2 : s.vm.findClass _ = _).symm.trans (hK.2 2 (K 2, .short) rfl).2)) hP1 hD1 hS1
  · refine lv_if_ne (tgt := 10) E.1 E.2.1 dX0_rowOf_1 (by decide) (fun _ => ?_) (fun h => absurd h (by decide))
    refine lv_iload_n E.1 E.2.1 dX0_rowOf_10 rfl (lv_at hl 0 rfl) ?_
    refine lv_iconst (v := (1 : Int32)) E.1 E.2.1 dX0_rowOf_11 (by decide) ?_
    refine lv_icmp_ne (tgt := 21) E.1 E.2.1 dX0_rowOf_12 (by decide) (fun _ => ?_) (fun h => absurd h (by decide))
    refine lv_iload_n E.1 E.2.1 dX0_rowOf_21 rfl (lv_at hl 1 rfl) ?_
    refine va_newa (atype := .int) (ty := .int) (a0 := (n, .inl (fun _ => 0))) E.1 E.2.1 (E.2.2.2.2 _ q121) rfl hK hP.1 hV.1 hS hA (fun cA => rfl) hn0 hnc (by show n * 4 ≤ _; omega) (by decide) (by show 0 + n ≤ 60; omega) dX0_rowOf_22 (fun q cA H1 hK1 hP1 hD1 hS1 => ?_)
    exact fin q cA H1 (Option.some.inj (((hK1.2 5 (cA, .int) rfl).2 : s.vm.findClass _ = _).symm.trans (hK.2 0 (K 0, .int) rfl).2)) hP1 hD1 hS1
set_option maxHeartbeats 1000000 in
theorem ct_rowOf_neg (l : Launch) {s0 : State} {a0 : Array Value} (G : cG l s0 a0) (D : va_G) (K : Nat → ClassId) {kd : Nat} (hk : kd ≤ 2) {i : Int32} (hi : i < 0) : MetT l yX0_rowOf (ws_ yX0_rowOf cX0_rowOf 2 (some (.object "java/lang/Object"))) rmXT (xPc D K s0 [] [.int (nI kd), .int i]) "java/lang/NegativeArraySizeException" 3 1610 := by
  refine tx_start RX0 (by decide) rfl (Nat.le_of_ble_eq_true rfl) ?_
  intro p e s m args below meth c ls E hr hlocks hxt hC hl
  obtain ⟨hP, hK, hN, hO⟩ := hC
  have hl : lv_has ls 2 [(0, .int (nI kd)), (1, .int i)] := hl
  have hk3 : kd = 0 ∨ kd = 1 ∨ kd = 2 := by omega
  have ha := xa_nas G.1 E.2.2.2.2 hN hO (cG_x G hN hO)
  refine lv_iload_n E.1 E.2.1 dX0_rowOf_0 rfl (lv_at hl 0 rfl) ?_
  rcases hk3 with rfl | rfl | rfl
  · refine lv_if_ne (tgt := 10) E.1 E.2.1 dX0_rowOf_1 (by decide) (fun h => absurd rfl h) (fun _ => ?_)
    refine lv_iload_n E.1 E.2.1 dX0_rowOf_4 rfl (lv_at hl 1 rfl) ?_
    exact tx_neg (rest := []) hi G.2.2.2 E ha hxt hlocks hl (Nat.le_of_ble_eq_true rfl) ⟨by decide, by decide⟩ ⟨by decide, by decide⟩ ⟨by decide, by decide⟩ dX0_rowOf_5
  · refine lv_if_ne (tgt := 10) E.1 E.2.1 dX0_rowOf_1 (by decide) (fun _ => ?_) (fun h => absurd h (by decide))
    refine lv_iload_n E.1 E.2.1 dX0_rowOf_10 rfl (lv_at hl 0 rfl) ?_
    refine lv_iconst (v := (1 : Int32)) E.1 E.2.1 dX0_rowOf_11 (by decide) ?_
    refine lv_icmp_ne (tgt := 21) E.1 E.2.1 dX0_rowOf_12 (by decide) (fun h => absurd rfl h) (fun _ => ?_)
    refine lv_iload_n E.1 E.2.1 dX0_rowOf_15 rfl (lv_at hl 1 rfl) ?_
    exact tx_neg (rest := []) hi G.2.2.2 E ha hxt hlocks hl (Nat.le_of_ble_eq_true rfl) ⟨by decide, by decide⟩ ⟨by decide, by decide⟩ ⟨by decide, by decide⟩ dX0_rowOf_16
  · refine lv_if_ne (tgt := 10) E.1 E.2.1 dX0_rowOf_1 (by decide) (fun _ => ?_) (fun h => absurd h (by decide))
    refine lv_iload_n E.1 E.2.1 dX0_rowOf_10 rfl (lv_at hl 0 rfl) ?_
    refine lv_iconst (v := (1 : Int32)) E.1 E.2.1 dX0_rowOf_11 (by decide) ?_
    refine lv_icmp_ne (tgt := 21) E.1 E.2.1 dX0_rowOf_12 (by decide) (fun _ => ?_) (fun h => absurd h (by decide))
    refine lv_iload_n E.1 E.2.1 dX0_rowOf_21 rfl (lv_at hl 1 rfl) ?_
    exact tx_neg (rest := []) hi G.2.2.2 E ha hxt hlocks hl (Nat.le_of_ble_eq_true rfl) ⟨by decide, by decide⟩ ⟨by decide, by decide⟩ ⟨by decide, by decide⟩ dX0_rowOf_22
