/-! the lists' constructors -/
set_option maxHeartbeats 1000000 in
theorem nm_J0 (l : Launch) {s0 : State} (D : va_G) (K : Nat → ClassId) (q : Nat) (vs : List Value) : Met l yJ0_init (ws_ yJ0_init cJ0_init 1 none) rmN0 (nPc D K s0 q 2 vs [.ref q]) (nQ D q 2 vs) 0 0 (fun x => x = q) := by
  refine n_start RJ0 (by decide) rfl rfl (Nat.le_of_ble_eq_true rfl) ?_
  intro p e s m args below meth c H locs ls E hr hlocks hm hK hN hP hS hl
  have hl : lv_has ls 1 [(0, .ref q)] := hl
  refine lv_aload_n E.1 E.2.1 dJ0_init_0 rfl (lv_at hl 0 rfl) ?_
  refine W.objInit E.1 E.2.1 E.2.2.2.1 (E.2.2.2.2 _ q106) (E.2.2.2.2 _ q93) (E.2.2.2.2 _ q94) rfl (hl.1.trans E.2.2.1.symm) rfl dJ0_init_1 (by decide) (Nat.le_of_ble_eq_true rfl) ?_
  exact n_ret E hr hlocks hP hS dJ0_init_4
set_option maxHeartbeats 1000000 in
theorem nm_J1 (l : Launch) {s0 : State} (D : va_G) (K : Nat → ClassId) (q : Nat) (v0 v1 v2 : Value) : Met l yJ1_init (ws_ yJ1_init cJ1_init 1 none) rmN1 (nPc D K s0 q 2 [v0, v1, v2] [.ref q]) (nQ D q 2 [.int 0, v1, v2]) 0 0 (fun x => x = q) := by
  refine n_start RJ1 (by decide) rfl rfl (Nat.le_of_ble_eq_true rfl) ?_
  intro p e s m args below meth c H locs ls E hr hlocks hm hK hN hP hS hl
  have hl : lv_has ls 1 [(0, .ref q)] := hl
  refine lv_aload_n E.1 E.2.1 dJ1_init_0 rfl (lv_at hl 0 rfl) ?_
  refine n_go (va_runI (As := []) (rest := []) E (nm_J0 l (s0 := s0) D K q [v0, v1, v2]) (cwI 0 E.2.2.2.2 (lw_meth q105) rfl rfl rfl (E.2.2.2.2 _ q55) (E.2.2.2.2 _ q103) (E.2.2.2.2 _ q104) rfl (by decide +kernel) ⟨Nat.le_of_ble_eq_true rfl, Nat.le_of_ble_eq_true rfl⟩) (n_preS hK hN hP) rfl rfl hl.1 rfl (lv_room (Nat.le_of_ble_eq_true rfl)) dJ1_init_1 ⟨Nat.le_of_ble_eq_true rfl, Nat.le_of_ble_eq_true rfl⟩) hS (fun H locs hP hS => ?_)
  refine lv_aload_n E.1 E.2.1 dJ1_init_4 rfl (lv_at hl 0 rfl) ?_
  refine lv_iconst (v := (0 : Int32)) E.1 E.2.1 dJ1_init_5 (by decide) ?_
  refine va_put E.1 E.2.1 E.2.2.2.2 in_J2 tyJ2 tyJ2_ok nmJ2 E.2.2.2.1 hK hP n_D hS 0 rfl (ci := 2) (C := RJ2) (T := TJ2) (N := 3) rfl 0 (by decide) (E.2.2.2.2 _ q111) (fun _ h => h) rfl (ty := .int) (by decide +kernel) rfl rfl (Nat.le_of_ble_eq_true rfl) dJ1_init_6 (fun H locs hP _ hS => ?_)
  exact n_ret E hr hlocks hP hS dJ1_init_9
/-- a constructor that reads a static -/
abbrev nPx (D : va_G) (K : Nat → ClassId) (s0 : State) (q ci : Nat) (vs : List Value) (av : List Value) : Array Value → State → Prop := va_Pc av (fun U => va_P D vCl [(q, .inr (ci, vs))] U.heap ∧ va_K D vCl (cT K) U ∧ xE s0 U)
theorem nx_preS {s : State} {H : Heap} {D : va_G} {K : Nat → ClassId} {s0 : State} {q ci : Nat} {vs As : List Value} {A1 : Nat → Prop} {locs : List Loc} (hAl : ∀ q, A1 q → s0.heap.size ≤ q) (hX : xE s0 s) (hS : va_S A1 s.heap H locs) (hK : va_K D vCl (cT K) s) (hP : va_P D vCl [(q, .inr (ci, vs))] H) : PreS s H (nPx D K s0 q ci vs As) As :=
  ⟨fun a U g mk q => by obtain ⟨q0, qP, qK, qN⟩ := q; exact ⟨q0, qP, va_K.moved (u := U) (U := U.calling g mk a) (Vm.Alike.refl U.vm) qK, qN⟩, fun U hU hW => ⟨rfl, by rw [hU]; exact hP, va_K.moved hW.alike hK, xE_at hAl hX hS hU hW⟩⟩
set_option maxHeartbeats 1000000 in
theorem nm_J2 (l : Launch) {s0 : State} (D : va_G) (K : Nat → ClassId) (q b : Nat) (v0 v1 : Value) (n : Int32) (hE : jE0 s0 b) (hq : s0.heap.size ≤ q) : Met l yJ2_init (ws_ yJ2_init cJ2_init 1 none) rmN2 (nPx D K s0 q 2 [v0, v1, .int n] [.ref q]) (nQ D q 2 [.int 0, .ref b, .int n]) 0 0 (fun x => x = q) := by
  refine gx_start RJ2 (by decide) rfl (Nat.le_of_ble_eq_true rfl) ?_
  intro p e s m args below meth c ls E hr hlocks _ hC hl
  obtain ⟨hP, hK, hX⟩ := hC
  have hN := hX.1
  have hS : va_S (fun x => x = q) s.heap s.heap [] := va_S.rf
  obtain ⟨hZ, -⟩ := jE_at hE hX (A1 := fun x => x = q) (fun x hx => by rw [hx]; exact hq)
  have hl : lv_has ls 1 [(0, .ref q)] := hl
  refine lv_aload_n E.1 E.2.1 dJ2_init_0 rfl (lv_at hl 0 rfl) ?_
  refine n_go (va_runI (As := []) (rest := []) E (nm_J1 l (s0 := s0) D K q v0 v1 (.int n)) (cwI 0 E.2.2.2.2 (lw_meth q102) rfl rfl rfl (E.2.2.2.2 _ q56) (E.2.2.2.2 _ q100) (E.2.2.2.2 _ q101) rfl (by decide +kernel) ⟨Nat.le_of_ble_eq_true rfl, Nat.le_of_ble_eq_true rfl⟩) (n_preS hK hN hP) rfl rfl hl.1 rfl (lv_room (Nat.le_of_ble_eq_true rfl)) dJ2_init_1 ⟨Nat.le_of_ble_eq_true rfl, Nat.le_of_ble_eq_true rfl⟩) hS (fun H locs hP hS => ?_)
  refine lv_aload_n E.1 E.2.1 dJ2_init_4 rfl (lv_at hl 0 rfl) ?_
  refine va_gets E.1 E.2.1 hZ hS E.2.2.2.1 (E.2.2.2.2 _ q107) (fun _ h => h) dJ2_init_5 ?_
  refine j_elem (A := fun x => x = q) E hK hP n_D hS dJ2_init_8 (fun H locs hP _ hS => ?_)
  exact n_ret E hr hlocks hP hS dJ2_init_11
abbrev rmJ2_init_2 : Room := { frames := 4, cells := 1, slots := 5, locals := 150 }
set_option maxHeartbeats 1000000 in
theorem jm_init_2 (l : Launch) {s0 : State} {a0 : Array Value} {A : Nat → Prop} (hT : ∀ w ∈ lw_tbl, w.before a0 s0 = true) (D : va_G) (K : Nat → ClassId) (q : Nat) (hAq : A q) : Met l yJ2_init_2 (ws_ yJ2_init_2 cJ2_init_2 2 none) rmJ2_init_2 (jAPc D K s0 A [(q, .inr (2, [.int 0, .null, .int 0]))] [.ref q, .int 5]) (jGQ D K q 0 0 (fun _ => none) 5 (fun _ => none)) 1 5 A := by
  refine gx_start RJ2 (by decide) rfl (Nat.le_of_ble_eq_true rfl) ?_
  intro p e s m args below meth c ls E hr hlocks _ hC hl
  obtain ⟨hP, hK, hX, hA⟩ := hC
  have hN := hX.1
  have hSq : va_S (fun x => x = q) s.heap s.heap [] := va_S.rf
  have hl : lv_has ls 2 [(0, .ref q), (1, .int 5)] := hl
  refine lv_aload_n E.1 E.2.1 dJ2_init_2_0 rfl (lv_at hl 0 rfl) ?_
  refine n_go (va_runI (As := []) (rest := []) E (nm_J1 l (s0 := s0) D K q (.int 0) .null (.int 0)) (cwI 0 E.2.2.2.2 (lw_meth q102) rfl rfl rfl (E.2.2.2.2 _ q56) (E.2.2.2.2 _ q100) (E.2.2.2.2 _ q101) rfl (by decide +kernel) ⟨Nat.le_of_ble_eq_true rfl, Nat.le_of_ble_eq_true rfl⟩) (n_preS hK hN hP) rfl rfl hl.1 rfl (lv_room (Nat.le_of_ble_eq_true rfl)) dJ2_init_2_1 ⟨Nat.le_of_ble_eq_true rfl, Nat.le_of_ble_eq_true rfl⟩) hSq (fun H locs hP hS => ?_)
  have hS : va_S (fun x => x = q ∨ s.heap.size ≤ x) s.heap H locs := ⟨hS.1, fun x h1 h2 => hS.2.1 x h1 (fun h => h2 (Or.inl h)), fun x hx => Or.inl (hS.2.2 x hx)⟩
  have hD : va_D (fun x => x = q ∨ s.heap.size ≤ x) [(q, (.inr (2, [.int 0, .null, .int 0]) : va_E))] := a1_D
  refine lv_iload_n E.1 E.2.1 dJ2_init_2_4 rfl (lv_at hl 1 rfl) ?_
  refine lv_if_le (tgt := 19) E.1 E.2.1 dJ2_init_2_5 (by decide) (fun h => absurd h (by decide)) (fun _ => ?_)
  refine lv_aload_n E.1 E.2.1 dJ2_init_2_8 rfl (lv_at hl 0 rfl) ?_
  refine lv_iload_n E.1 E.2.1 dJ2_init_2_9 rfl (lv_at hl 1 rfl) ?_
  refine va_newq (N' := 5) E.1 E.2.1 E.2.2.2.1 (E.2.2.2.2 _ q448) (va_AO.moved hX.1.alike (va_AO.of (hT _ q441))) hK hP hD hS (fun q hq => Or.inr hq) (by decide) (by decide) (by decide) (Nat.le_of_ble_eq_true rfl) (Nat.le_of_ble_eq_true rfl) dJ2_init_2_10 (fun e1 cA H hK1 hP hD hS => ?_)
  have hcA : cA = K 3 := kA_o (hK1.2 3 (K 3, .object "java/lang/Object") rfl).2 (hK1.2 5 (cA, .object "java/lang/Object") rfl).2
  subst hcA
  have hqn : s.heap.size ≤ e1 := by
    rcases hD.2 1 _ rfl with e1 | e1
    · exact absurd (hD.1 0 1 _ _ rfl rfl e1.symm) (by decide)
    · exact e1
  refine j_elem E hK hP hD hS dJ2_init_2_13 (fun H locs hP hD hS => ?_)
  refine lv_goto (tgt := 60) E.1 E.2.1 dJ2_init_2_16 (by decide) ?_
  exact W.vret E.1 E.2.1 hr (fun t ht _ => ⟨⟨e1, rfl, by rw [ht]; exact hP, hqn⟩, ⟨(hS.F ht).1, fun x h1 h2 => (hS.F ht).2 x h1 (fun h3 => h3.elim h2 (fun h4 => absurd h4 (by omega)))⟩⟩) (fun x hx => (hS.2.2 x hx).elim (fun h => by rw [h]; exact hAq) (fun h => hA _ h)) dJ2_init_2_60 hlocks
