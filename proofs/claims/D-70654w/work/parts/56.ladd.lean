/-! ArrayList.add where there is room -/
theorem jx_blind {D : va_G} {K : Nat → ClassId} {ws : va_W} {v : Nat} {av : List Value} : FrameBlind (jPx D K ws v av) := by
  intro a U g mk q
  obtain ⟨q0, ⟨qP, qK⟩, qA⟩ := q
  exact ⟨q0, ⟨qP, va_K.moved (u := U) (U := U.calling g mk a) (Vm.Alike.refl U.vm) qK⟩, any_moved (u := U) (U := U.calling g mk a) (Vm.Alike.refl U.vm) qA⟩
theorem jx_pre {s : State} {H : Heap} {D : va_G} {K : Nat → ClassId} {ws : va_W} {C : String} {b v : Nat} {As : List Value} (hK : va_K D vCl (cT K) s) (hP : va_P D vCl ws H) (hv : va_Any "java/lang/Object" s H v) (hc : ∃ cellB : Cell, H[b]? = some cellB ∧ cellB.vm.isStatics = false ∧ s.vm.findClass C = some cellB.cls) : PreV s H C b (jPx D K ws v (.ref b :: As)) As :=
  ⟨jx_blind, hc, fun U hU hW => ⟨rfl, ⟨by rw [hU]; exact hP, va_K.moved hW.alike hK⟩, by rw [hU]; exact any_moved hW.alike hv⟩⟩
/-- an object stays one while other cells are written -/
theorem any_kept {E : String} {s : State} {H H1 : Heap} {a : Nat} (h : va_Any E s H a) (hq : H1[a]? = H[a]?) : va_Any E s H1 a := by
  obtain ⟨cell, h1, h2⟩ := h
  exact ⟨cell, by rw [hq]; exact h1, h2⟩
theorem any_S {E : String} {s : State} {H : Heap} {locs : List Loc} {A : Nat → Prop} {a : Nat} (h : va_Any E s s.heap a) (hS : va_S A s.heap H locs) (ha : ¬ A a) : va_Any E s H a := by
  obtain ⟨cell, h1, h2⟩ := h
  exact ⟨cell, by rw [hS.2.1 a (Array.getElem?_eq_some_iff.mp h1).1 ha]; exact h1, h2⟩
set_option maxHeartbeats 1000000 in
theorem jm_add_2 (l : Launch) (D : va_G) (K : Nat → ClassId) (h : Nat) (mc : Int32) (e0 k cap v : Nat) (f : Nat → Option Nat) (hne : h ≠ e0) (hk : k < cap) (hcap : cap < 2 ^ 31 - 1) : Met l yJ2_add_2 (ws_ yJ2_add_2 cJ2_add_2 4 none) rmJ2_frem (jPx D K (jW K h mc e0 (nI k) cap f) v [.ref h, .ref v, .ref e0, .int (nI k)]) (jQ D (jW K h mc e0 (nI (k + 1)) cap (va_up f k (some v))) (jF h e0) none) 0 0 (jF h e0) := by
  refine gx_start RJ2 (by decide) rfl (Nat.le_of_ble_eq_true rfl) ?_
  intro p e s m args below meth c ls E hr hlocks _ hC hl
  obtain ⟨⟨hP, hK⟩, hv⟩ := hC
  have hD : va_D (jF h e0) (jW K h mc e0 (nI k) cap f) := jW_D hne (Or.inl rfl) (Or.inr rfl)
  have hS : va_S (jF h e0) s.heap s.heap [] := va_S.rf
  have hl : lv_has ls 4 [(0, .ref h), (1, .ref v), (2, .ref e0), (3, .int (nI k))] := hl
  refine lv_iload_n E.1 E.2.1 dJ2_add_2_0 rfl (lv_at hl 3 rfl) ?_
  refine lv_aload_n E.1 E.2.1 dJ2_add_2_1 rfl (lv_at hl 2 rfl) ?_
  refine va_alen (v := nI cap) E.1 E.2.1 hK hP 1 3 rfl rfl rfl dJ2_add_2_2 ?_
  refine lv_icmp_ne (tgt := 11) E.1 E.2.1 dJ2_add_2_3 (by decide) (fun _ => ?_) (fun h => absurd ((nI_eq (by omega) (by omega)).mp h) (by omega))
  refine lv_aload_n E.1 E.2.1 dJ2_add_2_11 rfl (lv_at hl 2 rfl) ?_
  refine lv_iload_n E.1 E.2.1 dJ2_add_2_12 rfl (lv_at hl 3 rfl) ?_
  refine lv_aload_n E.1 E.2.1 dJ2_add_2_13 rfl (lv_at hl 1 rfl) ?_
  refine va_astqM E.1 E.2.1 hK hP hD hS 1 3 rfl rfl hv (vp_in_nI hk (by omega)) dJ2_add_2_14 (fun H locs hP hD hS => ?_)
  have hP : va_P D vCl (jW K h mc e0 (nI k) cap (va_up f (nI k).toNatClampNeg (some v))) H := hP
  rw [nI_clamp (by omega)] at hP
  have hD : va_D (jF h e0) (jW K h mc e0 (nI k) cap (va_up f k (some v))) := jW_D hne (Or.inl rfl) (Or.inr rfl)
  refine lv_aload_n E.1 E.2.1 dJ2_add_2_15 rfl (lv_at hl 0 rfl) ?_
  refine lv_iload_n E.1 E.2.1 dJ2_add_2_16 rfl (lv_at hl 3 rfl) ?_
  refine lv_iconst (v := (1 : Int32)) E.1 E.2.1 dJ2_add_2_17 (by decide) ?_
  refine lv_iadd E.1 E.2.1 dJ2_add_2_18 ?_
  rw [nI_1]
  refine j_size E hK hP hD hS dJ2_add_2_19 (fun H locs hP hD hS => ?_)
  exact W.vret E.1 E.2.1 hr (fun t ht _ => ⟨⟨rfl, by rw [ht]; exact hP⟩, hS.F ht⟩) hS.2.2 dJ2_add_2_22 hlocks
abbrev rmJ2_add : Room := { frames := 2, cells := 0, slots := 0, locals := 60 }
set_option maxHeartbeats 1000000 in
theorem jm_add (l : Launch) (D : va_G) (K : Nat → ClassId) (h : Nat) (mc : Int32) (e0 k cap v : Nat) (f : Nat → Option Nat) (hne : h ≠ e0) (hvn : v ≠ h ∧ v ≠ e0) (hk : k < cap) (hcap : cap < 2 ^ 31 - 1) : Met l yJ2_add (ws_ yJ2_add cJ2_add 2 (some .boolean)) rmJ2_add (jPx D K (jW K h mc e0 (nI k) cap f) v [.ref h, .ref v]) (jQ D (jW K h (mc + 1) e0 (nI (k + 1)) cap (va_up f k (some v))) (jF h e0) (some (.int 1))) 0 0 (jF h e0) := by
  refine gx_start RJ2 (by decide) rfl (Nat.le_of_ble_eq_true rfl) ?_
  intro p e s m args below meth c ls E hr hlocks _ hC hl
  obtain ⟨⟨hP, hK⟩, hv⟩ := hC
  have hD : va_D (jF h e0) (jW K h mc e0 (nI k) cap f) := jW_D hne (Or.inl rfl) (Or.inr rfl)
  have hS : va_S (jF h e0) s.heap s.heap [] := va_S.rf
  have hl : lv_has ls 2 [(0, .ref h), (1, .ref v)] := hl
  refine lv_aload_n E.1 E.2.1 dJ2_add_0 rfl (lv_at hl 0 rfl) ?_
  refine j_mod E hK hP hD hS hl.1 trivial dJ2_add_1 dJ2_add_2 dJ2_add_5 dJ2_add_6 dJ2_add_7 (fun H locs hP hD hS => ?_)
  refine lv_aload_n E.1 E.2.1 dJ2_add_10 rfl (lv_at hl 0 rfl) ?_
  refine lv_aload_n E.1 E.2.1 dJ2_add_11 rfl (lv_at hl 1 rfl) ?_
  refine lv_aload_n E.1 E.2.1 dJ2_add_12 rfl (lv_at hl 0 rfl) ?_
  refine va_get E.1 E.2.1 E.2.2.2.2 in_J2 E.2.2.2.1 hK hP 0 rfl (ci := 2) (C := RJ2) (T := TJ2) (N := 3) rfl 1 (by decide) (E.2.2.2.2 _ q109) (fun _ h => h) rfl dJ2_add_13 ?_
  refine lv_aload_n E.1 E.2.1 dJ2_add_16 rfl (lv_at hl 0 rfl) ?_
  refine va_get E.1 E.2.1 E.2.2.2.2 in_J2 E.2.2.2.1 hK hP 0 rfl (ci := 2) (C := RJ2) (T := TJ2) (N := 3) rfl 2 (by decide) (E.2.2.2.2 _ q110) (fun _ h => h) rfl dJ2_add_17 ?_
  refine j_go (va_runV (As := [.ref v, .ref e0, .int (nI k)]) (rest := []) E (jm_add_2 l D K h (mc + 1) e0 k cap v f hne hk hcap) (cwV 3 E.2.2.2.2 (lw_V q392 q394 qs15 q57 q395) rfl rfl rfl (by decide +kernel) ⟨Nat.le_of_ble_eq_true rfl, Nat.le_of_ble_eq_true rfl⟩) (jx_pre hK hP (any_S hv hS (fun h => h.elim hvn.1 hvn.2)) (va_recv hK hP (ci := 2) (q0 := 0) (q := (RJ2, TJ2, 3)) rfl rfl)) rfl rfl hl.1 rfl (lv_room (Nat.le_of_ble_eq_true rfl)) dJ2_add_20 ⟨Nat.zero_le _, Nat.zero_le _⟩) hS (fun H locs hP hS => ?_)
  refine lv_iconst (v := (1 : Int32)) E.1 E.2.1 dJ2_add_23 (by decide) ?_
  exact W.zret E.1 E.2.1 hr (by decide) (fun t ht _ => ⟨⟨rfl, by rw [ht]; exact hP⟩, hS.F ht⟩) hS.2.2 dJ2_add_24 hlocks
