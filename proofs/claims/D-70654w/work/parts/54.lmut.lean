/-! ArrayList.set -/
abbrev jW (K : Nat → ClassId) (h : Nat) (mc : Int32) (e0 : Nat) (n : Int32) (cap : Nat) (f : Nat → Option Nat) : va_W := [jL h mc e0 n, (e0, .inl (K 3, rqs cap f))]
abbrev jPx (D : va_G) (K : Nat → ClassId) (ws : va_W) (v : Nat) (av : List Value) : Array Value → State → Prop := va_Pc av (fun U => (va_P D vCl ws U.heap ∧ va_K D vCl (cT K) U) ∧ va_Any "java/lang/Object" U U.heap v)
abbrev jQ (D : va_G) (ws : va_W) (F : Nat → Prop) (v : Option Value) : Array Value → State → Outcome → State → Prop := fun _ st o t => (o = .returned v ∧ va_P D vCl ws t.heap) ∧ va_F F st t
theorem any_moved {E : String} {u U : State} {H : Heap} {a : Nat} (hvm : u.vm.Alike U.vm) (h : va_Any E u H a) : va_Any E U H a := by
  obtain ⟨cell, h1, h2, ⟨kC, hk⟩, h4⟩ := h
  obtain ⟨k', hk', -⟩ := hvm.2.2 _ _ hk
  exact ⟨cell, h1, h2, ⟨k', hk'⟩, fun comp hc => by rw [hvm.findClass] at hc; rw [hvm.assignable]; exact h4 comp hc⟩
theorem any_of {s : State} {H : Heap} {C E : String} {a : Nat} (hn : va_Nw (.castable C E) s) (hc : ∃ cell : Cell, H[a]? = some cell ∧ cell.vm.isStatics = false ∧ s.vm.findClass C = some cell.cls) : va_Any E s H a := by
  obtain ⟨cell, h1, h2, h3⟩ := hc
  obtain ⟨kC, hkC, -⟩ := Vm.findClass_spec h3
  refine ⟨cell, h1, h2, ⟨kC, hkC⟩, fun comp hcomp => ?_⟩
  obtain ⟨c1, t1, w1, w2, w3⟩ := Cond.castable_spec (va_Nw.use (A := #[]) rfl hn)
  cases h3.symm.trans w1
  cases hcomp.symm.trans w2
  exact w3
theorem jW_D {K : Nat → ClassId} {h : Nat} {mc : Int32} {e0 : Nat} {n : Int32} {cap : Nat} {f : Nat → Option Nat} {F : Nat → Prop} (hne : h ≠ e0) (h1 : F h) (h2 : F e0) : va_D F (jW K h mc e0 n cap f) := by
  refine ⟨fun i j a b hi hj e => ?_, fun k x hk => ?_⟩
  · have l1 := (List.getElem?_eq_some_iff.mp hi).1
    have l2 := (List.getElem?_eq_some_iff.mp hj).1
    simp at l1 l2
    rcases (show (i = 0 ∨ i = 1) from by omega) with rfl | rfl <;> rcases (show (j = 0 ∨ j = 1) from by omega) with rfl | rfl
    · rfl
    · cases hi; cases hj; exact absurd e hne
    · cases hi; cases hj; exact absurd e.symm hne
    · rfl
  · have l1 := (List.getElem?_eq_some_iff.mp hk).1
    simp at l1
    rcases (show (k = 0 ∨ k = 1) from by omega) with rfl | rfl
    · cases hk; exact h1
    · cases hk; exact h2
set_option maxHeartbeats 1000000 in
theorem jm_set (l : Launch) (D : va_G) (K : Nat → ClassId) (h : Nat) (mc : Int32) (e0 : Nat) (n : Int32) (cap : Nat) (f : Nat → Option Nat) (i : Int32) (v : Nat) (hne : h ≠ e0) (hi : vp_in i cap) (h0 : ¬ i < 0) (h1 : i < n) : Met l yJ2_set (ws_ yJ2_set cJ2_set 4 (some (.object "java/lang/Object"))) rmJ2_get (jPx D K (jW K h mc e0 n cap f) v [.ref h, .int i, .ref v]) (jQ D (jW K h mc e0 n cap (va_up f i.toNatClampNeg (some v))) (fun x => x = h ∨ x = e0) (some (va_rf (f i.toNatClampNeg)))) 0 0 (fun x => x = h ∨ x = e0) := by
  refine gx_start RJ2 (by decide) rfl (Nat.le_of_ble_eq_true rfl) ?_
  intro p e s m args below meth c ls E hr hlocks _ hC hl
  obtain ⟨⟨hP, hK⟩, hv⟩ := hC
  have hD : va_D (fun x => x = h ∨ x = e0) (jW K h mc e0 n cap f) := jW_D hne (Or.inl rfl) (Or.inr rfl)
  have hl : lv_has ls 4 [(0, .ref h), (1, .int i), (2, .ref v)] := hl
  refine lv_iload_n E.1 E.2.1 dJ2_set_0 rfl (lv_at hl 1 rfl) ?_
  refine lv_aload_n E.1 E.2.1 dJ2_set_1 rfl (lv_at hl 0 rfl) ?_
  refine va_get E.1 E.2.1 E.2.2.2.2 in_J2 E.2.2.2.1 hK hP 0 rfl (ci := 2) (C := RJ2) (T := TJ2) (N := 3) rfl 2 (by decide) (E.2.2.2.2 _ q110) (fun _ h => h) rfl dJ2_set_2 ?_
  refine px_call (As := [.int i, .int n]) (rest := []) (v := .int i) E (mm_J14_checkIndex l i n _ (j_ci h0 h1)) (va_cwS 2 E.2.2.2.2 (lw_S q189 q190 q74 q191) rfl rfl rfl (by decide +kernel) ⟨Nat.le_of_ble_eq_true rfl, Nat.le_of_ble_eq_true rfl⟩) hl rfl rfl (Nat.le_of_ble_eq_true rfl) ⟨Nat.zero_le _, Nat.zero_le _⟩ dJ2_set_5 ?_
  refine lv_pop E.1 E.2.1 dJ2_set_8 rfl ?_
  refine lv_aload_n E.1 E.2.1 dJ2_set_9 rfl (lv_at hl 0 rfl) ?_
  refine lv_iload_n E.1 E.2.1 dJ2_set_10 rfl (lv_at hl 1 rfl) ?_
  refine px_go (va_runV (As := [.int i]) (rest := []) E (jm_elementData l D K h mc e0 n cap f i hi) (cwV 1 E.2.2.2.2 (lw_V q195 q196 q197 q57 q198) rfl rfl rfl (by decide +kernel) ⟨Nat.le_of_ble_eq_true rfl, Nat.le_of_ble_eq_true rfl⟩) (j_pre hK hP (va_recv hK hP (ci := 2) (q0 := 0) (q := (RJ2, TJ2, 3)) rfl rfl)) rfl rfl hl.1 rfl (lv_room (Nat.le_of_ble_eq_true rfl)) dJ2_set_11 ⟨Nat.zero_le _, Nat.zero_le _⟩) ?_
  have go : ∀ ls : Array Slot, lv_has ls 4 [(3, va_rf (f i.toNatClampNeg)), (0, .ref h), (1, .int i), (2, .ref v)] → W p l e rmJ2_get s m args below meth c s.heap [] 0 0 (MQ below (jQ D (jW K h mc e0 n cap (va_up f i.toNatClampNeg (some v))) (fun x => x = h ∨ x = e0) (some (va_rf (f i.toNatClampNeg)))) args s 0 0 (fun x => x = h ∨ x = e0)) (F0 m 15 ls []) := by
    intro ls hl
    refine lv_aload_n E.1 E.2.1 dJ2_set_15 rfl (lv_at hl 1 rfl) ?_
    refine va_get E.1 E.2.1 E.2.2.2.2 in_J2 E.2.2.2.1 hK hP 0 rfl (ci := 2) (C := RJ2) (T := TJ2) (N := 3) rfl 1 (by decide) (E.2.2.2.2 _ q109) (fun _ h => h) rfl dJ2_set_16 ?_
    refine lv_iload_n E.1 E.2.1 dJ2_set_19 rfl (lv_at hl 2 rfl) ?_
    refine lv_aload_n E.1 E.2.1 dJ2_set_20 rfl (lv_at hl 3 rfl) ?_
    refine va_astqM E.1 E.2.1 hK hP hD va_S.rf 1 3 rfl rfl hv hi dJ2_set_21 (fun H locs hP _ hS => ?_)
    cases hf : f i.toNatClampNeg with
    | none =>
      rw [hf] at hl
      refine lv_aload_nN E.1 E.2.1 dJ2_set_22 rfl (lv_at hl 0 rfl) ?_
      exact W.aret E.1 E.2.1 hr (Or.inl ⟨_, rfl⟩) (Or.inl rfl) (fun t ht _ => ⟨⟨rfl, by rw [ht]; exact hP⟩, hS.F ht⟩) hS.2.2 dJ2_set_23 hlocks
    | some a =>
      rw [hf] at hl
      refine lv_aload_n E.1 E.2.1 dJ2_set_22 rfl (lv_at hl 0 rfl) ?_
      exact W.aret E.1 E.2.1 hr (Or.inl ⟨_, rfl⟩) (Or.inr ⟨_, rfl⟩) (fun t ht _ => ⟨⟨rfl, by rw [ht]; exact hP⟩, hS.F ht⟩) hS.2.2 dJ2_set_23 hlocks
  cases hf : f i.toNatClampNeg with
  | none =>
    refine lv_astore_nN (lv' := [(3, .null), (0, .ref h), (1, .int i), (2, .ref v)]) E.1 E.2.1 dJ2_set_14 rfl hl (by decide) rfl (fun ls hl => ?_)
    rw [← hf]
    exact go ls (by rw [hf]; exact hl)
  | some a =>
    refine lv_astore_n (lv' := [(3, .ref a), (0, .ref h), (1, .int i), (2, .ref v)]) E.1 E.2.1 dJ2_set_14 rfl hl (by decide) rfl (fun ls hl => ?_)
    rw [← hf]
    exact go ls (by rw [hf]; exact hl)
