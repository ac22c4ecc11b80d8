/-! copyOf, toArray, addAll -/
section JCGO
variable {p : Program} {l : Launch} {e : Env} {R : Room} {s : State} {m : MethodId} {args : Array Value} {below : List Frame} {meth : Method} {c : Code} {H : Heap} {locs : List Loc} {cells slots : Nat} {Q : State → Prop} {cc : ByteArray} {nL pc : Nat} {rest : List Value} {ls : Array Slot} {D : va_G} {K : Nat → ClassId} {A1 : Nat → Prop}
theorem jC_go {mc ms n : Nat} {av : Array Value} {f : Nat → Option Nat} {st0 : List Value} (hr : va_Run p l e R s m args below meth c H locs cells slots mc ms (F0 m pc ls st0) rest (jCQ D K n f av) A1) (hS : va_S A1 s.heap H locs)
    (kk : ∀ (a1 : Nat) (g : Nat → Option Nat) (H1 : Heap) (locs : List Loc), va_P D vCl [(a1, .inl (K 3, rqs n g))] H1 → (∀ i, i < n → g i = f i) → H.size ≤ a1 → (∀ q, q < H.size → H1[q]? = H[q]?) → va_S A1 s.heap H1 locs → W p l e R s m args below meth c H1 locs (cells + mc) (slots + ms) Q (F0 m (pc + 3) ls (.ref a1 :: rest))) : W p l e R s m args below meth c H locs cells slots Q (F0 m pc ls st0) := by
  intro T hT X
  obtain ⟨v', st₀, t, T', L, h0, X', hL, h1, -, ⟨⟨a1, g, hq, hq2, hqg, hqn⟩, hq3⟩, st⟩ := hr T hT X
  cases hq
  rw [h0] at hqn
  obtain ⟨t2, c1, c2⟩ := kk a1 g t.heap (locs ++ L) hq2 hqg hqn (fun q g1 => by have := hq3.2 q (by rw [h0]; exact g1) (fun h => h); rw [h0] at this; exact this) (vS_call hS h0 hq3 (fun q _ h => h.elim) hL rfl) T' h1 X'
  exact ⟨t2, st t2 c1, c2⟩
theorem jC_go5 {mc ms n : Nat} {av : Array Value} {f : Nat → Option Nat} {st0 : List Value} (hr : va_Run5 p l e R s m args below meth c H locs cells slots mc ms (F0 m pc ls st0) rest (jCQ D K n f av) A1) (hS : va_S A1 s.heap H locs)
    (kk : ∀ (a1 : Nat) (g : Nat → Option Nat) (H1 : Heap) (locs : List Loc), va_P D vCl [(a1, .inl (K 3, rqs n g))] H1 → (∀ i, i < n → g i = f i) → H.size ≤ a1 → (∀ q, q < H.size → H1[q]? = H[q]?) → va_S A1 s.heap H1 locs → W p l e R s m args below meth c H1 locs (cells + mc) (slots + ms) Q (F0 m (pc + 5) ls (.ref a1 :: rest))) : W p l e R s m args below meth c H locs cells slots Q (F0 m pc ls st0) := by
  intro T hT X
  obtain ⟨v', st₀, t, T', L, h0, X', hL, h1, -, ⟨⟨a1, g, hq, hq2, hqg, hqn⟩, hq3⟩, st⟩ := hr T hT X
  cases hq
  rw [h0] at hqn
  obtain ⟨t2, c1, c2⟩ := kk a1 g t.heap (locs ++ L) hq2 hqg hqn (fun q g1 => by have := hq3.2 q (by rw [h0]; exact g1) (fun h => h); rw [h0] at this; exact this) (vS_call hS h0 hq3 (fun q _ h => h.elim) hL rfl) T' h1 X'
  exact ⟨t2, st t2 c1, c2⟩
end JCGO
abbrev rmJ18_copyOf : Room := { frames := 4, cells := 1, slots := 10, locals := 120 }
set_option maxHeartbeats 1000000 in
theorem jm_copyOf (l : Launch) {s0 : State} {a0 : Array Value} {A : Nat → Prop} (hT : ∀ w ∈ lw_tbl, w.before a0 s0 = true) (D : va_G) (K : Nat → ClassId) (e2 n cap mir : Nat) (f : Nat → Option Nat) (hM : mirE s0 mir) (hn : n ≤ 10) (hnc : n ≤ cap) (hcap : cap < 2 ^ 31) (he2 : s0.heap.size ≤ e2) (hAe : A e2) : Met l yJ18_copyOf (ws_ yJ18_copyOf cJ18_copyOf 2 (some (.array (.object "java/lang/Object")))) rmJ18_copyOf (jCPc D K s0 A [(e2, .inl (K 3, rqs cap f))] n f [.ref e2, .int (nI n)]) (jCQ D K n f) 1 10 A := by
  refine gx_start RJ18 (by decide) rfl (Nat.le_of_ble_eq_true rfl) ?_
  intro p e s m args below meth c ls E hr hlocks _ hC hl
  obtain ⟨⟨hP, hK, hX, hA⟩, hany⟩ := hC
  have hMs := hM.warm hX.1
  have hS : va_S (fun x => x = e2 ∨ s.heap.size ≤ x) s.heap s.heap [] := va_S.rf
  have hA1 : ∀ q, (fun x => x = e2 ∨ s.heap.size ≤ x) q → s0.heap.size ≤ q := fun q hq => by
    rcases hq with rfl | hq
    · exact he2
    · exact Nat.le_trans hX.2.1 hq
  have hl : lv_has ls 2 [(0, .ref e2), (1, .int (nI n))] := hl
  refine lv_aload_n E.1 E.2.1 dJ18_copyOf_0 rfl (lv_at hl 0 rfl) ?_
  refine lv_iload_n E.1 E.2.1 dJ18_copyOf_1 rfl (lv_at hl 1 rfl) ?_
  refine lv_aload_n E.1 E.2.1 dJ18_copyOf_2 rfl (lv_at hl 0 rfl) ?_
  refine lv_getC E hMs q415 (E.2.2.2.2 _ q1459) (arr_recv hK hP (q0 := 0) rfl) hl ⟨Nat.le_of_ble_eq_true rfl, Nat.le_of_ble_eq_true rfl⟩ dJ18_copyOf_3 ?_
  refine jC_go (A1 := fun x => x = e2 ∨ s.heap.size ≤ x) (va_runS (As := [.ref e2, .int (nI n), .ref mir]) (rest := []) E (jm_copyOf_2 l (A := fun x => x = e2 ∨ s.heap.size ≤ x) hT D K e2 n cap mir f hM hn hnc hcap (Or.inl rfl)) (va_cwS 3 E.2.2.2.2 (lw_S q437 q438 q81 q439) rfl rfl rfl (by decide +kernel) ⟨Nat.le_of_ble_eq_true rfl, Nat.le_of_ble_eq_true rfl⟩) ⟨jC_blind, fun U hU hW => ⟨rfl, jA_at hA1 (fun q hq => Or.inr hq) hX hK hP hS hU hW, fun i hi y hy => by rw [hU]; exact any_moved hW.alike (hany i hi y hy)⟩⟩ rfl rfl hl.1 rfl (lv_room (Nat.le_of_ble_eq_true rfl)) dJ18_copyOf_6 ⟨Nat.le_of_ble_eq_true rfl, Nat.le_of_ble_eq_true rfl⟩) hS (fun a1 g H1 locs hP1 hg hge hkp hS => ?_)
  exact W.aret E.1 E.2.1 hr (Or.inr ⟨_, rfl⟩) (Or.inr ⟨_, rfl⟩) (fun t ht _ => ⟨⟨a1, g, rfl, by rw [ht]; exact hP1, hg, hge⟩, (hS.F ht).1, fun x h1 _ => by rw [ht]; exact hkp x h1⟩) (fun x hx => (hS.2.2 x hx).elim (fun h => by rw [h]; exact hAe) (fun h => hA _ h)) dJ18_copyOf_9 hlocks
abbrev rmJ2_toArray : Room := { frames := 5, cells := 1, slots := 10, locals := 160 }
set_option maxHeartbeats 1000000 in
theorem jm_toArray (l : Launch) {s0 : State} {a0 : Array Value} {A : Nat → Prop} (hT : ∀ w ∈ lw_tbl, w.before a0 s0 = true) (D : va_G) (K : Nat → ClassId) (h : Nat) (mc : Int32) (e2 n cap mir : Nat) (f : Nat → Option Nat) (hM : mirE s0 mir) (hn : n ≤ 10) (hnc : n ≤ cap) (hcap : cap < 2 ^ 31) (he2 : s0.heap.size ≤ e2) (hAe : A e2) : Met l yJ2_toArray (ws_ yJ2_toArray cJ2_toArray 1 (some (.array (.object "java/lang/Object")))) rmJ2_toArray (jCPc D K s0 A (jW K h mc e2 (nI n) cap f) n f [.ref h]) (jCQ D K n f) 1 10 A := by
  refine gx_start RJ2 (by decide) rfl (Nat.le_of_ble_eq_true rfl) ?_
  intro p e s m args below meth c ls E hr hlocks _ hC hl
  obtain ⟨⟨hP, hK, hX, hA⟩, hany⟩ := hC
  have hS : va_S (fun x => x = e2 ∨ s.heap.size ≤ x) s.heap s.heap [] := va_S.rf
  have hA1 : ∀ q, (fun x => x = e2 ∨ s.heap.size ≤ x) q → s0.heap.size ≤ q := fun q hq => by
    rcases hq with rfl | hq
    · exact he2
    · exact Nat.le_trans hX.2.1 hq
  have hPe : va_P D vCl [(e2, .inl (K 3, rqs cap f))] s.heap := vP_of hP (fun x hx => List.mem_cons_of_mem _ hx)
  have hl : lv_has ls 1 [(0, .ref h)] := hl
  refine lv_aload_n E.1 E.2.1 dJ2_toArray_0 rfl (lv_at hl 0 rfl) ?_
  refine va_get E.1 E.2.1 E.2.2.2.2 in_J2 E.2.2.2.1 hK hP 0 rfl (ci := 2) (C := RJ2) (T := TJ2) (N := 3) rfl 1 (by decide) (E.2.2.2.2 _ q109) (fun _ h => h) rfl dJ2_toArray_1 ?_
  refine lv_aload_n E.1 E.2.1 dJ2_toArray_4 rfl (lv_at hl 0 rfl) ?_
  refine va_get E.1 E.2.1 E.2.2.2.2 in_J2 E.2.2.2.1 hK hP 0 rfl (ci := 2) (C := RJ2) (T := TJ2) (N := 3) rfl 2 (by decide) (E.2.2.2.2 _ q110) (fun _ h => h) rfl dJ2_toArray_5 ?_
  refine jC_go (A1 := fun x => x = e2 ∨ s.heap.size ≤ x) (va_runS (As := [.ref e2, .int (nI n)]) (rest := []) E (jm_copyOf l (A := fun x => x = e2 ∨ s.heap.size ≤ x) hT D K e2 n cap mir f hM hn hnc hcap he2 (Or.inl rfl)) (va_cwS 2 E.2.2.2.2 (lw_S q412 q413 q81 q414) rfl rfl rfl (by decide +kernel) ⟨Nat.le_of_ble_eq_true rfl, Nat.le_of_ble_eq_true rfl⟩) ⟨jC_blind, fun U hU hW => ⟨rfl, jA_at hA1 (fun q hq => Or.inr hq) hX hK hPe hS hU hW, fun i hi y hy => by rw [hU]; exact any_moved hW.alike (hany i hi y hy)⟩⟩ rfl rfl hl.1 rfl (lv_room (Nat.le_of_ble_eq_true rfl)) dJ2_toArray_8 ⟨Nat.le_of_ble_eq_true rfl, Nat.le_of_ble_eq_true rfl⟩) hS (fun a1 g H1 locs hP1 hg hge hkp hS => ?_)
  exact W.aret E.1 E.2.1 hr (Or.inr ⟨_, rfl⟩) (Or.inr ⟨_, rfl⟩) (fun t ht _ => ⟨⟨a1, g, rfl, by rw [ht]; exact hP1, hg, hge⟩, (hS.F ht).1, fun x h1 _ => by rw [ht]; exact hkp x h1⟩) (fun x hx => (hS.2.2 x hx).elim (fun h => by rw [h]; exact hAe) (fun h => hA _ h)) dJ2_toArray_11 hlocks
/-- all of one list into another: what is left -/
abbrev jAQ (D : va_G) (K : Nat → ClassId) (h : Nat) (mc : Int32) (n : Nat) (f : Nat → Option Nat) (P : State → Nat → Prop) (F : Nat → Prop) : Array Value → State → Outcome → State → Prop := fun _ st o t => (∃ (e1 : Nat) (g : Nat → Option Nat), o = .returned (some (.int 1)) ∧ va_P D vCl (jW K h mc e1 (nI n) 10 g) t.heap ∧ (∀ i, i < n → g i = f i) ∧ P st e1) ∧ va_F F st t
abbrev rmJ2_addAll : Room := { frames := 6, cells := 2, slots := 20, locals := 200 }
set_option maxHeartbeats 2000000 in
theorem jm_addAll (l : Launch) {s0 : State} {a0 : Array Value} {A : Nat → Prop} (hT : ∀ w ∈ lw_tbl, w.before a0 s0 = true) (D : va_G) (K : Nat → ClassId) (h : Nat) (mc : Int32) (e0 : Nat) (f0 : Nat → Option Nat) (h2 : Nat) (mc2 : Int32) (e2 n mir : Nat) (f : Nat → Option Nat) (hM : mirE s0 mir) (hn0 : 0 < n) (hn : n ≤ 5) (he2 : s0.heap.size ≤ e2) (hh : s0.heap.size ≤ h) (he0 : s0.heap.size ≤ e0) (hAh : A h) (hA0 : A e0) (hAe : A e2) (hne : h ≠ e0) (hne2 : e2 ≠ h ∧ e2 ≠ e0) (hy : ∀ i, i < n → ∀ y, f i = some y → y ≠ h ∧ y ≠ e0 ∧ y ≠ e2) : Met l yJ2_addAll (ws_ yJ2_addAll cJ2_addAll 6 (some .boolean)) rmJ2_addAll (jCPc D K s0 A (jW K h mc e0 0 10 f0 ++ jW K h2 mc2 e2 (nI n) 5 f) n f [.ref h, .ref h2]) (jAQ D K h (mc + 1) n f (fun _ e1 => e1 = e0) (jF h e0)) 2 20 A := by
  refine gx_start RJ2 (by decide) rfl (Nat.le_of_ble_eq_true rfl) ?_
  intro p e s m args below meth c ls E hr hlocks _ hC hl
  obtain ⟨⟨hP, hK, hX, hA⟩, hany⟩ := hC
  have hN := hX.1
  have hS : va_S (fun x => (x = h ∨ x = e0 ∨ x = e2) ∨ s.heap.size ≤ x) s.heap s.heap [] := va_S.rf
  have hA1 : ∀ q, (fun x => (x = h ∨ x = e0 ∨ x = e2) ∨ s.heap.size ≤ x) q → s0.heap.size ≤ q := fun q hq => by
    rcases hq with (rfl | rfl | rfl) | hq
    · exact hh
    · exact he0
    · exact he2
    · exact Nat.le_trans hX.2.1 hq
  have hP2 : va_P D vCl (jW K h2 mc2 e2 (nI n) 5 f) s.heap := vP_of hP (fun x hx => List.mem_append_right _ hx)
  have hPa : va_P D vCl (jW K h mc e0 0 10 f0) s.heap := vP_of hP (fun x hx => List.mem_append_left _ hx)
  have hlth : h < s.heap.size := (hPa 0 _ rfl).lt
  have hlte : e0 < s.heap.size := (hPa 1 _ rfl).lt
  have hlt2 : e2 < s.heap.size := (hP2 1 _ rfl).lt
  have hl : lv_has ls 6 [(0, .ref h), (1, .ref h2)] := hl
  refine lv_aload_n E.1 E.2.1 dJ2_addAll_0 rfl (lv_at hl 1 rfl) ?_
  refine jC_go5 (A1 := fun x => (x = h ∨ x = e0 ∨ x = e2) ∨ s.heap.size ≤ x) (va_runF (As := []) (rest := []) (hK.1 2 (RJ2, TJ2, 3) rfl).2 E (jm_toArray l (A := fun x => (x = h ∨ x = e0 ∨ x = e2) ∨ s.heap.size ≤ x) hT D K h2 mc2 e2 n 5 mir f hM (by omega) hn (by decide) he2 (Or.inl (Or.inr (Or.inr rfl)))) (va_cwF 0 E.2.2.2.2 (lw_F q912 q916 q918 q57 q920) rfl rfl rfl (cN_I (by decide) hT hN q914 q913 q919 q917 q915) (by decide +kernel) ⟨Nat.le_of_ble_eq_true rfl, Nat.le_of_ble_eq_true rfl⟩) ⟨jC_blind, va_recv hK hP2 (ci := 2) (q0 := 0) (q := (RJ2, TJ2, 3)) rfl rfl, fun U hU hW => ⟨rfl, jA_at hA1 (fun q hq => Or.inr hq) hX hK hP2 hS hU hW, fun i hi y hy => by rw [hU]; exact any_moved hW.alike (hany i hi y hy)⟩⟩ rfl rfl hl.1 rfl (lv_room (Nat.le_of_ble_eq_true rfl)) dJ2_addAll_1 ⟨Nat.le_of_ble_eq_true rfl, Nat.le_of_ble_eq_true rfl⟩) hS (fun a1 g H locs hP1 hg hge hkp hS => ?_)
  have hPw : va_P D vCl (jL h mc e0 0 :: [(e0, .inl (K 3, rqs 10 f0)), (a1, .inl (K 3, rqs n g)), (e2, .inl (K 3, rqs 5 f))]) H := by
    intro k x hk
    rcases k with _ | _ | _ | k
    · cases hk; exact (hPa 0 _ rfl).kept (hkp _ hlth)
    · cases hk; exact (hPa 1 _ rfl).kept (hkp _ hlte)
    · cases hk; exact hP1 0 _ rfl
    · have l1 := (List.getElem?_eq_some_iff.mp hk).1
      simp at l1
      rcases (show k = 0 by omega) with rfl
      cases hk; exact (hP2 1 _ rfl).kept (hkp _ hlt2)
  have hDw : va_D (fun x => (x = h ∨ x = e0 ∨ x = e2) ∨ s.heap.size ≤ x) (jL h mc e0 0 :: [(e0, .inl (K 3, rqs 10 f0)), (a1, .inl (K 3, rqs n g)), (e2, .inl (K 3, rqs 5 f))]) := by
    have hge : s.heap.size ≤ a1 := hge
    refine ⟨fun i j a b hi hj he => ?_, fun k x hk => ?_⟩
    · have l1 := (List.getElem?_eq_some_iff.mp hi).1
      have l2 := (List.getElem?_eq_some_iff.mp hj).1
      simp at l1 l2
      rcases (show i = 0 ∨ i = 1 ∨ i = 2 ∨ i = 3 by omega) with rfl | rfl | rfl | rfl <;> rcases (show j = 0 ∨ j = 1 ∨ j = 2 ∨ j = 3 by omega) with rfl | rfl | rfl | rfl <;> first | rfl | (cases hi; cases hj; simp only at he; omega)
    · have l1 := (List.getElem?_eq_some_iff.mp hk).1
      simp at l1
      rcases (show k = 0 ∨ k = 1 ∨ k = 2 ∨ k = 3 by omega) with rfl | rfl | rfl | rfl
      · cases hk; exact Or.inl (Or.inl rfl)
      · cases hk; exact Or.inl (Or.inr (Or.inl rfl))
      · cases hk; exact Or.inr hge
      · cases hk; exact Or.inl (Or.inr (Or.inr rfl))
  refine lv_astore_n (lv' := [(2, .ref a1), (0, .ref h), (1, .ref h2)]) E.1 E.2.1 dJ2_addAll_6 rfl hl (by decide) rfl (fun ls hl => ?_)
  refine lv_aload_n E.1 E.2.1 dJ2_addAll_7 rfl (lv_at hl 1 rfl) ?_
  refine j_mod E hK hPw hDw hS hl.1 trivial dJ2_addAll_8 dJ2_addAll_9 dJ2_addAll_12 dJ2_addAll_13 dJ2_addAll_14 (fun H locs hP hD hS => ?_)
  refine lv_aload_n E.1 E.2.1 dJ2_addAll_17 rfl (lv_at hl 0 rfl) ?_
  refine va_alen (v := nI n) E.1 E.2.1 hK hP 2 3 rfl rfl rfl dJ2_addAll_18 ?_
  refine lv_istore_n (lv' := [(3, .int (nI n)), (2, .ref a1), (0, .ref h), (1, .ref h2)]) E.1 E.2.1 dJ2_addAll_19 rfl hl (by decide) rfl (fun ls hl => ?_)
  refine lv_iload_n E.1 E.2.1 dJ2_addAll_20 rfl (lv_at hl 0 rfl) ?_
  refine lv_if_ne (tgt := 26) E.1 E.2.1 dJ2_addAll_21 (by decide) (fun _ => ?_) (fun h => absurd h (nI_ne0 hn0 (by omega)))
  refine lv_iload_n E.1 E.2.1 dJ2_addAll_26 rfl (lv_at hl 0 rfl) ?_
  refine lv_aload_n E.1 E.2.1 dJ2_addAll_27 rfl (lv_at hl 2 rfl) ?_
  refine va_get E.1 E.2.1 E.2.2.2.2 in_J2 E.2.2.2.1 hK hP 0 rfl (ci := 2) (C := RJ2) (T := TJ2) (N := 3) rfl 1 (by decide) (E.2.2.2.2 _ q109) (fun _ h => h) rfl dJ2_addAll_28 ?_
  refine lv_dup E.1 E.2.1 dJ2_addAll_31 rfl ?_
  refine lv_astore (lv' := [(4, .ref e0), (3, .int (nI n)), (2, .ref a1), (0, .ref h), (1, .ref h2)]) E.1 E.2.1 dJ2_addAll_32 hl (by decide) rfl (fun ls hl => ?_)
  refine va_alen (v := nI 10) E.1 E.2.1 hK hP 1 3 rfl rfl rfl dJ2_addAll_34 ?_
  refine lv_aload_n E.1 E.2.1 dJ2_addAll_35 rfl (lv_at hl 3 rfl) ?_
  refine va_get E.1 E.2.1 E.2.2.2.2 in_J2 E.2.2.2.1 hK hP 0 rfl (ci := 2) (C := RJ2) (T := TJ2) (N := 3) rfl 2 (by decide) (E.2.2.2.2 _ q110) (fun _ h => h) rfl dJ2_addAll_36 ?_
  refine lv_dup E.1 E.2.1 dJ2_addAll_39 rfl ?_
  refine lv_istore (lv' := [(5, .int (0 : Int32)), (4, .ref e0), (3, .int (nI n)), (2, .ref a1), (0, .ref h), (1, .ref h2)]) E.1 E.2.1 dJ2_addAll_40 hl (by decide) rfl (fun ls hl => ?_)
  refine lv_isub E.1 E.2.1 dJ2_addAll_42 ?_
  refine lv_icmp_le (tgt := 56) E.1 E.2.1 dJ2_addAll_43 (by decide) (fun _ => ?_) (fun h => absurd (show nI n ≤ nI 10 - 0 by rw [Int32.sub_zero]; exact nI_le (by omega) (by decide)) h)
  refine lv_aload_n E.1 E.2.1 dJ2_addAll_56 rfl (lv_at hl 3 rfl) ?_
  refine lv_iconst (v := (0 : Int32)) E.1 E.2.1 dJ2_addAll_57 (by decide) ?_
  refine lv_aload E.1 E.2.1 dJ2_addAll_58 (lv_at hl 1 rfl) ?_
  refine lv_iload E.1 E.2.1 dJ2_addAll_60 (lv_at hl 0 rfl) ?_
  refine lv_iload_n E.1 E.2.1 dJ2_addAll_62 rfl (lv_at hl 2 rfl) ?_
  have hcn : (nI n).toNatClampNeg = n := nI_clamp (by omega)
  have hc0 : (0 : Int32).toNatClampNeg = 0 := by decide
  refine va_copyM E.1 E.2.1 (E.2.2.1.trans hl.1.symm) E.2.2.2.1 (E.2.2.2.2 _ q466) (E.2.2.2.2 _ q359) (E.2.2.2.2 _ q358) (E.2.2.2.2 _ q72) hK hP hD hS 2 1 3 3 rfl rfl rfl rfl (by decide) (by decide) (nI_pos (by omega)) (by rw [hcn, hc0]; omega) (by rw [hcn, hc0]; omega) (fun i hi y hy' => ?_) (Nat.le_of_ble_eq_true rfl) (by decide) dJ2_addAll_63 (fun H locs hP hD hS => ?_)
  · rw [hcn] at hi
    rw [hc0, Nat.zero_add, hg i hi] at hy'
    have hv := hany i hi y hy'
    obtain ⟨y1, y2, y3⟩ := hy i hi y hy'
    exact any_S hv hS (fun q => by
      obtain ⟨cell, hc, -⟩ := hv
      have := (Array.getElem?_eq_some_iff.mp hc).1
      rcases q with (q | q | q) | q
      · exact y1 q
      · exact y2 q
      · exact y3 q
      · omega)
  rw [hcn, hc0] at hP hD
  refine lv_aload_n E.1 E.2.1 dJ2_addAll_66 rfl (lv_at hl 4 rfl) ?_
  refine lv_iload E.1 E.2.1 dJ2_addAll_67 (lv_at hl 0 rfl) ?_
  refine lv_iload_n E.1 E.2.1 dJ2_addAll_69 rfl (lv_at hl 2 rfl) ?_
  refine lv_iadd E.1 E.2.1 dJ2_addAll_70 ?_
  rw [Int32.zero_add]
  have hP : va_P D vCl (jL h (mc + 1) e0 0 :: [(e0, .inl (K 3, rqs 10 (va_cpy g f0 0 0 n))), (a1, .inl (K 3, rqs n g)), (e2, .inl (K 3, rqs 5 f))]) H := hP
  have hD : va_D (fun x => (x = h ∨ x = e0 ∨ x = e2) ∨ s.heap.size ≤ x) (jL h (mc + 1) e0 0 :: [(e0, .inl (K 3, rqs 10 (va_cpy g f0 0 0 n))), (a1, .inl (K 3, rqs n g)), (e2, .inl (K 3, rqs 5 f))]) := hD
  refine j_size (v := nI n) E hK hP hD hS dJ2_addAll_71 (fun H locs hP hD hS => ?_)
  refine lv_iconst (v := (1 : Int32)) E.1 E.2.1 dJ2_addAll_74 (by decide) ?_
  refine W_pad (c' := 2) (s' := 20) (by decide) (by decide) ?_
  refine W.zret E.1 E.2.1 hr (by decide) (fun t ht _ => ⟨⟨e0, va_cpy g f0 0 0 n, rfl, by rw [ht]; exact vP_of hP (fun x hx => by
      simp only [List.mem_cons, List.not_mem_nil, or_false] at hx ⊢
      rcases hx with rfl | rfl
      · exact Or.inl rfl
      · exact Or.inr (Or.inl rfl)), fun i hi => ?_, rfl⟩, (hS.F ht).1, fun x h1 hnx => ?_⟩) (fun x hx => ?_) dJ2_addAll_75 hlocks
  · rcases hS.2.2 x hx with (q | q | q) | q
    · rw [q]; exact hAh
    · rw [q]; exact hA0
    · rw [q]; exact hAe
    · exact hA _ q
  · rw [pk_cpy_in (by omega) (by omega), Nat.sub_zero, Nat.zero_add]; exact hg i hi
  · by_cases hx : x = e2
    · rw [ht, hx]
      exact arr_same hP2 hP (i := 1) (j := 3) rfl rfl
    · exact (hS.F ht).2 x h1 (fun q => by
        rcases q with (q | q | q) | q
        · exact hnx (Or.inl q)
        · exact hnx (Or.inr q)
        · exact hx q
        · omega)
set_option maxHeartbeats 2000000 in
theorem jm_addAllE (l : Launch) {s0 : State} {a0 : Array Value} {A : Nat → Prop} (hT : ∀ w ∈ lw_tbl, w.before a0 s0 = true) (D : va_G) (K : Nat → ClassId) (h : Nat) (mc : Int32) (b : Nat) (h2 : Nat) (mc2 : Int32) (e2 n mir : Nat) (f : Nat → Option Nat) (hM : mirE s0 mir) (hE : jE0 s0 b) (hn0 : 0 < n) (hn : n ≤ 5) (he2 : s0.heap.size ≤ e2) (hh : s0.heap.size ≤ h) (hAh : A h) (hAe : A e2) (hne2 : e2 ≠ h) (hy : ∀ i, i < n → ∀ y, f i = some y → y ≠ h ∧ y ≠ e2) : Met l yJ2_addAll (ws_ yJ2_addAll cJ2_addAll 6 (some .boolean)) rmJ2_addAll (jCPc D K s0 A (jL h mc b 0 :: jW K h2 mc2 e2 (nI n) 5 f) n f [.ref h, .ref h2]) (jAQ D K h (mc + 1) n f (fun st e1 => st.heap.size ≤ e1) (fun x => x = h)) 2 20 A := by
  refine gx_start RJ2 (by decide) rfl (Nat.le_of_ble_eq_true rfl) ?_
  intro p e s m args below meth c ls E hr hlocks _ hC hl
  obtain ⟨⟨hP, hK, hX, hA⟩, hany⟩ := hC
  have hN := hX.1
  have hA1 : ∀ q, (fun x => (x = h ∨ x = e2) ∨ s.heap.size ≤ x) q → s0.heap.size ≤ q := fun q hq => by
    rcases hq with (rfl | rfl) | hq
    · exact hh
    · exact he2
    · exact Nat.le_trans hX.2.1 hq
  have hS : va_S (fun x => (x = h ∨ x = e2) ∨ s.heap.size ≤ x) s.heap s.heap [] := va_S.rf
  obtain ⟨hZ, fT, hTT⟩ := jE_at hE hX hA1
  have hP2 : va_P D vCl (jW K h2 mc2 e2 (nI n) 5 f) s.heap := vP_of hP (fun x hx => List.mem_cons_of_mem _ hx)
  have hPa : va_P D vCl [jL h mc b 0] s.heap := vP_of hP (fun x hx => by rw [List.mem_singleton] at hx; rw [hx]; exact List.mem_cons_self)
  have hlth : h < s.heap.size := (hPa 0 _ rfl).lt
  have hlt2 : e2 < s.heap.size := (hP2 1 _ rfl).lt
  have hl : lv_has ls 6 [(0, .ref h), (1, .ref h2)] := hl
  refine lv_aload_n E.1 E.2.1 dJ2_addAll_0 rfl (lv_at hl 1 rfl) ?_
  refine jC_go5 (A1 := fun x => (x = h ∨ x = e2) ∨ s.heap.size ≤ x) (va_runF (As := []) (rest := []) (hK.1 2 (RJ2, TJ2, 3) rfl).2 E (jm_toArray l (A := fun x => (x = h ∨ x = e2) ∨ s.heap.size ≤ x) hT D K h2 mc2 e2 n 5 mir f hM (by omega) hn (by decide) he2 (Or.inl (Or.inr rfl))) (va_cwF 0 E.2.2.2.2 (lw_F q912 q916 q918 q57 q920) rfl rfl rfl (cN_I (by decide) hT hN q914 q913 q919 q917 q915) (by decide +kernel) ⟨Nat.le_of_ble_eq_true rfl, Nat.le_of_ble_eq_true rfl⟩) ⟨jC_blind, va_recv hK hP2 (ci := 2) (q0 := 0) (q := (RJ2, TJ2, 3)) rfl rfl, fun U hU hW => ⟨rfl, jA_at hA1 (fun q hq => Or.inr hq) hX hK hP2 hS hU hW, fun i hi y hy => by rw [hU]; exact any_moved hW.alike (hany i hi y hy)⟩⟩ rfl rfl hl.1 rfl (lv_room (Nat.le_of_ble_eq_true rfl)) dJ2_addAll_1 ⟨Nat.le_of_ble_eq_true rfl, Nat.le_of_ble_eq_true rfl⟩) hS (fun a1 g H locs hP1 hg hge hkp hS => ?_)
  have hge : s.heap.size ≤ a1 := hge
  have hPw : va_P D vCl (jL h mc b 0 :: [(a1, .inl (K 3, rqs n g)), (e2, .inl (K 3, rqs 5 f))]) H := by
    intro k x hk
    rcases k with _ | _ | k
    · cases hk; exact (hPa 0 _ rfl).kept (hkp _ hlth)
    · cases hk; exact hP1 0 _ rfl
    · have l1 := (List.getElem?_eq_some_iff.mp hk).1
      simp at l1
      rcases (show k = 0 by omega) with rfl
      cases hk; exact (hP2 1 _ rfl).kept (hkp _ hlt2)
  have hDw : va_D (fun x => (x = h ∨ x = e2) ∨ s.heap.size ≤ x) (jL h mc b 0 :: [(a1, .inl (K 3, rqs n g)), (e2, .inl (K 3, rqs 5 f))]) := by
    refine ⟨fun i j a b hi hj he => ?_, fun k x hk => ?_⟩
    · have l1 := (List.getElem?_eq_some_iff.mp hi).1
      have l2 := (List.getElem?_eq_some_iff.mp hj).1
      simp at l1 l2
      rcases (show i = 0 ∨ i = 1 ∨ i = 2 by omega) with rfl | rfl | rfl <;> rcases (show j = 0 ∨ j = 1 ∨ j = 2 by omega) with rfl | rfl | rfl <;> first | rfl | (cases hi; cases hj; simp only at he; omega)
    · have l1 := (List.getElem?_eq_some_iff.mp hk).1
      simp at l1
      rcases (show k = 0 ∨ k = 1 ∨ k = 2 by omega) with rfl | rfl | rfl
      · cases hk; exact Or.inl (Or.inl rfl)
      · cases hk; exact Or.inr hge
      · cases hk; exact Or.inl (Or.inr rfl)
  refine lv_astore_n (lv' := [(2, .ref a1), (0, .ref h), (1, .ref h2)]) E.1 E.2.1 dJ2_addAll_6 rfl hl (by decide) rfl (fun ls hl => ?_)
  refine lv_aload_n E.1 E.2.1 dJ2_addAll_7 rfl (lv_at hl 1 rfl) ?_
  refine j_mod E hK hPw hDw hS hl.1 trivial dJ2_addAll_8 dJ2_addAll_9 dJ2_addAll_12 dJ2_addAll_13 dJ2_addAll_14 (fun H locs hP hD hS => ?_)
  refine lv_aload_n E.1 E.2.1 dJ2_addAll_17 rfl (lv_at hl 0 rfl) ?_
  refine va_alen (v := nI n) E.1 E.2.1 hK hP 1 3 rfl rfl rfl dJ2_addAll_18 ?_
  refine lv_istore_n (lv' := [(3, .int (nI n)), (2, .ref a1), (0, .ref h), (1, .ref h2)]) E.1 E.2.1 dJ2_addAll_19 rfl hl (by decide) rfl (fun ls hl => ?_)
  refine lv_iload_n E.1 E.2.1 dJ2_addAll_20 rfl (lv_at hl 0 rfl) ?_
  refine lv_if_ne (tgt := 26) E.1 E.2.1 dJ2_addAll_21 (by decide) (fun _ => ?_) (fun h => absurd h (nI_ne0 hn0 (by omega)))
  refine lv_iload_n E.1 E.2.1 dJ2_addAll_26 rfl (lv_at hl 0 rfl) ?_
  refine lv_aload_n E.1 E.2.1 dJ2_addAll_27 rfl (lv_at hl 2 rfl) ?_
  refine va_get E.1 E.2.1 E.2.2.2.2 in_J2 E.2.2.2.1 hK hP 0 rfl (ci := 2) (C := RJ2) (T := TJ2) (N := 3) rfl 1 (by decide) (E.2.2.2.2 _ q109) (fun _ h => h) rfl dJ2_addAll_28 ?_
  refine lv_dup E.1 E.2.1 dJ2_addAll_31 rfl ?_
  refine lv_astore (lv' := [(4, .ref b), (3, .int (nI n)), (2, .ref a1), (0, .ref h), (1, .ref h2)]) E.1 E.2.1 dJ2_addAll_32 hl (by decide) rfl (fun ls hl => ?_)
  refine va_tlen (v := 0) E.1 E.2.1 hTT hS rfl dJ2_addAll_34 ?_
  refine lv_aload_n E.1 E.2.1 dJ2_addAll_35 rfl (lv_at hl 3 rfl) ?_
  refine va_get E.1 E.2.1 E.2.2.2.2 in_J2 E.2.2.2.1 hK hP 0 rfl (ci := 2) (C := RJ2) (T := TJ2) (N := 3) rfl 2 (by decide) (E.2.2.2.2 _ q110) (fun _ h => h) rfl dJ2_addAll_36 ?_
  refine lv_dup E.1 E.2.1 dJ2_addAll_39 rfl ?_
  refine lv_istore (lv' := [(5, .int (0 : Int32)), (4, .ref b), (3, .int (nI n)), (2, .ref a1), (0, .ref h), (1, .ref h2)]) E.1 E.2.1 dJ2_addAll_40 hl (by decide) rfl (fun ls hl => ?_)
  refine lv_isub E.1 E.2.1 dJ2_addAll_42 ?_
  refine lv_icmp_le (tgt := 56) E.1 E.2.1 dJ2_addAll_43 (by decide) (fun h => absurd h (nI_nle hn0 (by omega))) (fun _ => ?_)
  refine lv_aload_n E.1 E.2.1 dJ2_addAll_46 rfl (lv_at hl 4 rfl) ?_
  refine lv_iload E.1 E.2.1 dJ2_addAll_47 (lv_at hl 0 rfl) ?_
  refine lv_iload_n E.1 E.2.1 dJ2_addAll_49 rfl (lv_at hl 2 rfl) ?_
  refine lv_iadd E.1 E.2.1 dJ2_addAll_50 ?_
  rw [Int32.zero_add]
  have hPh : va_P D vCl [jL h (mc + 1) b 0] H := vP_of hP (fun x hx => by rw [List.mem_singleton] at hx; rw [hx]; exact List.mem_cons_self)
  have hga : H.size ≤ a1 ∨ a1 < H.size := by omega
  have hlta : a1 < H.size := (hP 1 _ rfl).lt
  have hlt2' : e2 < H.size := (hP 2 _ rfl).lt
  have hPx := hP
  intro T hTt XX
  obtain ⟨v', st₀, t, T', L, h0, X', hL, h1, -, ⟨⟨e1, hq, hq2, hqn⟩, hq3⟩, st⟩ := va_runV (As := [.int (nI n)]) (rest := []) E (jm_grow_2 l (A := fun x => (x = h ∨ x = e2) ∨ s.heap.size ≤ x) hT D K h b (mc + 1) 0 n hE hh (Or.inl (Or.inl rfl)) (by omega)) (cwV 1 E.2.2.2.2 (lw_V q400 q402 qs17 q57 q403) rfl rfl rfl (by decide +kernel) ⟨Nat.le_of_ble_eq_true rfl, Nat.le_of_ble_eq_true rfl⟩) (jA_pre hA1 (fun q hq => Or.inr hq) hX hK hPh hS (va_recv hK hPh (ci := 2) (q0 := 0) (q := (RJ2, TJ2, 3)) rfl rfl)) (g := F0 m 51 ls [.int (nI n), .ref h]) rfl rfl hl.1 rfl (lv_room (Nat.le_of_ble_eq_true rfl)) dJ2_addAll_51 ⟨Nat.le_of_ble_eq_true rfl, Nat.le_of_ble_eq_true rfl⟩ T hTt XX
  cases hq
  rw [h0] at hqn
  have hkp2 : ∀ q, q < H.size → q ≠ h → t.heap[q]? = H[q]? := fun q g1 g2 => by
    have := hq3.2 q (by rw [h0]; exact g1) g2
    rw [h0] at this
    exact this
  have hS1 : va_S (fun x => (x = h ∨ x = e2) ∨ s.heap.size ≤ x) s.heap t.heap (locs ++ L) := vS_call hS h0 hq3 (fun q _ h => Or.inl (Or.inl h)) hL rfl
  have hsz : s.heap.size ≤ H.size := hS.1
  have hPw2 : va_P D vCl (jL h (mc + 1) e1 0 :: [(e1, .inl (K 3, rqs 10 (fun _ => none))), (a1, .inl (K 3, rqs n g)), (e2, .inl (K 3, rqs 5 f))]) t.heap := by
    intro k x hk
    rcases k with _ | _ | _ | k
    · cases hk; exact hq2 0 _ rfl
    · cases hk; exact hq2 1 _ rfl
    · cases hk; exact (hPx 1 _ rfl).kept (hkp2 _ hlta (by show a1 ≠ h; omega))
    · have l1 := (List.getElem?_eq_some_iff.mp hk).1
      simp at l1
      rcases (show k = 0 by omega) with rfl
      cases hk; exact (hPx 2 _ rfl).kept (hkp2 _ hlt2' hne2)
  have hDw2 : va_D (fun x => (x = h ∨ x = e2) ∨ s.heap.size ≤ x) (jL h (mc + 1) e1 0 :: [(e1, .inl (K 3, rqs 10 (fun _ => none))), (a1, .inl (K 3, rqs n g)), (e2, .inl (K 3, rqs 5 f))]) := by
    refine ⟨fun i j a b hi hj he => ?_, fun k x hk => ?_⟩
    · have l1 := (List.getElem?_eq_some_iff.mp hi).1
      have l2 := (List.getElem?_eq_some_iff.mp hj).1
      simp at l1 l2
      rcases (show i = 0 ∨ i = 1 ∨ i = 2 ∨ i = 3 by omega) with rfl | rfl | rfl | rfl <;> rcases (show j = 0 ∨ j = 1 ∨ j = 2 ∨ j = 3 by omega) with rfl | rfl | rfl | rfl <;> first | rfl | (cases hi; cases hj; simp only at he; omega)
    · have l1 := (List.getElem?_eq_some_iff.mp hk).1
      simp at l1
      rcases (show k = 0 ∨ k = 1 ∨ k = 2 ∨ k = 3 by omega) with rfl | rfl | rfl | rfl
      · cases hk; exact Or.inl (Or.inl rfl)
      · cases hk; exact Or.inr (by show s.heap.size ≤ e1; omega)
      · cases hk; exact Or.inr hge
      · cases hk; exact Or.inl (Or.inr rfl)
  have kk : W p l e rmJ2_addAll s m args below meth c t.heap (locs ++ L) 2 20 (MQ below (jAQ D K h (mc + 1) n f (fun st e1 => st.heap.size ≤ e1) (fun x => x = h)) args s 2 20 A) (F0 m 54 ls [.ref e1]) := by
    refine lv_astore (lv' := [(4, .ref e1), (5, .int (0 : Int32)), (3, .int (nI n)), (2, .ref a1), (0, .ref h), (1, .ref h2)]) E.1 E.2.1 dJ2_addAll_54 hl (by decide) rfl (fun ls hl => ?_)
    refine lv_aload_n E.1 E.2.1 dJ2_addAll_56 rfl (lv_at hl 3 rfl) ?_
    refine lv_iconst (v := (0 : Int32)) E.1 E.2.1 dJ2_addAll_57 (by decide) ?_
    refine lv_aload E.1 E.2.1 dJ2_addAll_58 (lv_at hl 0 rfl) ?_
    refine lv_iload E.1 E.2.1 dJ2_addAll_60 (lv_at hl 1 rfl) ?_
    refine lv_iload_n E.1 E.2.1 dJ2_addAll_62 rfl (lv_at hl 2 rfl) ?_
    have hcn : (nI n).toNatClampNeg = n := nI_clamp (by omega)
    have hc0 : (0 : Int32).toNatClampNeg = 0 := by decide
    refine va_copyM E.1 E.2.1 (E.2.2.1.trans hl.1.symm) E.2.2.2.1 (E.2.2.2.2 _ q466) (E.2.2.2.2 _ q359) (E.2.2.2.2 _ q358) (E.2.2.2.2 _ q72) hK hPw2 hDw2 hS1 2 1 3 3 rfl rfl rfl rfl (by decide) (by decide) (nI_pos (by omega)) (by rw [hcn, hc0]; omega) (by rw [hcn, hc0]; omega) (fun i hi y hy' => ?_) (Nat.le_of_ble_eq_true rfl) (by decide) dJ2_addAll_63 (fun H locs hP hD hS => ?_)
    · rw [hcn] at hi
      rw [hc0, Nat.zero_add, hg i hi] at hy'
      have hv := hany i hi y hy'
      obtain ⟨y1, y3⟩ := hy i hi y hy'
      exact any_S hv hS1 (fun q => by
        obtain ⟨cell, hc, -⟩ := hv
        have := (Array.getElem?_eq_some_iff.mp hc).1
        rcases q with (q | q) | q
        · exact y1 q
        · exact y3 q
        · omega)
    rw [hcn, hc0] at hP hD
    refine lv_aload_n E.1 E.2.1 dJ2_addAll_66 rfl (lv_at hl 4 rfl) ?_
    refine lv_iload E.1 E.2.1 dJ2_addAll_67 (lv_at hl 1 rfl) ?_
    refine lv_iload_n E.1 E.2.1 dJ2_addAll_69 rfl (lv_at hl 2 rfl) ?_
    refine lv_iadd E.1 E.2.1 dJ2_addAll_70 ?_
    rw [Int32.zero_add]
    have hP : va_P D vCl (jL h (mc + 1) e1 0 :: [(e1, .inl (K 3, rqs 10 (va_cpy g (fun _ => none) 0 0 n))), (a1, .inl (K 3, rqs n g)), (e2, .inl (K 3, rqs 5 f))]) H := hP
    have hD : va_D (fun x => (x = h ∨ x = e2) ∨ s.heap.size ≤ x) (jL h (mc + 1) e1 0 :: [(e1, .inl (K 3, rqs 10 (va_cpy g (fun _ => none) 0 0 n))), (a1, .inl (K 3, rqs n g)), (e2, .inl (K 3, rqs 5 f))]) := hD
    refine j_size (v := nI n) E hK hP hD hS dJ2_addAll_71 (fun H locs hP hD hS => ?_)
    refine lv_iconst (v := (1 : Int32)) E.1 E.2.1 dJ2_addAll_74 (by decide) ?_
    refine W.zret E.1 E.2.1 hr (by decide) (fun t ht _ => ⟨⟨e1, va_cpy g (fun _ => none) 0 0 n, rfl, by rw [ht]; exact vP_of hP (fun x hx => by
        simp only [List.mem_cons, List.not_mem_nil, or_false] at hx ⊢
        rcases hx with rfl | rfl
        · exact Or.inl rfl
        · exact Or.inr (Or.inl rfl)), fun i hi => ?_, by omega⟩, (hS.F ht).1, fun x h1 hnx => ?_⟩) (fun x hx => ?_) dJ2_addAll_75 hlocks
    · rcases hS.2.2 x hx with (q | q) | q
      · rw [q]; exact hAh
      · rw [q]; exact hAe
      · exact hA _ q
    · rw [pk_cpy_in (by omega) (by omega), Nat.sub_zero, Nat.zero_add]; exact hg i hi
    · by_cases hx : x = e2
      · rw [ht, hx]
        exact arr_same hP2 hP (i := 1) (j := 3) rfl rfl
      · exact (hS.F ht).2 x h1 (fun q => by
          rcases q with (q | q) | q
          · exact hnx q
          · exact hx q
          · omega)
  obtain ⟨t2, c1, c2⟩ := kk T' h1 X'
  exact ⟨t2, st t2 c1, c2⟩
