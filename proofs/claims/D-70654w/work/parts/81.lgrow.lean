/-! ArrayList: constructors, grow, the first add, clear -/
abbrev dflt : String := "DEFAULTCAPACITY_EMPTY_ELEMENTDATA"
/-- the empty array of all empty lists -/
abbrev jE0 (s0 : State) (b : Nat) : Prop := va_Z "java/util/ArrayList" "DEFAULTCAPACITY_EMPTY_ELEMENTDATA" "[Ljava/lang/Object;" (.ref b) (fun q => s0.heap.size ≤ q) s0 s0.heap ∧ ∃ f, va_T (.object "java/lang/Object") b 0 f (fun q => s0.heap.size ≤ q) s0 s0.heap
theorem jE_at {s0 s : State} {b : Nat} {A1 : Nat → Prop} (h : jE0 s0 b) (hX : xE s0 s) (hA1 : ∀ q, A1 q → s0.heap.size ≤ q) : va_Z "java/util/ArrayList" "DEFAULTCAPACITY_EMPTY_ELEMENTDATA" "[Ljava/lang/Object;" (.ref b) A1 s s.heap ∧ ∃ f, va_T (.object "java/lang/Object") b 0 f A1 s s.heap := by
  obtain ⟨h1, f, h2⟩ := h
  exact ⟨((h1.moved hX.1.alike).kept (fun a g _ => hX.2.2 a g)).narrow hA1, f, ((h2.moved hX.1.alike).kept (fun a g _ => hX.2.2 a g)).narrow hA1⟩
theorem kA_o {s : State} {C : String} {k cA : ClassId} (h1 : va_RA s k (.object C)) (h2 : va_RA s cA (.object C)) : cA = k := by
  obtain ⟨_, _, _, _, _, e1⟩ := h1
  obtain ⟨_, _, _, _, _, e2⟩ := h2
  exact Option.some.inj (e2.symm.trans e1)
/-- a small world where cells may be made -/
abbrev jAPc (D : va_G) (K : Nat → ClassId) (s0 : State) (A : Nat → Prop) (ws : va_W) (av : List Value) : Array Value → State → Prop := va_Pc av (fun U => va_P D vCl ws U.heap ∧ va_K D vCl (cT K) U ∧ xE s0 U ∧ ∀ q, U.heap.size ≤ q → A q)
theorem jA_blind {D : va_G} {K : Nat → ClassId} {s0 : State} {A : Nat → Prop} {ws : va_W} {av : List Value} : FrameBlind (jAPc D K s0 A ws av) := by
  intro a U g mk q
  obtain ⟨q0, qP, qK, qN⟩ := q
  exact ⟨q0, qP, va_K.moved (u := U) (U := U.calling g mk a) (Vm.Alike.refl U.vm) qK, qN⟩
section JA
variable {p : Program} {l : Launch} {e : Env} {R : Room} {s : State} {m : MethodId} {args : Array Value} {below : List Frame} {meth : Method} {c : Code} {H : Heap} {locs : List Loc} {cells slots : Nat} {Q : State → Prop} {cc : ByteArray} {nL pc : Nat} {rest : List Value} {ls : Array Slot} {D : va_G} {K : Nat → ClassId} {s0 : State} {a0 : Array Value} {A A1 : Nat → Prop}
theorem jA_at (hAl : ∀ q, A1 q → s0.heap.size ≤ q) (hA : ∀ q, s.heap.size ≤ q → A q) (hX : xE s0 s) (hK : va_K D vCl (cT K) s) {ws : va_W} (hP : va_P D vCl ws H) (hS : va_S A1 s.heap H locs) {U : State} (hU : U.heap = H) (hW : s.WarmedH U.vm) : va_P D vCl ws U.heap ∧ va_K D vCl (cT K) U ∧ xE s0 U ∧ ∀ q, U.heap.size ≤ q → A q :=
  ⟨by rw [hU]; exact hP, va_K.moved hW.alike hK, xE_at hAl hX hS hU hW, fun q hq => hA q (Nat.le_trans hS.1 (by rw [hU] at hq; exact hq))⟩
theorem jA_pre (hAl : ∀ q, A1 q → s0.heap.size ≤ q) (hA : ∀ q, s.heap.size ≤ q → A q) (hX : xE s0 s) (hK : va_K D vCl (cT K) s) {ws : va_W} (hP : va_P D vCl ws H) (hS : va_S A1 s.heap H locs) {C : String} {b : Nat} {As : List Value} (hc : ∃ cellB : Cell, H[b]? = some cellB ∧ cellB.vm.isStatics = false ∧ s.vm.findClass C = some cellB.cls) : PreV s H C b (jAPc D K s0 A ws (.ref b :: As)) As :=
  ⟨jA_blind, hc, fun U hU hW => ⟨rfl, jA_at hAl hA hX hK hP hS hU hW⟩⟩
theorem jA_preS (hAl : ∀ q, A1 q → s0.heap.size ≤ q) (hA : ∀ q, s.heap.size ≤ q → A q) (hX : xE s0 s) (hK : va_K D vCl (cT K) s) {ws : va_W} (hP : va_P D vCl ws H) (hS : va_S A1 s.heap H locs) {As : List Value} : PreS s H (jAPc D K s0 A ws As) As :=
  ⟨jA_blind, fun U hU hW => ⟨rfl, jA_at hAl hA hX hK hP hS hU hW⟩⟩
/-- elementData := v -/
theorem j_elem {h : Nat} {mc n : Int32} {ev : Value} {v : Nat} {tl : va_W} (E : CallFix p m c cc nL s args lw_all RJ2) (hK : va_K D vCl (cT K) s) (hP : va_P D vCl ((h, .inr (2, [.int mc, ev, .int n])) :: tl) H) (hD : va_D A ((h, .inr (2, [.int mc, ev, .int n])) :: tl)) (hS : va_S A s.heap H locs) (d5 : decode cc pc = .ok (.putfield 9, 3))
    (kk : ∀ (H : Heap) (locs : List Loc), va_P D vCl (jL h mc v n :: tl) H → va_D A (jL h mc v n :: tl) → va_S A s.heap H locs → W p l e R s m args below meth c H locs cells slots Q (F0 m (pc + 3) ls rest)) : W p l e R s m args below meth c H locs cells slots Q (F0 m pc ls (.ref v :: .ref h :: rest)) :=
  va_put E.1 E.2.1 E.2.2.2.2 in_J2 tyJ2 tyJ2_ok nmJ2 E.2.2.2.1 hK hP hD hS 0 rfl (ci := 2) (C := RJ2) (T := TJ2) (N := 3) rfl 1 (by decide) (E.2.2.2.2 _ q109) (fun _ h => h) rfl (ty := .array (.object "java/lang/Object")) (by decide +kernel) rfl rfl (Nat.le_of_ble_eq_true rfl) d5 (fun H locs hP hD hS => kk H locs hP hD hS)
end JA
theorem a1_D {h : Nat} {s : State} {e : va_E} : va_D (fun x => x = h ∨ s.heap.size ≤ x) [(h, e)] := by
  refine ⟨fun i j a b hi hj _ => ?_, fun k x hk => ?_⟩
  · have h1 := (List.getElem?_eq_some_iff.mp hi).1
    have h2 := (List.getElem?_eq_some_iff.mp hj).1
    simp at h1 h2
    omega
  · have h1 := (List.getElem?_eq_some_iff.mp hk).1
    simp at h1
    subst h1
    cases hk
    exact Or.inl rfl
/-- grown: the list's new array -/
abbrev jGQ (D : va_G) (K : Nat → ClassId) (h : Nat) (mc : Int32) (n : Int32) (v : Nat → Option Value) (cap : Nat) (f : Nat → Option Nat) : Array Value → State → Outcome → State → Prop := fun _ st o t => (∃ e1 : Nat, o = .returned (v e1) ∧ va_P D vCl (jW K h mc e1 n cap f) t.heap ∧ st.heap.size ≤ e1) ∧ va_F (fun x => x = h) st t
abbrev rmJ2_grow_2 : Room := { frames := 3, cells := 1, slots := 10, locals := 60 }
set_option maxHeartbeats 1000000 in
theorem jm_grow_2 (l : Launch) {s0 : State} {a0 : Array Value} {A : Nat → Prop} (hT : ∀ w ∈ lw_tbl, w.before a0 s0 = true) (D : va_G) (K : Nat → ClassId) (h b : Nat) (mc : Int32) (n : Int32) (k : Nat) (hE : jE0 s0 b) (hh : s0.heap.size ≤ h) (hAh : A h) (hk : k ≤ 10) : Met l yJ2_grow_2 (ws_ yJ2_grow_2 cJ2_grow_2 4 (some (.array (.object "java/lang/Object")))) rmJ2_grow_2 (jAPc D K s0 A [jL h mc b n] [.ref h, .int (nI k)]) (jGQ D K h mc n (fun e => some (.ref e)) 10 (fun _ => none)) 1 10 A := by
  refine gx_start RJ2 (by decide) rfl (Nat.le_of_ble_eq_true rfl) ?_
  intro p e s m args below meth c ls E hr hlocks _ hC hl
  obtain ⟨hP, hK, hX, hA⟩ := hC
  have hA1 : ∀ q, (fun x => x = h ∨ s.heap.size ≤ x) q → s0.heap.size ≤ q := fun q hq => by
    rcases hq with rfl | hq
    · exact hh
    · exact Nat.le_trans hX.2.1 hq
  obtain ⟨hZ, fT, hTT⟩ := jE_at hE hX hA1
  have hD : va_D (fun x => x = h ∨ s.heap.size ≤ x) [jL h mc b n] := a1_D
  have hS : va_S (fun x => x = h ∨ s.heap.size ≤ x) s.heap s.heap [] := va_S.rf
  have hl : lv_has ls 4 [(0, .ref h), (1, .int (nI k))] := hl
  refine lv_aload_n E.1 E.2.1 dJ2_grow_2_0 rfl (lv_at hl 0 rfl) ?_
  refine va_get E.1 E.2.1 E.2.2.2.2 in_J2 E.2.2.2.1 hK hP 0 rfl (ci := 2) (C := RJ2) (T := TJ2) (N := 3) rfl 1 (by decide) (E.2.2.2.2 _ q109) (fun _ h => h) rfl dJ2_grow_2_1 ?_
  refine va_tlen (v := 0) E.1 E.2.1 hTT hS rfl dJ2_grow_2_4 ?_
  refine lv_istore_n (lv' := [(2, .int (0 : Int32)), (0, .ref h), (1, .int (nI k))]) E.1 E.2.1 dJ2_grow_2_5 rfl hl (by decide) rfl (fun ls hl => ?_)
  refine lv_iload_n E.1 E.2.1 dJ2_grow_2_6 rfl (lv_at hl 0 rfl) ?_
  refine lv_if_gt (tgt := 20) E.1 E.2.1 dJ2_grow_2_7 (by decide) (fun h => absurd h (by decide)) (fun _ => ?_)
  refine lv_aload_n E.1 E.2.1 dJ2_grow_2_10 rfl (lv_at hl 1 rfl) ?_
  refine va_get E.1 E.2.1 E.2.2.2.2 in_J2 E.2.2.2.1 hK hP 0 rfl (ci := 2) (C := RJ2) (T := TJ2) (N := 3) rfl 1 (by decide) (E.2.2.2.2 _ q109) (fun _ h => h) rfl dJ2_grow_2_11 ?_
  refine va_gets E.1 E.2.1 hZ hS E.2.2.2.1 (E.2.2.2.2 _ q107) (fun _ h => h) dJ2_grow_2_14 ?_
  refine lv_acmp_eq (rx := some b) (ry := some b) (tgt := 45) E.1 E.2.1 dJ2_grow_2_17 (by decide) (fun _ => ?_) (fun h => absurd rfl h)
  refine lv_aload_n E.1 E.2.1 dJ2_grow_2_45 rfl (lv_at hl 1 rfl) ?_
  refine lv_bipush (v := (10 : Int32)) E.1 E.2.1 dJ2_grow_2_46 (by decide) ?_
  refine lv_iload_n E.1 E.2.1 dJ2_grow_2_48 rfl (lv_at hl 2 rfl) ?_
  refine va_mmax E.1 E.2.1 (E.2.2.1.trans hl.1.symm) E.2.2.2.1 (E.2.2.2.2 _ q447) (E.2.2.2.2 _ q289) (E.2.2.2.2 _ q73) (E.2.2.2.2 _ q290) (Nat.le_of_ble_eq_true rfl) (Nat.le_of_ble_eq_true rfl) (Nat.zero_le _) (Nat.zero_le _) dJ2_grow_2_49 ?_
  rw [if_neg (show ¬ (10 : Int32) < nI k from nI_nlt (a := 10) hk (by decide))]
  refine va_newq (N' := 10) E.1 E.2.1 E.2.2.2.1 (E.2.2.2.2 _ q448) (va_AO.moved hX.1.alike (va_AO.of (hT _ q441))) hK hP hD hS (fun q hq => Or.inr hq) (by decide) (by decide) (by decide) (Nat.le_of_ble_eq_true rfl) (Nat.le_of_ble_eq_true rfl) dJ2_grow_2_52 (fun q cA H hK1 hP hD hS => ?_)
  have hcA : cA = K 3 := kA_o (hK1.2 3 (K 3, .object "java/lang/Object") rfl).2 (hK1.2 5 (cA, .object "java/lang/Object") rfl).2
  subst hcA
  have hqn : s.heap.size ≤ q := by
    rcases hD.2 1 _ rfl with e1 | e1
    · exact absurd (hD.1 0 1 _ _ rfl rfl e1.symm) (by decide)
    · exact e1
  refine lv_dup_x1 E.1 E.2.1 dJ2_grow_2_55 rfl rfl ?_
  refine j_elem E hK hP hD hS dJ2_grow_2_56 (fun H locs hP hD hS => ?_)
  exact W.aret E.1 E.2.1 hr (Or.inr ⟨_, rfl⟩) (Or.inr ⟨_, rfl⟩) (fun t ht _ => ⟨⟨q, rfl, by rw [ht]; exact hP, hqn⟩, ⟨(hS.F ht).1, fun x h1 h2 => (hS.F ht).2 x h1 (fun h3 => h3.elim h2 (fun h4 => absurd h4 (by omega)))⟩⟩) (fun x hx => (hS.2.2 x hx).elim (fun h => by rw [h]; exact hAh) (fun h => hA _ h)) dJ2_grow_2_59 hlocks
abbrev rmJ2_grow : Room := { frames := 4, cells := 1, slots := 10, locals := 100 }
section JGO2
variable {p : Program} {l : Launch} {e : Env} {R : Room} {s : State} {m : MethodId} {args : Array Value} {below : List Frame} {meth : Method} {c : Code} {H : Heap} {locs : List Loc} {cells slots : Nat} {Q : State → Prop} {cc : ByteArray} {nL pc : Nat} {rest : List Value} {ls : Array Slot} {D : va_G} {K : Nat → ClassId}
/-- behind a call that grows -/
theorem jG_go {mc ms : Nat} {av : Array Value} {h : Nat} {md n : Int32} {v : Nat → Option Value} {cap : Nat} {f : Nat → Option Nat} {st0 : List Value} (hr : va_Run p l e R s m args below meth c H locs cells slots mc ms (F0 m pc ls st0) rest (jGQ D K h md n v cap f av) (fun x => x = h ∨ s.heap.size ≤ x)) (hS : va_S (fun x => x = h ∨ s.heap.size ≤ x) s.heap H locs) (hh : h < H.size)
    (kk : ∀ (e1 : Nat) (H1 : Heap) (locs : List Loc), va_P D vCl (jW K h md e1 n cap f) H1 → h ≠ e1 → s.heap.size ≤ e1 → va_S (fun x => x = h ∨ s.heap.size ≤ x) s.heap H1 locs → W p l e R s m args below meth c H1 locs (cells + mc) (slots + ms) Q (F0 m (pc + 3) ls ((v e1).toList ++ rest))) : W p l e R s m args below meth c H locs cells slots Q (F0 m pc ls st0) := by
  intro T hT X
  obtain ⟨v', st₀, t, T', L, h0, X', hL, h1, -, ⟨⟨e1, hq, hq2, hqn⟩, hq3⟩, st⟩ := hr T hT X
  cases hq
  rw [h0] at hqn
  obtain ⟨t2, a1, b1⟩ := kk e1 t.heap (locs ++ L) hq2 (by omega) (Nat.le_trans hS.1 hqn) (vS_call hS h0 hq3 (fun q _ h => Or.inl h) hL rfl) T' h1 X'
  exact ⟨t2, st t2 a1, b1⟩
end JGO2
/-- a small world where cells may be made, and an object -/
abbrev jAPx (D : va_G) (K : Nat → ClassId) (s0 : State) (A : Nat → Prop) (ws : va_W) (v : Nat) (av : List Value) : Array Value → State → Prop := va_Pc av (fun U => (va_P D vCl ws U.heap ∧ va_K D vCl (cT K) U ∧ xE s0 U ∧ ∀ q, U.heap.size ≤ q → A q) ∧ va_Any "java/lang/Object" U U.heap v)
theorem jAx_blind {D : va_G} {K : Nat → ClassId} {s0 : State} {A : Nat → Prop} {ws : va_W} {v : Nat} {av : List Value} : FrameBlind (jAPx D K s0 A ws v av) := by
  intro a U g mk q
  obtain ⟨q0, ⟨qP, qK, qN⟩, qA⟩ := q
  exact ⟨q0, ⟨qP, va_K.moved (u := U) (U := U.calling g mk a) (Vm.Alike.refl U.vm) qK, qN⟩, any_moved (u := U) (U := U.calling g mk a) (Vm.Alike.refl U.vm) qA⟩
set_option maxHeartbeats 1000000 in
theorem jm_grow (l : Launch) {s0 : State} {a0 : Array Value} {A : Nat → Prop} (hT : ∀ w ∈ lw_tbl, w.before a0 s0 = true) (D : va_G) (K : Nat → ClassId) (h b : Nat) (mc : Int32) (hE : jE0 s0 b) (hh : s0.heap.size ≤ h) (hAh : A h) : Met l yJ2_grow (ws_ yJ2_grow cJ2_grow 1 (some (.array (.object "java/lang/Object")))) rmJ2_grow (jAPc D K s0 A [jL h mc b 0] [.ref h]) (jGQ D K h mc 0 (fun e => some (.ref e)) 10 (fun _ => none)) 1 10 A := by
  refine gx_start RJ2 (by decide) rfl (Nat.le_of_ble_eq_true rfl) ?_
  intro p e s m args below meth c ls E hr hlocks _ hC hl
  obtain ⟨hP, hK, hX, hA⟩ := hC
  have hA1 : ∀ q, (fun x => x = h ∨ s.heap.size ≤ x) q → s0.heap.size ≤ q := fun q hq => by
    rcases hq with rfl | hq
    · exact hh
    · exact Nat.le_trans hX.2.1 hq
  have hS : va_S (fun x => x = h ∨ s.heap.size ≤ x) s.heap s.heap [] := va_S.rf
  have hl : lv_has ls 1 [(0, .ref h)] := hl
  refine lv_aload_n E.1 E.2.1 dJ2_grow_0 rfl (lv_at hl 0 rfl) ?_
  refine lv_aload_n E.1 E.2.1 dJ2_grow_1 rfl (lv_at hl 0 rfl) ?_
  refine va_get E.1 E.2.1 E.2.2.2.2 in_J2 E.2.2.2.1 hK hP 0 rfl (ci := 2) (C := RJ2) (T := TJ2) (N := 3) rfl 2 (by decide) (E.2.2.2.2 _ q110) (fun _ h => h) rfl dJ2_grow_2 ?_
  refine lv_iconst (v := (1 : Int32)) E.1 E.2.1 dJ2_grow_5 (by decide) ?_
  refine lv_iadd E.1 E.2.1 dJ2_grow_6 ?_
  refine jG_go (va_runV (As := [.int (nI 1)]) (rest := []) E (jm_grow_2 l (A := fun x => x = h ∨ s.heap.size ≤ x) hT D K h b mc 0 1 hE hh (Or.inl rfl) (by decide)) (cwV 1 E.2.2.2.2 (lw_V q400 q402 qs17 q57 q403) rfl rfl rfl (by decide +kernel) ⟨Nat.le_of_ble_eq_true rfl, Nat.le_of_ble_eq_true rfl⟩) (jA_pre hA1 (fun q hq => Or.inr hq) hX hK hP hS (va_recv hK hP (ci := 2) (q0 := 0) (q := (RJ2, TJ2, 3)) rfl rfl)) rfl rfl hl.1 rfl (lv_room (Nat.le_of_ble_eq_true rfl)) dJ2_grow_7 ⟨Nat.le_of_ble_eq_true rfl, Nat.le_of_ble_eq_true rfl⟩) hS (hP 0 _ rfl).lt (fun e1 H locs hP hne hqn hS => ?_)
  exact W.aret E.1 E.2.1 hr (Or.inr ⟨_, rfl⟩) (Or.inr ⟨_, rfl⟩) (fun t ht _ => ⟨⟨e1, rfl, by rw [ht]; exact hP, hqn⟩, ⟨(hS.F ht).1, fun x h1 h2 => (hS.F ht).2 x h1 (fun h3 => h3.elim h2 (fun h4 => absurd h4 (by omega)))⟩⟩) (fun x hx => (hS.2.2 x hx).elim (fun h => by rw [h]; exact hAh) (fun h => hA _ h)) dJ2_grow_10 hlocks
abbrev rmJ2_addE_2 : Room := { frames := 5, cells := 1, slots := 10, locals := 150 }
set_option maxHeartbeats 1000000 in
theorem jm_addE_2 (l : Launch) {s0 : State} {a0 : Array Value} {A : Nat → Prop} (hT : ∀ w ∈ lw_tbl, w.before a0 s0 = true) (D : va_G) (K : Nat → ClassId) (h b v : Nat) (mc : Int32) (hE : jE0 s0 b) (hh : s0.heap.size ≤ h) (hAh : A h) (hvh : v ≠ h) : Met l yJ2_add_2 (ws_ yJ2_add_2 cJ2_add_2 4 none) rmJ2_addE_2 (jAPx D K s0 A [jL h mc b 0] v [.ref h, .ref v, .ref b, .int 0]) (jGQ D K h mc 1 (fun _ => none) 10 (va_up (fun _ => none) 0 (some v))) 1 10 A := by
  refine gx_start RJ2 (by decide) rfl (Nat.le_of_ble_eq_true rfl) ?_
  intro p e s m args below meth c ls E hr hlocks _ hC hl
  obtain ⟨⟨hP, hK, hX, hA⟩, hv⟩ := hC
  have hA1 : ∀ q, (fun x => x = h ∨ s.heap.size ≤ x) q → s0.heap.size ≤ q := fun q hq => by
    rcases hq with rfl | hq
    · exact hh
    · exact Nat.le_trans hX.2.1 hq
  obtain ⟨hZ, fT, hTT⟩ := jE_at hE hX hA1
  have hS : va_S (fun x => x = h ∨ s.heap.size ≤ x) s.heap s.heap [] := va_S.rf
  have hl : lv_has ls 4 [(0, .ref h), (1, .ref v), (2, .ref b), (3, .int 0)] := hl
  refine lv_iload_n E.1 E.2.1 dJ2_add_2_0 rfl (lv_at hl 3 rfl) ?_
  refine lv_aload_n E.1 E.2.1 dJ2_add_2_1 rfl (lv_at hl 2 rfl) ?_
  refine va_tlen (v := 0) E.1 E.2.1 hTT hS rfl dJ2_add_2_2 ?_
  refine lv_icmp_ne (tgt := 11) E.1 E.2.1 dJ2_add_2_3 (by decide) (fun h => absurd rfl h) (fun _ => ?_)
  refine lv_aload_n E.1 E.2.1 dJ2_add_2_6 rfl (lv_at hl 0 rfl) ?_
  refine jG_go (va_runV (As := []) (rest := []) E (jm_grow l (A := fun x => x = h ∨ s.heap.size ≤ x) hT D K h b mc hE hh (Or.inl rfl)) (cwV 0 E.2.2.2.2 (lw_V q396 q398 qs16 q57 q399) rfl rfl rfl (by decide +kernel) ⟨Nat.le_of_ble_eq_true rfl, Nat.le_of_ble_eq_true rfl⟩) (jA_pre hA1 (fun q hq => Or.inr hq) hX hK hP hS (va_recv hK hP (ci := 2) (q0 := 0) (q := (RJ2, TJ2, 3)) rfl rfl)) rfl rfl hl.1 rfl (lv_room (Nat.le_of_ble_eq_true rfl)) dJ2_add_2_7 ⟨Nat.le_of_ble_eq_true rfl, Nat.le_of_ble_eq_true rfl⟩) hS (hP 0 _ rfl).lt (fun e1 H locs hP hne hqn hS => ?_)
  have hD : ∀ f n, va_D (fun x => x = h ∨ s.heap.size ≤ x) (jW K h mc e1 n 10 f) := fun f n => jW_D hne (Or.inl rfl) (Or.inr hqn)
  refine lv_astore_n (lv' := [(2, .ref e1), (0, .ref h), (1, .ref v), (3, .int 0)]) E.1 E.2.1 dJ2_add_2_10 rfl hl (by decide) rfl (fun ls hl => ?_)
  refine lv_aload_n E.1 E.2.1 dJ2_add_2_11 rfl (lv_at hl 0 rfl) ?_
  refine lv_iload_n E.1 E.2.1 dJ2_add_2_12 rfl (lv_at hl 3 rfl) ?_
  refine lv_aload_n E.1 E.2.1 dJ2_add_2_13 rfl (lv_at hl 2 rfl) ?_
  have hv1 : va_Any "java/lang/Object" s H v := any_S hv hS (fun q => by
    obtain ⟨cell, hc, -⟩ := hv
    have := (Array.getElem?_eq_some_iff.mp hc).1
    rcases q with q | q
    · exact hvh q
    · omega)
  refine va_astqM E.1 E.2.1 hK hP (hD _ _) hS 1 3 rfl rfl hv1 (show vp_in (nI 0) 10 from vp_in_nI (by decide) (by decide)) dJ2_add_2_14 (fun H locs hP _ hS => ?_)
  have hP : va_P D vCl (jW K h mc e1 0 10 (va_up (fun _ => none) 0 (some v))) H := hP
  refine lv_aload_n E.1 E.2.1 dJ2_add_2_15 rfl (lv_at hl 1 rfl) ?_
  refine lv_iload_n E.1 E.2.1 dJ2_add_2_16 rfl (lv_at hl 3 rfl) ?_
  refine lv_iconst (v := (1 : Int32)) E.1 E.2.1 dJ2_add_2_17 (by decide) ?_
  refine lv_iadd E.1 E.2.1 dJ2_add_2_18 ?_
  refine j_size (v := 1) E hK hP (hD _ _) hS dJ2_add_2_19 (fun H locs hP hD hS => ?_)
  exact W.vret E.1 E.2.1 hr (fun t ht _ => ⟨⟨e1, rfl, by rw [ht]; exact hP, hqn⟩, ⟨(hS.F ht).1, fun x h1 h2 => (hS.F ht).2 x h1 (fun h3 => h3.elim h2 (fun h4 => absurd h4 (by omega)))⟩⟩) (fun x hx => (hS.2.2 x hx).elim (fun h => by rw [h]; exact hAh) (fun h => hA _ h)) dJ2_add_2_22 hlocks
abbrev rmJ2_addE : Room := { frames := 6, cells := 1, slots := 10, locals := 200 }
set_option maxHeartbeats 1000000 in
theorem jm_addE (l : Launch) {s0 : State} {a0 : Array Value} {A : Nat → Prop} (hT : ∀ w ∈ lw_tbl, w.before a0 s0 = true) (D : va_G) (K : Nat → ClassId) (h b v : Nat) (mc : Int32) (hE : jE0 s0 b) (hh : s0.heap.size ≤ h) (hAh : A h) (hvh : v ≠ h) : Met l yJ2_add (ws_ yJ2_add cJ2_add 2 (some .boolean)) rmJ2_addE (jAPx D K s0 A [jL h mc b 0] v [.ref h, .ref v]) (jGQ D K h (mc + 1) 1 (fun _ => some (.int 1)) 10 (va_up (fun _ => none) 0 (some v))) 1 10 A := by
  refine gx_start RJ2 (by decide) rfl (Nat.le_of_ble_eq_true rfl) ?_
  intro p e s m args below meth c ls E hr hlocks _ hC hl
  obtain ⟨⟨hP, hK, hX, hA⟩, hv⟩ := hC
  have hA1 : ∀ q, (fun x => x = h ∨ s.heap.size ≤ x) q → s0.heap.size ≤ q := fun q hq => by
    rcases hq with rfl | hq
    · exact hh
    · exact Nat.le_trans hX.2.1 hq
  have hS : va_S (fun x => x = h ∨ s.heap.size ≤ x) s.heap s.heap [] := va_S.rf
  have hD : va_D (fun x => x = h ∨ s.heap.size ≤ x) [jL h mc b 0] := a1_D
  have hl : lv_has ls 2 [(0, .ref h), (1, .ref v)] := hl
  refine lv_aload_n E.1 E.2.1 dJ2_add_0 rfl (lv_at hl 0 rfl) ?_
  refine j_mod E hK hP hD hS hl.1 trivial dJ2_add_1 dJ2_add_2 dJ2_add_5 dJ2_add_6 dJ2_add_7 (fun H locs hP hD hS => ?_)
  have hv1 : va_Any "java/lang/Object" s H v := any_S hv hS (fun q => by
    obtain ⟨cell, hc, -⟩ := hv
    have := (Array.getElem?_eq_some_iff.mp hc).1
    rcases q with q | q
    · exact hvh q
    · omega)
  refine lv_aload_n E.1 E.2.1 dJ2_add_10 rfl (lv_at hl 0 rfl) ?_
  refine lv_aload_n E.1 E.2.1 dJ2_add_11 rfl (lv_at hl 1 rfl) ?_
  refine lv_aload_n E.1 E.2.1 dJ2_add_12 rfl (lv_at hl 0 rfl) ?_
  refine va_get E.1 E.2.1 E.2.2.2.2 in_J2 E.2.2.2.1 hK hP 0 rfl (ci := 2) (C := RJ2) (T := TJ2) (N := 3) rfl 1 (by decide) (E.2.2.2.2 _ q109) (fun _ h => h) rfl dJ2_add_13 ?_
  refine lv_aload_n E.1 E.2.1 dJ2_add_16 rfl (lv_at hl 0 rfl) ?_
  refine va_get E.1 E.2.1 E.2.2.2.2 in_J2 E.2.2.2.1 hK hP 0 rfl (ci := 2) (C := RJ2) (T := TJ2) (N := 3) rfl 2 (by decide) (E.2.2.2.2 _ q110) (fun _ h => h) rfl dJ2_add_17 ?_
  refine jG_go (va_runV (As := [.ref v, .ref b, .int 0]) (rest := []) E (jm_addE_2 l (A := fun x => x = h ∨ s.heap.size ≤ x) hT D K h b v (mc + 1) hE hh (Or.inl rfl) hvh) (cwV 3 E.2.2.2.2 (lw_V q392 q394 qs15 q57 q395) rfl rfl rfl (by decide +kernel) ⟨Nat.le_of_ble_eq_true rfl, Nat.le_of_ble_eq_true rfl⟩) ⟨jAx_blind, va_recv hK hP (ci := 2) (q0 := 0) (q := (RJ2, TJ2, 3)) rfl rfl, fun U hU hW => ⟨rfl, jA_at hA1 (fun q hq => Or.inr hq) hX hK hP hS hU hW, by rw [hU]; exact any_moved hW.alike hv1⟩⟩ rfl rfl hl.1 rfl (lv_room (Nat.le_of_ble_eq_true rfl)) dJ2_add_20 ⟨Nat.le_of_ble_eq_true rfl, Nat.le_of_ble_eq_true rfl⟩) hS (hP 0 _ rfl).lt (fun e1 H locs hP hne hqn hS => ?_)
  refine lv_iconst (v := (1 : Int32)) E.1 E.2.1 dJ2_add_23 (by decide) ?_
  exact W.zret E.1 E.2.1 hr (by decide) (fun t ht _ => ⟨⟨e1, rfl, by rw [ht]; exact hP, hqn⟩, ⟨(hS.F ht).1, fun x h1 h2 => (hS.F ht).2 x h1 (fun h3 => h3.elim h2 (fun h4 => absurd h4 (by omega)))⟩⟩) (fun x hx => (hS.2.2 x hx).elim (fun h => by rw [h]; exact hAh) (fun h => hA _ h)) dJ2_add_24 hlocks
/-! clear -/
abbrev jclr (n : Nat) (f : Nat → Option Nat) : Nat → Option Nat := fun i => if i < n then none else f i
abbrev rmJ2_clear : Room := { frames := 1, cells := 0, slots := 0, locals := 20 }
set_option maxHeartbeats 1000000 in
theorem jm_clear (l : Launch) (D : va_G) (K : Nat → ClassId) (h : Nat) (mc : Int32) (e0 n cap : Nat) (f : Nat → Option Nat) (hne : h ≠ e0) (hn : n ≤ cap) (hcap : cap < 2 ^ 31 - 1) : Met l yJ2_clear (ws_ yJ2_clear cJ2_clear 4 none) rmJ2_clear (jPc D K (jW K h mc e0 (nI n) cap f) [.ref h]) (jQ D (jW K h (mc + 1) e0 0 cap (jclr n f)) (jF h e0) none) 0 0 (jF h e0) := by
  refine gx_start RJ2 (by decide) rfl (Nat.le_of_ble_eq_true rfl) ?_
  intro p e s m args below meth c ls E hr hlocks _ hC hl
  obtain ⟨hP, hK⟩ := hC
  have hD : va_D (jF h e0) (jW K h mc e0 (nI n) cap f) := jW_D hne (Or.inl rfl) (Or.inr rfl)
  have hS : va_S (jF h e0) s.heap s.heap [] := va_S.rf
  have hl : lv_has ls 4 [(0, .ref h)] := hl
  refine lv_aload_n E.1 E.2.1 dJ2_clear_0 rfl (lv_at hl 0 rfl) ?_
  refine j_mod E hK hP hD hS hl.1 trivial dJ2_clear_1 dJ2_clear_2 dJ2_clear_5 dJ2_clear_6 dJ2_clear_7 (fun H locs hP hD hS => ?_)
  refine lv_aload_n E.1 E.2.1 dJ2_clear_10 rfl (lv_at hl 0 rfl) ?_
  refine va_get E.1 E.2.1 E.2.2.2.2 in_J2 E.2.2.2.1 hK hP 0 rfl (ci := 2) (C := RJ2) (T := TJ2) (N := 3) rfl 1 (by decide) (E.2.2.2.2 _ q109) (fun _ h => h) rfl dJ2_clear_11 ?_
  refine lv_astore_n (lv' := [(1, .ref e0), (0, .ref h)]) E.1 E.2.1 dJ2_clear_14 rfl hl (by decide) rfl (fun ls hl => ?_)
  refine lv_aload_n E.1 E.2.1 dJ2_clear_15 rfl (lv_at hl 1 rfl) ?_
  refine va_get E.1 E.2.1 E.2.2.2.2 in_J2 E.2.2.2.1 hK hP 0 rfl (ci := 2) (C := RJ2) (T := TJ2) (N := 3) rfl 2 (by decide) (E.2.2.2.2 _ q110) (fun _ h => h) rfl dJ2_clear_16 ?_
  refine lv_istore_n (lv' := [(2, .int (nI n)), (1, .ref e0), (0, .ref h)]) E.1 E.2.1 dJ2_clear_19 rfl hl (by decide) rfl (fun ls hl => ?_)
  refine lv_aload_n E.1 E.2.1 dJ2_clear_20 rfl (lv_at hl 2 rfl) ?_
  refine lv_iconst (v := (0 : Int32)) E.1 E.2.1 dJ2_clear_21 (by decide) ?_
  refine lv_dup_x1 E.1 E.2.1 dJ2_clear_22 rfl rfl ?_
  refine j_size (v := 0) E hK hP hD hS dJ2_clear_23 (fun H locs hP hD hS => ?_)
  refine lv_istore_n (lv' := [(3, .int (0 : Int32)), (2, .int (nI n)), (1, .ref e0), (0, .ref h)]) E.1 E.2.1 dJ2_clear_26 rfl hl (by decide) rfl (fun ls hl => ?_)
  have L27 : ∀ (r k : Nat) (H : Heap) (locs : List Loc) (ls : Array Slot), k + r = n → va_P D vCl (jW K h (mc + 1) e0 0 cap (jclr k f)) H → va_S (jF h e0) s.heap H locs → lv_has ls 4 [(3, .int (nI k)), (2, .int (nI n)), (1, .ref e0), (0, .ref h)] → W p l e rmJ2_clear s m args below meth c H locs 0 0 (MQ below (jQ D (jW K h (mc + 1) e0 0 cap (jclr n f)) (jF h e0) none) args s 0 0 (jF h e0)) (F0 m 27 ls []) := by
    intro r
    induction r with
    | zero =>
      intro k H locs ls hk hP hS hl
      have hkn : k = n := by omega
      rw [hkn] at hP hl
      refine lv_iload_n E.1 E.2.1 dJ2_clear_27 rfl (lv_at hl 0 rfl) ?_
      refine lv_iload_n E.1 E.2.1 dJ2_clear_28 rfl (lv_at hl 1 rfl) ?_
      refine lv_icmp_ge (tgt := 42) E.1 E.2.1 dJ2_clear_29 (by decide) (fun _ => ?_) (fun h => absurd (Int32.le_refl _) h)
      exact W.vret E.1 E.2.1 hr (fun t ht _ => ⟨⟨rfl, by rw [ht]; exact hP⟩, hS.F ht⟩) hS.2.2 dJ2_clear_42 hlocks
    | succ r ih =>
      intro k H locs ls hk hP hS hl
      refine lv_iload_n E.1 E.2.1 dJ2_clear_27 rfl (lv_at hl 0 rfl) ?_
      refine lv_iload_n E.1 E.2.1 dJ2_clear_28 rfl (lv_at hl 1 rfl) ?_
      refine lv_icmp_ge (tgt := 42) E.1 E.2.1 dJ2_clear_29 (by decide) (fun h => absurd h (nI_ge (by omega) (by omega))) (fun _ => ?_)
      refine lv_aload_n E.1 E.2.1 dJ2_clear_32 rfl (lv_at hl 2 rfl) ?_
      refine lv_iload_n E.1 E.2.1 dJ2_clear_33 rfl (lv_at hl 0 rfl) ?_
      refine lv_null E.1 E.2.1 dJ2_clear_34 ?_
      refine va_astqN E.1 E.2.1 hK hP (jW_D hne (Or.inl rfl) (Or.inr rfl)) hS 1 3 rfl rfl (vp_in_nI (by omega) (by omega)) dJ2_clear_35 (fun H locs hP _ hS => ?_)
      have hP : va_P D vCl (jW K h (mc + 1) e0 0 cap (va_up (jclr k f) (nI k).toNatClampNeg none)) H := hP
      have hup : va_up (jclr k f) (nI k).toNatClampNeg none = jclr (k + 1) f := by
        rw [nI_clamp (by omega)]
        funext i
        unfold va_up jclr
        by_cases h1 : i = k
        · rw [if_pos h1, if_pos (by omega)]
        · rw [if_neg h1]
          by_cases h2 : i < k
          · rw [if_pos h2, if_pos (by omega)]
          · rw [if_neg h2, if_neg (by omega)]
      rw [hup] at hP
      refine lv_iinc (v := nI k + 1) (lv' := [(3, .int (nI k + 1)), (2, .int (nI n)), (1, .ref e0), (0, .ref h)]) E.1 E.2.1 dJ2_clear_36 hl (k := 0) rfl rfl (by decide) rfl (fun ls hl => ?_)
      refine lv_goto (tgt := 27) E.1 E.2.1 dJ2_clear_39 (by decide) ?_
      rw [nI_1] at hl
      exact ih (k + 1) H locs ls (by omega) hP hS hl
  have hz : f = jclr 0 f := by
    funext i
    unfold jclr
    rw [if_neg (by omega)]
  rw [hz] at hP
  exact L27 n 0 H locs ls (by omega) hP hS hl
set_option maxHeartbeats 1000000 in
theorem jm_clearE (l : Launch) (D : va_G) (K : Nat → ClassId) (h : Nat) (mc : Int32) (b : Nat) : Met l yJ2_clear (ws_ yJ2_clear cJ2_clear 4 none) rmJ2_clear (jPc D K [jL h mc b 0] [.ref h]) (jQ D [jL h (mc + 1) b 0] (fun x => x = h) none) 0 0 (fun x => x = h) := by
  refine gx_start RJ2 (by decide) rfl (Nat.le_of_ble_eq_true rfl) ?_
  intro p e s m args below meth c ls E hr hlocks _ hC hl
  obtain ⟨hP, hK⟩ := hC
  have hD : va_D (fun x => x = h) [jL h mc b 0] := n_D
  have hS : va_S (fun x => x = h) s.heap s.heap [] := va_S.rf
  have hl : lv_has ls 4 [(0, .ref h)] := hl
  refine lv_aload_n E.1 E.2.1 dJ2_clear_0 rfl (lv_at hl 0 rfl) ?_
  refine j_mod E hK hP hD hS hl.1 trivial dJ2_clear_1 dJ2_clear_2 dJ2_clear_5 dJ2_clear_6 dJ2_clear_7 (fun H locs hP hD hS => ?_)
  refine lv_aload_n E.1 E.2.1 dJ2_clear_10 rfl (lv_at hl 0 rfl) ?_
  refine va_get E.1 E.2.1 E.2.2.2.2 in_J2 E.2.2.2.1 hK hP 0 rfl (ci := 2) (C := RJ2) (T := TJ2) (N := 3) rfl 1 (by decide) (E.2.2.2.2 _ q109) (fun _ h => h) rfl dJ2_clear_11 ?_
  refine lv_astore_n (lv' := [(1, .ref b), (0, .ref h)]) E.1 E.2.1 dJ2_clear_14 rfl hl (by decide) rfl (fun ls hl => ?_)
  refine lv_aload_n E.1 E.2.1 dJ2_clear_15 rfl (lv_at hl 1 rfl) ?_
  refine va_get E.1 E.2.1 E.2.2.2.2 in_J2 E.2.2.2.1 hK hP 0 rfl (ci := 2) (C := RJ2) (T := TJ2) (N := 3) rfl 2 (by decide) (E.2.2.2.2 _ q110) (fun _ h => h) rfl dJ2_clear_16 ?_
  refine lv_istore_n (lv' := [(2, .int (0 : Int32)), (1, .ref b), (0, .ref h)]) E.1 E.2.1 dJ2_clear_19 rfl hl (by decide) rfl (fun ls hl => ?_)
  refine lv_aload_n E.1 E.2.1 dJ2_clear_20 rfl (lv_at hl 2 rfl) ?_
  refine lv_iconst (v := (0 : Int32)) E.1 E.2.1 dJ2_clear_21 (by decide) ?_
  refine lv_dup_x1 E.1 E.2.1 dJ2_clear_22 rfl rfl ?_
  refine j_size (v := 0) E hK hP hD hS dJ2_clear_23 (fun H locs hP hD hS => ?_)
  refine lv_istore_n (lv' := [(3, .int (0 : Int32)), (2, .int (0 : Int32)), (1, .ref b), (0, .ref h)]) E.1 E.2.1 dJ2_clear_26 rfl hl (by decide) rfl (fun ls hl => ?_)
  refine lv_iload_n E.1 E.2.1 dJ2_clear_27 rfl (lv_at hl 0 rfl) ?_
  refine lv_iload_n E.1 E.2.1 dJ2_clear_28 rfl (lv_at hl 1 rfl) ?_
  refine lv_icmp_ge (tgt := 42) E.1 E.2.1 dJ2_clear_29 (by decide) (fun _ => ?_) (fun h => absurd (Int32.le_refl _) h)
  exact W.vret E.1 E.2.1 hr (fun t ht _ => ⟨⟨rfl, by rw [ht]; exact hP⟩, hS.F ht⟩) hS.2.2 dJ2_clear_42 hlocks
