/-! Arrays.copyOf, ArrayList.toArray, addAll; the lists' constructors -/
abbrev oArr : String := "[Ljava/lang/Object;"
/-- the mirror of Object[] -/
abbrev mirE (s : State) (a : Nat) : Prop := ∃ (c : ClassId) (k : Class), s.vm.findClass "[Ljava/lang/Object;" = some c ∧ s.vm.classes[c]? = some k ∧ k.mirror = some a
theorem mirE.ev {s : State} {a : Nat} (h : mirE s a) (args : Array Value) : (Term.mirror "[Ljava/lang/Object;").eval args s none [] s = some (.ref a) := by
  obtain ⟨c, k, h1, h2, h3⟩ := h
  simp [Term.eval, h1, h2, h3]
theorem mirE.warm {s0 s : State} {a : Nat} (h : mirE s0 a) (hN : s0.WarmedH s.vm) : mirE s a := by
  obtain ⟨c, k, h1, h2, h3⟩ := h
  obtain ⟨k', hk', hm, -⟩ := hN.mirror h2
  exact ⟨c, k', by rw [hN.alike.findClass]; exact h1, hk', hm.trans h3⟩
theorem mirE_of {l : Launch} {s0 : State} {a0 : Array Value} (G : cG l s0 a0) : ∃ a, mirE s0 a := by
  have h := flat_of_before _ G.2.1 (Cond.isRef (.mirror "[Ljava/lang/Object;")) (by decide +kernel)
  obtain ⟨v, hv, -⟩ := Cond.isRef_spec h
  obtain ⟨c, k, a, h1, h2, h3, -⟩ := Term.mirror_spec hv
  exact ⟨a, c, k, h1, h2, h3⟩
section MIR
variable {p : Program} {l : Launch} {e : Env} {R : Room} {s : State} {m : MethodId} {args : Array Value} {below : List Frame} {meth : Method} {c : Code} {H : Heap} {locs : List Loc} {cells slots : Nat} {Q : State → Prop} {cc : ByteArray} {nL pc : Nat} {rest : List Value} {ls : Array Slot} {lv : List (Nat × Value)} {own : String}
theorem lv_ldcM (E : CallFix p m c cc nL s args lw_all own) {idx a : Nat} (hM : mirE s a) (hlk : Cond.classLink own idx "[Ljava/lang/Object;" ∈ lw_all) (hdg : decode cc pc = .ok (.ldc idx, 2))
    (kk : W p l e R s m args below meth c H locs cells slots Q (F0 m (pc + 2) ls (.ref a :: rest))) : W p l e R s m args below meth c H locs cells slots Q (F0 m pc ls rest) := by
  intro T hT X
  obtain ⟨vm', X', st⟩ := X.ldcMirror E.1 E.2.2.2.1 (E.2.2.2.2 _ hlk) (hM.ev args) (g := F0 m pc ls rest) rfl (by rw [E.2.1]; exact hdg)
  obtain ⟨t, a1, b1⟩ := kk (T.setVm vm') hT X'
  exact ⟨t, st t a1, b1⟩
theorem lv_getC (E : CallFix p m c cc nL s args lw_all own) {idx a b : Nat} (hM : mirE s a) (hlk : Cond.methodLink own idx ⟨"java/lang/Object", "getClass", "()Ljava/lang/Class;"⟩ ∈ lw_all) (hsel : (Cond.selects "[Ljava/lang/Object;" ⟨"java/lang/Object", "getClass", "()Ljava/lang/Class;"⟩ ⟨"java/lang/Object", "getClass", "()Ljava/lang/Class;"⟩).before args s = true) (hc : ∃ cell : Cell, H[b]? = some cell ∧ cell.vm.isStatics = false ∧ s.vm.findClass "[Ljava/lang/Object;" = some cell.cls) (hl : lv_has ls nL lv) (hR : 1 ≤ R.frames ∧ (rest.map fun v => v.category).sum + 14 ≤ R.locals) (hdg : decode cc pc = .ok (.invokevirtual idx, 3))
    (kk : W p l e R s m args below meth c H locs cells slots Q (F0 m (pc + 3) ls (.ref a :: rest))) : W p l e R s m args below meth c H locs cells slots Q (F0 m pc ls (.ref b :: rest)) := by
  intro T hT X
  obtain ⟨cell, h1, h2, h3⟩ := hc
  obtain ⟨vm', X', st⟩ := X.getClass E.1 E.2.2.2.1 (E.2.2.2.2 _ hlk) (E.2.2.2.2 _ q417) (E.2.2.2.2 _ q436) (E.2.2.2.2 _ q416) hsel (by rw [hT]; exact h1) (fun k h => by rw [h] at h2; cases h2) h3 (hM.ev args) (g := F0 m pc ls (.ref b :: rest)) rfl (hl.1.trans E.2.2.1.symm) rfl (by rw [E.2.1]; exact hdg) hR.1 (by show 2 * 0 + _ + 14 ≤ _; have := hR.2; omega)
  obtain ⟨t, a1, b1⟩ := kk (T.setVm vm') hT X'
  exact ⟨t, st t a1, b1⟩
end MIR
/-- a copy of an array of objects: what is asked, what is left -/
abbrev jCPc (D : va_G) (K : Nat → ClassId) (s0 : State) (A : Nat → Prop) (ws : va_W) (n : Nat) (f : Nat → Option Nat) (av : List Value) : Array Value → State → Prop := va_Pc av (fun U => (va_P D vCl ws U.heap ∧ va_K D vCl (cT K) U ∧ xE s0 U ∧ ∀ q, U.heap.size ≤ q → A q) ∧ ∀ i, i < n → ∀ y, f i = some y → va_Any "java/lang/Object" U U.heap y)
abbrev jCQ (D : va_G) (K : Nat → ClassId) (n : Nat) (f : Nat → Option Nat) : Array Value → State → Outcome → State → Prop := fun _ st o t => (∃ (a1 : Nat) (g : Nat → Option Nat), o = .returned (some (.ref a1)) ∧ va_P D vCl [(a1, .inl (K 3, rqs n g))] t.heap ∧ (∀ i, i < n → g i = f i) ∧ st.heap.size ≤ a1) ∧ va_F (fun _ => False) st t
theorem jC_blind {D : va_G} {K : Nat → ClassId} {s0 : State} {A : Nat → Prop} {ws : va_W} {n : Nat} {f : Nat → Option Nat} {av : List Value} : FrameBlind (jCPc D K s0 A ws n f av) := by
  intro a U g mk q
  obtain ⟨q0, ⟨qP, qK, qN⟩, qA⟩ := q
  exact ⟨q0, ⟨qP, va_K.moved (u := U) (U := U.calling g mk a) (Vm.Alike.refl U.vm) qK, qN⟩, fun i hi y hy => any_moved (u := U) (U := U.calling g mk a) (Vm.Alike.refl U.vm) (qA i hi y hy)⟩
theorem arr_recv {s : State} {H : Heap} {D : va_G} {K : Nat → ClassId} {ws : va_W} {a q0 n : Nat} {f : Nat → Option Nat} (hK : va_K D vCl (cT K) s) (hP : va_P D vCl ws H) (hq : ws[q0]? = some (a, .inl (K 3, rqs n f))) : ∃ cell : Cell, H[a]? = some cell ∧ cell.vm.isStatics = false ∧ s.vm.findClass "[Ljava/lang/Object;" = some cell.cls := by
  obtain ⟨_, _, _, _, _, e1⟩ := (hK.2 3 (K 3, .object "java/lang/Object") rfl).2
  exact ⟨_, hP q0 _ hq, rfl, e1⟩
theorem nil_P {D : va_G} {cl : List vw_C} {H : Heap} : va_P D cl [] H := fun k q h => by simp at h
theorem nil_D {A : Nat → Prop} : va_D A [] := ⟨fun i j p q hi => by simp at hi, fun k q h => by simp at h⟩
theorem two_D {A : Nat → Prop} {a b : Nat} {x y : va_E} (hne : a ≠ b) (ha : A a) (hb : A b) : va_D A [(a, x), (b, y)] := by
  refine ⟨fun i j p q hi hj h => ?_, fun k x hk => ?_⟩
  · have h1 := (List.getElem?_eq_some_iff.mp hi).1
    have h2 := (List.getElem?_eq_some_iff.mp hj).1
    simp at h1 h2
    rcases (show i = 0 ∨ i = 1 by omega) with rfl | rfl <;> rcases (show j = 0 ∨ j = 1 by omega) with rfl | rfl
    · rfl
    · cases hi; cases hj; exact absurd h hne
    · cases hi; cases hj; exact absurd h.symm hne
    · rfl
  · have h1 := (List.getElem?_eq_some_iff.mp hk).1
    simp at h1
    rcases (show k = 0 ∨ k = 1 by omega) with rfl | rfl
    · cases hk; exact ha
    · cases hk; exact hb
/-- cells of a world that is the same in two heaps -/
theorem arr_same {D : va_G} {cl : List vw_C} {w1 w2 : va_W} {H H1 : Heap} {i j a : Nat} {x : ClassId × vp_A} (h1 : va_P D cl w1 H) (h2 : va_P D cl w2 H1) (hi : w1[i]? = some (a, .inl x)) (hj : w2[j]? = some (a, .inl x)) : H1[a]? = H[a]? := by
  have e1 : H[a]? = some (vp_cell x.1 x.2) := h1 i _ hi
  have e2 : H1[a]? = some (vp_cell x.1 x.2) := h2 j _ hj
  rw [e1, e2]
abbrev rmJ18_copyOf_2 : Room := { frames := 3, cells := 1, slots := 10, locals := 80 }
set_option maxHeartbeats 1000000 in
theorem jm_copyOf_2 (l : Launch) {s0 : State} {a0 : Array Value} {A : Nat → Prop} (hT : ∀ w ∈ lw_tbl, w.before a0 s0 = true) (D : va_G) (K : Nat → ClassId) (e2 n cap mir : Nat) (f : Nat → Option Nat) (hM : mirE s0 mir) (hn : n ≤ 10) (hnc : n ≤ cap) (hcap : cap < 2 ^ 31) (hAe : A e2) : Met l yJ18_copyOf_2 (ws_ yJ18_copyOf_2 cJ18_copyOf_2 4 (some (.array (.object "java/lang/Object")))) rmJ18_copyOf_2 (jCPc D K s0 A [(e2, .inl (K 3, rqs cap f))] n f [.ref e2, .int (nI n), .ref mir]) (jCQ D K n f) 1 10 A := by
  refine gx_start RJ18 (by decide) rfl (Nat.le_of_ble_eq_true rfl) ?_
  intro p e s m args below meth c ls E hr hlocks _ hC hl
  obtain ⟨⟨hP, hK, hX, hA⟩, hany⟩ := hC
  have hP0 := hP
  have hMs := hM.warm hX.1
  have hS : va_S (fun x => s.heap.size ≤ x) s.heap s.heap [] := va_S.rf
  have hl : lv_has ls 4 [(0, .ref e2), (1, .int (nI n)), (2, .ref mir)] := hl
  refine lv_aload_n E.1 E.2.1 dJ18_copyOf_2_0 rfl (lv_at hl 2 rfl) ?_
  refine lv_ldcM E hMs q440 dJ18_copyOf_2_1 ?_
  refine lv_acmp_ne (rx := some mir) (ry := some mir) (tgt := 13) E.1 E.2.1 dJ18_copyOf_2_3 (by decide) (fun h => absurd rfl h) (fun _ => ?_)
  refine lv_iload_n E.1 E.2.1 dJ18_copyOf_2_6 rfl (lv_at hl 1 rfl) ?_
  have hle2 : e2 < s.heap.size := (hP 0 _ rfl).lt
  refine va_newq (N' := n) E.1 E.2.1 E.2.2.2.1 (E.2.2.2.2 _ q442) (va_AO.moved hX.1.alike (va_AO.of (hT _ q441))) (ws := []) (A := fun x => s.heap.size ≤ x) hK nil_P nil_D hS (fun q hq => hq) (nI_pos (by omega)) (nI_clamp (by omega)) (by omega) (by show 0 + 1 ≤ 1; omega) (by show 0 + n ≤ 10; omega) dJ18_copyOf_2_7 (fun q cA H hK1 hPn hDn hS => ?_)
  have hcA : cA = K 3 := kA_o (hK1.2 3 (K 3, .object "java/lang/Object") rfl).2 (hK1.2 5 (cA, .object "java/lang/Object") rfl).2
  subst hcA
  have hqn : s.heap.size ≤ q := hDn.2 0 _ rfl
  have hPe : va_P D vCl [(e2, .inl (K 3, rqs cap f))] H := fun k x hk => (hP k x hk).kept (by
    have hx1 : x.1 = e2 := by
      have h1 := (List.getElem?_eq_some_iff.mp hk).1
      simp at h1
      subst h1
      cases hk
      rfl
    rw [hx1]
    exact hS.2.1 e2 hle2 (by show ¬ s.heap.size ≤ e2; omega))
  have hPw : va_P D vCl [(q, .inl (K 3, rqs n (fun _ => none))), (e2, .inl (K 3, rqs cap f))] H := by
    intro k x hk
    cases k with
    | zero => cases hk; exact hPn 0 _ rfl
    | succ k => exact hPe k x hk
  have hne : q ≠ e2 := by omega
  have hD2 : va_D (fun x => s.heap.size ≤ x ∨ x = e2) [(q, .inl (K 3, rqs n (fun _ => none))), (e2, .inl (K 3, rqs cap f))] := two_D hne (Or.inl hqn) (Or.inr rfl)
  refine lv_goto (tgt := 24) E.1 E.2.1 dJ18_copyOf_2_10 (by decide) ?_
  refine lv_astore_n (lv' := [(3, .ref q), (0, .ref e2), (1, .int (nI n)), (2, .ref mir)]) E.1 E.2.1 dJ18_copyOf_2_24 rfl hl (by decide) rfl (fun ls hl => ?_)
  refine lv_aload_n E.1 E.2.1 dJ18_copyOf_2_25 rfl (lv_at hl 1 rfl) ?_
  refine lv_iconst (v := (0 : Int32)) E.1 E.2.1 dJ18_copyOf_2_26 (by decide) ?_
  refine lv_aload_n E.1 E.2.1 dJ18_copyOf_2_27 rfl (lv_at hl 0 rfl) ?_
  refine lv_iconst (v := (0 : Int32)) E.1 E.2.1 dJ18_copyOf_2_28 (by decide) ?_
  refine lv_aload_n E.1 E.2.1 dJ18_copyOf_2_29 rfl (lv_at hl 1 rfl) ?_
  refine va_alen (v := nI cap) E.1 E.2.1 hK hPw 1 3 rfl rfl rfl dJ18_copyOf_2_30 ?_
  refine lv_iload_n E.1 E.2.1 dJ18_copyOf_2_31 rfl (lv_at hl 2 rfl) ?_
  refine va_mmin E.1 E.2.1 (E.2.2.1.trans hl.1.symm) E.2.2.2.1 (E.2.2.2.2 _ q443) (E.2.2.2.2 _ q444) (E.2.2.2.2 _ q73) (E.2.2.2.2 _ q445) (Nat.le_of_ble_eq_true rfl) (Nat.le_of_ble_eq_true rfl) (by show 0 + 1 ≤ 1; omega) (by show 0 + n ≤ 10; omega) dJ18_copyOf_2_32 ?_
  have hmin : (if nI n < nI cap then nI n else nI cap) = nI n := by
    rcases Nat.lt_or_ge n cap with h | h
    · rw [if_pos (nI_lt h hcap)]
    · rw [if_neg (nI_nlt h (by omega)), show cap = n by omega]
  first
    | rw [hmin]
    | skip
  have hS2 : va_S (fun x => s.heap.size ≤ x ∨ x = e2) s.heap H [] := ⟨hS.1, fun x h1 h2 => hS.2.1 x h1 (fun h => h2 (Or.inl h)), fun x hx => by cases hx⟩
  have hcn : (nI n).toNatClampNeg = n := nI_clamp (by omega)
  have hc0 : (0 : Int32).toNatClampNeg = 0 := by decide
  refine va_copyM (A := fun x => s.heap.size ≤ x ∨ x = e2) E.1 E.2.1 (E.2.2.1.trans hl.1.symm) E.2.2.2.1 (E.2.2.2.2 _ q446) (E.2.2.2.2 _ q359) (E.2.2.2.2 _ q358) (E.2.2.2.2 _ q72) hK hPw hD2 hS2 1 0 3 3 rfl rfl rfl rfl (by decide) (by decide) (nI_pos (by omega)) (by rw [hcn, hc0]; omega) (by rw [hcn, hc0]; omega) (fun i hi y hy => ?_) (Nat.le_of_ble_eq_true rfl) (by decide) dJ18_copyOf_2_35 (fun H locs hP _ hS3 => ?_)
  · rw [hcn] at hi
    rw [hc0, Nat.zero_add] at hy
    have hv := hany i hi y hy
    exact any_S hv hS (by
      obtain ⟨cell, hc, -⟩ := hv
      have := (Array.getElem?_eq_some_iff.mp hc).1
      show ¬ s.heap.size ≤ y
      omega)
  refine lv_aload_n E.1 E.2.1 dJ18_copyOf_2_38 rfl (lv_at hl 0 rfl) ?_
  refine W_pad (c' := 1) (s' := 10) (by decide) (by show 0 + n ≤ 10; omega) ?_
  rw [hcn, hc0] at hP
  have hP : va_P D vCl [(q, .inl (K 3, rqs n (va_cpy f (fun _ => none) 0 0 n))), (e2, .inl (K 3, rqs cap f))] H := hP
  refine W.aret E.1 E.2.1 hr (Or.inr ⟨_, rfl⟩) (Or.inr ⟨_, rfl⟩) (fun t ht _ => ⟨⟨q, va_cpy f (fun _ => none) 0 0 n, rfl, by rw [ht]; exact vP_of hP (fun x hx => by rw [List.mem_singleton] at hx; rw [hx]; exact List.mem_cons_self), fun i hi => ?_, hqn⟩, (hS3.F ht).1, fun x h1 _ => ?_⟩) (fun x hx => (hS3.2.2 x hx).elim (fun h => hA _ h) (fun h => by rw [h]; exact hAe)) dJ18_copyOf_2_39 hlocks
  · rw [pk_cpy_in (by omega) (by omega), Nat.sub_zero, Nat.zero_add]
  · by_cases hx : x = e2
    · rw [ht, hx]
      exact arr_same hP0 hP (i := 0) (j := 1) rfl rfl
    · exact (hS3.F ht).2 x h1 (fun h => h.elim (fun h => absurd h (by omega)) hx)
