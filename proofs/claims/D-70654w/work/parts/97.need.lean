/-! need -/
abbrev pQ0 : Array Value → State → Outcome → State → Prop := fun _ st o t => o = .returned none ∧ t.heap = st.heap
section NEED
variable {p : Program} {l : Launch} {e : Env} {R : Room} {s : State} {m : MethodId} {args : Array Value} {below : List Frame} {meth : Method} {c : Code} {H : Heap} {locs : List Loc} {cells slots : Nat} {Q : State → Prop} {cc : ByteArray} {nL pc : Nat} {rest : List Value} {ls : Array Slot} {lv : List (Nat × Value)} {own : String}
theorem px_go0 {av : Array Value} {st0 : List Value} (hr : va_Run p l e R s m args below meth c H locs cells slots 0 0 (F0 m pc ls st0) rest (pQ0 av) (fun _ => False))
    (kk : W p l e R s m args below meth c H locs cells slots Q (F0 m (pc + 3) ls rest)) : W p l e R s m args below meth c H locs cells slots Q (F0 m pc ls st0) := by
  intro T hT X
  obtain ⟨v', st₀, t, T', L, h0, X', hL, h1, -, ⟨hq, hq2⟩, st⟩ := hr T hT X
  have hLn : L = [] := by
    cases L with
    | nil => rfl
    | cons a b => exact (hL a List.mem_cons_self).elim
  subst hLn
  rw [List.append_nil] at X'
  cases hq
  obtain ⟨t2, a1, b1⟩ := kk T' (by rw [h1, hq2, h0]) X'
  exact ⟨t2, st t2 a1, b1⟩
/-- a string constant by ldc_w -/
theorem lv_ldcWS (hexec : p.tables.exec = Jvm.exec) (hb : c.code = cc) {own tx : String} {index q : Nat} (hown : s.vm.findClass own = some m.cls) (hZ : vk_R own index tx q s) (hdg : decode cc pc = .ok (.ldc_w index, 3))
    (k : W p l e R s m args below meth c H locs cells slots Q (F0 m (pc + 3) ls (.ref q :: rest))) : W p l e R s m args below meth c H locs cells slots Q (F0 m pc ls rest) := by
  intro T hT X
  obtain ⟨t, a1, b1⟩ := k T hT X
  refine ⟨t, ?_, b1⟩
  obtain ⟨kC, cf, i, a', hk, hcf, hcp, -, hr, hev'⟩ := Cond.stringRef_spec hown hZ.1
  cases hZ.2.symm.trans hev'
  obtain ⟨k', hk', he⟩ := X.warmed.alike.2.2 _ _ hk
  have hr' : k'.resolved[index]? = some (some (.string q)) := by
    rcases X.warmed.entry hk hk' index with h | ⟨h, -⟩
    · rw [h]; exact hr
    · rw [hr] at h; cases h
  have hdg' : decode c.code (F0 m pc ls rest).pc = .ok (.ldc_w index, 3) := by rw [hb]; exact hdg
  have hm : (F0 m pc ls rest).method = m := rfl
  have X1 : At T (F0 m pc ls rest).method c below := X.here
  jvm_step X1 [hexec, hdg', ldc_w.wp_string (e := e) (s := T) (f := F0 m pc ls rest) X.here.top hk' (by rw [he]; exact hcf) hcp hr']
  exact a1
end NEED
abbrev rmX0_need : Room := { frames := 1, cells := 0, slots := 0, locals := 12 }
theorem ct_need1 (l : Launch) : Met l yX0_need (ws_ yX0_need cX0_need 1 none) rmX0_need (pPc [.int 1]) pQ0 0 0 (fun _ => False) := by
  refine px_start RX0 (by decide) rfl (Nat.le_of_ble_eq_true rfl) ?_
  intro p e s m args below meth c ls E hr hlocks hl
  have hl : lv_has ls 1 [(0, .int 1)] := hl
  refine lv_iload_n E.1 E.2.1 dX0_need_0 rfl (lv_at hl 0 rfl) ?_
  refine lv_if_ne (tgt := 15) E.1 E.2.1 dX0_need_1 (by decide) (fun _ => ?_) (fun h => absurd h (by decide))
  exact W.vret E.1 E.2.1 hr (fun t ht _ => ⟨rfl, ht⟩) (fun x hx => by cases hx) dX0_need_15 hlocks
set_option maxHeartbeats 1000000 in
theorem ct_need0 (l : Launch) {s0 : State} {a0 : Array Value} (G : cG l s0 a0) (D : va_G) (K : Nat → ClassId) : MetT l yX0_need (ws_ yX0_need cX0_need 1 none) rmXT (xPc D K s0 [] [.int 0]) "java/lang/IndexOutOfBoundsException" 3 1610 := by
  refine tx_start RX0 (by decide) rfl (Nat.le_of_ble_eq_true rfl) ?_
  intro p e s m args below meth c ls E hr hlocks hxt hC hl
  obtain ⟨hP, hK, hN, hO⟩ := hC
  have hl : lv_has ls 1 [(0, .int 0)] := hl
  have ha := xa_own G.1 E.2.2.2.2 hN hO (cG_x G hN hO)
  have hown0 : s0.vm.findClass RX0 = some m.cls := by rw [← hN.alike.findClass]; exact E.2.2.2.1
  obtain ⟨q, hZ⟩ : ∃ q, vk_R RX0 272 "not all there" q s := by
    obtain ⟨kC, cf, i, a', hk, hcf, hcp, -, hr, hev'⟩ := Cond.stringRef_spec hown0 (G.1 _ q854)
    exact ⟨a', vk_R.warm hN (vk_R.of (G.1 _ q854) hev')⟩
  refine lv_iload_n E.1 E.2.1 dX0_need_0 rfl (lv_at hl 0 rfl) ?_
  refine lv_if_ne (tgt := 15) E.1 E.2.1 dX0_need_1 (by decide) (fun h => absurd rfl h) (fun _ => ?_)
  refine W.newc (C := "java/lang/IndexOutOfBoundsException") (n := 6) E.1 E.2.1 E.2.2.2.1 (E.2.2.2.2 _ q701) (E.2.2.2.2 _ q846) (E.2.2.2.2 _ q70) rfl dX0_need_4 (by decide) (by decide) (fun cC kC h1 h2 h3 h4 => ?_)
  refine lv_dup E.1 E.2.1 dX0_need_7 rfl ?_
  refine lv_ldcWS E.1 E.2.1 E.2.2.2.1 hZ dX0_need_8 ?_
  intro T hT X
  obtain ⟨U, g1, g2, g3, g4, g5, ce, hce, KE⟩ := X.ctorThrowS E.1 (G.2.2.2 e X.admits) E.2.2.2.1 (cls := "java/lang/IndexOutOfBoundsException") (names := ["java/lang/RuntimeException", "java/lang/Exception"]) (ic := 274) (by decide) (by decide) ha (fun x h => by cases h) h1 h2 (a := s.heap.size) (by rw [hT]; simp) (Nat.le_refl _) (msg := .ref q) rfl (g := F0 m 11 ls [.ref q, .ref s.heap.size, .ref s.heap.size]) rfl (hl.1.trans E.2.2.1.symm) rfl rfl (rest := []) rfl (by rw [E.2.1]; exact dX0_need_11) (by rw [E.2.1]; exact dX0_need_14) (fun x h => by rw [hxt] at h; cases h) (by decide) (by show 2 * 0 + 1 + (13 * 3 + 42) ≤ 10300; decide) hlocks
  exact ⟨U, g1, s.heap.size, g2, g3, g4, ⟨_, _, by decide, by decide, g5⟩, ce, hce, by rw [KE.vm]; rfl, KE.cls⟩
