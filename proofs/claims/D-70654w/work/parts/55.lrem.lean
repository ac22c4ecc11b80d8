/-! ArrayList.remove, of the last element -/
abbrev jF (h e0 : Nat) : Nat → Prop := fun x => x = h ∨ x = e0
abbrev rmJ2_frem : Room := { frames := 1, cells := 0, slots := 0, locals := 20 }
abbrev rmJ2_rem : Room := { frames := 3, cells := 0, slots := 0, locals := 80 }
section JP
variable {p : Program} {l : Launch} {e : Env} {R : Room} {s : State} {m : MethodId} {args : Array Value} {below : List Frame} {meth : Method} {c : Code} {H : Heap} {locs : List Loc} {cells slots : Nat} {Q : State → Prop} {cc : ByteArray} {nL pc : Nat} {rest : List Value} {ls : Array Slot} {D : va_G} {K : Nat → ClassId} {A : Nat → Prop}
/-- modCount++ of a list that lies first in the world -/
theorem j_mod {h e0 : Nat} {mc n : Int32} {tl : va_W} (E : CallFix p m c cc nL s args lw_all RJ2) (hK : va_K D vCl (cT K) s) (hP : va_P D vCl (jL h mc e0 n :: tl) H) (hD : va_D A (jL h mc e0 n :: tl)) (hS : va_S A s.heap H locs) (hl : ls.size = nL) (hR : True)
    (d1 : decode cc pc = .ok (.dup, 1)) (d2 : decode cc (pc + 1) = .ok (.getfield 63, 3)) (d3 : decode cc (pc + 1 + 3) = .ok (.iconst 1, 1)) (d4 : decode cc (pc + 1 + 3 + 1) = .ok (.iadd, 1)) (d5 : decode cc (pc + 1 + 3 + 1 + 1) = .ok (.putfield 63, 3))
    (kk : ∀ (H : Heap) (locs : List Loc), va_P D vCl (jL h (mc + 1) e0 n :: tl) H → va_D A (jL h (mc + 1) e0 n :: tl) → va_S A s.heap H locs → W p l e R s m args below meth c H locs cells slots Q (F0 m (pc + 1 + 3 + 1 + 1 + 3) ls rest)) : W p l e R s m args below meth c H locs cells slots Q (F0 m pc ls (.ref h :: rest)) := by
  refine lv_dup E.1 E.2.1 d1 rfl ?_
  refine va_get E.1 E.2.1 E.2.2.2.2 in_J2 E.2.2.2.1 hK hP 0 rfl (ci := 2) (C := RJ2) (T := TJ2) (N := 3) rfl 0 (by decide) (E.2.2.2.2 _ q112) (u_same (E.2.2.2.2 _ q113)) rfl d2 ?_
  refine lv_iconst (v := (1 : Int32)) E.1 E.2.1 d3 (by decide) ?_
  refine lv_iadd E.1 E.2.1 d4 ?_
  exact va_put E.1 E.2.1 E.2.2.2.2 in_J2 tyJ2 tyJ2_ok nmJ2 E.2.2.2.1 hK hP hD hS 0 rfl (ci := 2) (C := RJ2) (T := TJ2) (N := 3) rfl 0 (by decide) (E.2.2.2.2 _ q112) (u_same (E.2.2.2.2 _ q113)) rfl (ty := .int) (by decide +kernel) rfl rfl (Nat.le_of_ble_eq_true rfl) d5 (fun H locs hP hD hS => kk H locs hP hD hS)
/-- size := v -/
theorem j_size {h e0 : Nat} {mc n v : Int32} {tl : va_W} (E : CallFix p m c cc nL s args lw_all RJ2) (hK : va_K D vCl (cT K) s) (hP : va_P D vCl (jL h mc e0 n :: tl) H) (hD : va_D A (jL h mc e0 n :: tl)) (hS : va_S A s.heap H locs) (d5 : decode cc pc = .ok (.putfield 48, 3))
    (kk : ∀ (H : Heap) (locs : List Loc), va_P D vCl (jL h mc e0 v :: tl) H → va_D A (jL h mc e0 v :: tl) → va_S A s.heap H locs → W p l e R s m args below meth c H locs cells slots Q (F0 m (pc + 3) ls rest)) : W p l e R s m args below meth c H locs cells slots Q (F0 m pc ls (.int v :: .ref h :: rest)) :=
  va_put E.1 E.2.1 E.2.2.2.2 in_J2 tyJ2 tyJ2_ok nmJ2 E.2.2.2.1 hK hP hD hS 0 rfl (ci := 2) (C := RJ2) (T := TJ2) (N := 3) rfl 2 (by decide) (E.2.2.2.2 _ q110) (fun _ h => h) rfl (ty := .int) (by decide +kernel) rfl rfl (Nat.le_of_ble_eq_true rfl) d5 (fun H locs hP hD hS => kk H locs hP hD hS)
end JP
set_option maxHeartbeats 1000000 in
theorem jm_fastRemove (l : Launch) (D : va_G) (K : Nat → ClassId) (h : Nat) (mc : Int32) (e0 k cap : Nat) (f : Nat → Option Nat) (hne : h ≠ e0) (hk : k < cap) (hcap : cap < 2 ^ 31 - 1) : Met l yJ2_fastRemove (ws_ yJ2_fastRemove cJ2_fastRemove 4 none) rmJ2_frem (jPc D K (jW K h mc e0 (nI (k + 1)) cap f) [.ref h, .ref e0, .int (nI k)]) (jQ D (jW K h (mc + 1) e0 (nI k) cap (va_up f k none)) (jF h e0) none) 0 0 (jF h e0) := by
  refine gx_start RJ2 (by decide) rfl (Nat.le_of_ble_eq_true rfl) ?_
  intro p e s m args below meth c ls E hr hlocks _ hC hl
  obtain ⟨hP, hK⟩ := hC
  have hD : va_D (jF h e0) (jW K h mc e0 (nI (k + 1)) cap f) := jW_D hne (Or.inl rfl) (Or.inr rfl)
  have hS : va_S (jF h e0) s.heap s.heap [] := va_S.rf
  have hl : lv_has ls 4 [(0, .ref h), (1, .ref e0), (2, .int (nI k))] := hl
  have hs1 : nI (k + 1) - 1 = nI k := by rw [← nI_1 k]; exact Int32.add_sub_cancel _ _
  refine lv_aload_n E.1 E.2.1 dJ2_fastRemove_0 rfl (lv_at hl 0 rfl) ?_
  refine j_mod E hK hP hD hS hl.1 trivial dJ2_fastRemove_1 dJ2_fastRemove_2 dJ2_fastRemove_5 dJ2_fastRemove_6 dJ2_fastRemove_7 (fun H locs hP hD hS => ?_)
  refine lv_aload_n E.1 E.2.1 dJ2_fastRemove_10 rfl (lv_at hl 0 rfl) ?_
  refine va_get E.1 E.2.1 E.2.2.2.2 in_J2 E.2.2.2.1 hK hP 0 rfl (ci := 2) (C := RJ2) (T := TJ2) (N := 3) rfl 2 (by decide) (E.2.2.2.2 _ q110) (fun _ h => h) rfl dJ2_fastRemove_11 ?_
  refine lv_iconst (v := (1 : Int32)) E.1 E.2.1 dJ2_fastRemove_14 (by decide) ?_
  refine lv_isub E.1 E.2.1 dJ2_fastRemove_15 ?_
  rw [hs1]
  refine lv_dup E.1 E.2.1 dJ2_fastRemove_16 rfl ?_
  refine lv_istore_n (lv' := [(3, .int (nI k)), (0, .ref h), (1, .ref e0), (2, .int (nI k))]) E.1 E.2.1 dJ2_fastRemove_17 rfl hl (by decide) rfl (fun ls hl => ?_)
  refine lv_iload_n E.1 E.2.1 dJ2_fastRemove_18 rfl (lv_at hl 3 rfl) ?_
  refine lv_icmp_le (tgt := 34) E.1 E.2.1 dJ2_fastRemove_19 (by decide) (fun _ => ?_) (fun h => absurd (Int32.le_refl _) h)
  refine lv_aload_n E.1 E.2.1 dJ2_fastRemove_34 rfl (lv_at hl 2 rfl) ?_
  refine lv_aload_n E.1 E.2.1 dJ2_fastRemove_35 rfl (lv_at hl 1 rfl) ?_
  refine lv_iload_n E.1 E.2.1 dJ2_fastRemove_36 rfl (lv_at hl 0 rfl) ?_
  refine lv_dup_x1 E.1 E.2.1 dJ2_fastRemove_37 rfl rfl ?_
  refine j_size E hK hP hD hS dJ2_fastRemove_38 (fun H locs hP hD hS => ?_)
  refine lv_null E.1 E.2.1 dJ2_fastRemove_41 ?_
  refine va_astqN E.1 E.2.1 hK hP hD hS 1 3 rfl rfl (vp_in_nI hk (by omega)) dJ2_fastRemove_42 (fun H locs hP _ hS => ?_)
  have hP : va_P D vCl (jW K h (mc + 1) e0 (nI k) cap (va_up f (nI k).toNatClampNeg none)) H := hP
  rw [nI_clamp (by omega)] at hP
  exact W.vret E.1 E.2.1 hr (fun t ht _ => ⟨⟨rfl, by rw [ht]; exact hP⟩, hS.F ht⟩) hS.2.2 dJ2_fastRemove_43 hlocks
section JGO
variable {p : Program} {l : Launch} {e : Env} {R : Room} {s : State} {m : MethodId} {args : Array Value} {below : List Frame} {meth : Method} {c : Code} {H : Heap} {locs : List Loc} {cells slots : Nat} {Q : State → Prop} {cc : ByteArray} {nL pc : Nat} {rest : List Value} {ls : Array Slot} {D : va_G} {F : Nat → Prop}
/-- behind a call on the same small world -/
theorem j_go {mc ms : Nat} {av : Array Value} {v : Option Value} {ws' : va_W} {st0 : List Value} (hr : va_Run p l e R s m args below meth c H locs cells slots mc ms (F0 m pc ls st0) rest (jQ D ws' F v av) F) (hS : va_S F s.heap H locs)
    (kk : ∀ (H : Heap) (locs : List Loc), va_P D vCl ws' H → va_S F s.heap H locs → W p l e R s m args below meth c H locs (cells + mc) (slots + ms) Q (F0 m (pc + 3) ls (v.toList ++ rest))) : W p l e R s m args below meth c H locs cells slots Q (F0 m pc ls st0) := by
  intro T hT X
  obtain ⟨v', st₀, t, T', L, h0, X', hL, h1, -, ⟨⟨hq, hq2⟩, hq3⟩, st⟩ := hr T hT X
  cases hq
  obtain ⟨t2, a1, b1⟩ := kk t.heap (locs ++ L) hq2 (vS_call hS h0 hq3 (fun _ _ h => h) hL rfl) T' h1 X'
  exact ⟨t2, st t2 a1, b1⟩
end JGO
set_option maxHeartbeats 1000000 in
theorem jm_remove (l : Launch) (D : va_G) (K : Nat → ClassId) (h : Nat) (mc : Int32) (e0 k cap a : Nat) (f : Nat → Option Nat) (hne : h ≠ e0) (hk : k < cap) (hcap : cap < 2 ^ 31 - 1) (hf : f k = some a) : Met l yJ2_remove (ws_ yJ2_remove cJ2_remove 4 (some (.object "java/lang/Object"))) rmJ2_rem (jPc D K (jW K h mc e0 (nI (k + 1)) cap f) [.ref h, .int (nI k)]) (jQ D (jW K h (mc + 1) e0 (nI k) cap (va_up f k none)) (jF h e0) (some (.ref a))) 0 0 (jF h e0) := by
  refine gx_start RJ2 (by decide) rfl (Nat.le_of_ble_eq_true rfl) ?_
  intro p e s m args below meth c ls E hr hlocks _ hC hl
  obtain ⟨hP, hK⟩ := hC
  have hS : va_S (jF h e0) s.heap s.heap [] := va_S.rf
  have hl : lv_has ls 4 [(0, .ref h), (1, .int (nI k))] := hl
  refine lv_iload_n E.1 E.2.1 dJ2_remove_0 rfl (lv_at hl 1 rfl) ?_
  refine lv_aload_n E.1 E.2.1 dJ2_remove_1 rfl (lv_at hl 0 rfl) ?_
  refine va_get E.1 E.2.1 E.2.2.2.2 in_J2 E.2.2.2.1 hK hP 0 rfl (ci := 2) (C := RJ2) (T := TJ2) (N := 3) rfl 2 (by decide) (E.2.2.2.2 _ q110) (fun _ h => h) rfl dJ2_remove_2 ?_
  refine px_call (As := [.int (nI k), .int (nI (k + 1))]) (rest := []) (v := .int (nI k)) E (mm_J14_checkIndex l _ _ _ (j_ci (nI_pos (by omega)) (nI_lt (by omega) (by omega)))) (va_cwS 2 E.2.2.2.2 (lw_S q189 q190 q74 q191) rfl rfl rfl (by decide +kernel) ⟨Nat.le_of_ble_eq_true rfl, Nat.le_of_ble_eq_true rfl⟩) hl rfl rfl (Nat.le_of_ble_eq_true rfl) ⟨Nat.zero_le _, Nat.zero_le _⟩ dJ2_remove_5 ?_
  refine lv_pop E.1 E.2.1 dJ2_remove_8 rfl ?_
  refine lv_aload_n E.1 E.2.1 dJ2_remove_9 rfl (lv_at hl 0 rfl) ?_
  refine va_get E.1 E.2.1 E.2.2.2.2 in_J2 E.2.2.2.1 hK hP 0 rfl (ci := 2) (C := RJ2) (T := TJ2) (N := 3) rfl 1 (by decide) (E.2.2.2.2 _ q109) (fun _ h => h) rfl dJ2_remove_10 ?_
  refine lv_astore_n (lv' := [(2, .ref e0), (0, .ref h), (1, .int (nI k))]) E.1 E.2.1 dJ2_remove_13 rfl hl (by decide) rfl (fun ls hl => ?_)
  refine lv_aload_n E.1 E.2.1 dJ2_remove_14 rfl (lv_at hl 0 rfl) ?_
  refine lv_iload_n E.1 E.2.1 dJ2_remove_15 rfl (lv_at hl 2 rfl) ?_
  refine va_aldq E.1 E.2.1 hK hP 1 3 rfl rfl (vp_in_nI hk (by omega)) dJ2_remove_16 ?_
  rw [nI_clamp (by omega), hf]
  refine lv_astore_n (lv' := [(3, .ref a), (2, .ref e0), (0, .ref h), (1, .int (nI k))]) E.1 E.2.1 dJ2_remove_17 rfl hl (by decide) rfl (fun ls hl => ?_)
  refine lv_aload_n E.1 E.2.1 dJ2_remove_18 rfl (lv_at hl 2 rfl) ?_
  refine lv_aload_n E.1 E.2.1 dJ2_remove_19 rfl (lv_at hl 1 rfl) ?_
  refine lv_iload_n E.1 E.2.1 dJ2_remove_20 rfl (lv_at hl 3 rfl) ?_
  refine j_go (va_runV (As := [.ref e0, .int (nI k)]) (rest := []) E (jm_fastRemove l D K h mc e0 k cap f hne hk hcap) (cwV 2 E.2.2.2.2 (lw_V q462 q464 qs18 q57 q465) rfl rfl rfl (by decide +kernel) ⟨Nat.le_of_ble_eq_true rfl, Nat.le_of_ble_eq_true rfl⟩) (j_pre hK hP (va_recv hK hP (ci := 2) (q0 := 0) (q := (RJ2, TJ2, 3)) rfl rfl)) rfl rfl hl.1 rfl (lv_room (Nat.le_of_ble_eq_true rfl)) dJ2_remove_21 ⟨Nat.zero_le _, Nat.zero_le _⟩) hS (fun H locs hP hS => ?_)
  refine lv_aload_n E.1 E.2.1 dJ2_remove_24 rfl (lv_at hl 0 rfl) ?_
  exact W.aret E.1 E.2.1 hr (Or.inl ⟨_, rfl⟩) (Or.inr ⟨_, rfl⟩) (fun t ht _ => ⟨⟨rfl, by rw [ht]; exact hP⟩, hS.F ht⟩) hS.2.2 dJ2_remove_25 hlocks
