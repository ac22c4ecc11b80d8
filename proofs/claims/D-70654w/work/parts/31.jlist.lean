/-! java.util.ArrayList, what is read of it: size, isEmpty, get -/
section JL
variable {p : Program} {l : Launch} {e : Env} {R : Room} {s : State} {m : MethodId} {args : Array Value} {below : List Frame} {meth : Method} {c : Code} {H : Heap} {locs : List Loc} {cells slots : Nat} {Q : State → Prop} {cc : ByteArray} {nL pc : Nat} {rest : List Value} {ls : Array Slot} {D : va_G} {K : Nat → ClassId} {own : String}
theorem jx_aret {v : Value} {rt : FieldType} (E : CallFix p m c cc nL s args lw_all own) (hr : meth.sig.returnType = some rt) (hrt : (∃ n, rt = .object n) ∨ ∃ t, rt = .array t) (hv : v = .null ∨ ∃ a, v = .ref a) (hlocks : meth.locks = false) (hdg : decode cc pc = .ok (.areturn, 1)) : W p l e R s m args below meth c s.heap [] 0 0 (MQ below (pQ v) args s 0 0 (fun _ => False)) (F0 m pc ls [v]) :=
  W.aret E.1 E.2.1 hr hrt hv (fun t ht _ => ⟨rfl, by rw [ht]⟩) (fun q h => by cases h) hdg hlocks
theorem rf_or (r : Option Nat) : va_rf r = .null ∨ ∃ a, va_rf r = .ref a := by
  cases r with
  | none => exact Or.inl rfl
  | some a => exact Or.inr ⟨a, rfl⟩
end JL
/-- the list's own cell -/
abbrev jL (h : Nat) (mc : Int32) (e : Nat) (n : Int32) : Nat × va_E := (h, .inr (2, [.int mc, .ref e, .int n]))
abbrev jPc (D : va_G) (K : Nat → ClassId) (ws : va_W) (av : List Value) : Array Value → State → Prop := va_Pc av (fun U => va_P D vCl ws U.heap ∧ va_K D vCl (cT K) U)
theorem j_pre {s : State} {H : Heap} {D : va_G} {K : Nat → ClassId} {ws : va_W} {C : String} {b : Nat} {As : List Value} (hK : va_K D vCl (cT K) s) (hP : va_P D vCl ws H) (hc : ∃ cellB : Cell, H[b]? = some cellB ∧ cellB.vm.isStatics = false ∧ s.vm.findClass C = some cellB.cls) : PreV s H C b (jPc D K ws (.ref b :: As)) As :=
  ⟨fun a U g mk q => by obtain ⟨q0, qP, qK⟩ := q; exact ⟨q0, qP, va_K.moved (u := U) (U := U.calling g mk a) (Vm.Alike.refl U.vm) qK⟩, hc, fun U hU hW => ⟨rfl, by rw [hU]; exact hP, va_K.moved hW.alike hK⟩⟩
abbrev rmJ2_size : Room := { frames := 1, cells := 0, slots := 0, locals := 12 }
theorem jm_size (l : Launch) (D : va_G) (K : Nat → ClassId) (h : Nat) (mc : Int32) (e0 : Nat) (n : Int32) : Met l yJ2_size (ws_ yJ2_size cJ2_size 1 (some .int)) rmJ2_size (jPc D K [jL h mc e0 n] [.ref h]) (pQ (.int n)) 0 0 (fun _ => False) := by
  refine gx_start RJ2 (by decide) rfl (Nat.le_of_ble_eq_true rfl) ?_
  intro p e s m args below meth c ls E hr hlocks _ hC hl
  obtain ⟨hP, hK⟩ := hC
  have hl : lv_has ls 1 [(0, .ref h)] := hl
  refine lv_aload_n E.1 E.2.1 dJ2_size_0 rfl (lv_at hl 0 rfl) ?_
  refine va_get E.1 E.2.1 E.2.2.2.2 in_J2 E.2.2.2.1 hK hP 0 rfl (ci := 2) (C := RJ2) (T := TJ2) (N := 3) rfl 2 (by decide) (E.2.2.2.2 _ q110) (fun _ h => h) rfl dJ2_size_1 ?_
  exact px_iret E hr hlocks rfl rfl dJ2_size_4
theorem jm_isEmpty (l : Launch) (D : va_G) (K : Nat → ClassId) (h : Nat) (mc : Int32) (e0 : Nat) (n : Int32) : Met l yJ2_isEmpty (ws_ yJ2_isEmpty cJ2_isEmpty 1 (some .boolean)) rmJ2_size (jPc D K [jL h mc e0 n] [.ref h]) (pQ (.int (if n = 0 then 1 else 0))) 0 0 (fun _ => False) := by
  refine gx_start RJ2 (by decide) rfl (Nat.le_of_ble_eq_true rfl) ?_
  intro p e s m args below meth c ls E hr hlocks _ hC hl
  obtain ⟨hP, hK⟩ := hC
  have hl : lv_has ls 1 [(0, .ref h)] := hl
  refine lv_aload_n E.1 E.2.1 dJ2_isEmpty_0 rfl (lv_at hl 0 rfl) ?_
  refine va_get E.1 E.2.1 E.2.2.2.2 in_J2 E.2.2.2.1 hK hP 0 rfl (ci := 2) (C := RJ2) (T := TJ2) (N := 3) rfl 2 (by decide) (E.2.2.2.2 _ q110) (fun _ h => h) rfl dJ2_isEmpty_1 ?_
  refine lv_if_ne (tgt := 11) E.1 E.2.1 dJ2_isEmpty_4 (by decide) (fun h => ?_) (fun h => ?_)
  · rw [if_neg h]
    refine lv_iconst (v := (0 : Int32)) E.1 E.2.1 dJ2_isEmpty_11 (by decide) ?_
    exact px_zret E hr hlocks rfl rfl dJ2_isEmpty_12
  · rw [if_pos h]
    refine lv_iconst (v := (1 : Int32)) E.1 E.2.1 dJ2_isEmpty_7 (by decide) ?_
    refine lv_goto (tgt := 12) E.1 E.2.1 dJ2_isEmpty_8 (by decide) ?_
    exact px_zret E hr hlocks rfl rfl dJ2_isEmpty_12
theorem jm_elementData (l : Launch) (D : va_G) (K : Nat → ClassId) (h : Nat) (mc : Int32) (e0 : Nat) (n : Int32) (cap : Nat) (f : Nat → Option Nat) (i : Int32) (hi : vp_in i cap) : Met l yJ2_elementData (ws_ yJ2_elementData cJ2_elementData 2 (some (.object "java/lang/Object"))) rmJ2_size (jPc D K [jL h mc e0 n, (e0, .inl (K 3, rqs cap f))] [.ref h, .int i]) (pQ (va_rf (f i.toNatClampNeg))) 0 0 (fun _ => False) := by
  refine gx_start RJ2 (by decide) rfl (Nat.le_of_ble_eq_true rfl) ?_
  intro p e s m args below meth c ls E hr hlocks _ hC hl
  obtain ⟨hP, hK⟩ := hC
  have hl : lv_has ls 2 [(0, .ref h), (1, .int i)] := hl
  refine lv_aload_n E.1 E.2.1 dJ2_elementData_0 rfl (lv_at hl 0 rfl) ?_
  refine va_get E.1 E.2.1 E.2.2.2.2 in_J2 E.2.2.2.1 hK hP 0 rfl (ci := 2) (C := RJ2) (T := TJ2) (N := 3) rfl 1 (by decide) (E.2.2.2.2 _ q109) (fun _ h => h) rfl dJ2_elementData_1 ?_
  refine lv_iload_n E.1 E.2.1 dJ2_elementData_4 rfl (lv_at hl 1 rfl) ?_
  refine va_aldq E.1 E.2.1 hK hP 1 3 rfl rfl hi dJ2_elementData_5 ?_
  exact jx_aret E hr (Or.inl ⟨_, rfl⟩) (rf_or _) hlocks dJ2_elementData_6
abbrev rmJ2_get : Room := { frames := 3, cells := 0, slots := 0, locals := 60 }
theorem j_ci {i n : Int32} (h0 : ¬ i < 0) (h1 : i < n) : j14_checkIndex i n = some i := by
  simp [j14_checkIndex, j15_checkIndex, jn, h0, h1]
theorem jm_get (l : Launch) (D : va_G) (K : Nat → ClassId) (h : Nat) (mc : Int32) (e0 : Nat) (n : Int32) (cap : Nat) (f : Nat → Option Nat) (i : Int32) (hi : vp_in i cap) (h0 : ¬ i < 0) (h1 : i < n) : Met l yJ2_get (ws_ yJ2_get cJ2_get 2 (some (.object "java/lang/Object"))) rmJ2_get (jPc D K [jL h mc e0 n, (e0, .inl (K 3, rqs cap f))] [.ref h, .int i]) (pQ (va_rf (f i.toNatClampNeg))) 0 0 (fun _ => False) := by
  refine gx_start RJ2 (by decide) rfl (Nat.le_of_ble_eq_true rfl) ?_
  intro p e s m args below meth c ls E hr hlocks _ hC hl
  obtain ⟨hP, hK⟩ := hC
  have hl : lv_has ls 2 [(0, .ref h), (1, .int i)] := hl
  refine lv_iload_n E.1 E.2.1 dJ2_get_0 rfl (lv_at hl 1 rfl) ?_
  refine lv_aload_n E.1 E.2.1 dJ2_get_1 rfl (lv_at hl 0 rfl) ?_
  refine va_get E.1 E.2.1 E.2.2.2.2 in_J2 E.2.2.2.1 hK hP 0 rfl (ci := 2) (C := RJ2) (T := TJ2) (N := 3) rfl 2 (by decide) (E.2.2.2.2 _ q110) (fun _ h => h) rfl dJ2_get_2 ?_
  refine px_call (As := [.int i, .int n]) (rest := []) (v := .int i) E (mm_J14_checkIndex l i n _ (j_ci h0 h1)) (va_cwS 2 E.2.2.2.2 (lw_S q189 q190 q74 q191) rfl rfl rfl (by decide +kernel) ⟨Nat.le_of_ble_eq_true rfl, Nat.le_of_ble_eq_true rfl⟩) hl rfl rfl (Nat.le_of_ble_eq_true rfl) ⟨Nat.zero_le _, Nat.zero_le _⟩ dJ2_get_5 ?_
  refine lv_pop E.1 E.2.1 dJ2_get_8 rfl ?_
  refine lv_aload_n E.1 E.2.1 dJ2_get_9 rfl (lv_at hl 0 rfl) ?_
  refine lv_iload_n E.1 E.2.1 dJ2_get_10 rfl (lv_at hl 1 rfl) ?_
  refine px_go (va_runV (As := [.int i]) (rest := []) E (jm_elementData l D K h mc e0 n cap f i hi) (cwV 1 E.2.2.2.2 (lw_V q195 q196 q197 q57 q198) rfl rfl rfl (by decide +kernel) ⟨Nat.le_of_ble_eq_true rfl, Nat.le_of_ble_eq_true rfl⟩) (j_pre hK hP (va_recv hK hP (ci := 2) (q0 := 0) (q := (RJ2, TJ2, 3)) rfl rfl)) rfl rfl hl.1 rfl (lv_room (Nat.le_of_ble_eq_true rfl)) dJ2_get_11 ⟨Nat.zero_le _, Nat.zero_le _⟩) ?_
  exact jx_aret E hr (Or.inl ⟨_, rfl⟩) (rf_or _) hlocks dJ2_get_14
