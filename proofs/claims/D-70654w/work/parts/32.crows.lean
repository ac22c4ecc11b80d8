/-! rows over the component's world: lists, riders, readings, calls -/
theorem lw_F {own : String} {idx : Nat} {C : String} {x y : MethodName} {b : ByteArray} {L : Nat} {r : Option FieldType} (h1 : Cond.methodLink own idx x ∈ lw_all) (h2 : Cond.selects C x y ∈ lw_all) (h3 : Cond.instanceMethod y ∈ lw_all) (h4 : Cond.initialized y.cls ∈ lw_all) (h5 : Cond.code y b L r ∈ lw_all) : GoodIn lw_all (va_wsF own idx C x y (ws_ y b L r)) := by
  refine lw_app ?_ (lw_meth h5)
  intro w hw
  simp only [List.mem_cons, List.not_mem_nil, or_false] at hw
  rcases hw with e | e | e | e
  · rw [e]; exact h1
  · rw [e]; exact h2
  · rw [e]; exact h3
  · rw [e]; exact h4
theorem lw_U {own : String} {idx : Nat} {C owner : String} {x y : MethodName} {b : ByteArray} {L : Nat} {r : Option FieldType} (h1 : Cond.methodLink own idx x ∈ lw_all) (h2 : Cond.sameMethod x.cls owner x.name x.desc ∈ lw_all) (h3 : Cond.selects C x y ∈ lw_all) (h4 : Cond.instanceMethod y ∈ lw_all) (h5 : Cond.initialized y.cls ∈ lw_all) (h6 : Cond.code y b L r ∈ lw_all) : GoodIn lw_all (va_wsU own idx C owner x y (ws_ y b L r)) := by
  refine lw_app ?_ (lw_meth h6)
  intro w hw
  simp only [List.mem_cons, List.not_mem_nil, or_false] at hw
  rcases hw with e | e | e | e | e
  · rw [e]; exact h1
  · rw [e]; exact h2
  · rw [e]; exact h3
  · rw [e]; exact h4
  · rw [e]; exact h5
theorem lw_O {own : String} {idx : Nat} {C owner : String} {x y : MethodName} {b : ByteArray} {L : Nat} {r : Option FieldType} (h1 : Cond.methodLink own idx x ∈ lw_all) (h2 : Cond.sameMethod x.cls owner x.name x.desc ∈ lw_all) (h2' : Cond.instanceMethod ⟨owner, x.name, x.desc⟩ ∈ lw_all) (h3 : Cond.selects C x y ∈ lw_all) (h4 : Cond.instanceMethod y ∈ lw_all) (h5 : Cond.initialized y.cls ∈ lw_all) (h6 : Cond.code y b L r ∈ lw_all) : GoodIn lw_all (va_wsO own idx C owner x y (ws_ y b L r)) := by
  refine lw_app ?_ (lw_meth h6)
  intro w hw
  simp only [List.mem_cons, List.not_mem_nil, or_false] at hw
  rcases hw with e | e | e | e | e | e
  · rw [e]; exact h1
  · rw [e]; exact h2
  · rw [e]; exact h2'
  · rw [e]; exact h3
  · rw [e]; exact h4
  · rw [e]; exact h5
theorem lw_SU {own : String} {idx : Nat} {y : MethodName} {b : ByteArray} {L : Nat} {r : Option FieldType} (h1 : Cond.methodLink own idx y ∈ lw_all) (h2 : Cond.sameMethod y.cls y.cls y.name y.desc ∈ lw_all) (h3 : Cond.superclass own y.cls ∈ lw_all) (h4 : Cond.instanceMethod y ∈ lw_all) (h5 : Cond.initialized y.cls ∈ lw_all) (h6 : Cond.code y b L r ∈ lw_all) : GoodIn lw_all (va_wsSU own idx y (ws_ y b L r)) := by
  refine lw_app ?_ (lw_meth h6)
  intro w hw
  simp only [List.mem_cons, List.not_mem_nil, or_false] at hw
  rcases hw with e | e | e | e | e
  · rw [e]; exact h1
  · rw [e]; exact h2
  · rw [e]; exact h3
  · rw [e]; exact h4
  · rw [e]; exact h5
theorem vP_of {D : va_G} {cl : List vw_C} {ws ws' : va_W} {H : Heap} (h : va_P D cl ws H) (hs : ∀ x ∈ ws', x ∈ ws) : va_P D cl ws' H := by
  intro k q hk
  obtain ⟨i, hi⟩ := List.getElem?_of_mem (hs q (List.mem_of_getElem? hk))
  exact h i q hi
section CROWS
variable {p : Program} {l : Launch} {e : Env} {R : Room} {s : State} {m : MethodId} {args : Array Value} {below : List Frame} {meth : Method} {c : Code} {H : Heap} {locs : List Loc} {cells slots : Nat} {Q : State → Prop} {cc : ByteArray} {nL pc : Nat} {rest : List Value} {ls : Array Slot} {D : va_G} {K : Nat → ClassId} {s0 : State} {a0 : Array Value} {B : Nat → Nat} {ad : CA} {A : Nat → Prop} {z : CZ} {lv : List (Nat × Value)} {own : String}
abbrev yL_size : MethodName := ⟨"java/util/List", "size", "()I"⟩
abbrev yL_isEmpty : MethodName := ⟨"java/util/List", "isEmpty", "()Z"⟩
abbrev yL_get : MethodName := ⟨"java/util/List", "get", "(I)Ljava/lang/Object;"⟩
theorem ck_size (E : CallFix p m c cc nL s args lw_all own) (hT : ∀ w ∈ lw_tbl, w.before a0 s0 = true) (hN : s0.WarmedH s.vm) (hK : va_K D vCl (cT K) s) (hP : cP D K B ad z H) {q0 j n idx : Nat} (hq : (cW K B ad z)[q0]? = some (cLs B ad j n)) (hlk : Cond.methodLink own idx yL_size ∈ lw_all) (hl : lv_has ls nL lv) (hW : (rest.map fun v => v.category).sum ≤ 8) (hR : 2 ≤ R.frames ∧ 32 ≤ R.locals) (hf : cells ≤ R.cells ∧ slots ≤ R.slots) (hdg : decode cc pc = .ok (.invokeinterface idx 1, 5))
    (kk : W p l e R s m args below meth c H locs cells slots Q (F0 m (pc + 5) ls (.int (nI n) :: rest))) : W p l e R s m args below meth c H locs cells slots Q (F0 m pc ls (.ref (B j) :: rest)) := by
  have hP1 : va_P D vCl [jL (B j) (ad.1 j) (ad.2.1 j) (nI n)] H := vP_of hP.1 (fun x hx => by rw [List.mem_singleton] at hx; rw [hx]; exact List.mem_of_getElem? hq)
  exact px_go5 (va_runF (As := []) (rest := rest) (hK.1 2 (RJ2, TJ2, 3) rfl).2 E (jm_size l D K (B j) _ _ _) (va_cwF 0 E.2.2.2.2 (lw_F hlk q172 q174 q57 q176) rfl rfl rfl (cN_I (by decide) hT hN q170 q169 q175 q173 q171) (by decide +kernel) ⟨hR.1, hR.2⟩) (j_pre hK hP1 (va_recv hK hP1 (ci := 2) (q0 := 0) (q := (RJ2, TJ2, 3)) rfl rfl)) rfl rfl hl.1 rfl (lv_room hW) hdg hf) kk
theorem ck_empty (E : CallFix p m c cc nL s args lw_all own) (hT : ∀ w ∈ lw_tbl, w.before a0 s0 = true) (hN : s0.WarmedH s.vm) (hK : va_K D vCl (cT K) s) (hP : cP D K B ad z H) {q0 j n idx : Nat} (hq : (cW K B ad z)[q0]? = some (cLs B ad j n)) (hlk : Cond.methodLink own idx yL_isEmpty ∈ lw_all) (hl : lv_has ls nL lv) (hW : (rest.map fun v => v.category).sum ≤ 8) (hR : 2 ≤ R.frames ∧ 32 ≤ R.locals) (hf : cells ≤ R.cells ∧ slots ≤ R.slots) (hdg : decode cc pc = .ok (.invokeinterface idx 1, 5))
    (kk : W p l e R s m args below meth c H locs cells slots Q (F0 m (pc + 5) ls (.int (if nI n = 0 then 1 else 0) :: rest))) : W p l e R s m args below meth c H locs cells slots Q (F0 m pc ls (.ref (B j) :: rest)) := by
  have hP1 : va_P D vCl [jL (B j) (ad.1 j) (ad.2.1 j) (nI n)] H := vP_of hP.1 (fun x hx => by rw [List.mem_singleton] at hx; rw [hx]; exact List.mem_of_getElem? hq)
  exact px_go5 (va_runF (As := []) (rest := rest) (hK.1 2 (RJ2, TJ2, 3) rfl).2 E (jm_isEmpty l D K (B j) _ _ _) (va_cwF 0 E.2.2.2.2 (lw_F hlk q245 q247 q57 q249) rfl rfl rfl (cN_I (by decide) hT hN q244 q243 q248 q246 q171) (by decide +kernel) ⟨hR.1, hR.2⟩) (j_pre hK hP1 (va_recv hK hP1 (ci := 2) (q0 := 0) (q := (RJ2, TJ2, 3)) rfl rfl)) rfl rfl hl.1 rfl (lv_room hW) hdg hf) kk
theorem ck_lget (E : CallFix p m c cc nL s args lw_all own) (hT : ∀ w ∈ lw_tbl, w.before a0 s0 = true) (hN : s0.WarmedH s.vm) (hK : va_K D vCl (cT K) s) (hP : cP D K B ad z H) {q0 j n o idx : Nat} (hq : (cW K B ad z)[q0]? = some (cLs B ad j n)) (hn : n ≤ 10) (hel : cEl K B ad j n o) {i : Int32} (hi : inb i n = true) (hlk : Cond.methodLink own idx yL_get ∈ lw_all) (hl : lv_has ls nL lv) (hW : (rest.map fun v => v.category).sum ≤ 8) (hR : 4 ≤ R.frames ∧ 81 ≤ R.locals) (hf : cells ≤ R.cells ∧ slots ≤ R.slots) (hdg : decode cc pc = .ok (.invokeinterface idx 2, 5))
    (kk : W p l e R s m args below meth c H locs cells slots Q (F0 m (pc + 5) ls (.ref (ad.2.1 (o + i.toNatClampNeg)) :: rest))) : W p l e R s m args below meth c H locs cells slots Q (F0 m pc ls (.int i :: .ref (B j) :: rest)) := by
  obtain ⟨k, hk, rfl⟩ := vp_in_of (inb_in hi) (by omega)
  have hcl : (nI k).toNatClampNeg = k := nI_clamp (by omega)
  rcases hel with ⟨fe, hfe, hfi⟩ | ⟨h0, -⟩
  · have hP1 : va_P D vCl [jL (B j) (ad.1 j) (ad.2.1 j) (nI n), (ad.2.1 j, .inl (K 3, rqs 10 fe))] H := vP_of hP.1 (fun x hx => by
      simp only [List.mem_cons, List.not_mem_nil, or_false] at hx
      rcases hx with rfl | rfl
      · exact List.mem_of_getElem? hq
      · obtain ⟨i', hi'⟩ := cW_dy (K := K) (B := B) (z := z) hfe
        exact List.mem_of_getElem? hi')
    refine px_go5 (va_runF (As := [.int (nI k)]) (rest := rest) (hK.1 2 (RJ2, TJ2, 3) rfl).2 E (jm_get l D K (B j) _ _ _ 10 fe (nI k) (vp_in_nI (by omega) (by decide)) (nI_pos (by omega)) (nI_lt hk (by omega))) (va_cwF 1 E.2.2.2.2 (lw_F hlk q184 q186 q57 q188) rfl rfl rfl (cN_I (by decide) hT hN q183 q182 q187 q185 q171) (by decide +kernel) ⟨hR.1, hR.2⟩) (j_pre hK hP1 (va_recv hK hP1 (ci := 2) (q0 := 0) (q := (RJ2, TJ2, 3)) rfl rfl)) rfl rfl hl.1 rfl (lv_room hW) hdg hf) ?_
    rw [hcl, hfi k hk]
    rw [hcl] at kk
    exact kk
  · omega
/-- a rider's cell, by its kind -/
theorem rd_at (hP : cP D K B ad z H) {i : Nat} (hi : i < cz_np z) : ∃ q0 : Nat, (cW K B ad z)[q0]? = some (ad.2.1 (100 + i), cRi B (cz_k z i) i (cz_l z i)) ∧ cz_k z i ≤ 2 := by
  obtain ⟨h1, h2⟩ := hP.2.2.2.2.1 i hi
  obtain ⟨q, hq⟩ := cW_dy (K := K) (B := B) (z := z) h2
  exact ⟨q + 7, hq, h1⟩
theorem rd_recv (hK : va_K D vCl (cT K) s) (hP : cP D K B ad z H) {i : Nat} (hi : i < cz_np z) : (cz_k z i = 0 ∧ ∃ cell : Cell, H[ad.2.1 (100 + i)]? = some cell ∧ cell.vm.isStatics = false ∧ s.vm.findClass RX5 = some cell.cls) ∨ (cz_k z i = 1 ∧ ∃ cell : Cell, H[ad.2.1 (100 + i)]? = some cell ∧ cell.vm.isStatics = false ∧ s.vm.findClass RX6 = some cell.cls) ∨ (cz_k z i = 2 ∧ ∃ cell : Cell, H[ad.2.1 (100 + i)]? = some cell ∧ cell.vm.isStatics = false ∧ s.vm.findClass RX7 = some cell.cls) := by
  obtain ⟨q0, hq, hk⟩ := rd_at hP hi
  generalize hkk : cz_k z i = k at hq hk ⊢
  rcases (show k = 0 ∨ k = 1 ∨ k = 2 by omega) with rfl | rfl | rfl
  · exact Or.inl ⟨rfl, va_recv hK hP.1 (ci := 3) (q := (RX5, TX5, 3)) rfl hq⟩
  · exact Or.inr (Or.inl ⟨rfl, va_recv hK hP.1 (ci := 4) (q := (RX6, TX6, 4)) rfl hq⟩)
  · exact Or.inr (Or.inr ⟨rfl, va_recv hK hP.1 (ci := 5) (q := (RX7, TX7, 5)) rfl hq⟩)
abbrev rdF (B : Nat → Nat) (z : CZ) (i : Nat) : List Value := [.int (nI i), .int (cz_l z i), .ref (B 0)]
/-- a field of a rider -/
theorem ck_rfld (E : CallFix p m c cc nL s args lw_all own) (hK : va_K D vCl (cT K) s) (hP : cP D K B ad z H) {i : Nat} (hi : i < cz_np z) (f : Nat) {v : Value} (hv : (rdF B z i)[f]? = some v) {idx : Nat} (hl : Cond.fieldLink own idx RX5 (TX5 f).2.1 (TX5 f).2.2.1 ∈ lw_all) (hdg : decode cc pc = .ok (.getfield idx, 3))
    (kk : W p l e R s m args below meth c H locs cells slots Q (F0 m (pc + 3) ls (v :: rest))) : W p l e R s m args below meth c H locs cells slots Q (F0 m pc ls (.ref (ad.2.1 (100 + i)) :: rest)) := by
  obtain ⟨q0, hq, hk⟩ := rd_at hP hi
  have hf : f < 3 := by
    have := (List.getElem?_eq_some_iff.mp hv).1
    exact this
  generalize hkk : cz_k z i = k at hq hk
  rcases (show k = 0 ∨ k = 1 ∨ k = 2 by omega) with rfl | rfl | rfl <;> rcases (show f = 0 ∨ f = 1 ∨ f = 2 by omega) with rfl | rfl | rfl
  · exact va_get E.1 E.2.1 E.2.2.2.2 in_X5 E.2.2.2.1 hK hP.1 q0 hq (ci := 3) (C := RX5) (T := TX5) (N := 3) rfl 0 (by decide) (E.2.2.2.2 _ hl) (fun _ h => h) hv hdg kk
  · exact va_get E.1 E.2.1 E.2.2.2.2 in_X5 E.2.2.2.1 hK hP.1 q0 hq (ci := 3) (C := RX5) (T := TX5) (N := 3) rfl 1 (by decide) (E.2.2.2.2 _ hl) (fun _ h => h) hv hdg kk
  · exact va_get E.1 E.2.1 E.2.2.2.2 in_X5 E.2.2.2.1 hK hP.1 q0 hq (ci := 3) (C := RX5) (T := TX5) (N := 3) rfl 2 (by decide) (E.2.2.2.2 _ hl) (fun _ h => h) hv hdg kk
  · exact va_get E.1 E.2.1 E.2.2.2.2 in_X6 E.2.2.2.1 hK hP.1 q0 hq (ci := 4) (C := RX6) (T := TX6) (N := 4) rfl 0 (by decide) (E.2.2.2.2 _ hl) (fun _ h => h) hv hdg kk
  · exact va_get E.1 E.2.1 E.2.2.2.2 in_X6 E.2.2.2.1 hK hP.1 q0 hq (ci := 4) (C := RX6) (T := TX6) (N := 4) rfl 1 (by decide) (E.2.2.2.2 _ hl) (fun _ h => h) hv hdg kk
  · exact va_get E.1 E.2.1 E.2.2.2.2 in_X6 E.2.2.2.1 hK hP.1 q0 hq (ci := 4) (C := RX6) (T := TX6) (N := 4) rfl 2 (by decide) (E.2.2.2.2 _ hl) (fun _ h => h) hv hdg kk
  · exact va_get E.1 E.2.1 E.2.2.2.2 in_X7 E.2.2.2.1 hK hP.1 q0 hq (ci := 5) (C := RX7) (T := TX7) (N := 5) rfl 0 (by decide) (E.2.2.2.2 _ hl) (fun _ h => h) hv hdg kk
  · exact va_get E.1 E.2.1 E.2.2.2.2 in_X7 E.2.2.2.1 hK hP.1 q0 hq (ci := 5) (C := RX7) (T := TX7) (N := 5) rfl 1 (by decide) (E.2.2.2.2 _ hl) (fun _ h => h) hv hdg kk
  · exact va_get E.1 E.2.1 E.2.2.2.2 in_X7 E.2.2.2.1 hK hP.1 q0 hq (ci := 5) (C := RX7) (T := TX7) (N := 5) rfl 2 (by decide) (E.2.2.2.2 _ hl) (fun _ h => h) hv hdg kk
/-- a rider, cast to Rider -/
theorem ck_castR (E : CallFix p m c cc nL s args lw_all own) (hT : ∀ w ∈ lw_tbl, w.before a0 s0 = true) (hN : s0.WarmedH s.vm) (hK : va_K D vCl (cT K) s) (hP : cP D K B ad z H) {i : Nat} (hi : i < cz_np z) {idx : Nat} (hl : Cond.classLink own idx "DebtFerry$Rider" ∈ lw_all) (hdg : decode cc pc = .ok (.checkcast idx, 3))
    (kk : W p l e R s m args below meth c H locs cells slots Q (F0 m (pc + 3) ls (.ref (ad.2.1 (100 + i)) :: rest))) : W p l e R s m args below meth c H locs cells slots Q (F0 m pc ls (.ref (ad.2.1 (100 + i)) :: rest)) := by
  rcases rd_recv hK hP hi with ⟨-, h⟩ | ⟨-, h⟩ | ⟨-, h⟩
  · exact va_castS E.1 E.2.1 E.2.2.2.1 (E.2.2.2.2 _ hl) (hK.1 3 (RX5, TX5, 3) rfl).2 h hdg kk
  · exact va_castY E.1 E.2.1 E.2.2.2.1 (E.2.2.2.2 _ hl) (cN_C hT hN q1436) h hdg kk
  · exact va_castY E.1 E.2.1 E.2.2.2.1 (E.2.2.2.2 _ hl) (cN_C hT hN q1435) h hdg kk
theorem ck_castH (E : CallFix p m c cc nL s args lw_all own) (hT : ∀ w ∈ lw_tbl, w.before a0 s0 = true) (hN : s0.WarmedH s.vm) (hK : va_K D vCl (cT K) s) (hP : cP D K B ad z H) {i : Nat} (hi : i < cz_np z) {idx : Nat} (hl : Cond.classLink own idx "DebtFerry$Hailed" ∈ lw_all) (hdg : decode cc pc = .ok (.checkcast idx, 3))
    (kk : W p l e R s m args below meth c H locs cells slots Q (F0 m (pc + 3) ls (.ref (ad.2.1 (100 + i)) :: rest))) : W p l e R s m args below meth c H locs cells slots Q (F0 m pc ls (.ref (ad.2.1 (100 + i)) :: rest)) := by
  rcases rd_recv hK hP hi with ⟨-, h⟩ | ⟨-, h⟩ | ⟨-, h⟩
  · exact va_castY E.1 E.2.1 E.2.2.2.1 (E.2.2.2.2 _ hl) (cN_C hT hN q1051) h hdg kk
  · exact va_castY E.1 E.2.1 E.2.2.2.1 (E.2.2.2.2 _ hl) (cN_C hT hN q1037) h hdg kk
  · exact va_castY E.1 E.2.1 E.2.2.2.1 (E.2.2.2.2 _ hl) (cN_C hT hN q1031) h hdg kk
/-- a reading: its cell, its cast, its fields -/
theorem qd_at (hP : cP D K B ad z H) {i : Nat} (hi : i < cz_nr z) : ∃ q0 : Nat, (cW K B ad z)[q0]? = some (ad.2.1 (200 + i), .inr (6, [.int (cz_rl z i), .int (cz_rp z i)])) := by
  obtain ⟨q, hq⟩ := cW_dy (K := K) (B := B) (z := z) (hP.2.2.2.2.2.1 i hi)
  exact ⟨q + 7, hq⟩
theorem ck_castQ (E : CallFix p m c cc nL s args lw_all own) (hK : va_K D vCl (cT K) s) (hP : cP D K B ad z H) {i : Nat} (hi : i < cz_nr z) {idx : Nat} (hl : Cond.classLink own idx RX9 ∈ lw_all) (hdg : decode cc pc = .ok (.checkcast idx, 3))
    (kk : W p l e R s m args below meth c H locs cells slots Q (F0 m (pc + 3) ls (.ref (ad.2.1 (200 + i)) :: rest))) : W p l e R s m args below meth c H locs cells slots Q (F0 m pc ls (.ref (ad.2.1 (200 + i)) :: rest)) := by
  obtain ⟨q0, hq⟩ := qd_at hP hi
  exact va_castS E.1 E.2.1 E.2.2.2.1 (E.2.2.2.2 _ hl) (hK.1 6 (RX9, TX9, 2) rfl).2 (va_recv hK hP.1 (ci := 6) (q := (RX9, TX9, 2)) rfl hq) hdg kk
theorem ck_qfld (E : CallFix p m c cc nL s args lw_all own) (hT : ∀ w ∈ lw_tbl, w.before a0 s0 = true) (hN : s0.WarmedH s.vm) (hK : va_K D vCl (cT K) s) (hP : cP D K B ad z H) {i : Nat} (hi : i < cz_nr z) (f : Nat) (hf : f < 2) {v : Value} (hv : ([.int (cz_rl z i), .int (cz_rp z i)] : List Value)[f]? = some v) {idx : Nat} {host : String} (hl : Cond.fieldLinkNest own idx RX9 (TX9 f).2.1 (TX9 f).2.2.1 host ∈ lw_tbl) (hr : (TX9 f).1 = RX9) (hdg : decode cc pc = .ok (.getfield idx, 3))
    (kk : W p l e R s m args below meth c H locs cells slots Q (F0 m (pc + 3) ls (v :: rest))) : W p l e R s m args below meth c H locs cells slots Q (F0 m pc ls (.ref (ad.2.1 (200 + i)) :: rest)) := by
  obtain ⟨q0, hq⟩ := qd_at hP hi
  exact va_getN E.1 E.2.1 E.2.2.2.2 in_X9 E.2.2.2.1 hK hP.1 q0 hq (ci := 6) (C := RX9) (T := TX9) (N := 2) rfl f hf (va_Nw.use rfl (cN_F hT hN hl)) (fun x h => by rw [hr] at h; exact h) hv hdg kk
/-- arraycopy of one int array of the component's over another, whole -/
theorem ck_copy (E : CallFix p m c cc nL s args lw_all own) (hD : ∀ z, va_D A (cW K B ad z)) (hK : va_K D vCl (cT K) s) (hP : cP D K B ad z H) (hS : va_S A s.heap H locs) {q0 q1 i j n idx : Nat} (h0 : cArr q0 i n = true) (h1 : cArr q1 j n = true) {v : Int32} (hv : v = nI n) (hn : n < 2 ^ 31) (hlk : Cond.methodLink own idx arraycopyName ∈ lw_all) (hl : lv_has ls nL lv) (hR : 1 ≤ R.frames ∧ (rest.map fun v => v.category).sum + (nativeFrameWords "java/lang/System" "arraycopy" 5 + 11) ≤ R.locals) (hdg : decode cc pc = .ok (.invokestatic idx, 3))
    (kk : ∀ (H : Heap) (locs : List Loc), cP D K B ad (cz_w z j (va_cpy (z.2.1 i) (z.2.1 j) 0 0 n)) H → va_S A s.heap H locs → W p l e R s m args below meth c H locs cells slots Q (F0 m (pc + 3) ls rest)) : W p l e R s m args below meth c H locs cells slots Q (F0 m pc ls (.int v :: .int 0 :: .ref (B j) :: .int 0 :: .ref (B i) :: rest)) := by
  subst hv
  have hc : (nI n).toNatClampNeg = n := nI_clamp hn
  have hc0 : (0 : Int32).toNatClampNeg = 0 := by decide
  refine va_copyi E.1 E.2.1 (E.2.2.1.trans hl.1.symm) E.2.2.2.1 (E.2.2.2.2 _ hlk) (E.2.2.2.2 _ q359) (E.2.2.2.2 _ q358) (E.2.2.2.2 _ q72) hK hP.1 (hD z) hS q0 q1 0 0 (cW_arr h0).1 (cW_arr h1).1 rfl rfl rfl (by decide) (by decide) (nI_pos hn) (by rw [hc, hc0]; omega) (by rw [hc, hc0]; omega) (fun _ _ => rfl) hR.1 hR.2 hdg (fun H1 locs1 g1 _ g3 => kk H1 locs1 ⟨?_, hP.2⟩ g3)
  rw [hc, hc0, (cW_arr h1).2.2] at g1
  exact g1
end CROWS
