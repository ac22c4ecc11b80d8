/-! THE COMPONENT's WORLD -/
/-- pure state: int fields (by place in TX0), int arrays (by place), people (how many, kind, lame), readings (how many, load, pulled), sheets (sort, length, cells) -/
abbrev CZ : Type := (Nat → Int32) × (Nat → Nat → Int32) × (Nat × (Nat → Nat) × (Nat → Int32)) × (Nat × (Nat → Int32) × (Nat → Int32)) × (Nat → Option (Nat × Nat × (Nat → Int32)))
def cz_f (z : CZ) (k : Nat) (v : Int32) : CZ := (upd z.1 k v, z.2)
def cz_a (z : CZ) (j i : Nat) (v : Int32) : CZ := (z.1, (fun x => if x = j then upd (z.2.1 j) i v else z.2.1 x), z.2.2)
/-- a whole array -/
def cz_w (z : CZ) (j : Nat) (f : Nat → Int32) : CZ := (z.1, (fun x => if x = j then f else z.2.1 x), z.2.2)
abbrev cz_np (z : CZ) : Nat := z.2.2.1.1
abbrev cz_k (z : CZ) (i : Nat) : Nat := z.2.2.1.2.1 i
abbrev cz_l (z : CZ) (i : Nat) : Int32 := z.2.2.1.2.2 i
abbrev cz_nr (z : CZ) : Nat := z.2.2.2.1.1
abbrev cz_rl (z : CZ) (i : Nat) : Int32 := z.2.2.2.1.2.1 i
abbrev cz_rp (z : CZ) (i : Nat) : Int32 := z.2.2.2.1.2.2 i
abbrev cz_sh (z : CZ) (k : Nat) : Option (Nat × Nat × (Nat → Int32)) := z.2.2.2.2 k
/-- what the pure state doesn't say: counts of changes, addresses, the cells of riders, readings, sheets, rows, lists' arrays -/
abbrev CA : Type := (Nat → Int32) × (Nat → Nat) × va_W
abbrev vCl : List vw_C := [(RX0, TX0, 10), (RX1, TX1, 29), (RJ2, TJ2, 3), (RX5, TX5, 3), (RX6, TX6, 4), (RX7, TX7, 5), (RX9, TX9, 2), (RX10, TX10, 1), (RX4, TX4, 7), (RX8, TX8, 8), (RX11, TX11, 7), (RX12, TX12, 4)]
abbrev cT (K : Nat → ClassId) : List (ClassId × FieldType) := [(K 0, .int), (K 1, .byte), (K 2, .short), (K 3, .object "java/lang/Object"), (K 4, .object "DebtFerry$Sheet")]
abbrev rqs (n : Nat) (f : Nat → Option Nat) : vp_A := (n, .inr (.inr (.inr (.inr f))))
abbrev cF (B : Nat → Nat) (z : CZ) : List Value := [.int (z.1 0), .int (z.1 1), .int (z.1 2), .ref (B 3), .ref (B 4), .ref (B 5), .ref (B 6), .ref (B 7), .int (z.1 8), .ref (B 9)]
abbrev cLs (B : Nat → Nat) (ad : CA) (j n : Nat) : Nat × va_E := (B j, .inr (2, [.int (ad.1 j), .ref (ad.2.1 j), .int (nI n)]))
abbrev cW (K : Nat → ClassId) (B : Nat → Nat) (ad : CA) (z : CZ) : va_W := (B 0, .inr (0, cF B z)) :: (B 3, .inl (K 0, 25, .inl (z.2.1 3))) :: (B 5, .inl (K 0, 32, .inl (z.2.1 5))) :: (B 6, .inl (K 0, 25, .inl (z.2.1 6))) :: (B 9, .inl (K 4, rqs 4 (fun k => (cz_sh z k).map (fun _ => ad.2.1 (300 + k))))) :: cLs B ad 4 (cz_np z) :: cLs B ad 7 (cz_nr z) :: ad.2.2
/-- a rider's cell -/
abbrev cRi (B : Nat → Nat) (k i : Nat) (lame : Int32) : va_E := .inr (3 + k, .int (nI i) :: .int lame :: .ref (B 0) :: List.replicate k (.ref (B 0)))
abbrev cRowK (s : Nat) : Nat := if s = 0 then 1 else if s = 1 then 2 else 0
abbrev cEl (K : Nat → ClassId) (B : Nat → Nat) (ad : CA) (j n o : Nat) : Prop := (∃ fe : Nat → Option Nat, (ad.2.1 j, .inl (K 3, rqs 10 fe)) ∈ ad.2.2 ∧ ∀ i, i < n → fe i = some (ad.2.1 (o + i))) ∨ (n = 0 ∧ ad.2.1 j = B 10)
def cDy (K : Nat → ClassId) (B : Nat → Nat) (ad : CA) (z : CZ) : Prop := (cz_np z ≤ 10 ∧ cz_nr z ≤ 10) ∧ cEl K B ad 4 (cz_np z) 100 ∧ cEl K B ad 7 (cz_nr z) 200 ∧ (∀ i, i < cz_np z → cz_k z i ≤ 2 ∧ (ad.2.1 (100 + i), cRi B (cz_k z i) i (cz_l z i)) ∈ ad.2.2) ∧ (∀ i, i < cz_nr z → (ad.2.1 (200 + i), .inr (6, [.int (cz_rl z i), .int (cz_rp z i)])) ∈ ad.2.2) ∧
  ∀ k, k < 4 → ∀ q, cz_sh z k = some q → q.1 ≤ 2 ∧ q.2.1 ≤ 60 ∧ (ad.2.1 (300 + k), .inr (7, [.ref (ad.2.1 (400 + k))])) ∈ ad.2.2 ∧ (ad.2.1 (400 + k), .inl (K (cRowK q.1), q.2.1, .inl q.2.2)) ∈ ad.2.2
abbrev cP (D : va_G) (K : Nat → ClassId) (B : Nat → Nat) (ad : CA) (z : CZ) (H : Heap) : Prop := va_P D vCl (cW K B ad z) H ∧ cDy K B ad z
abbrev cPc (D : va_G) (K : Nat → ClassId) (s0 : State) (B : Nat → Nat) (ad : CA) (z : CZ) (av : List Value) : Array Value → State → Prop := va_Pc av (fun U => cP D K B ad z U.heap ∧ va_K D vCl (cT K) U ∧ s0.WarmedH U.vm)
abbrev cQ (D : va_G) (K : Nat → ClassId) (B : Nat → Nat) (ad : CA) (A : Nat → Prop) (v : Option Value) (z : CZ) : Array Value → State → Outcome → State → Prop := fun _ st o t => (o = .returned v ∧ cP D K B ad z t.heap) ∧ va_F A st t
def cInt (k : Nat) : Bool := [0, 1, 2, 8].contains k
theorem cF_put {B : Nat → Nat} {z : CZ} {k : Nat} {v : Int32} (h : cInt k = true) : (cF B z).set k (.int v) = cF B (cz_f z k v) := by
  have h : k ∈ [0, 1, 2, 8] := by simpa [cInt] using h
  simp only [List.mem_cons, List.not_mem_nil, or_false] at h
  rcases h with rfl | rfl | rfl | rfl <;> rfl
theorem cF_ty {k : Nat} (h : cInt k = true) : (TX0 k).2.2.2 = false ∧ parseFieldDescriptor (TX0 k).2.2.1 = some .int ∧ k < 10 ∧ (TX0 k).1 = RX0 := by
  have h : k ∈ [0, 1, 2, 8] := by simpa [cInt] using h
  simp only [List.mem_cons, List.not_mem_nil, or_false] at h
  rcases h with rfl | rfl | rfl | rfl <;> decide +kernel
def cArr (q j n : Nat) : Bool := [(1, 3, 25), (2, 5, 32), (3, 6, 25)].contains (q, j, n)
theorem cW_arr {K : Nat → ClassId} {B : Nat → Nat} {ad : CA} {z : CZ} {q j n : Nat} (h : cArr q j n = true) : (cW K B ad z)[q]? = some (B j, .inl (K 0, n, .inl (z.2.1 j))) ∧ (∀ (i : Nat) (v : Int32), (cW K B ad z).set q (B j, .inl (K 0, n, .inl (upd (z.2.1 j) i v))) = cW K B ad (cz_a z j i v)) ∧ (∀ f : Nat → Int32, (cW K B ad z).set q (B j, .inl (K 0, n, .inl f)) = cW K B ad (cz_w z j f)) := by
  have h : (q, j, n) ∈ [(1, 3, 25), (2, 5, 32), (3, 6, 25)] := by simpa [cArr] using h
  simp only [List.mem_cons, List.not_mem_nil, or_false, Prod.mk.injEq] at h
  rcases h with ⟨rfl, rfl, rfl⟩ | ⟨rfl, rfl, rfl⟩ | ⟨rfl, rfl, rfl⟩ <;> exact ⟨rfl, fun _ _ => rfl, fun _ => rfl⟩
theorem cW_dy {K : Nat → ClassId} {B : Nat → Nat} {ad : CA} {z : CZ} {x : Nat × va_E} (h : x ∈ ad.2.2) : ∃ i, (cW K B ad z)[i + 7]? = some x := by
  obtain ⟨i, hi⟩ := List.getElem?_of_mem h
  exact ⟨i, hi⟩
section COMP
variable {p : Program} {l : Launch} {e : Env} {R : Room} {s : State} {m : MethodId} {args : Array Value} {below : List Frame} {meth : Method} {c : Code} {H : Heap} {locs : List Loc} {cells slots : Nat} {Q : State → Prop} {cc : ByteArray} {nL pc : Nat} {rest : List Value} {ls : Array Slot} {D : va_G} {K : Nat → ClassId} {s0 : State} {a0 : Array Value} {B : Nat → Nat} {ad : CA} {A : Nat → Prop} {z : CZ} {lv : List (Nat × Value)} {own : String}
/-- a method's start, whatever its world -/
theorem gx_start {y : MethodName} {ret : Option FieldType} {rm : Room} {av : List Value} {C : State → Prop} {Qc : Array Value → State → Outcome → State → Prop} {mc ms : Nat} {free : Addr → Prop} (own : String) (hy : plainName y.cls = true) (ho : y.cls = own) (hn : (lg_sl av).length ≤ nL)
    (body : ∀ (p : Program) (e : Env) (s : State) (m : MethodId) (args : Array Value) (below : List Frame) (meth : Method) (c : Code) (ls : Array Slot), CallFix p m c cc nL s args lw_all own → meth.sig.returnType = ret → meth.locks = false → (meth.name = y.name) → C s → lv_has ls nL (lv_args 0 av) → W p l e rm s m args below meth c s.heap [] 0 0 (MQ below Qc args s mc ms free) (F0 m 0 ls [])) : Met l y (ws_ y cc nL ret) rm (va_Pc av C) Qc mc ms free := by
  refine Met.ofW (cc := cc) (maxL := nL) (ret := ret) hy rfl ?_
  intro p e s m args below meth c s₁ BB hml hv
  obtain ⟨hargs, hC⟩ := hv
  have hts := atoms_spec (ws := ws_ y cc nL ret) BB.pre
  have hts : ∀ w ∈ lw_all, w.before args s = true := fun w h => hts w (List.mem_cons_of_mem _ h)
  have hown : s.vm.findClass own = some m.cls := by rw [← ho]; exact findClass_of_methodNamed BB.named
  have hl := lv_entry av (n := nL) hn
  have hen : entryFrame m args nL = F0 m 0 ((lg_sl av ++ List.replicate (nL - (lg_sl av).length) Slot.unset).toArray) [] := by
    rw [hargs]; exact lg_entry_eq m av nL
  rw [hen]
  exact body p e s m args below meth c _ ⟨BB.exec, BB.bytes, hml, hown, hts⟩ BB.returns BB.notSynchronized (name_of_methodNamed BB.named BB.method).1 hC hl
theorem ck_start {y : MethodName} {ret : Option FieldType} {rm : Room} {av : List Value} {Qc : Array Value → State → Outcome → State → Prop} {mc ms : Nat} {free : Addr → Prop} (own : String) (hy : plainName y.cls = true) (ho : y.cls = own) (hn : (lg_sl av).length ≤ nL)
    (body : ∀ (p : Program) (e : Env) (s : State) (m : MethodId) (args : Array Value) (below : List Frame) (meth : Method) (c : Code) (H : Heap) (locs : List Loc) (ls : Array Slot), CallFix p m c cc nL s args lw_all own → meth.sig.returnType = ret → meth.locks = false → va_K D vCl (cT K) s → s0.WarmedH s.vm → cP D K B ad z H → va_S A s.heap H locs → lv_has ls nL (lv_args 0 av) → W p l e rm s m args below meth c H locs 0 0 (MQ below Qc args s mc ms free) (F0 m 0 ls [])) : Met l y (ws_ y cc nL ret) rm (cPc D K s0 B ad z av) Qc mc ms free :=
  gx_start own hy ho hn (fun p e s m args below meth c ls E hr hlocks _ hC hl => body p e s m args below meth c _ _ ls E hr hlocks hC.2.1 hC.2.2 hC.1 (va_S.rf (A := A)) hl)
/-- a word of the tables at a method's start -/
theorem cN_F {a : String} {i : Nat} {b n d h : String} (hT : ∀ w ∈ lw_tbl, w.before a0 s0 = true) (hN : s0.WarmedH s.vm) (q : Cond.fieldLinkNest a i b n d h ∈ lw_tbl) : va_Nw (.fieldLinkNest a i b n d h) s := va_Nw.warmF hN (va_Nw.of rfl (hT _ q))
theorem cN_M {a : String} {i : Nat} {x : MethodName} {h : String} (hT : ∀ w ∈ lw_tbl, w.before a0 s0 = true) (hN : s0.WarmedH s.vm) (q : Cond.methodLinkNest a i x h ∈ lw_tbl) : va_Nw (.methodLinkNest a i x h) s := va_Nw.warmM hN (va_Nw.of rfl (hT _ q))
theorem cN_C {C T : String} (hT : ∀ w ∈ lw_tbl, w.before a0 s0 = true) (hN : s0.WarmedH s.vm) (q : Cond.castable C T ∈ lw_tbl) : va_Nw (.castable C T) s := va_Nw.warmC hN (va_Nw.of rfl (hT _ q))
theorem cN_I {C : String} {x y : MethodName} (hx : x.cls ≠ "java/lang/invoke/MethodHandle" ∧ x.cls ≠ "java/lang/invoke/VarHandle") (hT : ∀ w ∈ lw_tbl, w.before a0 s0 = true) (hN : s0.WarmedH s.vm) (h1 : Cond.declares x ∈ lw_tbl) (h2 : Cond.interfaceMethod x.cls x.cls x.name x.desc ∈ lw_tbl) (h3 : Cond.publicMethod y ∈ lw_tbl) (h4 : Cond.unhidden C x.name x.desc ∈ lw_tbl) (h5 : Cond.castable C x.cls ∈ lw_tbl) : va_Fw C x y s :=
  va_Fw.moved hx hN.alike (va_Fw.of (hT _ h1) (hT _ h2) (hT _ h3) (hT _ h4) (hT _ h5))
theorem ck_get (E : CallFix p m c cc nL s args lw_all RX0) (hK : va_K D vCl (cT K) s) (hP : cP D K B ad z H) (k : Nat) (hk : k < 10) {idx : Nat} (hl : Cond.fieldLink RX0 idx RX0 (TX0 k).2.1 (TX0 k).2.2.1 ∈ lw_all) (hr : (TX0 k).1 = RX0) {v : Value} (hv : (cF B z)[k]? = some v) (hdg : decode cc pc = .ok (.getfield idx, 3))
    (kk : W p l e R s m args below meth c H locs cells slots Q (F0 m (pc + 3) ls (v :: rest))) : W p l e R s m args below meth c H locs cells slots Q (F0 m pc ls (.ref (B 0) :: rest)) :=
  va_get E.1 E.2.1 E.2.2.2.2 in_X0 E.2.2.2.1 hK hP.1 0 rfl (ci := 0) (C := RX0) (T := TX0) (N := 10) rfl k hk (E.2.2.2.2 _ hl) (fun x h => by rw [hr] at h; exact h) hv hdg kk
/-- a nest mate reads the component's field -/
theorem ck_getN (E : CallFix p m c cc nL s args lw_all own) (hT : ∀ w ∈ lw_tbl, w.before a0 s0 = true) (hN : s0.WarmedH s.vm) (hK : va_K D vCl (cT K) s) (hP : cP D K B ad z H) (k : Nat) (hk : k < 10) {idx : Nat} {host : String} (hl : Cond.fieldLinkNest own idx RX0 (TX0 k).2.1 (TX0 k).2.2.1 host ∈ lw_tbl) (hr : (TX0 k).1 = RX0) {v : Value} (hv : (cF B z)[k]? = some v) (hdg : decode cc pc = .ok (.getfield idx, 3))
    (kk : W p l e R s m args below meth c H locs cells slots Q (F0 m (pc + 3) ls (v :: rest))) : W p l e R s m args below meth c H locs cells slots Q (F0 m pc ls (.ref (B 0) :: rest)) :=
  va_getN E.1 E.2.1 E.2.2.2.2 in_X0 E.2.2.2.1 hK hP.1 0 rfl (ci := 0) (C := RX0) (T := TX0) (N := 10) rfl k hk (va_Nw.use rfl (cN_F hT hN hl)) (fun x h => by rw [hr] at h; exact h) hv hdg kk
theorem ck_put (E : CallFix p m c cc nL s args lw_all RX0) (hD : ∀ z, va_D A (cW K B ad z)) (hK : va_K D vCl (cT K) s) (hP : cP D K B ad z H) (hS : va_S A s.heap H locs) (k : Nat) (hk : cInt k = true) {idx : Nat} (hl : Cond.fieldLink RX0 idx RX0 (TX0 k).2.1 (TX0 k).2.2.1 ∈ lw_all) {v : Int32} (hdg : decode cc pc = .ok (.putfield idx, 3))
    (kk : ∀ (H : Heap) (locs : List Loc), cP D K B ad (cz_f z k v) H → va_S A s.heap H locs → W p l e R s m args below meth c H locs cells slots Q (F0 m (pc + 3) ls rest)) : W p l e R s m args below meth c H locs cells slots Q (F0 m pc ls (.int v :: .ref (B 0) :: rest)) := by
  obtain ⟨h1, h2, h3, h4⟩ := cF_ty hk
  refine va_put E.1 E.2.1 E.2.2.2.2 in_X0 tyX0 tyX0_ok nmX0 E.2.2.2.1 hK hP.1 (hD z) hS 0 rfl (ci := 0) (C := RX0) (T := TX0) (N := 10) rfl k h3 (E.2.2.2.2 _ hl) (fun x h => by rw [h4] at h; exact h) h1 h2 rfl rfl h3 hdg (fun H1 locs1 g1 _ g3 => kk H1 locs1 ⟨?_, hP.2⟩ g3)
  rw [cF_put hk] at g1
  exact g1
theorem ck_putN (E : CallFix p m c cc nL s args lw_all own) (hT : ∀ w ∈ lw_tbl, w.before a0 s0 = true) (hN : s0.WarmedH s.vm) (hD : ∀ z, va_D A (cW K B ad z)) (hK : va_K D vCl (cT K) s) (hP : cP D K B ad z H) (hS : va_S A s.heap H locs) (k : Nat) (hk : cInt k = true) {idx : Nat} {host : String} (hl : Cond.fieldLinkNest own idx RX0 (TX0 k).2.1 (TX0 k).2.2.1 host ∈ lw_tbl) {v : Int32} (hdg : decode cc pc = .ok (.putfield idx, 3))
    (kk : ∀ (H : Heap) (locs : List Loc), cP D K B ad (cz_f z k v) H → va_S A s.heap H locs → W p l e R s m args below meth c H locs cells slots Q (F0 m (pc + 3) ls rest)) : W p l e R s m args below meth c H locs cells slots Q (F0 m pc ls (.int v :: .ref (B 0) :: rest)) := by
  obtain ⟨h1, h2, h3, h4⟩ := cF_ty hk
  refine va_putN E.1 E.2.1 E.2.2.2.2 in_X0 tyX0 tyX0_ok nmX0 E.2.2.2.1 hK hP.1 (hD z) hS 0 rfl (ci := 0) (C := RX0) (T := TX0) (N := 10) rfl k h3 (va_Nw.use rfl (cN_F hT hN hl)) (fun x h => by rw [h4] at h; exact h) h1 h2 rfl rfl h3 hdg (fun H1 locs1 g1 _ g3 => kk H1 locs1 ⟨?_, hP.2⟩ g3)
  rw [cF_put hk] at g1
  exact g1
theorem ck_ald (E : CallFix p m c cc nL s args lw_all own) (hK : va_K D vCl (cT K) s) (hP : cP D K B ad z H) {q j n : Nat} (hq : cArr q j n = true) {i : Int32} (hi : inb i n = true) (hdg : decode cc pc = .ok (.iaload, 1))
    (kk : W p l e R s m args below meth c H locs cells slots Q (F0 m (pc + 1) ls (.int (z.2.1 j i.toNatClampNeg) :: rest))) : W p l e R s m args below meth c H locs cells slots Q (F0 m pc ls (.int i :: .ref (B j) :: rest)) :=
  va_iald E.1 E.2.1 hK hP.1 q 0 (cW_arr hq).1 rfl (inb_in hi) hdg kk
theorem ck_alen (E : CallFix p m c cc nL s args lw_all own) (hK : va_K D vCl (cT K) s) (hP : cP D K B ad z H) {q j n : Nat} (hq : cArr q j n = true) {v : Int32} (hv : Int32.ofNat n = v) (hdg : decode cc pc = .ok (.arraylength, 1))
    (kk : W p l e R s m args below meth c H locs cells slots Q (F0 m (pc + 1) ls (.int v :: rest))) : W p l e R s m args below meth c H locs cells slots Q (F0 m pc ls (.ref (B j) :: rest)) :=
  va_alen E.1 E.2.1 hK hP.1 q 0 (cW_arr hq).1 rfl hv hdg kk
theorem ck_ast (E : CallFix p m c cc nL s args lw_all own) (hD : ∀ z, va_D A (cW K B ad z)) (hK : va_K D vCl (cT K) s) (hP : cP D K B ad z H) (hS : va_S A s.heap H locs) {q j n : Nat} (hq : cArr q j n = true) {i v : Int32} (hi : inb i n = true) (hdg : decode cc pc = .ok (.iastore, 1))
    (kk : ∀ (H : Heap) (locs : List Loc), cP D K B ad (cz_a z j i.toNatClampNeg v) H → va_S A s.heap H locs → W p l e R s m args below meth c H locs cells slots Q (F0 m (pc + 1) ls rest)) : W p l e R s m args below meth c H locs cells slots Q (F0 m pc ls (.int v :: .int i :: .ref (B j) :: rest)) := by
  refine va_iast E.1 E.2.1 hK hP.1 (hD z) hS q 0 (cW_arr hq).1 rfl (inb_in hi) hdg (fun H1 locs1 g1 _ g3 => kk H1 locs1 ⟨?_, hP.2⟩ g3)
  rw [(cW_arr hq).2.1] at g1
  exact g1
/-- behind a call over the whole world -/
theorem cx_go {mc ms : Nat} {av : Array Value} {v : Option Value} {z1 : CZ} {ad1 : CA} {st0 : List Value} (hr : va_Run p l e R s m args below meth c H locs cells slots mc ms (F0 m pc ls st0) rest (cQ D K B ad1 A v z1 av) A) (hS : va_S A s.heap H locs)
    (kk : ∀ (H : Heap) (locs : List Loc), cP D K B ad1 z1 H → va_S A s.heap H locs → W p l e R s m args below meth c H locs (cells + mc) (slots + ms) Q (F0 m (pc + 3) ls (v.toList ++ rest))) : W p l e R s m args below meth c H locs cells slots Q (F0 m pc ls st0) := by
  intro T hT X
  obtain ⟨v', st₀, t, T', L, h0, X', hL, h1, -, ⟨⟨hq, hq2⟩, hq3⟩, st⟩ := hr T hT X
  cases hq
  have hS1 : va_S A s.heap t.heap (locs ++ L) := by
    obtain ⟨a1, a2, a3⟩ := hS
    obtain ⟨b1, b2⟩ := hq3
    rw [h0] at b1 b2
    refine ⟨Nat.le_trans a1 b1, fun q g1 g2 => ?_, fun q hq => ?_⟩
    · rw [b2 q (Nat.lt_of_lt_of_le g1 a1) g2]; exact a2 q g1 g2
    · rcases List.mem_append.mp hq with g | g
      · exact a3 q g
      · exact hL q g
  obtain ⟨t2, a1, b1⟩ := kk t.heap (locs ++ L) hq2 hS1 T' h1 X'
  exact ⟨t2, st t2 a1, b1⟩
/-- behind a call that changes nothing -/
theorem px_go {av : Array Value} {v : Value} {st0 : List Value} (hr : va_Run p l e R s m args below meth c H locs cells slots 0 0 (F0 m pc ls st0) rest (pQ v av) (fun _ => False))
    (kk : W p l e R s m args below meth c H locs cells slots Q (F0 m (pc + 3) ls (v :: rest))) : W p l e R s m args below meth c H locs cells slots Q (F0 m pc ls st0) := by
  intro T hT X
  obtain ⟨v', st₀, t, T', L, h0, X', hL, h1, -, ⟨hq, hq2⟩, st⟩ := hr T hT X
  have hLn : L = [] := by
    cases L with
    | nil => rfl
    | cons a b => exact (hL a List.mem_cons_self).elim
  subst hLn
  rw [List.append_nil] at X'
  cases hq
  obtain ⟨t2, a1, b1⟩ := kk T' (by rw [h1, hq2, h0]) X'
  exact ⟨t2, st t2 a1, b1⟩
theorem px_go5 {av : Array Value} {v : Value} {st0 : List Value} (hr : va_Run5 p l e R s m args below meth c H locs cells slots 0 0 (F0 m pc ls st0) rest (pQ v av) (fun _ => False))
    (kk : W p l e R s m args below meth c H locs cells slots Q (F0 m (pc + 5) ls (v :: rest))) : W p l e R s m args below meth c H locs cells slots Q (F0 m pc ls st0) := by
  intro T hT X
  obtain ⟨v', st₀, t, T', L, h0, X', hL, h1, -, ⟨hq, hq2⟩, st⟩ := hr T hT X
  have hLn : L = [] := by
    cases L with
    | nil => rfl
    | cons a b => exact (hL a List.mem_cons_self).elim
  subst hLn
  rw [List.append_nil] at X'
  cases hq
  obtain ⟨t2, a1, b1⟩ := kk T' (by rw [h1, hq2, h0]) X'
  exact ⟨t2, st t2 a1, b1⟩
/-- what a call with this world asks -/
theorem ck_pre {C : String} {b : Nat} {As : List Value} (hK : va_K D vCl (cT K) s) (hN : s0.WarmedH s.vm) (hP : cP D K B ad z H) (hc : ∃ cellB : Cell, H[b]? = some cellB ∧ cellB.vm.isStatics = false ∧ s.vm.findClass C = some cellB.cls) : PreV s H C b (cPc D K s0 B ad z (.ref b :: As)) As :=
  ⟨fun a U g mk q => by obtain ⟨q0, qP, qK, qN⟩ := q; exact ⟨q0, qP, va_K.moved (u := U) (U := U.calling g mk a) (Vm.Alike.refl U.vm) qK, qN⟩, hc, fun U hU hW => ⟨rfl, by rw [hU]; exact hP, va_K.moved hW.alike hK, State.WarmedH.trans hN hW⟩⟩
theorem ck_preS {As : List Value} (hK : va_K D vCl (cT K) s) (hN : s0.WarmedH s.vm) (hP : cP D K B ad z H) : PreS s H (cPc D K s0 B ad z As) As :=
  ⟨fun a U g mk q => by obtain ⟨q0, qP, qK, qN⟩ := q; exact ⟨q0, qP, va_K.moved (u := U) (U := U.calling g mk a) (Vm.Alike.refl U.vm) qK, qN⟩, fun U hU hW => ⟨rfl, by rw [hU]; exact hP, va_K.moved hW.alike hK, State.WarmedH.trans hN hW⟩⟩
theorem ck_me (hK : va_K D vCl (cT K) s) (hP : cP D K B ad z H) : ∃ cellB : Cell, H[B 0]? = some cellB ∧ cellB.vm.isStatics = false ∧ s.vm.findClass RX0 = some cellB.cls := va_recv hK hP.1 (ci := 0) (q0 := 0) (q := (RX0, TX0, 10)) rfl rfl
theorem ck_iret {v : Int32} {res : Int32 × CZ} (E : CallFix p m c cc nL s args lw_all own) (hr : meth.sig.returnType = some .int) (hlocks : meth.locks = false) (hP : cP D K B ad z H) (hS : va_S A s.heap H locs) (hF : some (v, z) = some res) (hdg : decode cc pc = .ok (.ireturn, 1)) : W p l e R s m args below meth c H locs cells slots (MQ below (cQ D K B ad A (some (.int res.1)) res.2) args s cells slots A) (F0 m pc ls [.int v]) := by
  cases hF
  exact W.iret E.1 E.2.1 hr (fun t ht _ => ⟨⟨rfl, by rw [ht]; exact hP⟩, hS.F ht⟩) hS.2.2 hdg hlocks
theorem ck_zret {v : Int32} {res : Int32 × CZ} (E : CallFix p m c cc nL s args lw_all own) (hr : meth.sig.returnType = some .boolean) (hlocks : meth.locks = false) (hP : cP D K B ad z H) (hS : va_S A s.heap H locs) (hF : (zr v).bind (fun r => some (r, z)) = some res) (hdg : decode cc pc = .ok (.ireturn, 1)) : W p l e R s m args below meth c H locs cells slots (MQ below (cQ D K B ad A (some (.int res.1)) res.2) args s cells slots A) (F0 m pc ls [.int v]) := by
  obtain ⟨q, h1, h2⟩ := bnd hF
  obtain ⟨e1, hn⟩ := zr_some h1
  subst e1
  cases h2
  exact W.zret E.1 E.2.1 hr hn (fun t ht _ => ⟨⟨rfl, by rw [ht]; exact hP⟩, hS.F ht⟩) hS.2.2 hdg hlocks
theorem ck_lret {v : Int64} {res : Int64 × CZ} (E : CallFix p m c cc nL s args lw_all own) (hr : meth.sig.returnType = some .long) (hlocks : meth.locks = false) (hP : cP D K B ad z H) (hS : va_S A s.heap H locs) (hF : some (v, z) = some res) (hdg : decode cc pc = .ok (.lreturn, 1)) : W p l e R s m args below meth c H locs cells slots (MQ below (cQ D K B ad A (some (.long res.1)) res.2) args s cells slots A) (F0 m pc ls [.long v]) := by
  cases hF
  exact W.lret E.1 E.2.1 hr (fun t ht _ => ⟨⟨rfl, by rw [ht]; exact hP⟩, hS.F ht⟩) hS.2.2 hdg hlocks
theorem ck_vret {res : CZ} (E : CallFix p m c cc nL s args lw_all own) (hr : meth.sig.returnType = none) (hlocks : meth.locks = false) (hP : cP D K B ad z H) (hS : va_S A s.heap H locs) (hF : some z = some res) (hdg : decode cc pc = .ok (.return_, 1)) : W p l e R s m args below meth c H locs cells slots (MQ below (cQ D K B ad A none res) args s cells slots A) (F0 m pc ls []) := by
  cases hF
  exact W.vret E.1 E.2.1 hr (fun t ht _ => ⟨⟨rfl, by rw [ht]; exact hP⟩, hS.F ht⟩) hS.2.2 hdg hlocks
end COMP
