/-! THE MODEL's WORLD: one object and thirteen int arrays; rows for its fields, arrays, calls, returns over a pure state MZ -/
/-- a guard -/
def gd {α : Type} (b : Bool) (x : Option α) : Option α := if b = true then x else none
theorem gd_some {α : Type} {b : Bool} {x : Option α} {r : α} (h : gd b x = some r) : b = true ∧ x = some r := by
  unfold gd at h
  split at h
  · exact ⟨by assumption, h⟩
  · cases h
theorem gd_t {α : Type} {b : Bool} {x : Option α} (h : b = true) : gd b x = x := by unfold gd; rw [if_pos h]
/-- an index within an array's length -/
def inb (i : Int32) (n : Nat) : Bool := decide (¬ (i < 0 ∨ n ≤ i.toNatClampNeg))
theorem inb_in {i : Int32} {n : Nat} (h : inb i n = true) : vp_in i n := of_decide_eq_true (p := ¬ (i < 0 ∨ n ≤ i.toNatClampNeg)) h
theorem inb_nI {k n : Nat} (h : k < n) (hn : n < 2 ^ 31) : inb (nI k) n = true := decide_eq_true (p := ¬ (nI k < 0 ∨ n ≤ (nI k).toNatClampNeg)) (vp_in_nI h hn)
/-- a join: the code behind it, named, then what goes there -/
def jn {α β : Type} (k : α) (f : α → β) : β := f k
theorem jn_split {α β : Type} {k : α} {f : α → β} {r : β} (h : jn k f = r) : ∃ k', k' = k ∧ f k' = r := ⟨k, rfl, h⟩
theorem ite_t {α : Type} {c : Prop} [Decidable c] {a b r : α} (h : c) (hF : (if c then a else b) = r) : a = r := by rw [if_pos h] at hF; exact hF
theorem ite_f {α : Type} {c : Prop} [Decidable c] {a b r : α} (h : ¬ c) (hF : (if c then a else b) = r) : b = r := by rw [if_neg h] at hF; exact hF
/-- a call's answer, named -/
theorem bnd {α β : Type} {x : Option α} {f : α → Option β} {r : β} (h : x.bind f = some r) : ∃ q, x = some q ∧ f q = some r := Option.bind_eq_some_iff.mp h
/-- a boolean answer -/
def zr (v : Int32) : Option Int32 := if v = 0 then some 0 else if v = 1 then some 1 else none
theorem zr_some {v r : Int32} (h : zr v = some r) : r = v ∧ narrow .boolean (.int v) = .int v := by
  unfold zr at h
  split at h
  · rename_i e; cases h; subst e; exact ⟨rfl, rfl⟩
  · split at h
    · rename_i e; cases h; subst e; exact ⟨rfl, rfl⟩
    · cases h
abbrev FU : Nat := 400
/-- static, pure: the answer alone -/
abbrev pPc (av : List Value) : Array Value → State → Prop := va_Pc av (fun _ => True)
abbrev pQ (v : Value) : Array Value → State → Outcome → State → Prop := fun _ st o t => o = .returned (some v) ∧ t.heap = st.heap
section PURE
variable {p : Program} {l : Launch} {e : Env} {R : Room} {s : State} {m : MethodId} {args : Array Value} {below : List Frame} {meth : Method} {c : Code} {H : Heap} {locs : List Loc} {cells slots : Nat} {Q : State → Prop} {cc : ByteArray} {nL pc : Nat} {own : String} {rest : List Value} {ls : Array Slot} {lv : List (Nat × Value)}
theorem px_start {y : MethodName} {ret : Option FieldType} {rm : Room} {av : List Value} {Qc : Array Value → State → Outcome → State → Prop} {mc ms : Nat} {free : Addr → Prop} (own : String) (hy : plainName y.cls = true) (ho : y.cls = own) (hn : (lg_sl av).length ≤ nL)
    (body : ∀ (p : Program) (e : Env) (s : State) (m : MethodId) (args : Array Value) (below : List Frame) (meth : Method) (c : Code) (ls : Array Slot), CallFix p m c cc nL s args lw_all own → meth.sig.returnType = ret → meth.locks = false → lv_has ls nL (lv_args 0 av) → W p l e rm s m args below meth c s.heap [] 0 0 (MQ below Qc args s mc ms free) (F0 m 0 ls [])) : Met l y (ws_ y cc nL ret) rm (pPc av) Qc mc ms free := by
  refine Met.ofW (cc := cc) (maxL := nL) (ret := ret) hy rfl ?_
  intro p e s m args below meth c s₁ BB hml hv
  obtain ⟨hargs, -⟩ := hv
  have hts := atoms_spec (ws := ws_ y cc nL ret) BB.pre
  have hts : ∀ w ∈ lw_all, w.before args s = true := fun w h => hts w (List.mem_cons_of_mem _ h)
  have hown : s.vm.findClass own = some m.cls := by rw [← ho]; exact findClass_of_methodNamed BB.named
  have hl := lv_entry av (n := nL) hn
  have hen : entryFrame m args nL = F0 m 0 ((lg_sl av ++ List.replicate (nL - (lg_sl av).length) Slot.unset).toArray) [] := by
    rw [hargs]; exact lg_entry_eq m av nL
  rw [hen]
  exact body p e s m args below meth c _ ⟨BB.exec, BB.bytes, hml, hown, hts⟩ BB.returns BB.notSynchronized hl
theorem px_iret {v res : Int32} (E : CallFix p m c cc nL s args lw_all own) (hr : meth.sig.returnType = some .int) (hlocks : meth.locks = false) (hH : H = s.heap) (hF : some v = some res) (hdg : decode cc pc = .ok (.ireturn, 1)) : W p l e R s m args below meth c H [] 0 0 (MQ below (pQ (.int res)) args s 0 0 (fun _ => False)) (F0 m pc ls [.int v]) := by
  cases hF
  exact W.iret E.1 E.2.1 hr (fun t ht _ => ⟨rfl, by rw [ht, hH]⟩) (fun q h => by cases h) hdg hlocks
theorem px_zret {v res : Int32} (E : CallFix p m c cc nL s args lw_all own) (hr : meth.sig.returnType = some .boolean) (hlocks : meth.locks = false) (hH : H = s.heap) (hF : zr v = some res) (hdg : decode cc pc = .ok (.ireturn, 1)) : W p l e R s m args below meth c H [] 0 0 (MQ below (pQ (.int res)) args s 0 0 (fun _ => False)) (F0 m pc ls [.int v]) := by
  obtain ⟨e1, hn⟩ := zr_some hF
  subst e1
  exact W.zret E.1 E.2.1 hr hn (fun t ht _ => ⟨rfl, by rw [ht, hH]⟩) (fun q h => by cases h) hdg hlocks
theorem px_lret {v res : Int64} (E : CallFix p m c cc nL s args lw_all own) (hr : meth.sig.returnType = some .long) (hlocks : meth.locks = false) (hH : H = s.heap) (hF : some v = some res) (hdg : decode cc pc = .ok (.lreturn, 1)) : W p l e R s m args below meth c H [] 0 0 (MQ below (pQ (.long res)) args s 0 0 (fun _ => False)) (F0 m pc ls [.long v]) := by
  cases hF
  exact W.lret E.1 E.2.1 hr (fun t ht _ => ⟨rfl, by rw [ht, hH]⟩) (fun q h => by cases h) hdg hlocks
/-- a call of a pure static method -/
theorem px_call {y : MethodName} {bytes : ByteArray} {maxL n idx : Nat} {ret : Option FieldType} {rm : Room} {As : List Value} {v : Value} {st0 : List Value} (E : CallFix p m c cc nL s args lw_all own) (hM : Met l y (ws_ y bytes maxL ret) rm (pPc As) (pQ v) 0 0 (fun _ => False)) (cw : CallB R s args own idx y bytes maxL ret (ws_ y bytes maxL ret) rm 0 0 n ∧ (Cond.static y).before args s = true) (hl : lv_has ls nL lv) (hn : As.length = n) (hst : st0 = As.reverse ++ rest) (hW : (rest.map fun v => v.category).sum ≤ 8) (hf : cells ≤ R.cells ∧ slots ≤ R.slots) (hdg : decode cc pc = .ok (.invokestatic idx, 3))
    (kk : W p l e R s m args below meth c H locs cells slots Q (F0 m (pc + 3) ls (v :: rest))) : W p l e R s m args below meth c H locs cells slots Q (F0 m pc ls st0) := by
  intro T hT X
  obtain ⟨v', st₀, t, T', L, h0, X', hL, h1, -, ⟨hq, hq2⟩, st⟩ := va_runS (As := As) (rest := rest) E hM cw (⟨fun a U g mk q => q, fun U _ _ => ⟨rfl, trivial⟩⟩ : PreS s H (pPc As) As) (g := F0 m pc ls st0) rfl hn hl.1 hst (lv_room hW) hdg hf T hT X
  have hLn : L = [] := by
    cases L with
    | nil => rfl
    | cons a b => exact (hL a List.mem_cons_self).elim
  subst hLn
  rw [List.append_nil] at X'
  cases hq
  obtain ⟨t2, a1, b1⟩ := kk T' (by rw [h1, hq2, h0]) X'
  exact ⟨t2, st t2 a1, b1⟩
end PURE
/-- the model's state: int fields and int arrays, by their places in TX1 -/
abbrev MZ : Type := (Nat → Int32) × (Nat → Nat → Int32)
def mz_f (z : MZ) (k : Nat) (v : Int32) : MZ := (upd z.1 k v, z.2)
def mz_a (z : MZ) (k i : Nat) (v : Int32) : MZ := (z.1, fun j => if j = k then upd (z.2 k) i v else z.2 j)
abbrev mF (B : Nat → Nat) (z : MZ) : List Value := [.int (z.1 0), .int (z.1 1), .ref (B 2), .ref (B 3), .ref (B 4), .int (z.1 5), .int (z.1 6), .int (z.1 7), .ref (B 8), .ref (B 9), .ref (B 10), .int (z.1 11), .int (z.1 12), .int (z.1 13), .int (z.1 14), .ref (B 15), .ref (B 16), .ref (B 17), .int (z.1 18), .int (z.1 19), .int (z.1 20), .int (z.1 21), .int (z.1 22), .int (z.1 23), .ref (B 24), .ref (B 25), .int (z.1 26), .ref (B 27), .ref (B 28)]
abbrev mW (ci : Nat) (d : ClassId) (B : Nat → Nat) (z : MZ) : va_W := [(B 0, .inr (ci, mF B z)), (B 2, .inl (d, 4, .inl (z.2 2))), (B 3, .inl (d, 4, .inl (z.2 3))), (B 4, .inl (d, 240, .inl (z.2 4))), (B 8, .inl (d, 5, .inl (z.2 8))), (B 9, .inl (d, 5, .inl (z.2 9))), (B 10, .inl (d, 25, .inl (z.2 10))), (B 15, .inl (d, 5, .inl (z.2 15))), (B 16, .inl (d, 5, .inl (z.2 16))), (B 17, .inl (d, 25, .inl (z.2 17))), (B 24, .inl (d, 5, .inl (z.2 24))), (B 25, .inl (d, 32, .inl (z.2 25))), (B 27, .inl (d, 8, .inl (z.2 27))), (B 28, .inl (d, 8, .inl (z.2 28)))]
/-- which places are ints -/
def mInt (k : Nat) : Bool := [0, 1, 5, 6, 7, 11, 12, 13, 14, 18, 19, 20, 21, 22, 23, 26].contains k
theorem mF_put {B : Nat → Nat} {z : MZ} {k : Nat} {v : Int32} (h : mInt k = true) : (mF B z).set k (.int v) = mF B (mz_f z k v) := by
  have h : k ∈ [0, 1, 5, 6, 7, 11, 12, 13, 14, 18, 19, 20, 21, 22, 23, 26] := by simpa [mInt] using h
  simp only [List.mem_cons, List.not_mem_nil, or_false] at h
  rcases h with rfl | rfl | rfl | rfl | rfl | rfl | rfl | rfl | rfl | rfl | rfl | rfl | rfl | rfl | rfl | rfl <;> rfl
theorem mF_ty {k : Nat} (h : mInt k = true) : (TX1 k).2.2.2 = false ∧ parseFieldDescriptor (TX1 k).2.2.1 = some .int ∧ k < 29 := by
  have h : k ∈ [0, 1, 5, 6, 7, 11, 12, 13, 14, 18, 19, 20, 21, 22, 23, 26] := by simpa [mInt] using h
  simp only [List.mem_cons, List.not_mem_nil, or_false] at h
  rcases h with rfl | rfl | rfl | rfl | rfl | rfl | rfl | rfl | rfl | rfl | rfl | rfl | rfl | rfl | rfl | rfl <;> decide +kernel
/-- the arrays: place in the world, place in TX1, length -/
def mArr (q j n : Nat) : Bool := [(1, 2, 4), (2, 3, 4), (3, 4, 240), (4, 8, 5), (5, 9, 5), (6, 10, 25), (7, 15, 5), (8, 16, 5), (9, 17, 25), (10, 24, 5), (11, 25, 32), (12, 27, 8), (13, 28, 8)].contains (q, j, n)
theorem mW_arr {ci : Nat} {d : ClassId} {B : Nat → Nat} {z : MZ} {q j n : Nat} (h : mArr q j n = true) : (mW ci d B z)[q]? = some (B j, .inl (d, n, .inl (z.2 j))) ∧ ∀ (i : Nat) (v : Int32), (mW ci d B z).set q (B j, .inl (d, n, .inl (upd (z.2 j) i v))) = mW ci d B (mz_a z j i v) := by
  have h : (q, j, n) ∈ [(1, 2, 4), (2, 3, 4), (3, 4, 240), (4, 8, 5), (5, 9, 5), (6, 10, 25), (7, 15, 5), (8, 16, 5), (9, 17, 25), (10, 24, 5), (11, 25, 32), (12, 27, 8), (13, 28, 8)] := by simpa [mArr] using h
  simp only [List.mem_cons, List.not_mem_nil, or_false, Prod.mk.injEq] at h
  rcases h with ⟨rfl, rfl, rfl⟩ | ⟨rfl, rfl, rfl⟩ | ⟨rfl, rfl, rfl⟩ | ⟨rfl, rfl, rfl⟩ | ⟨rfl, rfl, rfl⟩ | ⟨rfl, rfl, rfl⟩ | ⟨rfl, rfl, rfl⟩ | ⟨rfl, rfl, rfl⟩ | ⟨rfl, rfl, rfl⟩ | ⟨rfl, rfl, rfl⟩ | ⟨rfl, rfl, rfl⟩ | ⟨rfl, rfl, rfl⟩ | ⟨rfl, rfl, rfl⟩ <;> exact ⟨rfl, fun _ _ => rfl⟩
abbrev mPc (D : va_G) (cl : List vw_C) (ci : Nat) (d : ClassId) (B : Nat → Nat) (z : MZ) (av : List Value) : Array Value → State → Prop := va_Pc (.ref (B 0) :: av) (fun U => va_P D cl (mW ci d B z) U.heap ∧ va_K D cl [(d, .int)] U)
abbrev mQ (D : va_G) (cl : List vw_C) (ci : Nat) (d : ClassId) (B : Nat → Nat) (A : Nat → Prop) (v : Option Value) (z : MZ) : Array Value → State → Outcome → State → Prop := fun _ st o t => (o = .returned v ∧ va_P D cl (mW ci d B z) t.heap) ∧ va_F A st t
section MODEL
variable {p : Program} {l : Launch} {e : Env} {R : Room} {s : State} {m : MethodId} {args : Array Value} {below : List Frame} {meth : Method} {c : Code} {H : Heap} {locs : List Loc} {cells slots : Nat} {Q : State → Prop} {cc : ByteArray} {nL pc : Nat} {rest : List Value} {ls : Array Slot} {D : va_G} {cl : List vw_C} {ci : Nat} {d : ClassId} {B : Nat → Nat} {A : Nat → Prop} {z : MZ} {lv : List (Nat × Value)}
theorem mk_start {y : MethodName} {ret : Option FieldType} {rm : Room} {av : List Value} {Qc : Array Value → State → Outcome → State → Prop} {mc ms : Nat} {free : Addr → Prop} (hy : plainName y.cls = true) (ho : y.cls = RX1) (hn : (lg_sl (.ref (B 0) :: av)).length ≤ nL)
    (body : ∀ (p : Program) (e : Env) (s : State) (m : MethodId) (args : Array Value) (below : List Frame) (meth : Method) (c : Code) (H : Heap) (locs : List Loc) (ls : Array Slot), CallFix p m c cc nL s args lw_all RX1 → meth.sig.returnType = ret → meth.locks = false → va_K D cl [(d, .int)] s → va_P D cl (mW ci d B z) H → va_S A s.heap H locs → lv_has ls nL (lv_args 0 (.ref (B 0) :: av)) → W p l e rm s m args below meth c H locs 0 0 (MQ below Qc args s mc ms free) (F0 m 0 ls [])) : Met l y (ws_ y cc nL ret) rm (mPc D cl ci d B z av) Qc mc ms free := by
  refine Met.ofW (cc := cc) (maxL := nL) (ret := ret) hy rfl ?_
  intro p e s m args below meth c s₁ BB hml hv
  obtain ⟨hargs, hP, hK⟩ := hv
  have hts := atoms_spec (ws := ws_ y cc nL ret) BB.pre
  have hts : ∀ w ∈ lw_all, w.before args s = true := fun w h => hts w (List.mem_cons_of_mem _ h)
  have hown : s.vm.findClass RX1 = some m.cls := by rw [← ho]; exact findClass_of_methodNamed BB.named
  have hl := lv_entry (.ref (B 0) :: av) (n := nL) hn
  have hen : entryFrame m args nL = F0 m 0 ((lg_sl (.ref (B 0) :: av) ++ List.replicate (nL - (lg_sl (.ref (B 0) :: av)).length) Slot.unset).toArray) [] := by
    rw [hargs]; exact lg_entry_eq m _ nL
  rw [hen]
  exact body p e s m args below meth c _ _ _ ⟨BB.exec, BB.bytes, hml, hown, hts⟩ BB.returns BB.notSynchronized hK hP (va_S.rf (A := A)) hl
theorem mk_get (E : CallFix p m c cc nL s args lw_all RX1) (hcl : cl[ci]? = some (RX1, TX1, 29)) (hK : va_K D cl [(d, .int)] s) (hP : va_P D cl (mW ci d B z) H) (k : Nat) (hk : k < 29) {idx : Nat} (hl : Cond.fieldLink RX1 idx RX1 (TX1 k).2.1 (TX1 k).2.2.1 ∈ lw_all) (hr : (TX1 k).1 = RX1) {v : Value} (hv : (mF B z)[k]? = some v) (hdg : decode cc pc = .ok (.getfield idx, 3))
    (kk : W p l e R s m args below meth c H locs cells slots Q (F0 m (pc + 3) ls (v :: rest))) : W p l e R s m args below meth c H locs cells slots Q (F0 m pc ls (.ref (B 0) :: rest)) :=
  va_get E.1 E.2.1 E.2.2.2.2 in_X1 E.2.2.2.1 hK hP 0 rfl hcl k hk (E.2.2.2.2 _ hl) (fun x h => by rw [hr] at h; exact h) hv hdg kk
theorem mk_put (E : CallFix p m c cc nL s args lw_all RX1) (hcl : cl[ci]? = some (RX1, TX1, 29)) (hB : ∀ z, va_D A (mW ci d B z)) (hK : va_K D cl [(d, .int)] s) (hP : va_P D cl (mW ci d B z) H) (hS : va_S A s.heap H locs) (k : Nat) (hk : mInt k = true) {idx : Nat} (hl : Cond.fieldLink RX1 idx RX1 (TX1 k).2.1 (TX1 k).2.2.1 ∈ lw_all) (hr : (TX1 k).1 = RX1) {v : Int32} (hdg : decode cc pc = .ok (.putfield idx, 3))
    (kk : ∀ (H : Heap) (locs : List Loc), va_P D cl (mW ci d B (mz_f z k v)) H → va_S A s.heap H locs → W p l e R s m args below meth c H locs cells slots Q (F0 m (pc + 3) ls rest)) : W p l e R s m args below meth c H locs cells slots Q (F0 m pc ls (.int v :: .ref (B 0) :: rest)) := by
  obtain ⟨h1, h2, h3⟩ := mF_ty hk
  refine va_put E.1 E.2.1 E.2.2.2.2 in_X1 tyX1 tyX1_ok nmX1 E.2.2.2.1 hK hP (hB z) hS 0 rfl hcl k h3 (E.2.2.2.2 _ hl) (fun x h => by rw [hr] at h; exact h) h1 h2 rfl rfl h3 hdg (fun H1 locs1 g1 _ g3 => kk H1 locs1 ?_ g3)
  rw [mF_put hk] at g1
  exact g1
theorem mk_ald (E : CallFix p m c cc nL s args lw_all RX1) (hK : va_K D cl [(d, .int)] s) (hP : va_P D cl (mW ci d B z) H) {q j n : Nat} (hq : mArr q j n = true) {i : Int32} (hi : inb i n = true) (hdg : decode cc pc = .ok (.iaload, 1))
    (kk : W p l e R s m args below meth c H locs cells slots Q (F0 m (pc + 1) ls (.int (z.2 j i.toNatClampNeg) :: rest))) : W p l e R s m args below meth c H locs cells slots Q (F0 m pc ls (.int i :: .ref (B j) :: rest)) :=
  va_iald E.1 E.2.1 hK hP q 0 (mW_arr hq).1 rfl (inb_in hi) hdg kk
theorem mk_ast (E : CallFix p m c cc nL s args lw_all RX1) (hB : ∀ z, va_D A (mW ci d B z)) (hK : va_K D cl [(d, .int)] s) (hP : va_P D cl (mW ci d B z) H) (hS : va_S A s.heap H locs) {q j n : Nat} (hq : mArr q j n = true) {i v : Int32} (hi : inb i n = true) (hdg : decode cc pc = .ok (.iastore, 1))
    (kk : ∀ (H : Heap) (locs : List Loc), va_P D cl (mW ci d B (mz_a z j i.toNatClampNeg v)) H → va_S A s.heap H locs → W p l e R s m args below meth c H locs cells slots Q (F0 m (pc + 1) ls rest)) : W p l e R s m args below meth c H locs cells slots Q (F0 m pc ls (.int v :: .int i :: .ref (B j) :: rest)) := by
  refine va_iast E.1 E.2.1 hK hP (hB z) hS q 0 (mW_arr hq).1 rfl (inb_in hi) hdg (fun H1 locs1 g1 _ g3 => kk H1 locs1 ?_ g3)
  rw [(mW_arr hq).2] at g1
  exact g1
theorem mk_call {y : MethodName} {bytes : ByteArray} {maxL n idx : Nat} {ret : Option FieldType} {rm : Room} {As : List Value} {v : Option Value} {z1 : MZ} {st0 : List Value} (E : CallFix p m c cc nL s args lw_all RX1) (hcl : cl[ci]? = some (RX1, TX1, 29)) (hK : va_K D cl [(d, .int)] s) (hP : va_P D cl (mW ci d B z) H) (hS : va_S A s.heap H locs) (hM : Met l y (ws_ y bytes maxL ret) rm (mPc D cl ci d B z As) (mQ D cl ci d B A v z1) 0 0 A) (cw : CallW R s args RX1 RX1 idx y bytes maxL ret (ws_ y bytes maxL ret) rm 0 0 n) (hl : lv_has ls nL lv) (hn : As.length = n) (hst : st0 = As.reverse ++ .ref (B 0) :: rest) (hW : (rest.map fun v => v.category).sum ≤ 8) (hf : cells ≤ R.cells ∧ slots ≤ R.slots) (hdg : decode cc pc = .ok (.invokevirtual idx, 3))
    (kk : ∀ (H : Heap) (locs : List Loc), va_P D cl (mW ci d B z1) H → va_S A s.heap H locs → W p l e R s m args below meth c H locs cells slots Q (F0 m (pc + 3) ls (v.toList ++ rest))) : W p l e R s m args below meth c H locs cells slots Q (F0 m pc ls st0) := by
  intro T hT X
  have hpre : PreV s H RX1 (B 0) (mPc D cl ci d B z As) As := ⟨fun a U g mk q => by obtain ⟨q0, qP, qK⟩ := q; exact ⟨q0, qP, va_K.moved (u := U) (U := U.calling g mk a) (Vm.Alike.refl U.vm) qK⟩, va_recv hK hP hcl (q0 := 0) rfl, fun U hU hW => ⟨rfl, by rw [hU]; exact hP, va_K.moved hW.alike hK⟩⟩
  obtain ⟨v', st₀, t, T', L, h0, X', hL, h1, -, ⟨⟨hq, hq2⟩, hq3⟩, st⟩ := va_runV (As := As) (rest := rest) E hM cw hpre (g := F0 m pc ls st0) rfl hn hl.1 hst (lv_room hW) hdg hf T hT X
  cases hq
  have hS1 : va_S A s.heap t.heap (locs ++ L) := by
    obtain ⟨a1, a2, a3⟩ := hS
    obtain ⟨b1, b2⟩ := hq3
    rw [h0] at b1 b2
    refine ⟨Nat.le_trans a1 b1, fun q g1 g2 => ?_, fun q hq => ?_⟩
    · rw [b2 q (Nat.lt_of_lt_of_le g1 a1) g2]; exact a2 q g1 g2
    · rcases List.mem_append.mp hq with g | g
      · exact a3 q g
      · exact hL q g
  obtain ⟨t2, a1, b1⟩ := kk t.heap (locs ++ L) hq2 hS1 T' h1 X'
  exact ⟨t2, st t2 a1, b1⟩
theorem mk_iret {v : Int32} {res : Int32 × MZ} (E : CallFix p m c cc nL s args lw_all RX1) (hr : meth.sig.returnType = some .int) (hlocks : meth.locks = false) (hP : va_P D cl (mW ci d B z) H) (hS : va_S A s.heap H locs) (hF : some (v, z) = some res) (hdg : decode cc pc = .ok (.ireturn, 1)) : W p l e R s m args below meth c H locs 0 0 (MQ below (mQ D cl ci d B A (some (.int res.1)) res.2) args s 0 0 A) (F0 m pc ls [.int v]) := by
  cases hF
  exact W.iret E.1 E.2.1 hr (fun t ht _ => ⟨⟨rfl, by rw [ht]; exact hP⟩, hS.F ht⟩) hS.2.2 hdg hlocks
theorem mk_zret {v : Int32} {res : Int32 × MZ} (E : CallFix p m c cc nL s args lw_all RX1) (hr : meth.sig.returnType = some .boolean) (hlocks : meth.locks = false) (hP : va_P D cl (mW ci d B z) H) (hS : va_S A s.heap H locs) (hF : (zr v).bind (fun r => some (r, z)) = some res) (hdg : decode cc pc = .ok (.ireturn, 1)) : W p l e R s m args below meth c H locs 0 0 (MQ below (mQ D cl ci d B A (some (.int res.1)) res.2) args s 0 0 A) (F0 m pc ls [.int v]) := by
  obtain ⟨q, h1, h2⟩ := bnd hF
  obtain ⟨e1, hn⟩ := zr_some h1
  subst e1
  cases h2
  exact W.zret E.1 E.2.1 hr hn (fun t ht _ => ⟨⟨rfl, by rw [ht]; exact hP⟩, hS.F ht⟩) hS.2.2 hdg hlocks
theorem mk_lret {v : Int64} {res : Int64 × MZ} (E : CallFix p m c cc nL s args lw_all RX1) (hr : meth.sig.returnType = some .long) (hlocks : meth.locks = false) (hP : va_P D cl (mW ci d B z) H) (hS : va_S A s.heap H locs) (hF : some (v, z) = some res) (hdg : decode cc pc = .ok (.lreturn, 1)) : W p l e R s m args below meth c H locs 0 0 (MQ below (mQ D cl ci d B A (some (.long res.1)) res.2) args s 0 0 A) (F0 m pc ls [.long v]) := by
  cases hF
  exact W.lret E.1 E.2.1 hr (fun t ht _ => ⟨⟨rfl, by rw [ht]; exact hP⟩, hS.F ht⟩) hS.2.2 hdg hlocks
theorem mk_vret {res : MZ} (E : CallFix p m c cc nL s args lw_all RX1) (hr : meth.sig.returnType = none) (hlocks : meth.locks = false) (hP : va_P D cl (mW ci d B z) H) (hS : va_S A s.heap H locs) (hF : some z = some res) (hdg : decode cc pc = .ok (.return_, 1)) : W p l e R s m args below meth c H locs 0 0 (MQ below (mQ D cl ci d B A none res) args s 0 0 A) (F0 m pc ls []) := by
  cases hF
  exact W.vret E.1 E.2.1 hr (fun t ht _ => ⟨⟨rfl, by rw [ht]; exact hP⟩, hS.F ht⟩) hS.2.2 hdg hlocks
end MODEL
