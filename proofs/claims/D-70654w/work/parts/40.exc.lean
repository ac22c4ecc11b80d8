/-! EXCEPTIONS: contracts of methods that throw, calls of them, leaving, catching -/
theorem same_old {s t : State} {k n : Nat} (h : s.sameButNew t [] k n) : s.heap.size ≤ t.heap.size ∧ ∀ q, q < s.heap.size → t.heap[q]? = s.heap[q]? := by
  obtain ⟨-, h2, -, -, -, h6⟩ := h
  refine ⟨h2, fun q hq => ?_⟩
  obtain ⟨c, hc⟩ : ∃ c, s.heap[q]? = some c := ⟨_, Array.getElem?_eq_getElem hq⟩
  obtain ⟨c', e1, e2, e3, e4⟩ := h6 q c hc
  have hs : c'.slots = c.slots := by
    apply Array.ext_getElem?
    intro i
    exact e4 i (fun h => by cases h)
  rw [e1, hc, e2, hs]
/-- what a throwing method leaves: nothing old has changed; the exception is an object of the class C -/
def tEnd (C : String) (st : State) (x : Addr) (t : State) (mc ms : Nat) : Prop :=
  st.WarmedH t.vm ∧ (∃ k n, k ≤ mc ∧ n ≤ ms ∧ st.sameButNew ({ t with vm := st.vm } : State) [] k n) ∧ ∃ cell : Cell, t.heap[x]? = some cell ∧ cell.vm.isStatics = false ∧ st.vm.findClass C = some cell.cls
def MetT (l : Launch) (y : MethodName) (ws : List Cond) (rm : Room) (Pc : Array Value → State → Prop) (C : String) (mc ms : Nat) : Prop :=
  MetFree l y (headSpec ws rm) Pc (fun _ _ _ _ _ => True) (fun _ st o t => ∃ x, o = .threw x ∧ tEnd C st x t mc ms)
def MQT (below : List Frame) (C : String) (s : State) (mc ms : Nat) : State → Prop := fun t => ∃ x, t.status = .running ∧ Ended t below (.threw x) ∧ tEnd C s x t mc ms
section EXC
variable {p : Program} {l : Launch} {e : Env} {R : Room} {s : State} {m : MethodId} {args : Array Value} {below : List Frame} {meth : Method} {c : Code} {H : Heap} {locs : List Loc} {cells slots : Nat} {Q : State → Prop} {cc : ByteArray} {nL pc : Nat} {rest : List Value} {ls : Array Slot} {lv : List (Nat × Value)} {own : String} {C : String} {mc ms : Nat}
theorem MetT.ofW {y : MethodName} {ws ws' : List Cond} {rm : Room} {Pc : Array Value → State → Prop} {maxL : Nat} {ret : Option FieldType}
    (hy : plainName y.cls = true) (hw : ws = Cond.code y cc maxL ret :: ws')
    (body : ∀ p e s m args below meth c s₁, BodyLoose p l y (headSpec ws rm) cc maxL ret e s m args below meth c s₁ → c.maxLocals = maxL → Pc args s →
      W p l e (headSpec ws rm).room s m args below meth c s.heap [] 0 0 (MQT below C s mc ms) (entryFrame m args maxL)) : MetT l y ws rm Pc C mc ms := by
  refine MetFree.of_bodyS (code := cc) (maxLocals := maxL) (ret := ret) hy ?_ ?_
  · intro args s m h hn
    obtain ⟨meth, c, h1, h2, h3, h4, h5, h6, -, -⟩ := Cond.code_spec hn (atoms_spec (ws := ws) h _ (by rw [hw]; exact List.mem_cons_self))
    exact ⟨meth, c, h1, h2, h3, h4, h5, h6⟩
  · intro p e s m args below meth c s₁ B hml hP _
    have hh0 : s₁.heap = s.heap := by rw [B.state]; rfl
    obtain ⟨t, a1, x, b1, b2, b3⟩ := body p e s m args below meth c s₁ B hml hP s₁ hh0 (Stand.of_body B)
    exact ⟨t, .threw x, a1, b1, b2, x, rfl, b3⟩
/-- a throwing method's start -/
theorem tx_start {y : MethodName} {ret : Option FieldType} {rm : Room} {av : List Value} {Cn : State → Prop} (own : String) (hy : plainName y.cls = true) (ho : y.cls = own) (hn : (lg_sl av).length ≤ nL)
    (body : ∀ (p : Program) (e : Env) (s : State) (m : MethodId) (args : Array Value) (below : List Frame) (meth : Method) (c : Code) (ls : Array Slot), CallFix p m c cc nL s args lw_all own → meth.sig.returnType = ret → meth.locks = false → c.exceptionTable.toList = [] → Cn s → lv_has ls nL (lv_args 0 av) → W p l e rm s m args below meth c s.heap [] 0 0 (MQT below C s mc ms) (F0 m 0 ls [])) : MetT l y (ws_ y cc nL ret) rm (va_Pc av Cn) C mc ms := by
  refine MetT.ofW (cc := cc) (maxL := nL) (ret := ret) hy rfl ?_
  intro p e s m args below meth c s₁ BB hml hv
  obtain ⟨hargs, hC⟩ := hv
  have hts0 := atoms_spec (ws := ws_ y cc nL ret) BB.pre
  have hts : ∀ w ∈ lw_all, w.before args s = true := fun w h => hts0 w (List.mem_cons_of_mem _ h)
  have hown : s.vm.findClass own = some m.cls := by rw [← ho]; exact findClass_of_methodNamed BB.named
  have hl := lv_entry av (n := nL) hn
  have hen : entryFrame m args nL = F0 m 0 ((lg_sl av ++ List.replicate (nL - (lg_sl av).length) Slot.unset).toArray) [] := by
    rw [hargs]; exact lg_entry_eq m av nL
  have hx : c.exceptionTable.toList = [] := by
    have := BB.noHandlers (hts0 _ List.mem_cons_self)
    simpa using this
  rw [hen]
  exact body p e s m args below meth c _ ⟨BB.exec, BB.bytes, hml, hown, hts⟩ BB.returns BB.notSynchronized hx hC hl
/-- the call of a method that throws, from a point of the walk -/
theorem backT {y : MethodName} {ws : List Cond} {rm : Room} {Pc : Array Value → State → Prop} {bytes : ByteArray} {maxL len : Nat} {ret : Option FieldType} {A : State} {g : JFrame} {ig : Instr} {mk : MethodId} {a : Array Value}
    (hM : MetT l y ws rm Pc C mc ms) (hbl : FrameBlind Pc) (hrc : rm.cells = mc) (hrs : rm.slots = ms) (hframes : rm.frames + 1 ≤ R.frames) (hlocals : 8 + (maxL + 11) + rm.locals ≤ R.locals)
    (hws : ∀ w ∈ ws, ∀ (a' : Array Value) (U : State), s.WarmedH U.vm → w.before a' U = true) (hcode : Cond.code y bytes maxL ret ∈ ws) (hinit : (Cond.initialized y.cls).before args s = true)
    (X : Stand p l e R s m args below meth c A locs cells slots) (hg : g.method = m) (hsize : g.locals.size = c.maxLocals) (hdg : decode c.code g.pc = .ok (ig, len)) (hW : 2 * g.monitorRoom + (g.stack.map fun v => v.category).sum ≤ 8) (hn : A.methodNamed? y = some mk) (hc : cells + mc ≤ R.cells) (hs : slots + ms ≤ R.slots) (hP : Pc a A) :
    ∃ (x : Addr) (T' : State) (k n : Nat), k ≤ mc ∧ n ≤ ms ∧ Stand p l e R s m args below meth c T' locs (cells + k) (slots + n) ∧ (A.heap.size ≤ T'.heap.size ∧ ∀ q, q < A.heap.size → T'.heap[q]? = A.heap[q]?) ∧ (∃ cell : Cell, T'.heap[x]? = some cell ∧ cell.vm.isStatics = false ∧ s.vm.findClass C = some cell.cls) ∧
      Steps p.tables e below (doInvoke e (A.setTop g) [] mk a).1 ((T'.setTop g).pushFrame (.throwing x)) := by
  have h2 : (Cond.code y bytes maxL ret).before a A = true := hws _ hcode _ _ X.warmed
  have h3 : (Cond.initialized y.cls).before a A = true := word_at X.warmed (Or.inl (by first | rfl | simp [Cond.onTables, Cond.keeps, Cond.steady])) hinit
  have h1 : (headSpec ws rm).pre.before a A = true := atoms_intro fun w hw => hws w hw _ _ X.warmed
  obtain ⟨methY, cY, hmY, hcY, -, hlY, -, -, -, -⟩ := Cond.code_spec hn h2
  obtain ⟨kY, hkY, -⟩ := className_of_methodNamed hn
  have hinitY : kY.init = .initialized := Cond.initialized_spec (findClass_of_methodNamed hn) hkY h3
  have h : At A g.method c below := by rw [hg]; exact X.here
  have happ : (headSpec ws rm).appliesLoose y e.platform (A.calling g mk a) = true :=
    Spec.appliesLoose_calling (g := g) h hdg hn hkY hinitY
      (X.room_calling (g := g) (R' := rm) hsize hmY hcY hframes (by rw [hlY]; omega) (by rw [hrc]; exact hc) (by rw [hrs]; exact hs)) h1
  obtain ⟨mid, hmid⟩ := h.above
  have hfr : (A.setTop g).frames = (.java g :: mid) ++ below := by rw [State.frames_setTop' g h.top, hmid]; rfl
  obtain ⟨o, s₂, hsteps, -, hend, hq⟩ := Steps.callFree hM p X.admits X.cas X.clock (acts := []) hfr happ (hbl _ _ _ _ hP) trivial
  obtain ⟨x, rfl, hW2, ⟨k, n, hk, hn2, hsame⟩, cell, hcell, hst, hcls⟩ := hq
  rw [State.frames_setTop' g h.top, X.tail] at hend
  obtain ⟨T', X', hW', hS', ht⟩ := X.outOfThrown hg hend hW2 hsame
  rw [List.append_nil] at X'
  refine ⟨x, T', k, n, hk, hn2, X', same_old (t := T'.setVm A.vm) hS', ⟨cell, ?_, hst, ?_⟩, ?_⟩
  · rw [ht] at hcell
    rw [Jvm.Stand.throwing_heap] at hcell
    exact hcell
  · have hv : A.vm.findClass C = some cell.cls := hcls
    rw [X.warmed.alike.findClass] at hv
    exact hv
  · rw [← ht]; exact hsteps
/-- behind a call that has thrown -/
def RunT (p : Program) (l : Launch) (e : Env) (R : Room) (s : State) (m : MethodId) (args : Array Value) (below : List Frame) (meth : Method) (c : Code) (H : Heap) (locs : List Loc) (cells slots mc ms : Nat) (g g2 : JFrame) (C : String) : Prop :=
  ∀ T : State, T.heap = H → Stand p l e R s m args below meth c T locs cells slots → ∃ (x : Addr) (T' : State) (k n : Nat), k ≤ mc ∧ n ≤ ms ∧ Stand p l e R s m args below meth c T' locs (cells + k) (slots + n) ∧ (H.size ≤ T'.heap.size ∧ ∀ q, q < H.size → T'.heap[q]? = H[q]?) ∧ (∃ cell : Cell, T'.heap[x]? = some cell ∧ cell.vm.isStatics = false ∧ s.vm.findClass C = some cell.cls) ∧
    ∀ target, Steps p.tables e below ((T'.setTop g2).pushFrame (.throwing x)) target → Steps p.tables e below (T.setTop g) target
theorem runT_S {y : MethodName} {bytes : ByteArray} {maxL n index : Nat} {ret : Option FieldType} {ws : List Cond} {rm : Room} {Pc : Array Value → State → Prop} {Ts : List Cond} {As : List Value} {g : JFrame} (S : CallFix p m c cc nL s args Ts own) (hM : MetT l y ws rm Pc C mc ms) (cw : CallB R s args own index y bytes maxL ret ws rm mc ms n ∧ (Cond.static y).before args s = true) (hp : PreS s H Pc As)
    (hg : g.method = m) (hn : As.length = n) (hsize : g.locals.size = nL) (hstack : g.stack = As.reverse ++ rest) (hW : 2 * g.monitorRoom + (rest.map fun v => v.category).sum ≤ 8) (hdg : decode cc g.pc = .ok (.invokestatic index, 3)) (hf : cells + mc ≤ R.cells ∧ slots + ms ≤ R.slots) :
    RunT p l e R s m args below meth c H locs cells slots mc ms g { g with stack := rest } C := by
  obtain ⟨⟨hrc, hrs, hfr, hlo, hws, hcw, hcode, hini, hy, hlen, hl⟩, hstt⟩ := cw
  obtain ⟨hx, hb, hml, ho, -⟩ := S
  intro T hT X
  obtain ⟨mk, hnamed⟩ := Cond.code_named hcode
  obtain ⟨methM, cM, hmethM, -, -, -, -, -, -, hsigM⟩ := Cond.code_spec hnamed hcode
  have hstatic : methM.isStatic = true := Cond.static_spec hnamed hmethM hstt
  obtain ⟨kP, hkP, -⟩ := className_of_methodNamed hnamed
  have hinitP : kP.init = .initialized := Cond.initialized_spec (findClass_of_methodNamed hnamed) hkP hini
  obtain ⟨vm₁, X₁, hstep₁⟩ := X.invokestatic hx ho hl hnamed hmethM hstatic hkP hinitP hy (g := g) hg (argsL := As) (rest := rest) (hn.trans (hlen _ hsigM)) hstack (by rw [hb]; exact hdg)
  obtain ⟨x, T', k, n', hk, hn', X', hS, hcell, hsteps⟩ := backT (g := { g with stack := rest }) (a := As.toArray) hM hp.1 hrc hrs hfr hlo hws hcw hini X₁ hg (hsize.trans hml.symm) (by rw [hb]; exact hdg) hW (X₁.named hnamed) hf.1 hf.2 (hp.2 (T.setVm vm₁) hT X₁.warmed)
  have hh : (T.setVm vm₁).heap = H := hT
  rw [hh] at hS
  exact ⟨x, T', k, n', hk, hn', X', hS, hcell, fun target h => hstep₁ _ fun acts => by rw [doInvoke_state]; exact hsteps.trans h⟩
theorem runT_V {y : MethodName} {bytes : ByteArray} {maxL n index : Nat} {ret : Option FieldType} {ws : List Cond} {rm : Room} {Pc : Array Value → State → Prop} {Ts : List Cond} {D : String} {b : Addr} {As : List Value} {g : JFrame} (S : CallFix p m c cc nL s args Ts own) (hM : MetT l y ws rm Pc C mc ms) (cw : CallW R s args own D index y bytes maxL ret ws rm mc ms n) (hp : PreV s H D b Pc As)
    (hg : g.method = m) (hn : As.length = n) (hsize : g.locals.size = nL) (hstack : g.stack = As.reverse ++ .ref b :: rest) (hW : 2 * g.monitorRoom + (rest.map fun v => v.category).sum ≤ 8) (hdg : decode cc g.pc = .ok (.invokevirtual index, 3)) (hf : cells + mc ≤ R.cells ∧ slots + ms ≤ R.slots) :
    RunT p l e R s m args below meth c H locs cells slots mc ms g { g with stack := rest } C := by
  obtain ⟨⟨hrc, hrs, hfr, hlo, hws, hcw, hcode, hini, hy, hlen, hl⟩, hin, hse⟩ := cw
  obtain ⟨hx, hb, hml, ho, -⟩ := S
  obtain ⟨hbl, ⟨cellB, hcB, hoB, hclB⟩, hPc⟩ := hp
  intro T hT X
  obtain ⟨mk, methM, hnamed, hmethM, hstM, habM⟩ := Cond.instanceMethod_spec hin
  obtain ⟨methM', cM, hmethM', -, -, -, -, -, -, hsigM⟩ := Cond.code_spec hnamed hcode
  cases hmethM.symm.trans hmethM'
  obtain ⟨c2, r2, m2, q1, q2, q3, q4, kP, hkP, hkPi⟩ := Cond.selects_spec hse
  cases hclB.symm.trans q1
  cases (State.methodFound?_of_named hnamed hy).symm.trans q2
  cases hnamed.symm.trans q3
  have hselP : selectMethod e.platform s.vm cellB.cls mk = .method mk := by rw [Launch.admits_selectMethod X.admits]; exact q4
  obtain ⟨vm₁, X₁, hstep₁⟩ := X.invokevirtual hx ho hl hnamed hmethM hstM hkP hkPi hy (a := b) (cell := cellB) (by rw [hT]; exact hcB)
    (fun z h => by rw [h] at hoB; cases hoB) hselP hmethM habM hkP hkPi (g := g) hg (argsL := As) (rest := rest) (hn.trans (hlen _ hsigM)) hstack (by rw [hb]; exact hdg)
  obtain ⟨x, T', k, n', hk, hn', X', hS, hcell, hsteps⟩ := backT (g := { g with stack := rest }) (a := (Value.ref b :: As).toArray) hM hbl hrc hrs hfr hlo hws hcw hini X₁ hg (hsize.trans hml.symm) (by rw [hb]; exact hdg) hW (X₁.named hnamed) hf.1 hf.2 (hPc (T.setVm vm₁) hT X₁.warmed)
  have hh : (T.setVm vm₁).heap = H := hT
  rw [hh] at hS
  exact ⟨x, T', k, n', hk, hn', X', hS, hcell, fun target h => hstep₁ _ fun acts => by rw [doInvoke_state]; exact hsteps.trans h⟩
/-- the exception goes on: no handler here, nothing old written yet -/
theorem tx_pass {g2 : JFrame} {st0 : List Value} {R0 : Nat} (hr : RunT p l e R s m args below meth c H [] 0 0 mc ms (F0 m pc ls st0) (F0 m pc ls rest) C) (hx : c.exceptionTable.toList = []) (hlocks : meth.locks = false) (hH : H = s.heap) : W p l e R s m args below meth c H [] 0 0 (MQT below C s mc ms) (F0 m pc ls st0) := by
  intro T hT X
  obtain ⟨x, T', k, n, hk, hn, X', hS, ⟨cell, hc1, hc2, hc3⟩, st⟩ := hr T hT X
  obtain ⟨hwalk, hrun, hend, hwarm, hsame⟩ := X'.leaveThrown x (g := F0 m pc ls rest) rfl rfl rfl (fun y hy => by rw [hx] at hy; cases hy) hlocks
  rw [Nat.zero_add, Nat.zero_add] at hsame
  exact ⟨_, st _ hwalk, x, hrun, hend, hwarm, ⟨k, n, hk, hn, hsame⟩, cell, hc1, hc2, hc3⟩
end EXC
