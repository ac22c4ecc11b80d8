/-! a null pointer met in a frame that catches it: the machine's exception, up to the search for a handler -/
section NPE
variable {p : Program} {l : Launch} {e : Env} {R : Room} {s : State} {m : MethodId} {args : Array Value} {below : List Frame} {meth : Method} {c : Code} {H : Heap} {locs : List Loc} {cells slots : Nat} {Q : State → Prop} {cc : ByteArray} {nL pc : Nat} {rest : List Value} {ls : Array Slot} {lv : List (Nat × Value)} {own : String}
set_option maxHeartbeats 2000000 in
theorem npe_run {T : State} (X : Stand p l e R s m args below meth c T locs cells slots) (hexec : p.tables.exec = Jvm.exec) (htr : e.platform.stackTraces = false) (h : ∀ a ∈ Bundle.npeArmAtoms 8, a.before args s = true)
    (hlocs : ∀ (k : Class) (a i : Nat) (cT : ClassId), s.vm.findClass "java/lang/Throwable" = some cT → s.vm.classes[cT]? = some k → k.statics = some a → (⟨a, i⟩ : Loc) ∉ locs)
    {g : JFrame} (hg : g.method = m) (hsize : g.locals.size = c.maxLocals) (hRf : 7 < R.frames) (hRl : 2 * g.monitorRoom + (g.stack.map fun v => v.category).sum + 10240 ≤ R.locals) (hRc : cells + 1 ≤ R.cells) (hRs : slots + 8 ≤ R.slots) :
    ∃ (x : Addr) (T' : State), Stand p l e R s m args below meth c T' locs (cells + 1) (slots + 8) ∧ (T.heap.size ≤ T'.heap.size ∧ ∀ q, q < T.heap.size → T'.heap[q]? = T.heap[q]?) ∧ (∃ cell : Cell, T'.heap[x]? = some cell ∧ cell.vm.isStatics = false ∧ s.vm.findClass "java/lang/NullPointerException" = some cell.cls) ∧
      ∀ target, Steps p.tables e below ((T'.setTop g).pushFrame (.throwing x)) target → Steps p.tables e below ((T.setTop g).pushFrame (.throwNew "java/lang/NullPointerException" none none)) target := by
  have hpl : e.platform.magicAccessors = ({} : Platform).magicAccessors := by rw [X.admits.platform]
  have at' : ∀ x, x ∈ Bundle.npeArmAtoms 8 → x.holds args s none s [] = true := fun x hx => h x hx
  have mem : ∀ {x : Cond}, x ∈ ([.initialized Bundle.nN, .instantiable Bundle.nN 8, .castable Bundle.nN Bundle.nN, .selects Bundle.nN Bundle.tFill0 Bundle.tFill0, .selects Bundle.nN Bundle.tFill Bundle.nFill,
   .lays Bundle.nN Bundle.tN "cause" "Ljava/lang/Throwable;", .lays Bundle.nN Bundle.tN "stackTrace" Bundle.steD, .lays Bundle.nN Bundle.tN "suppressedExceptions" Bundle.listD,
   .isRef (.static Bundle.tN "UNASSIGNED_STACK" Bundle.steD), .isRef (.static Bundle.tN "SUPPRESSED_SENTINEL" Bundle.listD),
   .fieldLink Bundle.tN 198 Bundle.tN "backtrace" Bundle.objD, .lays Bundle.tN Bundle.tN "backtrace" Bundle.objD, .lays Bundle.nN Bundle.tN "backtrace" Bundle.objD] : List Cond) → x.holds args s none s [] = true := fun hx => at' _ (List.mem_append_right _ hx)
  obtain ⟨Th, Z, L, LZ, Y⟩ := ThrowableC.of_atoms (args := args) (pl := e.platform) (by rw [X.admits.platform]) (by rw [X.admits.platform]) hpl (fun x hx => h x (by simp [Bundle.npeArmAtoms, hx]))
  obtain ⟨N, LN, hcN, hnF, hord, hffS⟩ := NpeC.of_atoms (args := args) hpl (by rw [X.admits.platform]) L Y (fun x hx => h x (by simp [Bundle.npeArmAtoms, hx]))
  obtain ⟨P1, L1, hP1m, hP1s⟩ := PassC.of_atoms (args := args) (s := s) hpl (X := Bundle.nN) (Y := Bundle.rN) (by decide) (by decide) LibCode.NullPointerException.Init0.at_0 LibCode.NullPointerException.Init0.at_1 LibCode.NullPointerException.Init0.at_4 (fun x hx => h x (by simp [Bundle.npeArmAtoms, hx]))
  obtain ⟨PR, LR, hPRm, hPRs⟩ := PassC.of_atoms (args := args) (s := s) hpl (X := Bundle.rN) (Y := Bundle.eN) (by decide) (by decide) LibCode.RuntimeException.Init0.at_0 LibCode.RuntimeException.Init0.at_1 LibCode.RuntimeException.Init0.at_4 (fun x hx => h x (by simp [Bundle.npeArmAtoms, hx]))
  obtain ⟨PE, LE, hPEm, hPEs⟩ := PassC.of_atoms (args := args) (s := s) hpl (X := Bundle.eN) (Y := Bundle.tN) (by decide) (by decide) LibCode.Exception.Init0.at_0 LibCode.Exception.Init0.at_1 LibCode.Exception.Init0.at_4 (fun x hx => h x (by simp [Bundle.npeArmAtoms, hx]))
  have hfound : s.vm.findClass Bundle.nN = some P1.m.cls := findClass_of_methodNamed hP1m
  have hk : s.vm.classes[P1.m.cls]? = some N.kN := by rw [← Option.some.inj (hcN.symm.trans hfound)]; exact LN.cls
  have sel : ∀ {r y : MethodName} {r0 y0 : MethodId}, (Cond.selects Bundle.nN r y).holds args s none s [] = true → s.methodFound? r.cls r.name r.desc = some r0 → s.methodNamed? y = some y0 → selectMethod e.platform s.vm P1.m.cls r0 = .method y0 := by
    intro r y r0 y0 hx h1 h2
    obtain ⟨c2, r2, m2, q1, q2, q3, q4, -⟩ := Cond.selects_spec hx
    cases q1.symm.trans hfound
    cases q2.symm.trans h1
    cases q3.symm.trans h2
    rw [Launch.admits_selectMethod X.admits]; exact q4
  have hsel0 := sel (mem (by simp)) (State.methodFound?_of_named Y.fill0 (by decide)) Y.fill0
  have hselF := sel (mem (x := .selects Bundle.nN Bundle.tFill Bundle.nFill) (by simp)) (State.methodFound?_of_named Y.fill (by decide)) hnF
  obtain ⟨c1, k1, hc1, hk1, -, -, -, hn8⟩ := Cond.instantiable_spec (mem (x := .instantiable Bundle.nN 8) (by simp))
  cases hc1.symm.trans hfound
  cases hk1.symm.trans hk
  obtain ⟨cellS0, hcS0, hiss⟩ := Y.statics
  obtain ⟨u0, hu0⟩ := Cond.staticRefV Y.unassigned L.unassignedStatic L.statics hcS0 hiss (mem (by simp))
  obtain ⟨sen, hsen⟩ := Cond.staticRefV Y.sentinel L.sentinelStatic L.statics hcS0 hiss (mem (by simp))
  obtain ⟨ci198, i198, fB, hk198, hg198, ha198, hsB, -, hnB, htB, hffB⟩ := Cond.ownField (t := .object "java/lang/Object") Y.found L.cls (by decide +kernel) (mem (x := .fieldLink Bundle.tN 198 Bundle.tN "backtrace" Bundle.objD) (by simp)) (mem (x := .lays Bundle.tN Bundle.tN "backtrace" Bundle.objD) (by simp)) e.platform hpl
  obtain ⟨cellS, hcS', heS, -, hkeep⟩ := X.same.2.2.2.2.2 Th.aS cellS0 hcS0
  have hcellS : T.heap[Th.aS]? = some cellS := hcS'
  have hout : ∀ i, (⟨Th.aS, i⟩ : Loc) ∉ locs := fun i => hlocs Th.kT Th.aS i Th.cT Y.found L.cls L.statics
  have hknown : cellS.vm ≠ .unknown := by
    rw [heS]; intro hu
    rw [show cellS0.vm = .unknown from hu] at hiss
    cases hiss
  obtain ⟨tyC, dC, hdC, hdnC⟩ := Cond.laysAt hfound hk Y.cause (mem (by simp))
  obtain ⟨tyS, dS, hdS, hdnS⟩ := Cond.laysAt hfound hk Y.stack (mem (by simp))
  obtain ⟨tyP, dP, hdP, hdnP⟩ := Cond.laysAt hfound hk Y.supp (mem (by simp))
  obtain ⟨tyX, dX, hdX, hdnX⟩ := Cond.laysAt hfound hk hffS (at' (.lays Bundle.nN Bundle.nN "extendedMessageState" "I") (by simp [Bundle.npeArmAtoms, Bundle.npeAtoms]))
  have hnX : N.fState.name = "extendedMessageState" := (State.fieldFound?_type hffS (t := .int) (by decide +kernel)).1
  obtain ⟨tyB, dB, hdB, hdnB⟩ := Cond.laysAt hfound hk hffB (mem (by simp))
  have bC := Cond.laysApart hdB hdC hdnB hdnC (by rw [hnB, Y.causeName]; decide)
  have bS := Cond.laysApart hdB hdS hdnB hdnS (by rw [hnB, Y.stackName]; decide)
  have bP := Cond.laysApart hdB hdP hdnB hdnP (by rw [hnB, Y.suppName]; decide)
  have bX := Cond.laysApart hdB hdX hdnB hdnX (by rw [hnB, hnX]; decide)
  have hskip : SkipFacts Th e.platform s (fun u => u) u0 ((npeCell N.toNpeT (preparedCellV Th.toThrowableT (freshCell P1.m.cls N.kN) T.heap.size u0 sen) T.cur).withEntry T.cur) :=
    ⟨{ ci198 := ci198, i198 := i198, fBack := fB }, ⟨hk198, hg198, ha198, hsB⟩, by
      have := fresh_default (c := P1.m.cls) tyB
      rw [htB] at this
      simpa [npeCell, preparedCellV, Cell.setSlot, Cell.withEntry, Array.getElem?_setIfInBounds, bC, bS, bP, bX, bC.symm, bS.symm, bP.symm, bX.symm, defaultValue] using this, fun _ _ => rfl⟩
  have hat : At T g.method c below := by rw [hg]; exact X.here
  obtain ⟨hbeyond, hfreeW⟩ := X.vmMayThrow hsize (.throwNew "java/lang/NullPointerException" none none) (fun f hf => by cases hf) rfl hRl
  obtain ⟨vm', hW', st⟩ := Steps.vmThrowsNpeColdByV p (s₀ := s) (S := T) (g := g) hat hexec Th L Z LZ N LN X.warmed (t := T.cur) rfl P1 L1 [PR, PE] (fun P hP => by
      simp only [List.mem_cons, List.not_mem_nil, or_false] at hP
      rcases hP with rfl | rfl
      · exact LR
      · exact LE) (Option.some.inj (hP1s.symm.trans hPRm)) ⟨Option.some.inj (hPRs.symm.trans hPEm), Option.some.inj (hPEs.symm.trans Y.init0), trivial⟩ hfound hk (Cond.initialized_spec hfound hk (mem (x := .initialized Bundle.nN) (by simp))) hord (findMethod_of_methodNamed hP1m hk)
    (Launch.admits_hotImplicitExceptions X.admits) hbeyond hfreeW (X.cellsAbove hRc) (X.slotsAbove (by rw [hn8]; exact hRs))
    (Nn := fun u => u) heapOnly_id (fun _ _ => rfl) (fun _ => rfl) (fun u x y => setCell_twice _ _ _ _) (fun _ => Nat.le_refl _) (cN := ((npeCell N.toNpeT (preparedCellV Th.toThrowableT (freshCell P1.m.cls N.kN) T.heap.size u0 sen) T.cur).withEntry T.cur))
    hsel0 hcellS hknown (by rw [hkeep _ (hout _)]; exact hu0) (by rw [fresh_default tyX, LN.stateInt]; rfl) (Cond.laysApart hdC hdX hdnC hdnX (by rw [Y.causeName, hnX]; decide)) (Cond.laysApart hdS hdX hdnS hdnX (by rw [Y.stackName, hnX]; decide)) (Cond.laysApart hdP hdX hdnP hdnX (by rw [Y.suppName, hnX]; decide))
    (Takes.of_laid hk hord tyS (by rw [Y.stackType]; exact fits_refV_array _ u0)) (Takes.of_laid hk hord tyX (by rw [LN.stateInt]; rfl)) (fun _ hu => hu) (fun _ hu => hu) rfl rfl rfl (by simp [npeCell, preparedCellV, Cell.setSlot, Cell.withEntry]) hskip (fun _ _ hA hW _ hroom _ hrest => L.nativeOff p htr hA hW hroom hrest) hselF (by rw [hkeep _ (hout _)]; exact hsen)
    (Takes.of_laid hk hord tyC (by rw [Y.causeType]; rfl)) (Takes.of_laid hk hord tyP (by rw [Y.suppType]; exact fits_refV_object _ sen)) Y.objLocals rfl (by have := X.framesAbove hRf; simp only [List.length_cons, List.length_nil]; omega) (by have := X.stackAbove hsize (K := 13 * 2 + 68) (by omega); simp only [List.length_cons, List.length_nil]; omega)
  rw [npeBareV_eq Th.toThrowableT N.toNpeT T.heap.size u0 sen T.cur rfl rfl] at st
  have X2 := (X.pushed (freshCell P1.m.cls N.kN)).noted hW'
  have hsz : ((T.pushCell (freshCell P1.m.cls N.kN)).setVm vm').heap.size = T.heap.size + 1 := State.heap_size_pushCell _ _
  have ha : T.heap.size < ((T.pushCell (freshCell P1.m.cls N.kN)).setVm vm').heap.size := by rw [hsz]; omega
  have hcell : ((T.pushCell (freshCell P1.m.cls N.kN)).setVm vm').heap[T.heap.size]? = some (freshCell P1.m.cls N.kN) := State.heap_pushCell_size T (freshCell P1.m.cls N.kN)
  have X3 := ((((X2.stored hcell Th.fCause.slot (.ref T.heap.size)).storedAgain ha Th.fStack.slot u0.v).storedAgain ha Th.fSupp.slot sen.v).storedAgain ha N.fState.slot (.int 1)).storedAgain ha Th.fStack.slot u0.v
  have hs8 : (freshCell P1.m.cls N.kN).slots.size = 8 := by simp [hn8]
  rw [hs8] at X3
  refine ⟨T.heap.size, (((T.pushCell (freshCell P1.m.cls N.kN)).setVm vm').setCell T.heap.size (npeBareV Th.toThrowableT N.toNpeT (freshCell P1.m.cls N.kN) T.heap.size u0 sen)), ⟨X3.admits, X3.cas, X3.clock, X3.frames, X3.room, X3.hears, X3.method, X3.code, X3.here, X3.tail, X3.warmed, X3.limits, X3.bytes, X3.same.weaken (fun y hy hlt => ?_) (Nat.le_refl _) (Nat.le_refl _)⟩, ⟨?_, fun q hq => ?_⟩, ⟨_, heapAt_setCell_self (s := (T.pushCell (freshCell P1.m.cls N.kN)).setVm vm') _ ha, rfl, hfound⟩, fun target ht => st target ?_⟩
  · simp only [List.append_assoc, List.cons_append, List.nil_append] at hy
    rcases List.mem_append.mp hy with h1 | h1
    · exact h1
    · exfalso
      have hb : y.base = T.heap.size := by
        simp only [List.mem_cons, List.not_mem_nil, or_false] at h1
        rcases h1 with rfl | rfl | rfl | rfl | rfl <;> rfl
      have hge : s.heap.size ≤ T.heap.size := X.same.2.1
      rw [hb] at hlt
      exact Nat.not_lt.mpr hge hlt
  · show T.heap.size ≤ ((T.heap.push _).setIfInBounds _ _).size
    simp
  · show ((T.heap.push _).setIfInBounds _ _)[q]? = _
    rw [Array.getElem?_setIfInBounds, if_neg (Nat.ne_of_gt hq), Array.getElem?_push, if_neg (Nat.ne_of_lt hq)]
  · obtain ⟨g₁, hfrM⟩ := X3.frames_eq
    have hU : ((((T.pushCell (freshCell P1.m.cls N.kN)).setVm vm').setCell T.heap.size (npeBareV Th.toThrowableT N.toNpeT (freshCell P1.m.cls N.kN) T.heap.size u0 sen)).setTop g).pushFrame (.throwing T.heap.size) = (((T.pushCell (freshCell P1.m.cls N.kN)).setVm vm').setCell T.heap.size (npeBareV Th.toThrowableT N.toNpeT (freshCell P1.m.cls N.kN) T.heap.size u0 sen)).setFrames (.throwing T.heap.size :: .java g :: below) := by
      rw [State.pushFrame, State.frames_setTop _ hfrM, State.setTop_of_frames _ hfrM, State.setFrames_setFrames]
    rw [X.tail, ← hU]
    exact ht
end NPE
