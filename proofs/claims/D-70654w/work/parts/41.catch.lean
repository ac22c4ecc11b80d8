/-! CATCHING: the search through a method's table, its catch types linked cold or warm -/
def hsearch (s : State) (args : Array Value) (own : String) (pc : Nat) (cX : ClassId) : List (Nat × Nat × Nat × Nat) → Nat → Prop
  | [], _ => False
  | (a, b, h, ct) :: t, hp => ((decide (a ≤ pc) && decide (pc < b)) = false ∧ hsearch s args own pc cX t hp) ∨
      ((decide (a ≤ pc) && decide (pc < b)) = true ∧ ct ≠ 0 ∧ ∃ (N : String) (cN : ClassId), (Cond.classLink own ct N).before args s = true ∧ s.vm.findClass N = some cN ∧ ((s.vm.assignable cX cN = true ∧ hp = h) ∨ (s.vm.assignable cX cN = false ∧ hsearch s args own pc cX t hp)))
section CATCH
variable {p : Program} {l : Launch} {e : Env} {R : Room} {s : State} {m : MethodId} {args : Array Value} {below : List Frame} {meth : Method} {c : Code} {H : Heap} {locs : List Loc} {cells slots : Nat} {Q : State → Prop} {cc : ByteArray} {nL pc : Nat} {rest : List Value} {ls : Array Slot} {lv : List (Nat × Value)} {own : String} {C : String} {mc ms : Nat}
theorem fh_go {S : State} {g : JFrame} {a : Addr} {cell : Cell} {hp : Nat} (hpl : e.platform.magicAccessors = ({} : Platform).magicAccessors) (hown : s.vm.findClass own = some g.method.cls) (hcell : S.heap[a]? = some cell) (hobj : cell.vm.isStatics = false) (hk : ∃ k, s.vm.classes[cell.cls]? = some k) :
    ∀ (es : List ExceptionTableEntry) (vm₁ : Vm), s.WarmedH vm₁ → hsearch s args own g.pc cell.cls (es.map (fun h => (h.startPc, h.endPc, h.handlerPc, h.catchType))) hp →
      ∃ vm', s.WarmedH vm' ∧ ∀ (Q : Handler → Pre) (E : CtlPost) (d : Bool) (acts : List Action), wp (findHandler.go g a es) Q E e d acts (S.setVm vm₁) ↔ Q (.found hp) d acts (S.setVm vm') := by
  intro es
  induction es with
  | nil => intro vm₁ _ h; exact h.elim
  | cons x t ih =>
    intro vm₁ hW h
    rcases h with ⟨hx, h⟩ | ⟨hx, h0, N, cN, hlk, hfN, h⟩
    · obtain ⟨vm', h1, h2⟩ := ih vm₁ hW h
      exact ⟨vm', h1, fun Q E d acts => (W.findHandler_go_skip (x := x) hx).trans (h2 Q E d acts)⟩
    · obtain ⟨c', hc', hcl⟩ := Cond.classLink_spec hown hlk e.platform hpl
      cases hfN.symm.trans hc'
      obtain ⟨dk, _, _, kt, hd, _, _, _, _, hkt, _, hopen⟩ := hcl.here
      have hcl₀ : (S.setVm vm₁).vm.ClassLinks e.platform g.method.cls x.catchType cN := hW.classLinks hcl
      have hW' : s.WarmedH (vm₁.noted g.method.cls x.catchType (.cls cN)) := hW.noted hd hopen (State.rightAt_cls hcl)
      obtain ⟨ha, ht⟩ := (resolveClass_links e.toSetting hcl₀).op (op := VmOp.resolveClass g.method.cls x.catchType) rfl
      obtain ⟨k1, hk1⟩ := hk
      obtain ⟨k1', hk1', -⟩ := hW'.alike.2.2 _ _ hk1
      obtain ⟨k2', hk2', -⟩ := hW'.alike.2.2 _ _ hkt
      have hcell' : (S.setVm vm₁).heap[a]? = some cell := hcell
      have hob : ∀ k, cell.vm ≠ .statics k := fun k hk => by rw [hk] at hobj; cases hobj
      have hx' : (decide (x.startPc ≤ g.pc) && decide (g.pc < x.endPc)) = true := hx
      have h0' : ¬ x.catchType = 0 := h0
      have ha' : (vm₁.noted g.method.cls x.catchType (.cls cN)).assignable cell.cls cN = s.vm.assignable cell.cls cN := by rw [hW'.alike.assignable]
      rcases h with ⟨hfit, rfl⟩ | ⟨hfit, h⟩
      · rw [← ha'] at hfit
        refine ⟨_, hW', fun Q E d acts => ?_⟩
        simp only [State.setVm] at ha ht hcell' ⊢
        simp [findHandler.go, hx', h0', ha, ht, hcell', hob, hk1', hk2', hfit, VmOp.dirties, VmOp.acts, State.setVm]
      · rw [← ha'] at hfit
        obtain ⟨vm', h1, h2⟩ := ih _ hW' h
        refine ⟨vm', h1, fun Q E d acts => ?_⟩
        rw [← h2 Q E d acts]
        simp only [State.setVm] at ha ht hcell' ⊢
        simp [findHandler.go, hx', h0', ha, ht, hcell', hob, hk1', hk2', hfit, VmOp.dirties, VmOp.acts, State.setVm]
theorem caughtC {tb : Tables} {T target : State} {g : JFrame} {a : Addr} (h : At T g.method c below) {hp : Nat} {vm' : Vm}
    (hfind : ∀ (Q : Handler → Pre) (E : CtlPost) (d : Bool) (acts : List Action), wp (findHandler g a) Q E e d acts ((T.setTop g).pushFrame (.throwing a)) ↔ Q (.found hp) d acts (((T.setTop g).pushFrame (.throwing a)).setVm vm'))
    (hrest : Steps tb e below ((T.setVm vm').setTop { g with pc := hp, stack := [.ref a] }) target) : Steps tb e below ((T.setTop g).pushFrame (.throwing a)) target := by
  obtain ⟨hgo, hw⟩ := h.throwing a
  refine Steps.head hgo hw ?_
  obtain ⟨g₀, hg⟩ := Option.isSome_iff_exists.mp h.top
  obtain ⟨r, hr⟩ := State.topJava?_eq_some.mp hg
  have hstep : ∀ r, (stepThrowing e ((T.setTop g).pushFrame (.throwing a)) a (.java g :: r)).1 = (((T.setTop g).pushFrame (.throwing a)).setVm vm').setFrames (.java { g with pc := hp, stack := [.ref a] } :: r) := by
    intro r
    simp only [stepThrowing, searchFrame, vmDo]
    generalize hr : Sem.go _ e false [] _ = res
    obtain ⟨as, rfl, ha⟩ := Sem.eq_ok_of hr (a := Handler.found hp) (s' := ((T.setTop g).pushFrame (.throwing a)).setVm vm') (acts' := []) (by simp [hfind _ _ _ _])
    rfl
  rw [stepThread_throwing (frames_entered h.top _), hstep]
  have hr' : (T.setVm vm').frames = .java g₀ :: r := hr
  rw [State.setTop_of_frames _ hr'] at hrest
  have e1 : ∀ (F G : List Frame), ((T.setFrames F).setVm vm').setFrames G = (T.setVm vm').setFrames G := fun F G => by
    have h1 : (T.setFrames F).setVm vm' = (T.setVm vm').setFrames F := rfl
    rw [h1, State.setFrames_setFrames]
  rw [hr, List.tail_cons, State.pushFrame, State.setTop_of_frames _ hr, State.setFrames_setFrames, e1]
  exact hrest
/-- a call that throws is caught here -/
theorem cx_catch {st0 : List Value} {hh : List (Nat × Nat × Nat × Nat)} {hp : Nat} (hr : RunT p l e R s m args below meth c H locs cells slots mc ms (F0 m pc ls st0) (F0 m pc ls rest) C) (htab : c.exceptionTable.toList.map (fun h => (h.startPc, h.endPc, h.handlerPc, h.catchType)) = hh) (hown : s.vm.findClass own = some m.cls) (hcC : ∃ (cX : ClassId) (k : Class), s.vm.findClass C = some cX ∧ s.vm.classes[cX]? = some k)
    (hs : ∀ cX, s.vm.findClass C = some cX → hsearch s args own pc cX hh hp)
    (kk : ∀ (H1 : Heap) (x : Addr), H.size ≤ H1.size → (∀ q, q < H.size → H1[q]? = H[q]?) → W p l e R s m args below meth c H1 locs (cells + mc) (slots + ms) Q (F0 m hp ls [.ref x])) : W p l e R s m args below meth c H locs cells slots Q (F0 m pc ls st0) := by
  intro T hT X
  obtain ⟨x, T', k, n, hk, hn, X', ⟨hS1, hS2⟩, ⟨cell, hc1, hc2, hc3⟩, st⟩ := hr T hT X
  obtain ⟨cX, kX, hcX, hkX⟩ := hcC
  cases hc3.symm.trans hcX
  have hpl : e.platform.magicAccessors = ({} : Platform).magicAccessors := by rw [X.admits.platform]
  have hcell : ((T'.setTop (F0 m pc ls rest)).pushFrame (.throwing x)).heap[x]? = some cell := by rw [Jvm.Stand.throwing_heap]; exact hc1
  obtain ⟨vm', hW', hf⟩ := fh_go (e := e) (s := s) (args := args) (own := own) (S := (T'.setTop (F0 m pc ls rest)).pushFrame (.throwing x)) (g := F0 m pc ls rest) (a := x) (hp := hp) hpl hown hcell hc2 ⟨kX, hkX⟩ c.exceptionTable.toList T'.vm X'.warmed (by rw [htab]; exact hs _ hcX)
  have hv : ((T'.setTop (F0 m pc ls rest)).pushFrame (.throwing x)).setVm T'.vm = (T'.setTop (F0 m pc ls rest)).pushFrame (.throwing x) := by
    have := Jvm.Stand.throwing_vm T' (F0 m pc ls rest) x
    conv => rhs; rw [← State.setVm_self ((T'.setTop (F0 m pc ls rest)).pushFrame (.throwing x)), this]
  rw [hv] at hf
  have hmm : ((T'.setTop (F0 m pc ls rest)).pushFrame (.throwing x)).vm.method? (F0 m pc ls rest).method = some meth := by rw [Jvm.Stand.throwing_vm]; exact X'.method'
  have X2 := stand_widen (X'.noted hW') (Nat.add_le_add_left hk cells) (Nat.add_le_add_left hn slots)
  obtain ⟨t, a1, b1⟩ := kk T'.heap x hS1 hS2 (T'.setVm vm') rfl X2
  refine ⟨t, st t (caughtC (hp := hp) (vm' := vm') X'.here (fun Q E d acts => ?_) a1), b1⟩
  rw [W.findHandler_eq hmm X'.code]
  exact hf Q E d acts
end CATCH
