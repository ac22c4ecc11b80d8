/-! a cast that fails: the machine's text is short and modelled -/
def modOK (vm : Vm) : Prop := (vm.modules.all fun m => m.loader.isSome || m.name == "java.base" || !(castPackages_1.any fun p => m.packages.contains p)) = true
/-- a class whose home is known: of the boot loader, no hidden one, its name short, its package one of three (or of primitives) -/
def shortCls (k : Class) : Prop := k.loader = none ∧ k.hidden = none ∧ (dotted k.name).toList.length ≤ 40 ∧ (k.ofPrimitives = true ∨ castPackages_1.contains (packageOf k.name) = true)
theorem home_len {vm : Vm} {k : Class} (hm : modOK vm) (hk : shortCls k) : (vm.home k).toList.length ≤ 60 := by
  obtain ⟨hl, -, -, hp⟩ := hk
  have hn : ∀ m, vm.moduleOf k = some m → m.name = "java.base" := by
    intro m hmm
    unfold Vm.moduleOf at hmm
    split at hmm
    · have := List.find?_some hmm
      simpa using this
    · rename_i hnp
      have hpk : castPackages_1.contains (packageOf k.name) = true := by
        rcases hp with h | h
        · exact absurd h hnp
        · exact h
      have h1 := List.find?_some hmm
      have h2 := List.mem_of_find?_eq_some hmm
      unfold modOK at hm
      rw [List.all_eq_true] at hm
      have h3 := hm m h2
      simp only [hl, Bool.and_eq_true, beq_iff_eq] at h1
      rw [h1.1] at h3
      simp only [Option.isSome_none, Bool.false_or, Bool.or_eq_true, beq_iff_eq, Bool.not_eq_true'] at h3
      rcases h3 with h3 | h3
      · exact h3
      · exfalso
        have : castPackages_1.any (fun p => m.packages.contains p) = true := by
          rw [List.any_eq_true]
          exact ⟨packageOf k.name, by simpa using hpk, h1.2⟩
        rw [this] at h3
        cases h3
  unfold Vm.home
  rw [hl]
  have e1 : (vm.loaderName none).toList.length = 11 := by show ("'bootstrap'").toList.length = 11; decide
  have e2 : (" of loader ").toList.length = 11 := by decide
  have e3 : ("unnamed module").toList.length = 14 := by decide
  have e4 : ("module ").toList.length = 7 := by decide
  have e5 : ("java.base").toList.length = 9 := by decide
  cases hmo : vm.moduleOf k with
  | none => simp only [String.toList_append, List.length_append]; omega
  | some m => simp only [String.toList_append, List.length_append, hn m hmo]; omega
theorem cast_text {vm : Vm} {ks kt : Class} (hm : modOK vm) (h1 : shortCls ks) (h2 : shortCls kt) : (checkcast.message vm ks kt == notModelled) = false ∧ (stringBytes (stringToUtf16 (checkcast.message vm ks kt))).size ≤ 1600 := by
  have a1 := home_len hm h1
  have a2 := home_len hm h2
  have s1 : ks.shown.toList.length ≤ 40 := by unfold Class.shown; rw [h1.2.1]; exact h1.2.2.1
  have s2 : kt.shown.toList.length ≤ 40 := by unfold Class.shown; rw [h2.2.1]; exact h2.2.2.1
  have ho : (vm.homes ks kt).toList.length ≤ 230 := by
    unfold Vm.homes
    split
    · show (ks.shown ++ " and " ++ kt.shown ++ " are in " ++ vm.home ks).toList.length ≤ 230
      simp only [String.toList_append, List.length_append]
      have e1 : (" and ").toList.length = 5 := by decide
      have e2 : (" are in ").toList.length = 8 := by decide
      omega
    · show (ks.shown ++ " is in " ++ vm.home ks ++ "; " ++ kt.shown ++ " is in " ++ vm.home kt).toList.length ≤ 230
      simp only [String.toList_append, List.length_append]
      have e1 : (" is in ").toList.length = 7 := by decide
      have e2 : ("; ").toList.length = 2 := by decide
      omega
  have hmsg : checkcast.message vm ks kt = "class " ++ ks.shown ++ " cannot be cast to class " ++ kt.shown ++ " (" ++ vm.homes ks kt ++ ")" := rfl
  constructor
  · rw [beq_eq_false_iff_ne]
    intro h
    have h2 := congrArg String.toList h
    rw [hmsg] at h2
    have h3 : ("class " ++ ks.shown ++ " cannot be cast to class " ++ kt.shown ++ " (" ++ vm.homes ks kt ++ ")").toList = 'c' :: ("lass ".toList ++ ks.shown.toList ++ " cannot be cast to class ".toList ++ kt.shown.toList ++ " (".toList ++ (vm.homes ks kt).toList ++ ")".toList) := by
      simp only [String.toList_append]
      rfl
    rw [h3] at h2
    have h4 : notModelled.toList = '\u0000' :: " a message that is not modelled".toList := by decide
    rw [h4] at h2
    simp at h2
  · have b1 := stringBytes_size_le (stringToUtf16 (checkcast.message vm ks kt))
    have b2 := utf16_size_le (checkcast.message vm ks kt)
    have b3 : (checkcast.message vm ks kt).toList.length ≤ 400 := by
      rw [hmsg]
      simp only [String.toList_append, List.length_append]
      have e1 : ("class ").toList.length = 6 := by decide
      have e2 : (" cannot be cast to class ").toList.length = 25 := by decide
      have e3 : (" (").toList.length = 2 := by decide
      have e4 : (")").toList.length = 1 := by decide
      omega
    omega
section CASTX
variable {p : Program} {l : Launch} {e : Env} {R : Room} {s : State} {m : MethodId} {args : Array Value} {below : List Frame} {meth : Method} {c : Code} {T : State} {H : Heap} {locs : List Loc} {cells slots : Nat} {Q : State → Prop} {cc : ByteArray} {nL pc : Nat} {rest st0 : List Value} {ls : Array Slot} {lv : List (Nat × Value)} {own : String} {mc ms : Nat}
theorem castOut (X : Stand p l e R s m args below meth c T locs cells slots) (hexec : p.tables.exec = Jvm.exec)
    {own name : String} {index : Nat} (hown : s.vm.findClass own = some m.cls) (hlink : (Cond.classLink own index name).before args s = true)
    {a : Addr} {cell : Cell} {cT : ClassId} {ks : Class} (hcell : T.heap[a]? = some cell) (hobj : ∀ k, cell.vm ≠ .statics k) (hks : s.vm.classes[cell.cls]? = some ks)
    (hcT : s.vm.findClass name = some cT) (hasg : s.vm.assignable cell.cls cT = false)
    {g : JFrame} (hg : g.method = m) {rest : List Value} (hstack : g.stack = .ref a :: rest) (hdg : decode c.code g.pc = .ok (.checkcast index, 3)) :
    ∃ (vm' : Vm) (ks' kt' : Class), Stand p l e R s m args below meth c (T.setVm vm') locs cells slots ∧ vm'.classes[cell.cls]? = some ks' ∧ vm'.classes[cT]? = some kt' ∧
      ∀ target, Steps p.tables e below (((T.setVm vm').setTop g).pushFrame (.throwNew "java/lang/ClassCastException" (some (checkcast.message vm' ks' kt')) none)) target → Steps p.tables e below (T.setTop g) target := by
  have hpl : e.platform.magicAccessors = ({} : Platform).magicAccessors := by rw [X.admits.platform]
  obtain ⟨c', hc', hcl⟩ := Cond.classLink_spec hown hlink e.platform hpl
  cases hcT.symm.trans hc'
  obtain ⟨dk, _, _, kt, hd, _, _, _, _, hkt, _, hopen⟩ := hcl.here
  have hcl₀ := X.warmed.classLinks hcl
  have hW' : s.WarmedH (T.vm.noted m.cls index (.cls cT)) := X.warmed.noted hd hopen (State.rightAt_cls hcl)
  obtain ⟨ks', hks', -⟩ := hW'.alike.2.2 _ _ hks
  obtain ⟨kt', hkt', -⟩ := hW'.alike.2.2 _ _ hkt
  refine ⟨_, ks', kt', X.noted hW', hks', hkt', fun target hrest => ?_⟩
  subst hg
  jvm_step X.here [hexec, hdg, checkcast.wp_cold (e := e) (s := T) (f := g) X.here.top hstack (resolveClass_links e.toSetting hcl₀) hcl₀.ready,
    checkcast.wp_ready (e := e) (s := T.setVm (T.vm.noted g.method.cls index (.cls cT))) (f := g) X.here.top hcl₀.ready hstack]
  refine ⟨cell, hcell, hobj, ks', hks', kt', hkt', ?_⟩
  rw [if_neg (by rw [hW'.alike.assignable, hasg]; decide)]
  exact hrest
theorem cls_kept {vm : Vm} {c : ClassId} {N : String} {k : Class} (h : vm.findClass N = some c) (hk : vm.classes[c]? = some k) : k.name = N ∧ k.loader = none ∧ k.hidden = none := by
  obtain ⟨k', hk', hn⟩ := Vm.findClass_spec h
  cases hk.symm.trans hk'
  refine ⟨hn, Vm.findClass_boot h hk, ?_⟩
  unfold Vm.findClass at h
  have h1 := Array.findIdx?_eq_some_iff_getElem.mp h
  obtain ⟨hlt, h2, -⟩ := h1
  have h3 : vm.classes[c] = k := by
    have := Array.getElem?_eq_getElem hlt
    rw [this] at hk
    exact Option.some.inj hk
  rw [h3] at h2
  simp only [Bool.and_eq_true] at h2
  have := h2.1.1.2
  simpa using this
/-- a cast that fails throws -/
theorem tx_cast {N N' : String} {idx : Nat} {a : Addr} (htr : ∀ e, l.admits e → e.platform.stackTraces = false) (E : CallFix p m c cc nL s args lw_all own) (ha : ∀ a ∈ Bundle.messageArmAtoms "java/lang/ClassCastException" ["java/lang/RuntimeException", "java/lang/Exception"], a.before args s = true) (hmod : modOK s.vm) (hlk : Cond.classLink own idx N ∈ lw_all) (hr : ∃ cell : Cell, H[a]? = some cell ∧ cell.vm.isStatics = false ∧ s.vm.findClass N' = some cell.cls) (hno : va_Nc N' N s)
    (hs1 : ∀ k : Class, k.name = N' → k.loader = none → k.hidden = none → s.vm.findClass N' ≠ none → (∃ c, s.vm.findClass N' = some c ∧ ∃ k0, s.vm.classes[c]? = some k0 ∧ k0.kind = k.kind) → shortCls k) (hs2 : ∀ k : Class, k.name = N → k.loader = none → k.hidden = none → s.vm.findClass N ≠ none → (∃ c, s.vm.findClass N = some c ∧ ∃ k0, s.vm.classes[c]? = some k0 ∧ k0.kind = k.kind) → shortCls k)
    (hx : c.exceptionTable.toList = []) (hlocks : meth.locks = false) (hl : lv_has ls nL lv) (hW : ((Value.ref a :: rest).map fun v => v.category).sum ≤ 50) (hR : 8 ≤ R.frames ∧ 10290 ≤ R.locals) (hRc : cells + 3 ≤ R.cells ∧ slots + 1610 ≤ R.slots) (hm : cells + 3 ≤ mc ∧ slots + 1610 ≤ ms) (hdg : decode cc pc = .ok (.checkcast idx, 3)) :
    W p l e R s m args below meth c H [] cells slots (MQT below "java/lang/ClassCastException" s mc ms) (F0 m pc ls (.ref a :: rest)) := by
  intro T hT X
  obtain ⟨cell, hcell, hst, hcl⟩ := hr
  obtain ⟨c1, c2, n1, n2, n3⟩ := hno
  cases hcl.symm.trans n1
  obtain ⟨ks, hks, -⟩ := Vm.findClass_spec n1
  obtain ⟨kt, hkt, -⟩ := Vm.findClass_spec n2
  obtain ⟨vm', ks', kt', X', hks', hkt', st⟩ := castOut X E.1 E.2.2.2.1 (E.2.2.2.2 _ hlk) (by rw [hT]; exact hcell) (fun k hk => by rw [hk] at hst; cases hst) hks n2 n3 (g := F0 m pc ls (.ref a :: rest)) rfl rfl (by rw [E.2.1]; exact hdg)
  have hW' : s.WarmedH vm' := X'.warmed
  have hmod' : modOK vm' := by
    have := hW'.1
    unfold modOK at hmod ⊢
    rw [this]
    exact hmod
  have f1 : vm'.findClass N' = some cell.cls := by rw [hW'.alike.findClass]; exact n1
  have f2 : vm'.findClass N = some c2 := by rw [hW'.alike.findClass]; exact n2
  obtain ⟨g1, g2, g3⟩ := cls_kept f1 hks'
  obtain ⟨g4, g5, g6⟩ := cls_kept f2 hkt'
  obtain ⟨k1, hk1, e1, -⟩ := hW'.2.2 _ _ hks
  obtain ⟨k2, hk2, e2, -⟩ := hW'.2.2 _ _ hkt
  cases hks'.symm.trans hk1
  cases hkt'.symm.trans hk2
  have S1 : shortCls ks' := hs1 ks' g1 g2 g3 (by rw [n1]; simp) ⟨_, n1, ks, hks, by rw [e1]⟩
  have S2 : shortCls kt' := hs2 kt' g4 g5 g6 (by rw [n2]; simp) ⟨_, n2, kt, hkt, by rw [e2]⟩
  obtain ⟨htext, hb⟩ := cast_text hmod' S1 S2
  generalize checkcast.message vm' ks' kt' = text at htext hb st
  have hlim : ¬ (stringBytes (stringToUtf16 text)).size > e.platform.arrayLengthLimit := by rw [Launch.admits_arrayLengthLimit X.admits]; omega
  have hheap : ¬ (stringBytes (stringToUtf16 text)).size * componentBytes .byte > e.platform.maxHeapBytes := by
    rw [Launch.admits_maxHeapBytes X.admits]
    have : componentBytes .byte = 1 := rfl
    rw [this]; omega
  obtain ⟨U, h1, h2, h3, h4, ⟨n, hn, h5⟩, cb, cs, ce, -, -, hce, -, -, KE⟩ := X'.messageArmCells E.1 (htr e X.admits) (by decide) (by decide) (by decide) (by decide) ha (fun x h => by cases h) htext hlim hheap (g := F0 m pc ls (.ref a :: rest)) rfl (hl.1.trans E.2.2.1.symm) rfl rfl (fun x h => by rw [hx] at h; cases h) (by simp; omega) (by have h0 : 2 * (F0 m pc ls (Value.ref a :: rest)).monitorRoom = 0 := rfl; have h1 : ((F0 m pc ls (Value.ref a :: rest)).stack.map fun v => v.category).sum ≤ 50 := hW; have := hR.2; omega) (by simp) hRc.1 (by omega) hlocks
  exact ⟨U, st _ h1, _, h2, h3, h4, ⟨_, _, hm.1, by omega, h5⟩, ce, hce, by rw [KE.vm]; rfl, KE.cls⟩
end CASTX
