/-! a default method of an interface (its class isn't told to be initialised): walked in its caller's run -/
section FACE
variable {p : Program} {l : Launch} {e : Env} {R : Room} {s : State} {m : MethodId} {args : Array Value} {below : List Frame} {meth : Method} {c : Code} {H : Heap} {locs : List Loc} {cells slots : Nat} {Q : State → Prop} {cc : ByteArray} {nL pc : Nat} {rest : List Value} {ls : Array Slot} {D : va_G} {K : Nat → ClassId} {s0 : State} {a0 : Array Value} {B : Nat → Nat} {ad : CA} {A : Nat → Prop} {z : CZ} {lv : List (Nat × Value)} {own : String}
def BodyU (l : Launch) (cc : ByteArray) (nL : Nat) (ret : Option FieldType) (own : String) (rm : Room) (av : List Value) (C : State → Prop) (Qc : Array Value → State → Outcome → State → Prop) (mc ms : Nat) (free : Addr → Prop) : Prop :=
  ∀ (p : Program) (e : Env) (s : State) (m : MethodId) (args : Array Value) (below : List Frame) (meth : Method) (c : Code) (ls : Array Slot), CallFix p m c cc nL s args lw_all own → meth.sig.returnType = ret → meth.locks = false → C s → lv_has ls nL (lv_args 0 av) → W p l e rm s m args below meth c s.heap [] 0 0 (MQ below Qc args s mc ms free) (F0 m 0 ls [])
theorem backU {y : MethodName} {ret : Option FieldType} {rm : Room} {av : List Value} {C : State → Prop} {Qc : Array Value → State → Outcome → State → Prop} {mc ms len : Nat} {free : Addr → Prop} (hB : BodyU l cc nL ret own rm av C Qc mc ms free) (hy : plainName y.cls = true) (ho : y.cls = own) (hn : (lg_sl av).length ≤ nL)
    (hblind : FrameBlind (va_Pc av C)) (hrc : rm.cells = mc) (hrs : rm.slots = ms) (hR : rm.frames + 1 ≤ R.frames ∧ 8 + (nL + 11) + rm.locals ≤ R.locals) (hws : ∀ w ∈ lw_all, w.before args s = true) (hcode : Cond.code y cc nL ret ∈ lw_all) :
    Back l R p e below s args y len 8 (PreOf R mc ms (va_Pc av C)) (PostOf Qc mc ms free) := by
  intro m meth c A g ig mk a X hg hsize hdg hW hn' hp
  obtain ⟨U, Ls, c0, s0⟩ := A
  dsimp only [Pt.U, Pt.locs, Pt.cells, Pt.slots] at X hn' hp ⊢
  have hw : ∀ w ∈ lw_all, ∀ (a' : Array Value) (U' : State), s.WarmedH U'.vm → w.before a' U' = true := pay_in hws lw_self
  obtain ⟨methY, cY, hmY, hcY, hby, hlY, hrY, hlk, -, -⟩ := Cond.code_spec hn' (hw _ hcode a U X.warmed)
  obtain ⟨h1, h2, h3⟩ := hp
  dsimp only [Pt.U, Pt.locs, Pt.cells, Pt.slots] at h1 h2 h3
  obtain ⟨Y, hin⟩ := X.into hg hsize hdg a (R' := rm) hmY hcY hlk (State.plainMethod.of_named (plainFor_of_name hy) hn' hmY) hR.1 (by rw [hlY]; omega) (by rw [hrc]; exact h1) (by rw [hrs]; exact h2)
  have hb3 := hblind a U g mk h3
  obtain ⟨hargs, hC⟩ := hb3
  have hen : entryFrame mk a cY.maxLocals = F0 mk 0 ((lg_sl av ++ List.replicate (nL - (lg_sl av).length) Slot.unset).toArray) [] := by
    rw [hlY, hargs]; exact lg_entry_eq mk av nL
  obtain ⟨t, st, o, hrun, hend, hq, L, hF, hL⟩ := hB p e (U.calling g mk a) mk a (.java g :: below) methY cY _ ⟨by cases p <;> rfl, hby, hlY, by rw [← ho]; exact findClass_of_methodNamed hn', fun w h => hw w h a _ X.warmed⟩ hrY hlk hC (lv_entry av (n := nL) hn) ((U.setTop g).pushFrame (.java (entryFrame mk a cY.maxLocals))) rfl Y
  obtain ⟨⟨v, rfl⟩, hW2, hsame⟩ := hF
  obtain ⟨T', X', hWT, -, ht⟩ := X.outOf hg hdg hend hW2 hsame
  refine ⟨v, ⟨T', Ls ++ L, c0 + mc, s0 + ms⟩, X', ⟨g, mk, t, L, by rw [ht]; rfl, by rw [ht]; rfl, hq, rfl, hL, rfl, rfl⟩, ?_⟩
  rw [hin []]
  rw [← hen] at st
  show Steps p.tables e below _ (T'.setTop { g with pc := g.pc + len, stack := v.toList ++ g.stack })
  rw [← ht]
  exact Steps.weaken (mid := [.java g]) st
/-- what `landsInDefault` says, of an interface's own method -/
def ldF (C : String) (x y : MethodName) (U : State) : Prop := ∃ c r m rm, U.vm.findClass C = some c ∧ U.methodNamed? x = some r ∧ U.methodNamed? y = some m ∧ U.vm.method? r = some rm ∧ selectMethod {} U.vm c r = .method m ∧
  ((c :: U.vm.superclasses c).any fun k => (declaredIn U.vm rm.name rm.desc k).any fun (_, z) => z.isPrivate || z.isStatic) = false
theorem ldF.of {C : String} {x y : MethodName} {U : State} (h : (Cond.landsInDefault C x y).before args U = true) (hface : (Cond.interfaceMethod x.cls x.cls x.name x.desc).before args U = true) : ldF C x y U := by
  obtain ⟨cL, kL, r1, hcL, hkL, hiL, hfoundL, hn1⟩ := Cond.interfaceMethod_spec hface
  have h : (Cond.landsInDefault C x y).holds args U none U [] = true := h
  simp only [Cond.holds, Cond.value] at h
  cases hc : U.vm.findClass C with
  | none => simp [hc] at h
  | some c =>
  cases hm : U.methodNamed? y with
  | none => simp [hc, hm, hfoundL] at h
  | some m =>
  cases hrm : U.vm.method? r1 with
  | none => simp [hc, hfoundL, hm, hrm] at h
  | some rm =>
  simp only [hc, hfoundL, hm, hrm, Option.map_some, beq_iff_eq, Option.some.injEq] at h
  split at h
  · rename_i m' hsel
    simp only [Bool.and_eq_true, decide_eq_true_eq, Bool.not_eq_true', Option.any_eq_true] at h
    obtain ⟨⟨⟨⟨rfl, -⟩, -⟩, hway⟩, -⟩ := h
    exact ⟨c, r1, m', rm, hc, hn1, hm, hrm, hsel, hway⟩
  · cases h
theorem ldF.moved {C : String} {x y : MethodName} {u U : State} (hvm : u.vm.Alike U.vm) (h : ldF C x y u) : ldF C x y U := by
  obtain ⟨c, r, m, rm, h1, h2, h3, h4, h5, h6⟩ := h
  refine ⟨c, r, m, rm, by rw [hvm.findClass]; exact h1, ?_, ?_, by rw [hvm.method?]; exact h4, by rw [hvm.selectMethod]; exact h5, ?_⟩
  · have q : (u.setVm U.vm).methodNamed? x = some r := by rw [State.methodNamed?_setVm hvm]; exact h2
    exact q
  · have q : (u.setVm U.vm).methodNamed? y = some m := by rw [State.methodNamed?_setVm hvm]; exact h3
    exact q
  · simp only [hvm.superclasses, hvm.declaredIn]; exact h6
/-- an interface's default method is called -/
theorem runD {x y : MethodName} {ret : Option FieldType} {rm : Room} {As : List Value} {C : State → Prop} {Qc : Array Value → State → Outcome → State → Prop} {bc : ByteArray} {bL mc ms n index count : Nat} {free : Addr → Prop} {yown CC : String} {b : Addr} {g : JFrame} {cC : ClassId}
    (hat : ClassAt s CC cC) (S : CallFix p m c cc nL s args lw_all own) (hB : BodyU l bc bL ret yown rm (.ref b :: As) C Qc mc ms free) (hy : plainName y.cls = true) (ho : y.cls = yown) (hn0 : (lg_sl (.ref b :: As)).length ≤ bL) (hrc : rm.cells = mc) (hrs : rm.slots = ms) (hR : rm.frames + 1 ≤ R.frames ∧ 8 + (bL + 11) + rm.locals ≤ R.locals) (hcode : Cond.code y bc bL ret ∈ lw_all)
    (hlink : Cond.methodLink own index x ∈ lw_all) (hF : va_Fw CC x y s) (hsel : ldF CC x y s) (hinst : Cond.instanceMethod y ∈ lw_all) (hx : x.cls ≠ "java/lang/invoke/MethodHandle" ∧ x.cls ≠ "java/lang/invoke/VarHandle") (hlen : (parseMethodDescriptor x.desc).map (fun d => d.parameters.length) = some n)
    (hp : PreV s H CC b (va_Pc (.ref b :: As) C) As) (hg : g.method = m) (hn : As.length = n) (hsize : g.locals.size = nL) (hstack : g.stack = As.reverse ++ .ref b :: rest) (hW : 2 * g.monitorRoom + (rest.map fun v => v.category).sum ≤ 8) (hdg : decode cc g.pc = .ok (.invokeinterface index count, 5)) (hf : cells + mc ≤ R.cells ∧ slots + ms ≤ R.slots) :
    va_Run5 p l e R s m args below meth c H locs cells slots mc ms g rest (Qc (Value.ref b :: As).toArray) free := by
  obtain ⟨hx1, hb, hml, ho1, hts⟩ := S
  obtain ⟨hbl, ⟨cellB, hcB, hoB, hclB⟩, hPc⟩ := hp
  have hK : Back l R p e below s args y 5 8 (PreOf R mc ms (va_Pc (.ref b :: As) C)) (PostOf Qc mc ms free) := backU hB hy ho hn0 hbl hrc hrs hR hts hcode
  obtain ⟨hfc, kB, hkB, -⟩ := hat
  cases hfc.symm.trans hclB
  intro T hT X
  obtain ⟨r0, r, hn0, hrm, hstR, hsigR⟩ := Cond.declares_spec (va_any (A := #[]) (A' := args) rfl hF.1)
  obtain ⟨cL, kL, r1, hcL, hkL, hiL, hfoundL, hn1⟩ := Cond.interfaceMethod_spec (va_any (A := #[]) (A' := args) rfl hF.2.1)
  cases hn0.symm.trans hn1
  have hr0cls : r0.cls = cL := Option.some.inj ((findClass_of_methodNamed hn0).symm.trans hcL)
  obtain ⟨mk, methM, hnamed, hmethM, -, habM⟩ := Cond.instanceMethod_spec (hts _ hinst)
  obtain ⟨c2, r2, m2, rm2, q1, q2, q3, q5, q4, q6⟩ := hsel
  cases hfc.symm.trans q1
  cases hn0.symm.trans q2
  cases hnamed.symm.trans q3
  cases hrm.symm.trans q5
  have hselP : selectMethod e.platform s.vm cellB.cls r0 = .method mk := by rw [Launch.admits_selectMethod X.admits]; exact q4
  have hpubM : hasFlag methM.accessFlags Acc.public_ = true := Cond.publicMethod_spec hnamed hmethM (va_any (A := #[]) (A' := args) rfl hF.2.2.1)
  obtain ⟨c3, t3, w1, w2, w3⟩ := Cond.castable_spec (va_any (A := #[]) (A' := args) rfl hF.2.2.2.2)
  cases hfc.symm.trans w1
  cases hcL.symm.trans w2
  obtain ⟨vm₁, X₁, hstep₁⟩ := X.invokeinterface hx1 ho1 (hts _ hlink) hn0 hrm hstR (by rw [hr0cls]; exact hkL) hiL hx (a := b) (cell := cellB) (kcell := kB) (by rw [hT]; exact hcB)
    (fun z h => by rw [h] at hoB; cases hoB) hkB (by rw [hr0cls]; exact w3) hselP hmethM q6 hpubM habM (g := g) hg (argsL := As) (rest := rest) (by rw [hsigR] at hlen; exact hn.trans (Option.some.inj hlen).symm) hstack (by rw [hb]; exact hdg)
  obtain ⟨v, ⟨U', l2, c2, s2⟩, X', ⟨g', mk', t, L, e1, e2, hq, h1, hL, h2, h3⟩, st⟩ := hK m meth c ⟨T.setVm vm₁, locs, cells, slots⟩ { g with stack := rest } (.invokeinterface index count) mk (.ref b :: As).toArray X₁ hg (hsize.trans hml.symm) (by rw [hb]; exact hdg) hW (X₁.named hnamed) ⟨hf.1, hf.2, hPc (T.setVm vm₁) hT X₁.warmed⟩
  dsimp only [Pt.U, Pt.locs, Pt.cells, Pt.slots] at X' e1 e2 h1 h2 h3 st
  subst h1; subst h2; subst h3
  exact ⟨v, (T.setVm vm₁).calling g' mk' (Value.ref b :: As).toArray, t, U', L, hT, X', hL, e1, e2, hq, fun target h => hstep₁ _ fun acts => by rw [doInvoke_state]; exact st.trans h⟩
/-- behind an interface call over the whole world -/
theorem cx_go5 {mc ms : Nat} {av : Array Value} {v : Option Value} {z1 : CZ} {ad1 : CA} {st0 : List Value} (hr : va_Run5 p l e R s m args below meth c H locs cells slots mc ms (F0 m pc ls st0) rest (cQ D K B ad1 A v z1 av) A) (hS : va_S A s.heap H locs)
    (kk : ∀ (H : Heap) (locs : List Loc), cP D K B ad1 z1 H → va_S A s.heap H locs → W p l e R s m args below meth c H locs (cells + mc) (slots + ms) Q (F0 m (pc + 5) ls (v.toList ++ rest))) : W p l e R s m args below meth c H locs cells slots Q (F0 m pc ls st0) := by
  intro T hT X
  obtain ⟨v', st₀, t, T', L, h0, X', hL, h1, -, ⟨⟨hq, hq2⟩, hq3⟩, st⟩ := hr T hT X
  cases hq
  have hS1 : va_S A s.heap t.heap (locs ++ L) := by
    obtain ⟨a1, a2, a3⟩ := hS
    obtain ⟨b1, b2⟩ := hq3
    rw [h0] at b1 b2
    refine ⟨Nat.le_trans a1 b1, fun q g1 g2 => ?_, fun q hq => ?_⟩
    · rw [b2 q (Nat.lt_of_lt_of_le g1 a1) g2]; exact a2 q g1 g2
    · rcases List.mem_append.mp hq with g | g
      · exact a3 q g
      · exact hL q g
  obtain ⟨t2, a1, b1⟩ := kk t.heap (locs ++ L) hq2 hS1 T' h1 X'
  exact ⟨t2, st t2 a1, b1⟩
end FACE
/-! DebtFerry$Hailed.hailed()I -/
def c13_hailed (i : Nat) (z0 : CZ) : Option (Int32 × CZ) :=
  gd (decide (i < cz_np z0)) ((c5_tracedBy i 4 z0).bind (fun r2 => gd (decide (i < cz_np r2.2)) ((c5_number i r2.2).bind (fun r8 => some (r2.1 + r8.1, r8.2)))))
abbrev rmX13_hailed : Room := { frames := rmX5_tracedBy.frames + 1, cells := 0, slots := 0, locals := rmX5_tracedBy.locals + rmX5_number.locals + 40 }
theorem mb_X13_hailed (l : Launch) {D : va_G} {K : Nat → ClassId} {s0 : State} {a0 : Array Value} {B : Nat → Nat} {ad : CA} {A : Nat → Prop} (hT : ∀ w ∈ lw_tbl, w.before a0 s0 = true) (hD : ∀ z, va_D A (cW K B ad z)) (i : Nat) (z0 : CZ) (res : Int32 × CZ) (hF : c13_hailed i z0 = some res) : BodyU l cX13_hailed 1 (some .int) RX13 rmX13_hailed [.ref (ad.2.1 (100 + i))] (fun U => cP D K B ad z0 U.heap ∧ va_K D vCl (cT K) U ∧ s0.WarmedH U.vm) (cQ D K B ad A (some (.int res.1)) res.2) 0 0 A := by
  intro p e s m args below meth c ls E hr hlocks hC hl
  obtain ⟨hP, hK, hN⟩ := hC
  have hS : va_S A s.heap s.heap [] := va_S.rf
  have hl : lv_has ls 1 [(0, .ref (ad.2.1 (100 + i)))] := hl
  unfold c13_hailed at hF
  obtain ⟨h2, hF⟩ := gd_some hF
  have h2 : i < cz_np z0 := of_decide_eq_true h2
  obtain ⟨r2, hq2, hF⟩ := bnd hF
  refine lv_aload_n E.1 E.2.1 dX13_hailed_0 rfl (lv_at hl 0 rfl) ?_
  refine lv_iconst (v := (4 : Int32)) E.1 E.2.1 dX13_hailed_1 (by decide) ?_
  have hrun : va_Run5 p l e rmX13_hailed s m args below meth c s.heap [] 0 0 0 0 (F0 m 2 ls [.int 4, .ref (ad.2.1 (100 + i))]) [] (cQ D K B ad A (some (.int r2.1)) r2.2 (Value.ref (ad.2.1 (100 + i)) :: [.int 4]).toArray) A := by
    rcases rd_recv hK hP h2 with ⟨hk, hc⟩ | ⟨hk, hc⟩ | ⟨hk, hc⟩
    · exact va_runF (As := [.int 4]) (rest := []) (hK.1 3 (RX5, TX5, 3) rfl).2 E (mm_X5_tracedBy l hT hD i 4 z0 _ hq2) (va_cwF 1 E.2.2.2.2 (lw_F q1043 q1052 q1002 q77 q1003) rfl rfl rfl (cN_I (by decide) hT hN q1045 q1044 q1048 q1053 q1051) (by decide +kernel) ⟨Nat.le_of_ble_eq_true rfl, Nat.le_of_ble_eq_true rfl⟩) (ck_pre hK hN hP hc) rfl rfl hl.1 rfl (lv_room (Nat.le_of_ble_eq_true rfl)) dX13_hailed_2 ⟨Nat.zero_le _, Nat.zero_le _⟩
    · exact va_runF (As := [.int 4]) (rest := []) (hK.1 4 (RX6, TX6, 4) rfl).2 E (mm_X5_tracedBy l hT hD i 4 z0 _ hq2) (va_cwF 1 E.2.2.2.2 (lw_F q1043 q1049 q1002 q77 q1003) rfl rfl rfl (cN_I (by decide) hT hN q1045 q1044 q1048 q1050 q1037) (by decide +kernel) ⟨Nat.le_of_ble_eq_true rfl, Nat.le_of_ble_eq_true rfl⟩) (ck_pre hK hN hP hc) rfl rfl hl.1 rfl (lv_room (Nat.le_of_ble_eq_true rfl)) dX13_hailed_2 ⟨Nat.zero_le _, Nat.zero_le _⟩
    · exact va_runF (As := [.int 4]) (rest := []) (hK.1 5 (RX7, TX7, 5) rfl).2 E (mm_X5_tracedBy l hT hD i 4 z0 _ hq2) (va_cwF 1 E.2.2.2.2 (lw_F q1043 q1046 q1002 q77 q1003) rfl rfl rfl (cN_I (by decide) hT hN q1045 q1044 q1048 q1047 q1031) (by decide +kernel) ⟨Nat.le_of_ble_eq_true rfl, Nat.le_of_ble_eq_true rfl⟩) (ck_pre hK hN hP hc) rfl rfl hl.1 rfl (lv_room (Nat.le_of_ble_eq_true rfl)) dX13_hailed_2 ⟨Nat.zero_le _, Nat.zero_le _⟩
  refine cx_go5 hrun hS (fun H locs hP hS => ?_)
  obtain ⟨h8, hF⟩ := gd_some hF
  have h8 : i < cz_np r2.2 := of_decide_eq_true h8
  obtain ⟨r8, hq8, hF⟩ := bnd hF
  refine lv_aload_n E.1 E.2.1 dX13_hailed_7 rfl (lv_at hl 0 rfl) ?_
  have hrun : va_Run5 p l e rmX13_hailed s m args below meth c H locs 0 0 0 0 (F0 m 8 ls [.ref (ad.2.1 (100 + i)), .int r2.1]) [.int r2.1] (cQ D K B ad A (some (.int r8.1)) r8.2 (Value.ref (ad.2.1 (100 + i)) :: []).toArray) A := by
    rcases rd_recv hK hP h8 with ⟨hk, hc⟩ | ⟨hk, hc⟩ | ⟨hk, hc⟩
    · exact va_runF (As := []) (rest := [.int r2.1]) (hK.1 3 (RX5, TX5, 3) rfl).2 E (mm_X5_number l hT hD i r2.2 _ hq8) (va_cwF 0 E.2.2.2.2 (lw_F q1055 q1065 q1060 q77 q1062) rfl rfl rfl (cN_I (by decide) hT hN q1057 q1056 q1061 q1066 q1051) (by decide +kernel) ⟨Nat.le_of_ble_eq_true rfl, Nat.le_of_ble_eq_true rfl⟩) (ck_pre hK hN hP hc) rfl rfl hl.1 rfl (lv_room (Nat.le_of_ble_eq_true rfl)) dX13_hailed_8 ⟨Nat.zero_le _, Nat.zero_le _⟩
    · exact va_runF (As := []) (rest := [.int r2.1]) (hK.1 4 (RX6, TX6, 4) rfl).2 E (mm_X5_number l hT hD i r2.2 _ hq8) (va_cwF 0 E.2.2.2.2 (lw_F q1055 q1063 q1060 q77 q1062) rfl rfl rfl (cN_I (by decide) hT hN q1057 q1056 q1061 q1064 q1037) (by decide +kernel) ⟨Nat.le_of_ble_eq_true rfl, Nat.le_of_ble_eq_true rfl⟩) (ck_pre hK hN hP hc) rfl rfl hl.1 rfl (lv_room (Nat.le_of_ble_eq_true rfl)) dX13_hailed_8 ⟨Nat.zero_le _, Nat.zero_le _⟩
    · exact va_runF (As := []) (rest := [.int r2.1]) (hK.1 5 (RX7, TX7, 5) rfl).2 E (mm_X5_number l hT hD i r2.2 _ hq8) (va_cwF 0 E.2.2.2.2 (lw_F q1055 q1058 q1060 q77 q1062) rfl rfl rfl (cN_I (by decide) hT hN q1057 q1056 q1061 q1059 q1031) (by decide +kernel) ⟨Nat.le_of_ble_eq_true rfl, Nat.le_of_ble_eq_true rfl⟩) (ck_pre hK hN hP hc) rfl rfl hl.1 rfl (lv_room (Nat.le_of_ble_eq_true rfl)) dX13_hailed_8 ⟨Nat.zero_le _, Nat.zero_le _⟩
  refine cx_go5 hrun hS (fun H locs hP hS => ?_)
  refine lv_iadd E.1 E.2.1 dX13_hailed_13 ?_
  exact ck_iret E hr hlocks hP hS hF dX13_hailed_14
