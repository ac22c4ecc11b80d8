/-! constructors: final fields, some of one name -/
section CTOR
variable {p : Program} {l : Launch} {e : Env} {R : Room} {s : State} {m : MethodId} {args : Array Value} {below : List Frame} {meth : Method} {c : Code} {H : Heap} {locs : List Loc} {cells slots : Nat} {Q : State → Prop} {cc : ByteArray} {nL pc : Nat} {rest : List Value} {ls : Array Slot} {D : va_G} {K : Nat → ClassId} {s0 : State} {a0 : Array Value} {lv : List (Nat × Value)} {own : String}
theorem cls_name {vm : Vm} {name : String} {c : ClassId} {k : Class} (h : vm.findClass name = some c) (hk : vm.classes[c]? = some k) : k.name = name := by
  obtain ⟨hlt, hp, _⟩ := Array.findIdx?_eq_some_iff_getElem.mp h
  have : vm.classes[c] = k := by simpa [hlt] using hk
  rw [this] at hp
  simp only [Bool.and_eq_true, beq_iff_eq] at hp
  exact hp.1.1.1
/-- final fields of one class that other classes declare have slots of their own -/
theorem fin_apart {C O f d O' f' d' : String} (h : (Cond.laysFinal C O f d).before args s = true) (h' : (Cond.laysFinal C O' f' d').before args s = true) {cf kf fi fd cf' kf' fi' fd'} (hi : s.fieldFound? O f d = some (cf, kf, fi, fd)) (hi' : s.fieldFound? O' f' d' = some (cf', kf', fi', fd')) (hne : O ≠ O') : fd.slot ≠ fd'.slot := by
  obtain ⟨a, _, c1, k1, _, g1, ha, _, hg, _, _, _, ho, _, x, hx, hn, _⟩ := Cond.laysFinal_spec h
  obtain ⟨a', _, c2, k2, _, g2, ha', _, hg', _, _, _, ho', _, x', hx', hn', _⟩ := Cond.laysFinal_spec h'
  cases hi.symm.trans hg
  cases hi'.symm.trans hg'
  cases ha.symm.trans ha'
  intro hs
  rw [hs] at hx
  cases hx.symm.trans hx'
  have e1 := cls_name ho (State.fieldFound?_spec hg).1
  have e2 := cls_name ho' (State.fieldFound?_spec hg').1
  exact hne (by rw [← e1, ← e2, ← hn, ← hn'])
theorem va_apart' {C : String} {T : u_T} {N ci : Nat} {Ts : List Cond} {cl : List vw_C} {tys : List (ClassId × FieldType)} (hts : ∀ w ∈ Ts, w.before args s = true) (hin : ∀ w ∈ u_ws C T N, w ∈ Ts) (ty : Nat → FieldType) (hty : ∀ k, k < N → parseFieldDescriptor (T k).2.2.1 = some (ty k)) (hnm : ∀ a, a < N → ∀ b, b < N → a ≠ b → (T a).2.1 ≠ (T b).2.1 ∨ ((T a).2.2.2 = true ∧ (T b).2.2.2 = true ∧ (T a).1 ≠ (T b).1)) (hK : va_K D cl tys s) (hc : cl[ci]? = some (C, T, N)) : ∀ x y, x < N → y < N → x ≠ y → (D.2 ci) x ≠ (D.2 ci) y := by
  intro x y hx hy hne
  obtain ⟨hS, -⟩ := hK.1 ci _ hc
  obtain ⟨_, _, _, fa, hia, ea⟩ := hS x hx
  obtain ⟨_, _, _, fb, hib, eb⟩ := hS y hy
  rw [← ea, ← eb]
  rcases hnm x hx y hy hne with h | ⟨h1, h2, h3⟩
  · refine u_apart (u_lays hts hin hx) (u_lays hts hin hy) hia hib ?_
    rw [(State.fieldFound?_type hia (hty x hx)).1, (State.fieldFound?_type hib (hty y hy)).1]
    exact h
  · have l1 := hts _ (hin _ (u_in_lay hx))
    have l2 := hts _ (hin _ (u_in_lay hy))
    unfold u_lay at l1 l2
    rw [if_pos h1] at l1
    rw [if_pos h2] at l2
    exact fin_apart l1 l2 hia hib h3
/-- a constructor writes a final field of its own -/
theorem va_putF' {C : String} {T : u_T} {N ci index : Nat} {Ts : List Cond} {cl : List vw_C} {tys : List (ClassId × FieldType)} {ws : va_W} {H0 : Heap} {A : Nat → Prop} {a : Nat} {ref : String} (hexec : p.tables.exec = Jvm.exec) (hb : c.code = cc) (hts : ∀ w ∈ Ts, w.before args s = true) (hin : ∀ w ∈ u_ws C T N, w ∈ Ts) (ty0 : Nat → FieldType) (hty : ∀ k, k < N → parseFieldDescriptor (T k).2.2.1 = some (ty0 k)) (hnm : ∀ a, a < N → ∀ b, b < N → a ≠ b → (T a).2.1 ≠ (T b).2.1 ∨ ((T a).2.2.2 = true ∧ (T b).2.2.2 = true ∧ (T a).1 ≠ (T b).1)) (hown : s.vm.findClass own = some m.cls) (hK : va_K D cl tys s) (hP : va_P D cl ws H) (hD : va_D A ws) (hS0 : va_S A H0 H locs) (q0 : Nat) {fs : List Value} (he : ws[q0]? = some (a, .inr (ci, fs))) (hc : cl[ci]? = some (C, T, N)) (k : Nat) (hk : k < N) (hlink : (Cond.fieldLink own index ref (T k).2.1 (T k).2.2.1).before args s = true) (hsame : ∀ x, s.fieldFound? (T k).1 (T k).2.1 (T k).2.2.1 = some x → s.fieldFound? ref (T k).2.1 (T k).2.2.1 = some x) (hfin : (T k).2.2.2 = true) (hin2 : meth.name = "<init>") (hdecl : (T k).1 = own) {ty : FieldType} {v : Value} (hd : parseFieldDescriptor (T k).2.2.1 = some ty) (hn : narrow ty v = v) (hfit : fits ty v = true) (hl : k < fs.length)
    (hdg : decode cc pc = .ok (.putfield index, 3)) (kk : ∀ (H1 : Heap) (locs1 : List Loc), va_P D cl (ws.set q0 (a, .inr (ci, fs.set k v))) H1 → va_D A (ws.set q0 (a, .inr (ci, fs.set k v))) → va_S A H0 H1 locs1 → W p l e R s m args below meth c H1 locs1 cells slots Q (F0 m (pc + 3) ls rest)) : W p l e R s m args below meth c H locs cells slots Q (F0 m pc ls (v :: .ref a :: rest)) := by
  have hap := va_apart' hts hin ty0 hty hnm hK hc
  obtain ⟨r, h1, cell, q1, q2, q3, q4⟩ := hP q0 _ he
  have hr : r = (C, T, N) := Option.some.inj (h1.symm.trans hc)
  subst hr
  obtain ⟨hS, hfc, kC, hkC, hkind⟩ := hK.1 ci _ hc
  obtain ⟨cf, kf, fi, f, hi, hsl⟩ := hS k hk
  have hlay := hts _ (hin _ (u_in_lay hk))
  unfold u_lay at hlay
  rw [if_pos hfin] at hlay
  have hst := (u_facts hfc hkC (u_lays hts hin hk) hi).1
  have hcf : m.cls = cf := by
    obtain ⟨_, _, c', _, _, _, -, -, hf', -, -, -, hown2, -⟩ := Cond.laysFinal_spec hlay
    have e1 : c' = cf := by have := hi.symm.trans hf'; simp at this; exact this.1.symm
    rw [hdecl] at hown2
    rw [← e1]; exact Option.some.inj (hown.symm.trans hown2)
  have h6 := u_fits hfc hkC hkind (Or.inr hlay) hi hd hn hfit
  refine W.putFinK hexec hb hown hlink (hsame _ hi) hst hcf hin2 (by rw [q2]; exact h6) q1 q3 (by rw [hsl]; exact k2_hasslot (q4 k hk)) rfl rfl hdg fun H' e1 e2 e3 => ?_
  rw [hsl] at e1 ⊢
  exact kk H' _ (hP.set hD he ⟨_, hc, t_OB.to (V := updV (vp_V fs) k v) ⟨_, e1, q2, q3, t_set q4 hap hk v⟩ (fun j _ => vp_updV_set hl v j)⟩ e3) (hD.set he) (hS0.put e2 e3 (hD.2 q0 _ he))
end CTOR
/-- what a constructor is told and answers: one cell -/
abbrev nPc (D : va_G) (K : Nat → ClassId) (s0 : State) (q ci : Nat) (vs : List Value) (av : List Value) : Array Value → State → Prop := va_Pc av (fun U => va_P D vCl [(q, .inr (ci, vs))] U.heap ∧ va_K D vCl (cT K) U ∧ s0.WarmedH U.vm)
abbrev nQ (D : va_G) (q ci : Nat) (vs : List Value) : Array Value → State → Outcome → State → Prop := fun _ st o t => (o = .returned none ∧ va_P D vCl [(q, .inr (ci, vs))] t.heap) ∧ va_F (fun x => x = q) st t
theorem n_D {q : Nat} {e : va_E} : va_D (fun x => x = q) [(q, e)] := by
  refine ⟨fun i j a b hi hj _ => ?_, fun k x hk => ?_⟩
  · have h1 := (List.getElem?_eq_some_iff.mp hi).1
    have h2 := (List.getElem?_eq_some_iff.mp hj).1
    simp at h1 h2
    omega
  · have h1 := (List.getElem?_eq_some_iff.mp hk).1
    simp at h1
    subst h1
    cases hk
    rfl
theorem n_preS {s : State} {H : Heap} {D : va_G} {K : Nat → ClassId} {s0 : State} {q ci : Nat} {vs As : List Value} (hK : va_K D vCl (cT K) s) (hN : s0.WarmedH s.vm) (hP : va_P D vCl [(q, .inr (ci, vs))] H) : PreS s H (nPc D K s0 q ci vs As) As :=
  ⟨fun a U g mk q => by obtain ⟨q0, qP, qK, qN⟩ := q; exact ⟨q0, qP, va_K.moved (u := U) (U := U.calling g mk a) (Vm.Alike.refl U.vm) qK, qN⟩, fun U hU hW => ⟨rfl, by rw [hU]; exact hP, va_K.moved hW.alike hK, State.WarmedH.trans hN hW⟩⟩
section CTOR2
variable {p : Program} {l : Launch} {e : Env} {R : Room} {s : State} {m : MethodId} {args : Array Value} {below : List Frame} {meth : Method} {c : Code} {H : Heap} {locs : List Loc} {cells slots : Nat} {Q : State → Prop} {cc : ByteArray} {nL pc : Nat} {rest : List Value} {ls : Array Slot} {D : va_G} {K : Nat → ClassId} {s0 : State} {a0 : Array Value} {lv : List (Nat × Value)} {own : String}
theorem n_ret {q ci : Nat} {vs : List Value} (E : CallFix p m c cc nL s args lw_all own) (hr : meth.sig.returnType = none) (hlocks : meth.locks = false) (hP : va_P D vCl [(q, .inr (ci, vs))] H) (hS : va_S (fun x => x = q) s.heap H locs) (hdg : decode cc pc = .ok (.return_, 1)) : W p l e R s m args below meth c H locs cells slots (MQ below (nQ D q ci vs) args s cells slots (fun x => x = q)) (F0 m pc ls []) :=
  W.vret E.1 E.2.1 hr (fun t ht _ => ⟨⟨rfl, by rw [ht]; exact hP⟩, hS.F ht⟩) hS.2.2 hdg hlocks
/-- a constructor's start -/
theorem n_start {y : MethodName} {rm : Room} {q ci : Nat} {vs av : List Value} {Qc : Array Value → State → Outcome → State → Prop} {mc ms : Nat} {free : Addr → Prop} (own : String) (hy : plainName y.cls = true) (ho : y.cls = own) (hyn : y.name = "<init>") (hn : (lg_sl av).length ≤ nL)
    (body : ∀ (p : Program) (e : Env) (s : State) (m : MethodId) (args : Array Value) (below : List Frame) (meth : Method) (c : Code) (H : Heap) (locs : List Loc) (ls : Array Slot), CallFix p m c cc nL s args lw_all own → meth.sig.returnType = none → meth.locks = false → meth.name = "<init>" → va_K D vCl (cT K) s → s0.WarmedH s.vm → va_P D vCl [(q, .inr (ci, vs))] H → va_S (fun x => x = q) s.heap H locs → lv_has ls nL (lv_args 0 av) → W p l e rm s m args below meth c H locs 0 0 (MQ below Qc args s mc ms free) (F0 m 0 ls [])) : Met l y (ws_ y cc nL none) rm (nPc D K s0 q ci vs av) Qc mc ms free :=
  gx_start own hy ho hn (fun p e s m args below meth c ls E hr hlocks hm hC hl => body p e s m args below meth c _ _ ls E hr hlocks (hm.trans hyn) hC.2.1 hC.2.2 hC.1 va_S.rf hl)
/-- behind a constructor of a class above -/
theorem n_go {mc ms q ci : Nat} {av : Array Value} {vs : List Value} {st0 : List Value} (hr : va_Run p l e R s m args below meth c H locs cells slots mc ms (F0 m pc ls st0) rest (nQ D q ci vs av) (fun x => x = q)) (hS : va_S (fun x => x = q) s.heap H locs)
    (kk : ∀ (H : Heap) (locs : List Loc), va_P D vCl [(q, .inr (ci, vs))] H → va_S (fun x => x = q) s.heap H locs → W p l e R s m args below meth c H locs (cells + mc) (slots + ms) Q (F0 m (pc + 3) ls rest)) : W p l e R s m args below meth c H locs cells slots Q (F0 m pc ls st0) := by
  intro T hT X
  obtain ⟨v', st₀, t, T', L, h0, X', hL, h1, -, ⟨⟨hq, hq2⟩, hq3⟩, st⟩ := hr T hT X
  cases hq
  have hS1 : va_S (fun x => x = q) s.heap t.heap (locs ++ L) := by
    obtain ⟨a1, a2, a3⟩ := hS
    obtain ⟨b1, b2⟩ := hq3
    rw [h0] at b1 b2
    refine ⟨Nat.le_trans a1 b1, fun q g1 g2 => ?_, fun q hq => ?_⟩
    · rw [b2 q (Nat.lt_of_lt_of_le g1 a1) g2]; exact a2 q g1 g2
    · rcases List.mem_append.mp hq with g | g
      · exact a3 q g
      · exact hL q g
  obtain ⟨t2, a1, b1⟩ := kk t.heap (locs ++ L) hq2 hS1 T' h1 X'
  exact ⟨t2, st t2 a1, b1⟩
end CTOR2
