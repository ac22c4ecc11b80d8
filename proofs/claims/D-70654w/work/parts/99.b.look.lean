/-! which handler; Looking.done, lookAt -/
section TR
variable {l : Launch} {s0 s : State} {a0 args : Array Value} {cX : ClassId}
theorem tr_npe (G : cG l s0 a0) (hts : ∀ w ∈ lw_all, w.before args s = true) (hN : s0.WarmedH s.vm) (h : s.vm.findClass "java/lang/NullPointerException" = some cX) : hsearch s args RX2 9 cX hhX2 13 := hs_hit (hts _ q806) (cN_C G.1 hN q698) h (by decide) (by decide)
theorem tr_cce (G : cG l s0 a0) (hts : ∀ w ∈ lw_all, w.before args s = true) (hN : s0.WarmedH s.vm) (h : s.vm.findClass "java/lang/ClassCastException" = some cX) : hsearch s args RX2 9 cX hhX2 23 := hs_miss (X := "java/lang/ClassCastException") (hts _ q806) (cG_nc G hN (by decide +kernel)) h (by decide) (by decide) (hs_hit (hts _ q807) (cN_C G.1 hN q742) h (by decide) (by decide))
theorem tr_ase (G : cG l s0 a0) (hts : ∀ w ∈ lw_all, w.before args s = true) (hN : s0.WarmedH s.vm) (h : s.vm.findClass "java/lang/ArrayStoreException" = some cX) : hsearch s args RX2 9 cX hhX2 23 := hs_miss (X := "java/lang/ArrayStoreException") (hts _ q806) (cG_nc G hN (by decide +kernel)) h (by decide) (by decide) (hs_miss (X := "java/lang/ArrayStoreException") (hts _ q807) (cG_nc G hN (by decide +kernel)) h (by decide) (by decide) (hs_hit (hts _ q808) (cN_C G.1 hN q820) h (by decide) (by decide)))
theorem tr_nas (G : cG l s0 a0) (hts : ∀ w ∈ lw_all, w.before args s = true) (hN : s0.WarmedH s.vm) (h : s.vm.findClass "java/lang/NegativeArraySizeException" = some cX) : hsearch s args RX2 9 cX hhX2 33 := hs_miss (X := "java/lang/NegativeArraySizeException") (hts _ q806) (cG_nc G hN (by decide +kernel)) h (by decide) (by decide) (hs_miss (X := "java/lang/NegativeArraySizeException") (hts _ q807) (cG_nc G hN (by decide +kernel)) h (by decide) (by decide) (hs_miss (X := "java/lang/NegativeArraySizeException") (hts _ q808) (cG_nc G hN (by decide +kernel)) h (by decide) (by decide) (hs_hit (hts _ q822) (cN_C G.1 hN q619) h (by decide) (by decide))))
theorem tr_ioo (G : cG l s0 a0) (hts : ∀ w ∈ lw_all, w.before args s = true) (hN : s0.WarmedH s.vm) (h : s.vm.findClass "java/lang/IndexOutOfBoundsException" = some cX) : hsearch s args RX2 9 cX hhX2 43 := hs_miss (X := "java/lang/IndexOutOfBoundsException") (hts _ q806) (cG_nc G hN (by decide +kernel)) h (by decide) (by decide) (hs_miss (X := "java/lang/IndexOutOfBoundsException") (hts _ q807) (cG_nc G hN (by decide +kernel)) h (by decide) (by decide) (hs_miss (X := "java/lang/IndexOutOfBoundsException") (hts _ q808) (cG_nc G hN (by decide +kernel)) h (by decide) (by decide) (hs_miss (X := "java/lang/IndexOutOfBoundsException") (hts _ q822) (cG_nc G hN (by decide +kernel)) h (by decide) (by decide) (hs_hit (hts _ q823) (cN_C G.1 hN q847) h (by decide) (by decide)))))
theorem tr_aio (G : cG l s0 a0) (hts : ∀ w ∈ lw_all, w.before args s = true) (hN : s0.WarmedH s.vm) (h : s.vm.findClass "java/lang/ArrayIndexOutOfBoundsException" = some cX) : hsearch s args RX2 9 cX hhX2 43 := hs_miss (X := "java/lang/ArrayIndexOutOfBoundsException") (hts _ q806) (cG_nc G hN (by decide +kernel)) h (by decide) (by decide) (hs_miss (X := "java/lang/ArrayIndexOutOfBoundsException") (hts _ q807) (cG_nc G hN (by decide +kernel)) h (by decide) (by decide) (hs_miss (X := "java/lang/ArrayIndexOutOfBoundsException") (hts _ q808) (cG_nc G hN (by decide +kernel)) h (by decide) (by decide) (hs_miss (X := "java/lang/ArrayIndexOutOfBoundsException") (hts _ q822) (cG_nc G hN (by decide +kernel)) h (by decide) (by decide) (hs_hit (hts _ q823) (cN_C G.1 hN q1434) h (by decide) (by decide)))))
end TR
def lkOk (C : String) (ci N : Nat) (T : u_T) : Prop := vCl[ci]? = some (C, T, N) ∧ (∀ w ∈ u_ws C T N, w ∈ lw_all) ∧ 5 < N ∧ T 0 = ("DebtFerry$Looking", "sheet", "I", true) ∧ T 1 = ("DebtFerry$Looking", "lane", "I", true) ∧ T 2 = ("DebtFerry$Looking", "i", "I", true) ∧ T 3 = ("DebtFerry$Looking", "n", "I", true) ∧ T 4 = ("DebtFerry$Looking", "this$0", "LDebtFerry;", true)
theorem lk_M : lkOk RX4 8 7 TX4 := ⟨rfl, in_X4, by decide, rfl, rfl, rfl, rfl, rfl⟩
theorem lk_L : lkOk RX8 9 8 TX8 := ⟨rfl, in_X8, by decide, rfl, rfl, rfl, rfl, rfl⟩
section LK
variable {p : Program} {l : Launch} {e : Env} {R : Room} {s : State} {m : MethodId} {args : Array Value} {below : List Frame} {meth : Method} {c : Code} {H : Heap} {locs : List Loc} {cells slots : Nat} {Q : State → Prop} {cc : ByteArray} {nL pc : Nat} {rest : List Value} {ls : Array Slot} {D : va_G} {K : Nat → ClassId} {s0 : State} {a0 : Array Value} {B : Nat → Nat} {ad : CA} {A : Nat → Prop} {z : CZ} {lv : List (Nat × Value)} {own : String} {C : String} {ci N qa : Nat} {T : u_T} {fs : List Value} {X : String} {mc ms : Nat}
/-- a field of Looking, read by Looking or by DebtFerry -/
theorem ck_lk (E : CallFix p m c cc nL s args lw_all own) (lk : lkOk C ci N T) (hK : va_K D vCl (cT K) s) (hP : cP D K B ad z H) (hqa : (qa, .inr (ci, fs)) ∈ ad.2.2) (k : Nat) (hk : k < 5) {idx : Nat} {v : Value} (hv : fs[k]? = some v) {nm ds : String} (hT : T k = ("DebtFerry$Looking", nm, ds, true)) (hl : Cond.fieldLink own idx "DebtFerry$Looking" nm ds ∈ lw_all) (hdg : decode cc pc = .ok (.getfield idx, 3))
    (kk : W p l e R s m args below meth c H locs cells slots Q (F0 m (pc + 3) ls (v :: rest))) : W p l e R s m args below meth c H locs cells slots Q (F0 m pc ls (.ref qa :: rest)) := by
  obtain ⟨i, hi⟩ := cW_dy (K := K) (B := B) (z := z) hqa
  obtain ⟨h1, h2, h3, -⟩ := lk
  exact va_get E.1 E.2.1 E.2.2.2.2 h2 E.2.2.2.1 hK hP.1 (i + 7) hi h1 k (by omega) (ref := "DebtFerry$Looking") (by rw [hT]; exact E.2.2.2.2 _ hl) (fun x h => by rw [hT] at h ⊢; exact h) hv hdg kk
theorem lk_recv (lk : lkOk C ci N T) (hK : va_K D vCl (cT K) s) (hP : cP D K B ad z H) (hqa : (qa, .inr (ci, fs)) ∈ ad.2.2) : ∃ cellB : Cell, H[qa]? = some cellB ∧ cellB.vm.isStatics = false ∧ s.vm.findClass C = some cellB.cls := by
  obtain ⟨i, hi⟩ := cW_dy (K := K) (B := B) (z := z) hqa
  exact va_recv hK hP.1 lk.1 hi
/-- the call of a nest mate's static method that throws -/
theorem runT_SN {y : MethodName} {bytes : ByteArray} {maxL n index : Nat} {ret : Option FieldType} {ws : List Cond} {rm : Room} {Pc : Array Value → State → Prop} {Ts : List Cond} {host : String} {As : List Value} {g : JFrame} (S : CallFix p m c cc nL s args Ts own) (hM : MetT l y ws rm Pc X mc ms) (cw : va_CN R s args own index y host bytes maxL ret ws rm mc ms n ∧ (Cond.static y).before args s = true) (hp : PreS s H Pc As)
    (hg : g.method = m) (hn : As.length = n) (hsize : g.locals.size = nL) (hstack : g.stack = As.reverse ++ rest) (hW : 2 * g.monitorRoom + (rest.map fun v => v.category).sum ≤ 8) (hdg : decode cc g.pc = .ok (.invokestatic index, 3)) (hf : cells + mc ≤ R.cells ∧ slots + ms ≤ R.slots) :
    RunT p l e R s m args below meth c H locs cells slots mc ms g { g with stack := rest } X := by
  obtain ⟨⟨⟨hrc, hrs, hfr, hlo, hws, hcw⟩, hcode, hini, hy, hlen, hl⟩, hstt⟩ := cw
  obtain ⟨hx, hb, hml, ho, -⟩ := S
  intro T hT X0
  obtain ⟨mk, hnamed⟩ := Cond.code_named hcode
  obtain ⟨methM, cM, hmethM, -, -, -, -, -, -, hsigM⟩ := Cond.code_spec hnamed hcode
  have hstatic : methM.isStatic = true := Cond.static_spec hnamed hmethM hstt
  obtain ⟨kP, hkP, -⟩ := className_of_methodNamed hnamed
  have hinitP : kP.init = .initialized := Cond.initialized_spec (findClass_of_methodNamed hnamed) hkP hini
  obtain ⟨vm₁, X₁, hstep₁⟩ := X0.invokestaticNest hx ho hl hnamed hmethM hstatic hkP hinitP hy (g := g) hg (argsL := As) (rest := rest) (hn.trans (hlen _ hsigM)) hstack (by rw [hb]; exact hdg)
  obtain ⟨x, T', k, n', hk, hn', X', hS, hcell, hsteps⟩ := backT (g := { g with stack := rest }) (a := As.toArray) hM hp.1 hrc hrs hfr hlo hws hcw hini X₁ hg (hsize.trans hml.symm) (by rw [hb]; exact hdg) hW (X₁.named hnamed) hf.1 hf.2 (hp.2 (T.setVm vm₁) hT X₁.warmed)
  have hh : (T.setVm vm₁).heap = H := hT
  rw [hh] at hS
  exact ⟨x, T', k, n', hk, hn', X', hS, hcell, fun target h => hstep₁ _ fun acts => by rw [doInvoke_state]; exact hsteps.trans h⟩
/-- behind cellsOf -/
theorem cI_goC {n : Nat} {g : Nat → Int32} {av : Array Value} {st0 : List Value} (hr : va_Run p l e R s m args below meth c H locs cells slots mc ms (F0 m pc ls st0) rest (cIQc D K B A ad z n g av) A) (hS : va_S A s.heap H locs)
    (kk : ∀ (q : Nat) (ad' : CA) (H : Heap) (locs : List Loc), (∀ x ∈ ad.2.2, x ∈ ad'.2.2) → rwW K q n g ∈ ad'.2.2 → cP D K B ad' z H → cV K B A ad' z → va_S A s.heap H locs → W p l e R s m args below meth c H locs (cells + mc) (slots + ms) Q (F0 m (pc + 3) ls (.ref q :: rest))) : W p l e R s m args below meth c H locs cells slots Q (F0 m pc ls st0) := by
  intro T hT X
  obtain ⟨v', st₀, t, T', L, h0, X', hL, h1, -, ⟨⟨q, ad', hq, -, hm1, hm2, hq2, hqD⟩, hq3⟩, st⟩ := hr T hT X
  cases hq
  obtain ⟨t2, a1, b1⟩ := kk q ad' t.heap (locs ++ L) hm1 hm2 hq2 hqD (vS_call hS h0 hq3 (fun _ _ h => h) hL rfl) T' h1 X'
  exact ⟨t2, st t2 a1, b1⟩
theorem ck_rowInN (E : CallFix p m c cc nL s args lw_all own) (hT : ∀ w ∈ lw_tbl, w.before a0 s0 = true) (hN : s0.WarmedH s.vm) (hK : va_K D vCl (cT K) s) (hP : cP D K B ad z H) {k idx : Nat} (hk : k < 4) (hlk : Cond.methodLinkNest own idx ⟨"DebtFerry", "rowIn", "(I)Ljava/lang/Object;"⟩ "DebtFerry" ∈ lw_tbl) (hl : lv_has ls nL lv) (hW : (rest.map fun v => v.category).sum ≤ 8) (hR : 2 ≤ R.frames ∧ 33 ≤ R.locals) (hf : cells ≤ R.cells ∧ slots ≤ R.slots) (hdg : decode cc pc = .ok (.invokevirtual idx, 3))
    (kk : W p l e R s m args below meth c H locs cells slots Q (F0 m (pc + 3) ls (rowV ad z k :: rest))) : W p l e R s m args below meth c H locs cells slots Q (F0 m pc ls (.int (nI k) :: .ref (B 0) :: rest)) :=
  px_go (va_runVN (C := RX0) (As := [.int (nI k)]) (rest := rest) E (mm_X0_rowIn l (s0 := s0) z hk) ⟨va_cnB 1 E.2.2.2.2 (lw_meth q747) rfl rfl rfl (cN_M hT hN hlk) (E.2.2.2.2 _ q54) (by decide +kernel) ⟨hR.1, hR.2⟩, E.2.2.2.2 _ q746, E.2.2.2.2 _ qs25⟩ (ck_pre hK hN hP (ck_me hK hP)) rfl rfl hl.1 rfl (lv_room hW) hdg hf) kk
end LK
set_option maxHeartbeats 1000000 in
theorem done_thr (l : Launch) {D : va_G} {K : Nat → ClassId} {s0 : State} {a0 : Array Value} {B : Nat → Nat} {ad : CA} {A : Nat → Prop} (hT : ∀ w ∈ lw_tbl, w.before a0 s0 = true) {C : String} {ci N qa : Nat} {T : u_T} {fs : List Value} (lk : lkOk C ci N T) (hqa : (qa, .inr (ci, fs)) ∈ ad.2.2) {z : CZ} {k : Nat} (hk : k < 4) {x2 x3 x4 : Int32} (hf : fs[0]? = some (.int (nI k)) ∧ fs[1]? = some (.int x2) ∧ fs[2]? = some (.int x3) ∧ fs[3]? = some (.int x4) ∧ fs[4]? = some (.ref (B 0))) {ws : va_W} (hws : ∀ x ∈ ws, x ∈ ad.2.2) {X : String}
    (hM : MetT l yX0_cellsOf (ws_ yX0_cellsOf cX0_cellsOf 8 (some (.array .int))) rmXC (xPc D K s0 ws [rowV ad z k, .int x2, .int x3, .int x4]) X 4 1680) : MetT l yX3_done (ws_ yX3_done cX3_done 1 (some .int)) { frames := 12, cells := 4, slots := 1680, locals := 10380 } (cIPc D K s0 B A ad z [.ref qa]) X 4 1680 := by
  refine tx_start RX3 (by decide) rfl (Nat.le_of_ble_eq_true rfl) ?_
  intro p e s m args below meth c ls E hr hlocks hxt hC hl
  obtain ⟨hP, hK, hX, hV, hA⟩ := hC
  have hl : lv_has ls 1 [(0, .ref qa)] := hl
  have hN := hX.1
  obtain ⟨f0, f1, f2, f3, f4⟩ := hf
  have lk' := lk
  obtain ⟨-, -, -, t0, t1, t2, t3, t4⟩ := lk'
  refine lv_aload_n E.1 E.2.1 dX3_done_0 rfl (lv_at hl 0 rfl) ?_
  refine lv_aload_n E.1 E.2.1 dX3_done_1 rfl (lv_at hl 0 rfl) ?_
  refine ck_lk E lk hK hP hqa 4 (by decide) f4 t4 q778 dX3_done_2 ?_
  refine lv_aload_n E.1 E.2.1 dX3_done_5 rfl (lv_at hl 0 rfl) ?_
  refine ck_lk E lk hK hP hqa 0 (by decide) f0 t0 q772 dX3_done_6 ?_
  refine ck_rowInN E hT hN hK hP hk q835 hl (Nat.le_of_ble_eq_true rfl) ⟨by decide, by decide⟩ ⟨Nat.zero_le _, Nat.zero_le _⟩ dX3_done_9 ?_
  refine lv_aload_n E.1 E.2.1 dX3_done_12 rfl (lv_at hl 0 rfl) ?_
  refine ck_lk E lk hK hP hqa 1 (by decide) f1 t1 q774 dX3_done_13 ?_
  refine lv_aload_n E.1 E.2.1 dX3_done_16 rfl (lv_at hl 0 rfl) ?_
  refine ck_lk E lk hK hP hqa 2 (by decide) f2 t2 q776 dX3_done_17 ?_
  refine lv_aload_n E.1 E.2.1 dX3_done_20 rfl (lv_at hl 0 rfl) ?_
  refine ck_lk E lk hK hP hqa 3 (by decide) f3 t3 q777 dX3_done_21 ?_
  have hPw : va_P D vCl ws s.heap := vP_of hP.1 (fun x hx => mem_cW (hws x hx))
  exact tx_passG (rest := [.ref qa]) (runT_SN (host := "DebtFerry") (As := [rowV ad z k, .int x2, .int x3, .int x4]) (rest := [.ref qa]) E hM ⟨va_cnB 4 E.2.2.2.2 (lw_meth q838) rfl rfl rfl (cN_M hT hN q836) (E.2.2.2.2 _ q54) (by decide +kernel) ⟨by decide, by decide⟩, E.2.2.2.2 _ q837⟩ ⟨x_blind, fun U hU hW => ⟨rfl, by rw [hU]; exact hPw, va_K.moved hW.alike hK, State.WarmedH.trans hX.1 hW, by rw [hU]; exact hX.2⟩⟩ rfl rfl hl.1 rfl (lv_room (Nat.le_of_ble_eq_true rfl)) dX3_done_24 ⟨by decide, by decide⟩) hxt hlocks (by decide) (by decide)
set_option maxHeartbeats 1000000 in
theorem done_ret (l : Launch) {D : va_G} {K : Nat → ClassId} {s0 : State} {a0 : Array Value} {B : Nat → Nat} {ad : CA} {A : Nat → Prop} (G : cG l s0 a0) (hAl : ∀ q, A q → s0.heap.size ≤ q) {C : String} {ci N qa : Nat} {T : u_T} {fs : List Value} (lk : lkOk C ci N T) (hqa : (qa, .inr (ci, fs)) ∈ ad.2.2) {z : CZ} {k kd i n : Nat} {q : Nat × Nat × (Nat → Int32)} (hk : k < 4) (hz : cz_sh z k = some q) (hin : i + n ≤ q.2.1) (hf : fs[0]? = some (.int (nI k)) ∧ fs[1]? = some (.int (nI q.1)) ∧ fs[2]? = some (.int (nI i)) ∧ fs[3]? = some (.int (nI n)) ∧ fs[4]? = some (.ref (B 0))) {res : Int32 × CZ}
    {y : MethodName} {bytes : ByteArray} {maxL mc ms : Nat} {rm rmD : Room} (hM : ∀ (ad' : CA) (w : Nat), (qa, .inr (ci, fs)) ∈ ad'.2.2 → rwW K w n (fun x => q.2.2 (i + x)) ∈ ad'.2.2 → Met l y (ws_ y bytes maxL (some .int)) rm (cIPc D K s0 B A ad' z [.ref qa, .ref w]) (cIQ D K B A (some (.int res.1)) res.2) mc ms A)
    (h3 : Cond.selects C ⟨"DebtFerry$Looking", "lookAt", "([I)I"⟩ y ∈ lw_all) (h4 : Cond.instanceMethod y ∈ lw_all) (h5 : Cond.initialized y.cls ∈ lw_all) (h6 : Cond.code y bytes maxL (some .int) ∈ lw_all) (hrm : rm.cells = mc ∧ rm.slots = ms ∧ rm.frames + 1 ≤ rmD.frames ∧ 8 + (maxL + 11) + rm.locals ≤ rmD.locals ∧ 2 + mc ≤ rmD.cells ∧ 120 + ms ≤ rmD.slots) (hr2 : 4 ≤ rmD.frames ∧ 100 ≤ rmD.locals) :
    Met l yX3_done (ws_ yX3_done cX3_done 1 (some .int)) rmD (cIPc D K s0 B A ad z [.ref qa]) (cIQ D K B A (some (.int res.1)) res.2) (2 + mc) (120 + ms) A := by
  refine cI_start RX3 (by decide) rfl (Nat.le_of_ble_eq_true rfl) ?_
  intro p e s m args below meth c H locs ls E hr hlocks hK hX hA hP hV hS hl
  have hl : lv_has ls 1 [(0, .ref qa)] := hl
  have hN := hX.1
  have hT := G.1
  obtain ⟨f0, f1, f2, f3, f4⟩ := hf
  have lk' := lk
  obtain ⟨-, -, -, t0, t1, t2, t3, t4⟩ := lk'
  have hd := hP.2.2.2.2.2.2 k hk q hz
  refine lv_aload_n E.1 E.2.1 dX3_done_0 rfl (lv_at hl 0 rfl) ?_
  refine lv_aload_n E.1 E.2.1 dX3_done_1 rfl (lv_at hl 0 rfl) ?_
  refine ck_lk E lk hK hP hqa 4 (by decide) f4 t4 q778 dX3_done_2 ?_
  refine lv_aload_n E.1 E.2.1 dX3_done_5 rfl (lv_at hl 0 rfl) ?_
  refine ck_lk E lk hK hP hqa 0 (by decide) f0 t0 q772 dX3_done_6 ?_
  refine ck_rowInN E hT hN hK hP hk q835 hl (Nat.le_of_ble_eq_true rfl) ⟨by omega, by omega⟩ ⟨Nat.zero_le _, Nat.zero_le _⟩ dX3_done_9 ?_
  have e1 : rowV ad z k = .ref (ad.2.1 (400 + k)) := by show va_rf ((cz_sh z k).map _) = _; rw [hz]; rfl
  rw [e1]
  refine lv_aload_n E.1 E.2.1 dX3_done_12 rfl (lv_at hl 0 rfl) ?_
  refine ck_lk E lk hK hP hqa 1 (by decide) f1 t1 q774 dX3_done_13 ?_
  refine lv_aload_n E.1 E.2.1 dX3_done_16 rfl (lv_at hl 0 rfl) ?_
  refine ck_lk E lk hK hP hqa 2 (by decide) f2 t2 q776 dX3_done_17 ?_
  refine lv_aload_n E.1 E.2.1 dX3_done_20 rfl (lv_at hl 0 rfl) ?_
  refine ck_lk E lk hK hP hqa 3 (by decide) f3 t3 q777 dX3_done_21 ?_
  refine cI_goC (va_runSN (host := "DebtFerry") (As := [.ref (ad.2.1 (400 + k)), .int (nI q.1), .int (nI i), .int (nI n)]) (rest := [.ref qa]) E (mm_X0_cellsOf l G hAl z hd.1 hd.2.1 hd.2.2.2 hin) ⟨va_cnB 4 E.2.2.2.2 (lw_meth q838) rfl rfl rfl (cN_M hT hN q836) (E.2.2.2.2 _ q54) (by decide +kernel) ⟨by show 3 + 1 ≤ _; omega, by show 8 + (8 + 11) + 60 ≤ _; omega⟩, E.2.2.2.2 _ q837, trivial⟩ (cI_preS hAl hA hX hK hP hV hS) rfl rfl hl.1 rfl (lv_room (Nat.le_of_ble_eq_true rfl)) dX3_done_24 ⟨by omega, by omega⟩) hS (fun w ad' H locs hm1 hm2 hP hV hS => ?_)
  refine cI_go (va_runU (As := [.ref w]) (rest := []) E (hM ad' w (hm1 _ hqa) hm2) (va_cwA (C := C) (owner := RX3) (x := ⟨"DebtFerry$Looking", "lookAt", "([I)I"⟩) 1 E.2.2.2.2 (lw_U q858 q860 h3 h4 h5 h6) rfl hrm.1 hrm.2.1 (va_Nw.warmD hN (va_Nw.of rfl (hT _ q859))) (by decide +kernel) ⟨hrm.2.2.1, hrm.2.2.2.1⟩) (cI_pre hAl hA hX hK hP hV hS (lk_recv lk hK hP (hm1 _ hqa))) rfl rfl hl.1 rfl (lv_room (Nat.le_of_ble_eq_true rfl)) dX3_done_27 ⟨by omega, by omega⟩) hS (fun H locs ad1 hP hV hS => ?_)
  rw [Nat.zero_add, Nat.zero_add]
  exact cI_iret E hr hlocks hP hV hS rfl dX3_done_30
