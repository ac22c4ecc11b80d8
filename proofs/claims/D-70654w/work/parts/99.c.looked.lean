/-! lookAt; tried on an act that looks; looked; river; loads -/
theorem cJ_sh {B : Nat → Nat} {ad : CA} {z z' : CZ} (h : cJ B ad z) (hs : z'.2.2.2.2 = z.2.2.2.2) : cJ B ad z' := by
  refine ⟨h.1, fun k k' hk hk' hne h1 h2 => h.2 k k' hk hk' hne ?_ ?_⟩
  · show z.2.2.2.2 k ≠ none
    rw [← hs]; exact h1
  · show z.2.2.2.2 k' ≠ none
    rw [← hs]; exact h2
abbrev acM (B : Nat → Nat) (x1 x2 x3 x4 : Int32) : List Value := [.int x1, .int x2, .int x3, .int x4, .ref (B 0), .ref (B 0), .ref (B 0)]
abbrev acL (B : Nat → Nat) (x1 x2 x3 x4 x5 : Int32) : List Value := [.int x1, .int x2, .int x3, .int x4, .ref (B 0), .ref (B 0), .int x5, .ref (B 0)]
abbrev rmX4_lookAt : Room := { frames := 10, cells := 9, slots := 60, locals := 340 }
set_option maxHeartbeats 1000000 in
theorem mm_X4_lookAt (l : Launch) {D : va_G} {K : Nat → ClassId} {s0 : State} {a0 : Array Value} {B : Nat → Nat} {ad : CA} {A : Nat → Prop} (hT : ∀ w ∈ lw_tbl, w.before a0 s0 = true) {mir : Nat} (hM : mirE s0 mir) (hE : jE0 s0 (B 10)) (hAl : ∀ q, A q → s0.heap.size ≤ q) (hB : ¬ A (B 10)) {x1 x2 x3 x4 : Int32} {qa w : Nat} (hqa : (qa, .inr (8, acM B x1 x2 x3 x4)) ∈ ad.2.2) (rn : Nat) (rg : Nat → Int32) (hrn : rn ≤ 60) (hw : rwW K w rn rg ∈ ad.2.2) (z0 : CZ) (res : Int32 × CZ) (hF : c_newRiver rn rg z0 = some res) : Met l yX4_lookAt (ws_ yX4_lookAt cX4_lookAt 2 (some .int)) rmX4_lookAt (cIPc D K s0 B A ad z0 [.ref qa, .ref w]) (cIQ D K B A (some (.int res.1)) res.2) 9 60 A := by
  refine cI_start RX4 (by decide) rfl (Nat.le_of_ble_eq_true rfl) ?_
  intro p e s m args below meth c H locs ls E hr hlocks hK hX hA hP hV hS hl
  have hl : lv_has ls 2 [(0, .ref qa), (1, .ref w)] := hl
  have hN := hX.1
  obtain ⟨i, hi⟩ := cW_dy (K := K) (B := B) (z := z0) hqa
  refine lv_aload_n E.1 E.2.1 dX4_lookAt_0 rfl (lv_at hl 0 rfl) ?_
  refine va_get E.1 E.2.1 E.2.2.2.2 in_X4 E.2.2.2.1 hK hP.1 (i + 7) hi (ci := 8) (C := RX4) (T := TX4) (N := 7) rfl 6 (by decide) (E.2.2.2.2 _ q771) (fun x h => h) (v := .ref (B 0)) rfl dX4_lookAt_1 ?_
  refine lv_aload_n E.1 E.2.1 dX4_lookAt_4 rfl (lv_at hl 1 rfl) ?_
  refine cI_go (va_runVN (C := RX0) (As := [.ref w]) (rest := []) E (mm_X0_newRiver l hT hM hE hAl hB rn rg hrn hw z0 res hF) ⟨va_cnB 1 E.2.2.2.2 (lw_meth q878) rfl rfl rfl (cN_M hT hN q875) (E.2.2.2.2 _ q54) (by decide +kernel) ⟨by decide, by decide⟩, E.2.2.2.2 _ q877, E.2.2.2.2 _ qs30⟩ (cI_pre hAl hA hX hK hP hV hS (ck_me hK hP)) rfl rfl hl.1 rfl (lv_room (Nat.le_of_ble_eq_true rfl)) dX4_lookAt_5 ⟨by decide, by decide⟩) hS (fun H locs ad1 hP hV hS => ?_)
  exact cI_iret E hr hlocks hP hV hS rfl dX4_lookAt_8
abbrev c_loadAt (x5 : Int32) (rn : Nat) (rg : Nat → Int32) (z : CZ) : Option (Int32 × CZ) := (c_loadsBarred rn rg z).bind (fun r => if r.1 < 0 then some r else c_loadsBy rn rg x5 r.2)
abbrev rmX8_lookAt : Room := { frames := 8, cells := 0, slots := 0, locals := 190 }
set_option maxHeartbeats 1000000 in
theorem mm_X8_lookAt (l : Launch) {D : va_G} {K : Nat → ClassId} {s0 : State} {a0 : Array Value} {B : Nat → Nat} {ad : CA} {A : Nat → Prop} (hT : ∀ w ∈ lw_tbl, w.before a0 s0 = true) {x1 x2 x3 x4 x5 : Int32} {qa w : Nat} (hqa : (qa, .inr (9, acL B x1 x2 x3 x4 x5)) ∈ ad.2.2) (rn : Nat) (rg : Nat → Int32) (hw : rwW K w rn rg ∈ ad.2.2) (z0 : CZ) (res : Int32 × CZ) (hF : c_loadAt x5 rn rg z0 = some res) : Met l yX8_lookAt (ws_ yX8_lookAt cX8_lookAt 3 (some .int)) rmX8_lookAt (cIPc D K s0 B A ad z0 [.ref qa, .ref w]) (cIQ D K B A (some (.int res.1)) res.2) 0 0 A := by
  refine cI_start RX8 (by decide) rfl (Nat.le_of_ble_eq_true rfl) ?_
  intro p e s m args below meth c H locs ls E hr hlocks hK hX hA hP hV hS hl
  have hl : lv_has ls 3 [(0, .ref qa), (1, .ref w)] := hl
  have hN := hX.1
  have hD : ∀ z, va_D A (cW K B ad z) := fun z => cW_D hV.1 z
  unfold c_loadAt at hF
  obtain ⟨r, hq, hF⟩ := bnd hF
  have this0 : ∀ {z : CZ} {H : Heap} {locs : List Loc} {rest : List Value} {pc : Nat} {ls : Array Slot}, cP D K B ad z H → decode cX8_lookAt pc = .ok (.getfield 1, 3) → W p l e rmX8_lookAt s m args below meth c H locs 0 0 (MQ below (cIQ D K B A (some (.int res.1)) res.2) args s 0 0 A) (F0 m (pc + 3) ls (.ref (B 0) :: rest)) → W p l e rmX8_lookAt s m args below meth c H locs 0 0 (MQ below (cIQ D K B A (some (.int res.1)) res.2) args s 0 0 A) (F0 m pc ls (.ref qa :: rest)) := by
    intro z H locs rest pc ls hP hdg kk
    obtain ⟨i, hi⟩ := cW_dy (K := K) (B := B) (z := z) hqa
    exact va_get E.1 E.2.1 E.2.2.2.2 in_X8 E.2.2.2.1 hK hP.1 (i + 7) hi (ci := 9) (C := RX8) (T := TX8) (N := 8) rfl 7 (by decide) (E.2.2.2.2 _ q939) (fun x h => h) (v := .ref (B 0)) rfl hdg kk
  refine lv_aload_n E.1 E.2.1 dX8_lookAt_0 rfl (lv_at hl 0 rfl) ?_
  refine this0 hP dX8_lookAt_1 ?_
  refine lv_aload_n E.1 E.2.1 dX8_lookAt_4 rfl (lv_at hl 1 rfl) ?_
  refine cx_go (va_runVN (C := RX0) (As := [.ref w]) (rest := []) E (mm_X0_loadsBarred l hT hD rn rg hw z0 r hq) ⟨va_cnB 1 E.2.2.2.2 (lw_meth q867) rfl rfl rfl (cN_M hT hN q864) (E.2.2.2.2 _ q54) (by decide +kernel) ⟨by decide, by decide⟩, E.2.2.2.2 _ q866, E.2.2.2.2 _ qs28⟩ (ck_pre hK hN hP (ck_me hK hP)) rfl rfl hl.1 rfl (lv_room (Nat.le_of_ble_eq_true rfl)) dX8_lookAt_5 ⟨Nat.zero_le _, Nat.zero_le _⟩) hS (fun H locs hP hS => ?_)
  refine lv_istore_n (lv' := [(2, .int r.1), (0, .ref qa), (1, .ref w)]) E.1 E.2.1 dX8_lookAt_8 rfl hl (by decide) rfl (fun ls hl => ?_)
  refine lv_iload_n E.1 E.2.1 dX8_lookAt_9 rfl (lv_at hl 0 rfl) ?_
  refine lv_if_ge (tgt := 17) E.1 E.2.1 dX8_lookAt_10 (by decide) (fun h => ?_) (fun h => ?_)
  · rw [if_neg (Int32.not_lt.mpr h)] at hF
    refine lv_aload_n E.1 E.2.1 dX8_lookAt_17 rfl (lv_at hl 1 rfl) ?_
    refine this0 hP dX8_lookAt_18 ?_
    refine lv_aload_n E.1 E.2.1 dX8_lookAt_21 rfl (lv_at hl 2 rfl) ?_
    refine lv_aload_n E.1 E.2.1 dX8_lookAt_22 rfl (lv_at hl 1 rfl) ?_
    obtain ⟨i, hi⟩ := cW_dy (K := K) (B := B) (z := r.2) hqa
    refine va_get E.1 E.2.1 E.2.2.2.2 in_X8 E.2.2.2.1 hK hP.1 (i + 7) hi (ci := 9) (C := RX8) (T := TX8) (N := 8) rfl 6 (by decide) (E.2.2.2.2 _ q938) (fun x h => h) (v := .int x5) rfl dX8_lookAt_23 ?_
    refine cx_go (va_runVN (C := RX0) (As := [.ref w, .int x5]) (rest := []) E (mm_X0_loadsBy l hT hD rn rg x5 hw r.2 res hF) ⟨va_cnB 2 E.2.2.2.2 (lw_meth q871) rfl rfl rfl (cN_M hT hN q868) (E.2.2.2.2 _ q54) (by decide +kernel) ⟨by decide, by decide⟩, E.2.2.2.2 _ q870, E.2.2.2.2 _ qs29⟩ (ck_pre hK hN hP (ck_me hK hP)) rfl rfl hl.1 rfl (lv_room (Nat.le_of_ble_eq_true rfl)) dX8_lookAt_26 ⟨Nat.zero_le _, Nat.zero_le _⟩) hS (fun H locs hP hS => ?_)
    exact cI_iret E hr hlocks hP ⟨hD _, cJ_sh hV.2 ((sp_c_loadsBy rn rg x5 r.2 ((sp_c_loadsBarred rn rg z0 rfl).1 r hq)).1 res hF)⟩ hS rfl dX8_lookAt_29
  · rw [if_pos (Int32.not_le.mp h)] at hF
    refine lv_iload_n E.1 E.2.1 dX8_lookAt_13 rfl (lv_at hl 0 rfl) ?_
    refine lv_goto (tgt := 29) E.1 E.2.1 dX8_lookAt_14 (by decide) ?_
    exact cI_iret E hr hlocks hP ⟨hD _, cJ_sh hV.2 ((sp_c_loadsBarred rn rg z0 rfl).1 r hq)⟩ hS hF dX8_lookAt_29
abbrev rmTried : Room := { frames := 16, cells := 12, slots := 1800, locals := 10600 }
/-- an act that looks, tried -/
theorem look_tried (l : Launch) {D : va_G} {K : Nat → ClassId} {s0 : State} {a0 : Array Value} {B : Nat → Nat} {ad : CA} {A : Nat → Prop} (G : cG l s0 a0) (hAl : ∀ q, A q → s0.heap.size ≤ q) {C : String} {ci N qa : Nat} {T : u_T} {fs : List Value} (lk : lkOk C ci N T) (ac : actOk C ci 5 N T) (hqa : (qa, .inr (ci, fs)) ∈ ad.2.2) {z : CZ} {x1 x2 x3 x4 : Int32} (h1 : isSh x1) (h2 : isSo x2) (hf : fs[0]? = some (.int x1) ∧ fs[1]? = some (.int x2) ∧ fs[2]? = some (.int x3) ∧ fs[3]? = some (.int x4) ∧ fs[4]? = some (.ref (B 0))) (hf5 : fs[5]? = some (.ref (B 0))) (hcp : cDy K B ad z) (F : Nat → (Nat → Int32) → CZ → Option (Int32 × CZ)) {res : Int32 × CZ} (hF : c_look F x1 x2 x3 x4 (cz_f z 8 0) = some res)
    {y : MethodName} {bytes : ByteArray} {maxL mc ms : Nat} {rm rmD : Room} (hM : ∀ (n : Nat) (rg : Nat → Int32) (ad' : CA) (w : Nat), n ≤ 60 → F n rg (cz_f z 8 0) = some res → (qa, .inr (ci, fs)) ∈ ad'.2.2 → rwW K w n rg ∈ ad'.2.2 → Met l y (ws_ y bytes maxL (some .int)) rm (cIPc D K s0 B A ad' (cz_f z 8 0) [.ref qa, .ref w]) (cIQ D K B A (some (.int res.1)) res.2) mc ms A)
    (h3 : Cond.selects C ⟨"DebtFerry$Looking", "lookAt", "([I)I"⟩ y ∈ lw_all) (h4 : Cond.instanceMethod y ∈ lw_all) (h5 : Cond.initialized y.cls ∈ lw_all) (h6 : Cond.code y bytes maxL (some .int) ∈ lw_all) (h7 : Cond.selects C yDone yX3_done ∈ lw_all) (hrm : rm.cells = mc ∧ rm.slots = ms ∧ rm.frames + 1 ≤ rmD.frames ∧ 8 + (maxL + 11) + rm.locals ≤ rmD.locals ∧ 2 + mc = rmD.cells ∧ 120 + ms = rmD.slots) (hr2 : 4 ≤ rmD.frames ∧ 100 ≤ rmD.locals) (hrD : rmD.frames ≤ 15 ∧ rmD.locals ≤ 10400 ∧ rmD.cells ≤ 12 ∧ rmD.slots ≤ 1800) :
    Met l yX2_tried (wsW_ yX2_tried cX2_tried 2 (some .int) hhX2) rmTried (cIPc D K s0 B A ad z [.ref qa]) (cIQ D K B A (some (.int res.1)) res.2) 12 1800 A := by
  have hT := G.1
  obtain ⟨k, hk, rfl⟩ := sh_nI h1
  obtain ⟨kd, hkd, rfl⟩ := so_nI h2
  have thr : ∀ {ws : va_W} {X : String} {hp : Nat} {f : Int32}, (∀ x ∈ ws, x ∈ ad.2.2) → MetT l yX0_cellsOf (ws_ yX0_cellsOf cX0_cellsOf 8 (some (.array .int))) rmXC (xPc D K s0 ws [rowV ad (cz_f z 8 0) k, .int (nI kd), .int x3, .int x4]) X 4 1680 → (∀ (s : State) (args : Array Value) (cX : ClassId), (∀ w ∈ lw_all, w.before args s = true) → s0.WarmedH s.vm → s.vm.findClass X = some cX → hsearch s args RX2 9 cX hhX2 hp) → (∀ s : State, s0.WarmedH s.vm → ∃ (cX : ClassId) (k : Class), s.vm.findClass X = some cX ∧ s.vm.classes[cX]? = some k) → ((hp = 13 ∧ f = 1) ∨ (hp = 23 ∧ f = 2) ∨ (hp = 33 ∧ f = 4) ∨ (hp = 43 ∧ f = 3)) → some (-10 - f, cz_f (cz_f z 8 0) 8 f) = some res → Met l yX2_tried (wsW_ yX2_tried cX2_tried 2 (some .int) hhX2) rmTried (cIPc D K s0 B A ad z [.ref qa]) (cIQ D K B A (some (.int res.1)) res.2) 12 1800 A := by
    intro ws X hp f hws hM' hs hcls hpf hF
    have hF := Option.some.inj hF
    subst hF
    exact tried_thr l hT hAl ac hqa hf5 (done_thr l hT lk hqa (z := cz_f z 8 0) hk hf hws hM') hs hcls hpf h7 q833 q60 q834 ⟨rfl, rfl, by decide, by decide, by decide, by decide⟩ ⟨by decide, by decide⟩ ⟨by decide, by decide⟩
  unfold c_look at hF
  rw [nI_clamp (show k < 2 ^ 31 by omega)] at hF
  have hsh : cz_sh (cz_f z 8 0) k = cz_sh z k := rfl
  cases hz : cz_sh z k with
  | none =>
    rw [hsh, hz] at hF
    have e1 : rowV ad (cz_f z 8 0) k = .null := by show va_rf ((cz_sh z k).map _) = _; rw [hz]; rfl
    exact thr (ws := []) (fun x hx => by cases hx) (by rw [e1]; exact cx_cellsOf_null l G D K hkd x3 x4) (fun s args cX hts hN h => tr_npe G hts hN h) (fun s hN => hs_cls (cN_C hT hN q698)) (Or.inl ⟨rfl, rfl⟩) hF
  | some q =>
    rw [hsh, hz] at hF
    dsimp only at hF
    have e1 : rowV ad (cz_f z 8 0) k = .ref (ad.2.1 (400 + k)) := by show va_rf ((cz_sh z k).map _) = _; rw [hz]; rfl
    have hd := hcp.2.2.2.2.2 k hk q hz
    have hws : ∀ x ∈ [(ad.2.1 (400 + k), rwE K q.1 q.2.1 q.2.2)], x ∈ ad.2.2 := fun x hx => by
      rw [List.mem_singleton] at hx
      rw [hx]; exact hd.2.2.2
    by_cases hkk : q.1 = kd
    · subst hkk
      rw [if_pos rfl] at hF
      by_cases hn : x4 < 0
      · rw [if_pos hn] at hF
        exact thr hws (by rw [e1]; exact cx_cellsOf_neg l G D K (ad.2.1 (400 + k)) hkd q.2.1 q.2.2 x3 x4 hn) (fun s args cX hts hN h => tr_nas G hts hN h) (fun s hN => hs_cls (cN_C hT hN q619)) (Or.inr (Or.inr (Or.inl ⟨rfl, rfl⟩))) hF
      · rw [if_neg hn] at hF
        by_cases hb : x4 < 61 ∧ 0 ≤ x3 ∧ x3 ≤ nI q.2.1 - x4
        · rw [if_pos hb] at hF
          obtain ⟨n, hn', rfl⟩ := nI_of hn
          obtain ⟨i, hi', rfl⟩ := nI_of (Int32.not_lt.mpr hb.2.1)
          have h61 : n < 61 := (nI_ltI (b := 61) hn' (by decide)).mp hb.1
          have hin : i + n ≤ q.2.1 := by
            have h3 := hb.2.2
            by_cases hnl : n ≤ q.2.1
            · rw [pk_sub hnl] at h3
              have := (nI_leI hi' (by have := hd.2.1; omega)).mp h3
              omega
            · have h4 := pk_sneg (a := q.2.1) (b := n) (by omega) (by omega)
              exact absurd (Int32.lt_of_le_of_lt h3 h4) (nI_pos hi')
          rw [nI_clamp hn', nI_clamp hi'] at hF
          exact tried_ret l hT hAl ac hqa hf5 (done_ret l (kd := q.1) G hAl lk hqa (z := cz_f z 8 0) hk hz hin hf (fun ad' w m1 m2 => hM n _ ad' w (by omega) hF m1 m2) h3 h4 h5 h6 ⟨hrm.1, hrm.2.1, hrm.2.2.1, hrm.2.2.2.1, Nat.le_of_eq hrm.2.2.2.2.1, Nat.le_of_eq hrm.2.2.2.2.2⟩ hr2) h7 q833 q60 q834 ⟨hrm.2.2.2.2.1.symm, hrm.2.2.2.2.2.symm, by show rmD.frames + 1 ≤ 16; omega, by show 8 + (1 + 11) + rmD.locals ≤ 10600; omega, by rw [hrm.2.2.2.2.1]; exact hrD.2.2.1, by rw [hrm.2.2.2.2.2]; exact hrD.2.2.2⟩ ⟨by rw [hrm.2.2.2.2.1]; exact hrD.2.2.1, by rw [hrm.2.2.2.2.2]; exact hrD.2.2.2⟩
        · rw [if_neg hb] at hF
          exact thr hws (by rw [e1]; exact cx_cellsOf_out l G D K (ad.2.1 (400 + k)) hkd q.2.1 q.2.2 x3 x4 hn hb) (fun s args cX hts hN h => tr_ioo G hts hN h) (fun s hN => hs_cls (cN_C hT hN q847)) (Or.inr (Or.inr (Or.inr ⟨rfl, rfl⟩))) hF
    · rw [if_neg (fun h => hkk ((nI_eq (by have := hd.1; omega) (by omega)).mp h))] at hF
      exact thr hws (by rw [e1]; exact cx_cellsOf_cast l G D K (ad.2.1 (400 + k)) hd.1 hkd hkk q.2.1 q.2.2 x3 x4) (fun s args cX hts hN h => tr_cce G hts hN h) (fun s hN => hs_cls (cN_C hT hN q742)) (Or.inr (Or.inl ⟨rfl, rfl⟩)) hF
