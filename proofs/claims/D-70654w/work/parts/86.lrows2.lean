/-! rows: a list of one's own, clear, addAll, in the component's world -/
/-- what the component's own words never speak of: a list of one's own and its array -/
abbrev frg (K : Nat → ClassId) (x : Nat × va_E) : Prop := (∃ vs, x.2 = .inr (2, vs)) ∨ ∃ f, x.2 = .inl (K 3, rqs 5 f)
theorem cDy_keep {K : Nat → ClassId} {B : Nat → Nat} {ad : CA} {z : CZ} {dy : va_W} (h : cDy K B ad z) (hs : ∀ x ∈ ad.2.2, ¬ frg K x → x ∈ dy) : cDy K B (ad.1, ad.2.1, dy) z := by
  obtain ⟨h0, h1, h2, h3, h4, h5⟩ := h
  have el : ∀ {j n o : Nat}, cEl K B ad j n o → cEl K B (ad.1, ad.2.1, dy) j n o := by
    intro j n o h
    rcases h with ⟨fe, g1, g2⟩ | g
    · refine Or.inl ⟨fe, hs _ g1 (fun q => ?_), g2⟩
      rcases q with ⟨vs, q⟩ | ⟨f, q⟩
      · cases q
      · simp only [Sum.inl.injEq, Prod.mk.injEq] at q
        exact absurd q.2.1 (by decide)
    · exact Or.inr g
  refine ⟨h0, el h1, el h2, fun i hi => ⟨(h3 i hi).1, hs _ (h3 i hi).2 (fun q => ?_)⟩, fun i hi => hs _ (h4 i hi) (fun q => ?_), fun k hk q hq => ⟨(h5 k hk q hq).1, (h5 k hk q hq).2.1, hs _ (h5 k hk q hq).2.2.1 (fun q => ?_), hs _ (h5 k hk q hq).2.2.2 (fun q => ?_)⟩⟩
  · rcases q with ⟨vs, q⟩ | ⟨f, q⟩
    · simp only [Sum.inr.injEq, Prod.mk.injEq] at q
      have := q.1
      omega
    · cases q
  · rcases q with ⟨vs, q⟩ | ⟨f, q⟩
    · simp only [Sum.inr.injEq, Prod.mk.injEq] at q
      exact absurd q.1 (by decide)
    · cases q
  · rcases q with ⟨vs, q⟩ | ⟨f, q⟩
    · simp only [Sum.inr.injEq, Prod.mk.injEq] at q
      exact absurd q.1 (by decide)
    · cases q
  · rcases q with ⟨vs, q⟩ | ⟨f, q⟩
    · cases q
    · simp only [Sum.inl.injEq, Prod.mk.injEq] at q
      cases q.2.2
theorem set_fst {ws : va_W} {i a : Nat} {x y : va_E} (h : ws[i]? = some (a, x)) : (ws.set i (a, y)).map (·.1) = ws.map (·.1) := by
  rw [List.map_set]
  exact set_same (by rw [List.getElem?_map, h]; rfl)
/-- a list of one's own and its array, changed -/
theorem lift_X {D : va_G} {K : Nat → ClassId} {B : Nat → Nat} {A : Nat → Prop} {ad : CA} {z : CZ} {H H1 : Heap} {h e : Nat} {vs vs' : List Value} {f f' : Nat → Option Nat} (hP : cP D K B ad z H) (hV : cV K B A ad z) (hm1 : (h, .inr (2, vs)) ∈ ad.2.2) (hm2 : (e, .inl (K 3, rqs 5 f)) ∈ ad.2.2) (hP1 : va_P D vCl [(h, .inr (2, vs')), (e, .inl (K 3, rqs 5 f'))] H1) (hk : ∀ q, q < H.size → ¬ jF h e q → H1[q]? = H[q]?) : ∃ ad1 : CA, ad1.1 = ad.1 ∧ ad1.2.1 = ad.2.1 ∧ (∀ x ∈ ad.2.2, ¬ frg K x → x ∈ ad1.2.2) ∧ (h, .inr (2, vs')) ∈ ad1.2.2 ∧ (e, .inl (K 3, rqs 5 f')) ∈ ad1.2.2 ∧ cP D K B ad1 z H1 ∧ cV K B A ad1 z := by
  obtain ⟨i, hi⟩ := List.getElem?_of_mem hm1
  obtain ⟨j, hj⟩ := List.getElem?_of_mem hm2
  have hij : i ≠ j := fun q => by rw [q, hj] at hi; cases hi
  have hiW : (cW K B ad z)[i + 7]? = some (h, .inr (2, vs)) := hi
  have hjW : (cW K B ad z)[j + 7]? = some (e, .inl (K 3, rqs 5 f)) := hj
  have hkeep : ∀ x ∈ ad.2.2, ¬ frg K x → x ∈ (ad.2.2.set i (h, .inr (2, vs'))).set j (e, .inl (K 3, rqs 5 f')) := by
    intro x hx hn
    have hj' : (ad.2.2.set i (h, .inr (2, vs')))[j]? = some (e, .inl (K 3, rqs 5 f)) := by rw [List.getElem?_set, if_neg hij]; exact hj
    refine mem_set hj' (mem_set hi hx (fun q => hn ?_)) (fun q => hn ?_)
    · rw [q]; exact Or.inl ⟨vs, rfl⟩
    · rw [q]; exact Or.inr ⟨f, rfl⟩
  have hj' : (ad.2.2.set i (h, .inr (2, vs')))[j]? = some (e, .inl (K 3, rqs 5 f)) := by rw [List.getElem?_set, if_neg hij]; exact hj
  have hjW' : ((cW K B ad z).set (i + 7) (h, .inr (2, vs')))[j + 7]? = some (e, .inl (K 3, rqs 5 f)) := by rw [List.getElem?_set, if_neg (by omega)]; exact hjW
  refine ⟨(ad.1, ad.2.1, (ad.2.2.set i (h, .inr (2, vs'))).set j (e, .inl (K 3, rqs 5 f'))), rfl, rfl, hkeep, ?_, mem_set_self hj', ⟨?_, cDy_keep hP.2 hkeep⟩, ?_, hV.2⟩
  · have h1 : (h, (Sum.inr (2, vs') : va_E)) ∈ ad.2.2.set i (h, .inr (2, vs')) := mem_set_self hi
    exact mem_set hj' h1 (fun q => by cases q)
  · exact vP_set2 (i := i + 7) (j := j + 7) hP.1 hV.1 hiW hjW (by omega) (hP1 0 _ rfl) (hP1 1 _ rfl) hk
  · refine vaD_fst (ws := cW K B ad z) ?_ hV.1
    show _ = (((cW K B ad z).set (i + 7) (h, .inr (2, vs'))).set (j + 7) (e, .inl (K 3, rqs 5 f'))).map (·.1)
    rw [set_fst hjW', set_fst hiW]
set_option maxHeartbeats 1000000 in
/-- the people's list gets its array -/
theorem lift_Pg {D : va_G} {K : Nat → ClassId} {B : Nat → Nat} {A : Nat → Prop} {ad : CA} {z : CZ} {H H1 : Heap} {e1 n : Nat} {fe' : Nat → Option Nat} {mc : Int32} {kd : Nat → Nat} {lm : Nat → Int32} {a2 : Nat → Nat} (hP : cP D K B ad z H) (hV : cV K B A ad z) (ha2 : ∀ x, x ≠ 4 → (x < 100 ∨ 200 ≤ x) → a2 x = ad.2.1 x) (h4 : a2 4 = e1) (hn : n ≤ 10) (hfe : ∀ x, x < n → fe' x = some (a2 (100 + x))) (hrd : ∀ x, x < n → kd x ≤ 2 ∧ (a2 (100 + x), cRi B (kd x) x (lm x)) ∈ ad.2.2)
    (hP1 : va_P D vCl (jW K (B 4) mc e1 (nI n) 10 fe') H1) (hk : ∀ q, q < H.size → q ≠ B 4 → H1[q]? = H[q]?) (he1 : H.size ≤ e1) (hAe : A e1) : cP D K B (upd ad.1 4 mc, a2, ad.2.2 ++ [(e1, .inl (K 3, rqs 10 fe'))]) (cz_P z n kd lm) H1 ∧ cV K B A (upd ad.1 4 mc, a2, ad.2.2 ++ [(e1, .inl (K 3, rqs 10 fe'))]) (cz_P z n kd lm) := by
  have h7 : a2 7 = ad.2.1 7 := ha2 7 (by omega) (by omega)
  have h300 : ∀ k, a2 (300 + k) = ad.2.1 (300 + k) := fun k => ha2 _ (by omega) (by omega)
  have hw : cW K B (upd ad.1 4 mc, a2, ad.2.2 ++ [(e1, .inl (K 3, rqs 10 fe'))]) (cz_P z n kd lm) = (cW K B ad z).set 5 (B 4, .inr (2, [.int mc, .ref e1, .int (nI n)])) ++ [(e1, .inl (K 3, rqs 10 fe'))] := by
    have hsh : (fun k => (cz_sh (cz_P z n kd lm) k).map (fun _ => a2 (300 + k))) = (fun k => (cz_sh z k).map (fun _ => ad.2.1 (300 + k))) := funext fun k => by rw [h300]; rfl
    have hl4 : cLs B (upd ad.1 4 mc, a2, ad.2.2 ++ [(e1, .inl (K 3, rqs 10 fe'))]) 4 n = (B 4, .inr (2, [.int mc, .ref e1, .int (nI n)])) := by
      show (B 4, (Sum.inr (2, [.int mc, .ref (a2 4), .int (nI n)]) : va_E)) = _
      rw [h4]
    have hl7 : cLs B (upd ad.1 4 mc, a2, ad.2.2 ++ [(e1, .inl (K 3, rqs 10 fe'))]) 7 (cz_nr z) = cLs B ad 7 (cz_nr z) := by
      show (B 7, (Sum.inr (2, [.int (ad.1 7), .ref (a2 7), .int (nI (cz_nr z))]) : va_E)) = _
      rw [h7]
    show (B 0, .inr (0, cF B z)) :: (B 3, .inl (K 0, 25, .inl (z.2.1 3))) :: (B 5, .inl (K 0, 32, .inl (z.2.1 5))) :: (B 6, .inl (K 0, 25, .inl (z.2.1 6))) :: (B 9, .inl (K 4, rqs 4 (fun k => (cz_sh (cz_P z n kd lm) k).map (fun _ => a2 (300 + k))))) :: cLs B (upd ad.1 4 mc, a2, ad.2.2 ++ [(e1, .inl (K 3, rqs 10 fe'))]) 4 n :: cLs B (upd ad.1 4 mc, a2, ad.2.2 ++ [(e1, .inl (K 3, rqs 10 fe'))]) 7 (cz_nr z) :: (ad.2.2 ++ [(e1, .inl (K 3, rqs 10 fe'))]) = _
    rw [hsh, hl4, hl7]
    rfl
  have hset := vP_setpush (i := 5) hP.1 hV.1 rfl (hP1 0 _ rfl) (hP1 1 _ rfl) hk he1 hAe
  obtain ⟨⟨g1, g2⟩, g3, g4, g5, g6, g7⟩ := hP.2
  refine ⟨⟨by rw [hw]; exact hset.1, ⟨hn, g2⟩, Or.inl ⟨fe', ?_, hfe⟩, ?_, fun x hx => ⟨(hrd x hx).1, List.mem_append_left _ (hrd x hx).2⟩, fun x hx => ?_, fun k hk q hq => ?_⟩, by rw [hw]; exact hset.2, ?_, ?_⟩
  · show (a2 4, _) ∈ _
    rw [h4]
    exact List.mem_append_right _ List.mem_cons_self
  · rcases g4 with ⟨f7, c1, c2⟩ | ⟨c1, c2⟩
    · refine Or.inl ⟨f7, ?_, fun x hx => ?_⟩
      · show (a2 7, _) ∈ ad.2.2 ++ _
        rw [h7]
        exact List.mem_append_left _ c1
      · show f7 x = some (a2 (200 + x))
        rw [ha2 _ (by omega) (by omega)]; exact c2 x hx
    · exact Or.inr ⟨c1, by show a2 7 = B 10; rw [h7]; exact c2⟩
  · show (a2 (200 + x), _) ∈ ad.2.2 ++ _
    rw [ha2 _ (by omega) (by omega)]
    exact List.mem_append_left _ (g6 x hx)
  · obtain ⟨c1, c2, c3, c4⟩ := g7 k hk q hq
    refine ⟨c1, c2, ?_, ?_⟩
    · show (a2 (300 + k), Sum.inr (7, [.ref (a2 (400 + k))])) ∈ ad.2.2 ++ _
      rw [h300, ha2 (400 + k) (by omega) (by omega)]
      exact List.mem_append_left _ c3
    · show (a2 (400 + k), _) ∈ ad.2.2 ++ _
      rw [ha2 (400 + k) (by omega) (by omega)]
      exact List.mem_append_left _ c4
  · show a2 4 = a2 7 → a2 4 = B 10
    rw [h4, h7]
    intro h
    rcases g4 with ⟨f7, c1, -⟩ | ⟨-, c2⟩
    · exfalso
      obtain ⟨i, hi⟩ := cW_dy (K := K) (B := B) (z := z) c1
      have := (hP.1 _ _ hi).lt
      have : ad.2.1 7 < H.size := this
      omega
    · rw [h]; exact c2
  · intro k k' b1 b2 b3 b4 b5
    show a2 (400 + k) ≠ a2 (400 + k')
    rw [ha2 _ (by omega) (by omega), ha2 _ (by omega) (by omega)]
    exact hV.2.2 k k' b1 b2 b3 b4 b5
/-- a list's own cell alone is changed -/
theorem lift_L {D : va_G} {K : Nat → ClassId} {B : Nat → Nat} {A : Nat → Prop} {ad : CA} {z z' : CZ} {H H1 : Heap} {j q0 : Nat} {x x' : va_E} {a1 : Nat → Int32} (hP : cP D K B ad z H) (hV : cV K B A ad z) (hq : (cW K B ad z)[q0]? = some (B j, x)) (hw : cW K B (a1, ad.2) z' = (cW K B ad z).set q0 (B j, x')) (hDy : cDy K B (a1, ad.2) z') (hJ : cJ B (a1, ad.2) z') (hP1 : va_P D vCl [(B j, x')] H1) (hk : ∀ q, q < H.size → q ≠ B j → H1[q]? = H[q]?) : cP D K B (a1, ad.2) z' H1 ∧ cV K B A (a1, ad.2) z' := by
  refine ⟨⟨?_, hDy⟩, ?_, hJ⟩
  · rw [hw]
    intro k y hy
    rw [List.getElem?_set] at hy
    split at hy
    · split at hy
      · cases hy; exact hP1 0 _ rfl
      · cases hy
    · rename_i hne
      have h0 := hP.1 k y hy
      exact h0.kept (hk y.1 h0.lt (fun h => hne (hV.1.1 q0 k _ _ hq hy h.symm)))
  · rw [hw]
    exact vaD_fst (ws := cW K B ad z) (set_fst hq).symm hV.1
section CLR
variable {p : Program} {l : Launch} {e : Env} {R : Room} {s : State} {m : MethodId} {args : Array Value} {below : List Frame} {meth : Method} {c : Code} {H : Heap} {locs : List Loc} {cells slots : Nat} {Q : State → Prop} {cc : ByteArray} {nL pc : Nat} {rest : List Value} {ls : Array Slot} {D : va_G} {K : Nat → ClassId} {s0 : State} {a0 : Array Value} {B : Nat → Nat} {ad : CA} {A : Nat → Prop} {z : CZ} {lv : List (Nat × Value)} {own : String}
abbrev not10 (K : Nat → ClassId) (x : Nat × va_E) : Prop := ∀ f, x.2 ≠ .inl (K 3, rqs 10 f)
theorem ck_clearP (E : CallFix p m c cc nL s args lw_all own) (hT : ∀ w ∈ lw_tbl, w.before a0 s0 = true) (hN : s0.WarmedH s.vm) (hK : va_K D vCl (cT K) s) (hP : cP D K B ad z H) (hV : cV K B A ad z) (hB : ¬ A (B 10)) (hS : va_S A s.heap H locs) {idx : Nat} (hlk : Cond.methodLink own idx ⟨"java/util/List", "clear", "()V"⟩ ∈ lw_all) (hl : lv_has ls nL lv) (hW : (rest.map fun v => v.category).sum ≤ 8) (hR : 2 ≤ R.frames ∧ 43 ≤ R.locals) (hf : cells ≤ R.cells ∧ slots ≤ R.slots) (hdg : decode cc pc = .ok (.invokeinterface idx 1, 5))
    (kk : ∀ (ad1 : CA) (H : Heap) (locs : List Loc), (∀ x ∈ ad.2.2, not10 K x → x ∈ ad1.2.2) → cP D K B ad1 (cz_P z 0 (cz_k z) (cz_l z)) H → cV K B A ad1 (cz_P z 0 (cz_k z) (cz_l z)) → va_S A s.heap H locs → W p l e R s m args below meth c H locs cells slots Q (F0 m (pc + 5) ls rest)) : W p l e R s m args below meth c H locs cells slots Q (F0 m pc ls (.ref (B 4) :: rest)) := by
  have hn := hP.2.1.1
  have hq : (cW K B ad z)[5]? = some (cLs B ad 4 (cz_np z)) := rfl
  rcases hP.2.2.1 with ⟨fe, hfe, hfi⟩ | ⟨hn0, h10⟩
  · obtain ⟨j, hj⟩ := List.getElem?_of_mem hfe
    have hP1 := ls_P hP hq hj
    refine j_go5 (va_runF (As := []) (rest := rest) (hK.1 2 (RJ2, TJ2, 3) rfl).2 E (jm_clear l D K (B 4) (ad.1 4) (ad.2.1 4) (cz_np z) 10 fe (ls_ne hV hq (by decide) hj) hn (by decide)) (va_cwF 0 E.2.2.2.2 (lw_F hlk q897 q899 q57 q901) rfl rfl rfl (cN_I (by decide) hT hN q896 q895 q900 q898 q171) (by decide +kernel) ⟨hR.1, hR.2⟩) (j_pre hK hP1 (va_recv hK hP1 (ci := 2) (q0 := 0) (q := (RJ2, TJ2, 3)) rfl rfl)) rfl rfl hl.1 rfl (lv_room hW) hdg hf) hS (ls_F hV hq hj) (fun H1 locs hP2 hkp hS => ?_)
    obtain ⟨r1, r2⟩ := lift_P (a2 := ad.2.1) (n := 0) (kd := cz_k z) (lm := cz_l z) hP hV hB hj (fun _ _ => rfl) (by decide) (fun x hx => absurd hx (by omega)) (fun x hx => absurd hx (by omega)) hP2 hkp
    exact kk _ H1 locs (fun x hx h10 => mem_set hj hx (fun q => h10 fe (by rw [q]))) r1 r2 hS
  · have hP1 : va_P D vCl [jL (B 4) (ad.1 4) (B 10) 0] H := vP_of hP.1 (fun x hx => by
      rw [List.mem_singleton] at hx
      rw [hx]
      have h2 := List.mem_of_getElem? hq
      rw [hn0] at h2
      show (B 4, (Sum.inr (2, [.int (ad.1 4), .ref (B 10), .int 0]) : va_E)) ∈ _
      rw [← h10]
      exact h2)
    refine j_go5 (va_runF (As := []) (rest := rest) (hK.1 2 (RJ2, TJ2, 3) rfl).2 E (jm_clearE l D K (B 4) (ad.1 4) (B 10)) (va_cwF 0 E.2.2.2.2 (lw_F hlk q897 q899 q57 q901) rfl rfl rfl (cN_I (by decide) hT hN q896 q895 q900 q898 q171) (by decide +kernel) ⟨hR.1, hR.2⟩) (j_pre hK hP1 (va_recv hK hP1 (ci := 2) (q0 := 0) (q := (RJ2, TJ2, 3)) rfl rfl)) rfl rfl hl.1 rfl (lv_room hW) hdg hf) hS (fun q h => by rw [h]; exact hV.1.2 _ _ hq) (fun H1 locs hP2 hkp hS => ?_)
    obtain ⟨g0, g1, g2, g3, g4, g5⟩ := hP.2
    obtain ⟨r1, r2⟩ := lift_L (z' := cz_P z 0 (cz_k z) (cz_l z)) (a1 := upd ad.1 4 (ad.1 4 + 1)) (x' := .inr (2, [.int (ad.1 4 + 1), .ref (B 10), .int 0])) hP hV hq (by
      have e4 : cLs B (upd ad.1 4 (ad.1 4 + 1), ad.2) 4 0 = (B 4, .inr (2, [.int (ad.1 4 + 1), .ref (B 10), .int 0])) := by
        show (B 4, (Sum.inr (2, [.int (ad.1 4 + 1), .ref (ad.2.1 4), .int (nI 0)]) : va_E)) = _
        rw [h10]; rfl
      show _ :: _ :: _ :: _ :: _ :: cLs B (upd ad.1 4 (ad.1 4 + 1), ad.2) 4 0 :: _ :: _ = _
      rw [e4]
      rfl) ⟨⟨Nat.zero_le _, g0.2⟩, Or.inr ⟨rfl, h10⟩, g2, fun i hi => absurd hi (by show ¬ i < 0; omega), g4, g5⟩ hV.2 hP2 hkp
    exact kk (upd ad.1 4 (ad.1 4 + 1), ad.2) H1 locs (fun x hx _ => hx) r1 r2 hS
theorem ck_clearR (E : CallFix p m c cc nL s args lw_all own) (hT : ∀ w ∈ lw_tbl, w.before a0 s0 = true) (hN : s0.WarmedH s.vm) (hK : va_K D vCl (cT K) s) (hP : cP D K B ad z H) (hV : cV K B A ad z) (hB : ¬ A (B 10)) (hS : va_S A s.heap H locs) {idx : Nat} (hlk : Cond.methodLink own idx ⟨"java/util/List", "clear", "()V"⟩ ∈ lw_all) (hl : lv_has ls nL lv) (hW : (rest.map fun v => v.category).sum ≤ 8) (hR : 2 ≤ R.frames ∧ 43 ≤ R.locals) (hf : cells ≤ R.cells ∧ slots ≤ R.slots) (hdg : decode cc pc = .ok (.invokeinterface idx 1, 5))
    (kk : ∀ (ad1 : CA) (H : Heap) (locs : List Loc), cP D K B ad1 (cz_R z 0 (cz_rl z) (cz_rp z)) H → cV K B A ad1 (cz_R z 0 (cz_rl z) (cz_rp z)) → va_S A s.heap H locs → W p l e R s m args below meth c H locs cells slots Q (F0 m (pc + 5) ls rest)) : W p l e R s m args below meth c H locs cells slots Q (F0 m pc ls (.ref (B 7) :: rest)) := by
  have hn := hP.2.1.2
  have hq : (cW K B ad z)[6]? = some (cLs B ad 7 (cz_nr z)) := rfl
  rcases hP.2.2.2.1 with ⟨fe, hfe, hfi⟩ | ⟨hn0, h10⟩
  · obtain ⟨j, hj⟩ := List.getElem?_of_mem hfe
    have hP1 := ls_P hP hq hj
    refine j_go5 (va_runF (As := []) (rest := rest) (hK.1 2 (RJ2, TJ2, 3) rfl).2 E (jm_clear l D K (B 7) (ad.1 7) (ad.2.1 7) (cz_nr z) 10 fe (ls_ne hV hq (by decide) hj) hn (by decide)) (va_cwF 0 E.2.2.2.2 (lw_F hlk q897 q899 q57 q901) rfl rfl rfl (cN_I (by decide) hT hN q896 q895 q900 q898 q171) (by decide +kernel) ⟨hR.1, hR.2⟩) (j_pre hK hP1 (va_recv hK hP1 (ci := 2) (q0 := 0) (q := (RJ2, TJ2, 3)) rfl rfl)) rfl rfl hl.1 rfl (lv_room hW) hdg hf) hS (ls_F hV hq hj) (fun H1 locs hP2 hkp hS => ?_)
    obtain ⟨r1, r2⟩ := lift_R (a2 := ad.2.1) (n := 0) (rl := cz_rl z) (rp := cz_rp z) hP hV hB hj (fun _ _ => rfl) (by decide) (fun x hx => absurd hx (by omega)) (fun x hx => absurd hx (by omega)) hP2 hkp
    exact kk _ H1 locs r1 r2 hS
  · have hP1 : va_P D vCl [jL (B 7) (ad.1 7) (B 10) 0] H := vP_of hP.1 (fun x hx => by
      rw [List.mem_singleton] at hx
      rw [hx]
      have h2 := List.mem_of_getElem? hq
      rw [hn0] at h2
      show (B 7, (Sum.inr (2, [.int (ad.1 7), .ref (B 10), .int 0]) : va_E)) ∈ _
      rw [← h10]
      exact h2)
    refine j_go5 (va_runF (As := []) (rest := rest) (hK.1 2 (RJ2, TJ2, 3) rfl).2 E (jm_clearE l D K (B 7) (ad.1 7) (B 10)) (va_cwF 0 E.2.2.2.2 (lw_F hlk q897 q899 q57 q901) rfl rfl rfl (cN_I (by decide) hT hN q896 q895 q900 q898 q171) (by decide +kernel) ⟨hR.1, hR.2⟩) (j_pre hK hP1 (va_recv hK hP1 (ci := 2) (q0 := 0) (q := (RJ2, TJ2, 3)) rfl rfl)) rfl rfl hl.1 rfl (lv_room hW) hdg hf) hS (fun q h => by rw [h]; exact hV.1.2 _ _ hq) (fun H1 locs hP2 hkp hS => ?_)
    obtain ⟨g0, g1, g2, g3, g4, g5⟩ := hP.2
    obtain ⟨r1, r2⟩ := lift_L (z' := cz_R z 0 (cz_rl z) (cz_rp z)) (a1 := upd ad.1 7 (ad.1 7 + 1)) (x' := .inr (2, [.int (ad.1 7 + 1), .ref (B 10), .int 0])) hP hV hq (by
      have e4 : cLs B (upd ad.1 7 (ad.1 7 + 1), ad.2) 7 0 = (B 7, .inr (2, [.int (ad.1 7 + 1), .ref (B 10), .int 0])) := by
        show (B 7, (Sum.inr (2, [.int (ad.1 7 + 1), .ref (ad.2.1 7), .int (nI 0)]) : va_E)) = _
        rw [h10]; rfl
      show _ :: _ :: _ :: _ :: _ :: _ :: cLs B (upd ad.1 7 (ad.1 7 + 1), ad.2) 7 0 :: _ = _
      rw [e4]
      rfl) ⟨⟨g0.1, Nat.zero_le _⟩, g1, Or.inr ⟨rfl, h10⟩, g3, fun i hi => absurd hi (by show ¬ i < 0; omega), g5⟩ hV.2 hP2 hkp
    exact kk _ H1 locs r1 r2 hS
end CLR
