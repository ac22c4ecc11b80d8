/-! sheets: the world when one changes; handlers' search; rows for refused, fails -/
theorem sh_W {K : Nat → ClassId} {B : Nat → Nat} {ad ad' : CA} {z : CZ} {k : Nat} {o : Option (Nat × Nat × (Nat → Int32))} {f : Nat → Option Nat} (h1 : ad'.1 = ad.1) (h4 : ad'.2.1 4 = ad.2.1 4) (h7 : ad'.2.1 7 = ad.2.1 7) (hf : ∀ x, (cz_sh (cz_S z k o) x).map (fun _ => ad'.2.1 (300 + x)) = f x) : cW K B ad' (cz_S z k o) = (cW K B (ad.1, ad.2.1, ad'.2.2) z).set 4 (B 9, .inl (K 4, rqs 4 f)) := by
  have hf' : (fun x => (cz_sh (cz_S z k o) x).map (fun _ => ad'.2.1 (300 + x))) = f := funext hf
  unfold cW cLs
  rw [hf', h1, h4, h7]
  rfl
/-- arrays are told by their cells alone -/
theorem arrV_ext {c : ClassId} {n : Nat} {f g : Nat → Value} (h : ∀ i, i < n → f i = g i) : arrV c n f = arrV c n g := by
  unfold arrV
  congr 1
  apply Array.ext_getElem?
  intro i
  by_cases hi : i < n
  · rw [Array.getElem?_ofFn, Array.getElem?_ofFn]
    simp [hi, h i hi]
  · rw [Array.getElem?_ofFn, Array.getElem?_ofFn]
    simp [hi]
theorem at_ext {D : va_G} {cl : List vw_C} {H : Heap} {a n : Nat} {c : ClassId} {f g : Nat → Option Nat} (h : ∀ i, i < n → f i = g i) (hP : va_at D cl (a, .inl (c, rqs n f)) H) : va_at D cl (a, .inl (c, rqs n g)) H := by
  have e : vp_cell c (rqs n f) = vp_cell c (rqs n g) := by
    rw [vp_cell_q, vp_cell_q]
    exact arrV_ext (fun i hi => by rw [h i hi])
  have hP : H[a]? = some (vp_cell c (rqs n f)) := hP
  rw [e] at hP
  exact hP
theorem at_extI {D : va_G} {cl : List vw_C} {H : Heap} {a n : Nat} {c : ClassId} {f g : Nat → Int32} (h : ∀ i, i < n → f i = g i) (hP : va_at D cl (a, .inl (c, n, .inl f)) H) : va_at D cl (a, .inl (c, n, .inl g)) H := by
  have e : vp_cell c (n, .inl f) = vp_cell c (n, .inl g) := by
    rw [vp_cell_i, vp_cell_i]
    exact arrV_ext (fun i hi => by rw [h i hi])
  have hP : H[a]? = some (vp_cell c (n, .inl f)) := hP
  rw [e] at hP
  exact hP
theorem P_ext {D : va_G} {cl : List vw_C} {H : Heap} {ws : va_W} {i a n : Nat} {c : ClassId} {f g : Nat → Option Nat} (hl : i < ws.length) (h : ∀ i, i < n → f i = g i) (hP : va_P D cl (ws.set i (a, .inl (c, rqs n f))) H) : va_P D cl (ws.set i (a, .inl (c, rqs n g))) H := by
  intro k x hk
  by_cases hki : k = i
  · subst hki
    rw [List.getElem?_set_self hl] at hk
    cases hk
    exact at_ext h (hP k _ (List.getElem?_set_self hl))
  · rw [List.getElem?_set_ne (Ne.symm hki)] at hk
    exact hP k x (by rw [List.getElem?_set_ne (Ne.symm hki)]; exact hk)
/-- the world with one sheet changed -/
theorem sh_P {D : va_G} {A : Nat → Prop} {H : Heap} {K : Nat → ClassId} {B : Nat → Nat} {ad ad' : CA} {z : CZ} {k : Nat} {o : Option (Nat × Nat × (Nat → Int32))} {f : Nat → Option Nat} (h1 : ad'.1 = ad.1) (h4 : ad'.2.1 4 = ad.2.1 4) (h7 : ad'.2.1 7 = ad.2.1 7) (hf : ∀ x, x < 4 → f x = (cz_sh (cz_S z k o) x).map (fun _ => ad'.2.1 (300 + x))) (hP : va_P D vCl ((cW K B (ad.1, ad.2.1, ad'.2.2) z).set 4 (B 9, .inl (K 4, rqs 4 f))) H) (hD : va_D A ((cW K B (ad.1, ad.2.1, ad'.2.2) z).set 4 (B 9, .inl (K 4, rqs 4 f)))) : va_P D vCl (cW K B ad' (cz_S z k o)) H ∧ va_D A (cW K B ad' (cz_S z k o)) := by
  have e := sh_W (K := K) (B := B) (z := z) (k := k) (o := o) (f := fun x => (cz_sh (cz_S z k o) x).map (fun _ => ad'.2.1 (300 + x))) h1 h4 h7 (fun _ => rfl)
  rw [e]
  exact ⟨P_ext (by show 4 < _ + 7; omega) hf hP, vaD_fst (by rfl) hD⟩
theorem sh_Dy {K : Nat → ClassId} {B : Nat → Nat} {ad ad' : CA} {z : CZ} {k : Nat} {o : Option (Nat × Nat × (Nat → Int32))} (h : cDy K B ad z) (hs : ∀ x ∈ ad.2.2, (∀ (c : ClassId) (n : Nat) (g : Nat → Int32), x.2 ≠ .inl (c, n, .inl g)) → x ∈ ad'.2.2) (ha : ∀ j, j < 300 → ad'.2.1 j = ad.2.1 j)
    (hr : ∀ x, x < 4 → x ≠ k → ∀ q, cz_sh z x = some q → ad'.2.1 (300 + x) = ad.2.1 (300 + x) ∧ ad'.2.1 (400 + x) = ad.2.1 (400 + x) ∧ (ad.2.1 (400 + x), rwE K q.1 q.2.1 q.2.2) ∈ ad'.2.2)
    (hk : ∀ q, o = some q → q.1 ≤ 2 ∧ q.2.1 ≤ 60 ∧ (ad'.2.1 (300 + k), .inr (7, [.ref (ad'.2.1 (400 + k))])) ∈ ad'.2.2 ∧ (ad'.2.1 (400 + k), rwE K q.1 q.2.1 q.2.2) ∈ ad'.2.2) : cDy K B ad' (cz_S z k o) := by
  obtain ⟨h0, h1, h2, h3, h4, h5⟩ := h
  have el : ∀ {j n o : Nat}, j < 300 → o + n ≤ 300 → cEl K B ad j n o → cEl K B ad' j n o := by
    intro j n o hj ho h
    rcases h with ⟨fe, g1, g2⟩ | g
    · refine Or.inl ⟨fe, ?_, fun i hi => ?_⟩
      · rw [ha j hj]; exact hs _ g1 (fun c n g q => by cases q)
      · rw [ha (o + i) (by omega)]; exact g2 i hi
    · exact Or.inr ⟨g.1, by rw [ha j hj]; exact g.2⟩
  refine ⟨h0, el (by decide) (by have := h0.1; show 100 + cz_np z ≤ 300; omega) h1, el (by decide) (by have := h0.2; show 200 + cz_nr z ≤ 300; omega) h2, fun i hi => ⟨(h3 i hi).1, ?_⟩, fun i hi => ?_, fun x hx q hq => ?_⟩
  · have hi : i < cz_np z := hi
    rw [ha (100 + i) (by have := h0.1; omega)]
    exact hs _ (h3 i hi).2 (fun c n g q => by cases q)
  · have hi : i < cz_nr z := hi
    rw [ha (200 + i) (by have := h0.2; omega)]
    exact hs _ (h4 i hi) (fun c n g q => by cases q)
  · have hq : (if x = k then o else cz_sh z x) = some q := hq
    by_cases hxk : x = k
    · rw [if_pos hxk] at hq
      rw [hxk]
      exact hk q hq
    · rw [if_neg hxk] at hq
      obtain ⟨e1, e2, e3⟩ := hr x hx hxk q hq
      rw [e1, e2]
      exact ⟨(h5 x hx q hq).1, (h5 x hx q hq).2.1, hs _ (h5 x hx q hq).2.2.1 (fun c n g q => by cases q), e3⟩
theorem cz_S_at {z : CZ} {k x : Nat} {o : Option (Nat × Nat × (Nat → Int32))} : cz_sh (cz_S z k o) x = if x = k then o else cz_sh z x := rfl
/-- a row's cells change -/
theorem sh_row {D : va_G} {K : Nat → ClassId} {B : Nat → Nat} {A : Nat → Prop} {ad : CA} {z : CZ} {H H1 : Heap} {k i : Nat} {q : Nat × Nat × (Nat → Int32)} {g : Nat → Int32} (hP : cP D K B ad z H) (hV : cV K B A ad z) (hk : k < 4) (hz : cz_sh z k = some q) (hi : ad.2.2[i]? = some (ad.2.1 (400 + k), rwE K q.1 q.2.1 q.2.2)) (hP1 : va_P D vCl ((cW K B ad z).set (i + 7) (ad.2.1 (400 + k), rwE K q.1 q.2.1 g)) H1) : cP D K B (ad.1, ad.2.1, ad.2.2.set i (ad.2.1 (400 + k), rwE K q.1 q.2.1 g)) (cz_S z k (some (q.1, q.2.1, g))) H1 ∧ cV K B A (ad.1, ad.2.1, ad.2.2.set i (ad.2.1 (400 + k), rwE K q.1 q.2.1 g)) (cz_S z k (some (q.1, q.2.1, g))) := by
  have hf : ∀ x, (cz_sh (cz_S z k (some (q.1, q.2.1, g))) x).map (fun _ => ad.2.1 (300 + x)) = (cz_sh z x).map (fun _ => ad.2.1 (300 + x)) := by
    intro x
    rw [cz_S_at]
    by_cases hx : x = k
    · rw [if_pos hx, hx, hz]; rfl
    · rw [if_neg hx]
  have hw : cW K B (ad.1, ad.2.1, ad.2.2.set i (ad.2.1 (400 + k), rwE K q.1 q.2.1 g)) (cz_S z k (some (q.1, q.2.1, g))) = (cW K B ad z).set (i + 7) (ad.2.1 (400 + k), rwE K q.1 q.2.1 g) := by
    exact sh_W (ad := ad) (ad' := (ad.1, ad.2.1, ad.2.2.set i (ad.2.1 (400 + k), rwE K q.1 q.2.1 g))) rfl rfl rfl hf
  have hlt := (List.getElem?_eq_some_iff.mp hi).1
  have mem : ∀ x ∈ ad.2.2, x.1 ≠ ad.2.1 (400 + k) → x ∈ ad.2.2.set i (ad.2.1 (400 + k), rwE K q.1 q.2.1 g) := by
    intro x hx hne
    obtain ⟨j, hj⟩ := List.getElem?_of_mem hx
    have hji : i ≠ j := fun h => by
      subst h
      rw [hi] at hj
      cases hj
      exact hne rfl
    exact List.mem_of_getElem? (i := j) (by rw [List.getElem?_set_ne hji]; exact hj)
  have hd := (hP.2.2.2.2.2.2 k hk q hz)
  refine ⟨⟨by rw [hw]; exact hP1, sh_Dy hP.2 (fun x hx hno => mem x hx ?_) (fun _ _ => rfl) (fun x hx hxk q' hq' => ⟨rfl, rfl, mem _ (hP.2.2.2.2.2.2 x hx q' hq').2.2.2 ?_⟩) (fun q' hq' => ?_)⟩, by rw [hw]; exact hV.1.set (show (cW K B ad z)[i + 7]? = some (ad.2.1 (400 + k), rwE K q.1 q.2.1 q.2.2) from hi), hV.2.1, fun x x' hx hx' hne h1 h2 => ?_⟩
  · intro h
    have h2 : (ad.2.1 (400 + k), x.2) ∈ ad.2.2 := by rw [← h]; exact hx
    exact hno _ _ _ (dy_uniq hV.1 h2 hd.2.2.2)
  · exact hV.2.2 x k hx hk hxk (by rw [hq']; exact fun h => by cases h) (by rw [hz]; exact fun h => by cases h)
  · cases hq'
    exact ⟨hd.1, hd.2.1, mem _ hd.2.2.1 (dy_ne hV hd.2.2.1 hd.2.2.2 (fun h => by cases h)), List.mem_of_getElem? (i := i) (List.getElem?_set_self hlt)⟩
  · refine hV.2.2 x x' hx hx' hne (fun h => h1 ?_) (fun h => h2 ?_)
    · rw [cz_S_at]
      by_cases hxk : x = k
      · rw [hxk, hz] at h; cases h
      · rw [if_neg hxk]; exact h
    · rw [cz_S_at]
      by_cases hxk : x' = k
      · rw [hxk, hz] at h; cases h
      · rw [if_neg hxk]; exact h
theorem c_noSheet_eq (x : Int32) : c_noSheet x = some (if isSh x then 0 else 1) := by
  unfold c_noSheet
  rw [c_in32 x 0 3 (A := 0) (B := 3) rfl rfl]
  by_cases h : isSh x
  · rw [if_pos h, if_pos h]; rfl
  · rw [if_neg h, if_neg h]; rfl
theorem sh_nI {x : Int32} (h : isSh x) : ∃ k : Nat, k < 4 ∧ x = nI k := by
  rcases sh_case x with ⟨k, hk, e, -⟩ | ⟨h2, -⟩
  · exact ⟨k, hk, e⟩
  · exact absurd h h2
theorem so_nI {x : Int32} (h : isSo x) : ∃ k : Nat, k ≤ 2 ∧ x = nI k := by
  rcases so_case x with ⟨k, hk, e, -⟩ | ⟨h2, -⟩
  · exact ⟨k, hk, e⟩
  · exact absurd h h2
section SHR
variable {p : Program} {l : Launch} {e : Env} {R : Room} {s : State} {m : MethodId} {args : Array Value} {below : List Frame} {meth : Method} {c : Code} {H : Heap} {locs : List Loc} {cells slots : Nat} {Q : State → Prop} {cc : ByteArray} {nL pc : Nat} {rest : List Value} {ls : Array Slot} {D : va_G} {K : Nat → ClassId} {s0 : State} {a0 : Array Value} {B : Nat → Nat} {ad : CA} {A : Nat → Prop} {z : CZ} {lv : List (Nat × Value)} {own : String}
theorem hs_hit {X N : String} {cX : ClassId} {a b h ct : Nat} {t : List (Nat × Nat × Nat × Nat)} (hl : (Cond.classLink own ct N).before args s = true) (hc : va_Nw (.castable X N) s) (hX : s.vm.findClass X = some cX) (h1 : (decide (a ≤ pc) && decide (pc < b)) = true) (h0 : ct ≠ 0) : hsearch s args own pc cX ((a, b, h, ct) :: t) h := by
  obtain ⟨c0, t0, f1, f2, f3⟩ := Cond.castable_spec (va_Nw.use (A := args) rfl hc)
  cases hX.symm.trans f1
  exact Or.inr ⟨h1, h0, N, t0, hl, f2, Or.inl ⟨f3, rfl⟩⟩
theorem hs_miss {X N : String} {cX : ClassId} {a b h ct hp : Nat} {t : List (Nat × Nat × Nat × Nat)} (hl : (Cond.classLink own ct N).before args s = true) (hc : va_Nc X N s) (hX : s.vm.findClass X = some cX) (h1 : (decide (a ≤ pc) && decide (pc < b)) = true) (h0 : ct ≠ 0) (ht : hsearch s args own pc cX t hp) : hsearch s args own pc cX ((a, b, h, ct) :: t) hp := by
  obtain ⟨c0, t0, f1, f2, f3⟩ := hc
  cases hX.symm.trans f1
  exact Or.inr ⟨h1, h0, N, t0, hl, f2, Or.inr ⟨f3, ht⟩⟩
theorem hs_cls {X N : String} (hc : va_Nw (.castable X N) s) : ∃ (cX : ClassId) (k : Class), s.vm.findClass X = some cX ∧ s.vm.classes[cX]? = some k := by
  obtain ⟨c0, t0, f1, f2, f3⟩ := Cond.castable_spec (va_Nw.use (A := #[]) rfl hc)
  obtain ⟨k, hk, -⟩ := Vm.findClass_spec f1
  exact ⟨c0, k, f1, hk⟩
theorem ck_refused (E : CallFix p m c cc nL s args lw_all RX0) (hT : ∀ w ∈ lw_tbl, w.before a0 s0 = true) (hN : s0.WarmedH s.vm) (hD : ∀ z, va_D A (cW K B ad z)) (hK : va_K D vCl (cT K) s) (hP : cP D K B ad z H) (hS : va_S A s.heap H locs) {v : Int32} (hl : lv_has ls nL lv) (hW : (rest.map fun v => v.category).sum ≤ 8) (hR : 2 ≤ R.frames ∧ 33 ≤ R.locals) (hf : cells ≤ R.cells ∧ slots ≤ R.slots) (hdg : decode cc pc = .ok (.invokevirtual 234, 3))
    (kk : ∀ (H : Heap) (locs : List Loc), cP D K B ad (cz_f z 8 0) H → va_S A s.heap H locs → W p l e R s m args below meth c H locs cells slots Q (F0 m (pc + 3) ls (.int v :: rest))) : W p l e R s m args below meth c H locs cells slots Q (F0 m pc ls (.int v :: .ref (B 0) :: rest)) :=
  cx_go (va_runV (As := [.int v]) (rest := rest) E (mm_X0_refused l hT hD v z _ rfl) (cwV 1 E.2.2.2.2 (lw_V q645 q647 qs23 q54 q648) rfl rfl rfl (by decide +kernel) ⟨hR.1, hR.2⟩) (ck_pre hK hN hP (ck_me hK hP)) rfl rfl hl.1 rfl (lv_room hW) hdg hf) hS kk
theorem ck_fails (E : CallFix p m c cc nL s args lw_all RX0) (hT : ∀ w ∈ lw_tbl, w.before a0 s0 = true) (hN : s0.WarmedH s.vm) (hD : ∀ z, va_D A (cW K B ad z)) (hK : va_K D vCl (cT K) s) (hP : cP D K B ad z H) (hS : va_S A s.heap H locs) {v : Int32} (hl : lv_has ls nL lv) (hW : (rest.map fun v => v.category).sum ≤ 8) (hR : 2 ≤ R.frames ∧ 33 ≤ R.locals) (hf : cells ≤ R.cells ∧ slots ≤ R.slots) (hdg : decode cc pc = .ok (.invokevirtual 248, 3))
    (kk : ∀ (H : Heap) (locs : List Loc), cP D K B ad (cz_f z 8 v) H → va_S A s.heap H locs → W p l e R s m args below meth c H locs cells slots Q (F0 m (pc + 3) ls (.int (-10 - v) :: rest))) : W p l e R s m args below meth c H locs cells slots Q (F0 m pc ls (.int v :: .ref (B 0) :: rest)) :=
  cx_go (va_runV (As := [.int v]) (rest := rest) E (mm_X0_fails l hT hD v z _ rfl) (cwV 1 E.2.2.2.2 (lw_V q664 q666 qs24 q54 q667) rfl rfl rfl (by decide +kernel) ⟨hR.1, hR.2⟩) (ck_pre hK hN hP (ck_me hK hP)) rfl rfl hl.1 rfl (lv_room hW) hdg hf) hS kk
theorem ck_noSheet (E : CallFix p m c cc nL s args lw_all RX0) {x : Int32} (hl : lv_has ls nL lv) (hW : (rest.map fun v => v.category).sum ≤ 8) (hR : 3 ≤ R.frames ∧ 57 ≤ R.locals) (hf : cells ≤ R.cells ∧ slots ≤ R.slots) (hdg : decode cc pc = .ok (.invokestatic 231, 3))
    (kk : W p l e R s m args below meth c H locs cells slots Q (F0 m (pc + 3) ls (.int (if isSh x then 0 else 1) :: rest))) : W p l e R s m args below meth c H locs cells slots Q (F0 m pc ls (.int x :: rest)) :=
  px_call (As := [.int x]) (rest := rest) E (mm_X0_noSheet l x _ (c_noSheet_eq x)) (va_cwS 1 E.2.2.2.2 (lw_S q642 q643 q54 q644) rfl rfl rfl (by decide +kernel) ⟨hR.1, hR.2⟩) hl rfl rfl hW hf hdg kk
theorem ck_inSo (E : CallFix p m c cc nL s args lw_all RX0) {x : Int32} (hl : lv_has ls nL lv) (hW : (rest.map fun v => v.category).sum ≤ 8) (hR : 2 ≤ R.frames ∧ 37 ≤ R.locals) (hf : cells ≤ R.cells ∧ slots ≤ R.slots) (hdg : decode cc pc = .ok (.invokestatic 58, 3))
    (kk : W p l e R s m args below meth c H locs cells slots Q (F0 m (pc + 3) ls (.int (if isSo x then 1 else 0) :: rest))) : W p l e R s m args below meth c H locs cells slots Q (F0 m pc ls (.long 2 :: .long 0 :: .long x.toInt64 :: rest)) :=
  px_call (As := [.long x.toInt64, .long 0, .long 2]) (rest := rest) E (mm_X0_in l _ _ _ _ (c_in32 x 0 2 (A := 0) (B := 2) rfl rfl)) (va_cwS 3 E.2.2.2.2 (lw_S q177 q178 q54 q179) rfl rfl rfl (by decide +kernel) ⟨hR.1, hR.2⟩) hl rfl rfl hW hf hdg kk
end SHR
