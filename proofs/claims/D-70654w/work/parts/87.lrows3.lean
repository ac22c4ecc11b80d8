/-! rows: a list of one's own: made, added to; people.addAll -/
section OWN
variable {p : Program} {l : Launch} {e : Env} {R : Room} {s : State} {m : MethodId} {args : Array Value} {below : List Frame} {meth : Method} {c : Code} {H : Heap} {locs : List Loc} {cells slots : Nat} {Q : State → Prop} {cc : ByteArray} {nL pc : Nat} {rest : List Value} {ls : Array Slot} {D : va_G} {K : Nat → ClassId} {s0 : State} {a0 : Array Value} {B : Nat → Nat} {ad : CA} {A : Nat → Prop} {z : CZ} {lv : List (Nat × Value)} {own : String}
theorem dy_ne (hV : cV K B A ad z) {a b : Nat} {x y : va_E} (hx : (a, x) ∈ ad.2.2) (hy : (b, y) ∈ ad.2.2) (hne : x ≠ y) : a ≠ b := fun h => by
  subst h
  exact hne (dy_uniq hV.1 hx hy)
theorem dy_neW (hV : cV K B A ad z) {a q0 : Nat} {x y : va_E} {b : Nat} (hx : (a, x) ∈ ad.2.2) (hy : (cW K B ad z)[q0]? = some (b, y)) (hq : q0 < 7) : a ≠ b := fun h => by
  obtain ⟨i, hi⟩ := cW_dy (K := K) (B := B) (z := z) hx
  exact absurd (hV.1.1 (i + 7) q0 _ _ hi hy h) (by omega)
theorem dy_A (hV : cV K B A ad z) {a : Nat} {x : va_E} (hx : (a, x) ∈ ad.2.2) : A a := by
  obtain ⟨i, hi⟩ := cW_dy (K := K) (B := B) (z := z) hx
  exact hV.1.2 _ _ hi
theorem ck_ownadd (E : CallFix p m c cc nL s args lw_all own) (hT : ∀ w ∈ lw_tbl, w.before a0 s0 = true) (hN : s0.WarmedH s.vm) (hK : va_K D vCl (cT K) s) (hP : cP D K B ad z H) (hV : cV K B A ad z) (hS : va_S A s.heap H locs) {h e1 v k kd idx : Nat} {mc lm : Int32} {f : Nat → Option Nat} (hm1 : (h, .inr (2, [.int mc, .ref e1, .int (nI k)])) ∈ ad.2.2) (hm2 : (e1, .inl (K 3, rqs 5 f)) ∈ ad.2.2) (hkd : kd ≤ 2) (hv : (v, cRi B kd k lm) ∈ ad.2.2) (hk : k < 5) (hlk : Cond.methodLink own idx ⟨"java/util/List", "add", "(Ljava/lang/Object;)Z"⟩ ∈ lw_all) (hl : lv_has ls nL lv) (hW : (rest.map fun v => v.category).sum ≤ 8) (hR : 3 ≤ R.frames ∧ 81 ≤ R.locals) (hf : cells ≤ R.cells ∧ slots ≤ R.slots) (hdg : decode cc pc = .ok (.invokeinterface idx 2, 5))
    (kk : ∀ (ad1 : CA) (H : Heap) (locs : List Loc), (∀ x ∈ ad.2.2, ¬ frg K x → x ∈ ad1.2.2) → (h, .inr (2, [.int (mc + 1), .ref e1, .int (nI (k + 1))])) ∈ ad1.2.2 → (e1, .inl (K 3, rqs 5 (va_up f k (some v)))) ∈ ad1.2.2 → cP D K B ad1 z H → cV K B A ad1 z → va_S A s.heap H locs → W p l e R s m args below meth c H locs cells slots Q (F0 m (pc + 5) ls (.int 1 :: rest))) : W p l e R s m args below meth c H locs cells slots Q (F0 m pc ls (.ref v :: .ref h :: rest)) := by
  have hP1 : va_P D vCl (jW K h mc e1 (nI k) 5 f) H := vP_of hP.1 (fun x hx => by
    simp only [List.mem_cons, List.not_mem_nil, or_false] at hx
    rcases hx with rfl | rfl
    · obtain ⟨i, hi⟩ := cW_dy (K := K) (B := B) (z := z) hm1
      exact List.mem_of_getElem? hi
    · obtain ⟨i, hi⟩ := cW_dy (K := K) (B := B) (z := z) hm2
      exact List.mem_of_getElem? hi)
  have hvh : v ≠ h := dy_ne hV hv hm1 (fun q => by
    simp only [Sum.inr.injEq, Prod.mk.injEq] at q
    have := q.1
    omega)
  have hve : v ≠ e1 := dy_ne hV hv hm2 (fun q => by cases q)
  have hhe : h ≠ e1 := dy_ne hV hm1 hm2 (fun q => by cases q)
  refine j_go5 (va_runF (As := [.ref v]) (rest := rest) (hK.1 2 (RJ2, TJ2, 3) rfl).2 E (jm_add l D K h mc e1 k 5 v f hhe ⟨hvh, hve⟩ hk (by decide)) (va_cwF 1 E.2.2.2.2 (lw_F hlk q387 q389 q57 q391) rfl rfl rfl (cN_I (by decide) hT hN q386 q385 q390 q388 q171) (by decide +kernel) ⟨hR.1, hR.2⟩) (jx_pre hK hP1 (rd_any hT hN hK hP hkd hv) (va_recv hK hP1 (ci := 2) (q0 := 0) (q := (RJ2, TJ2, 3)) rfl rfl)) rfl rfl hl.1 rfl (lv_room hW) hdg hf) hS (fun q h => h.elim (fun h => by rw [h]; exact dy_A hV hm1) (fun h => by rw [h]; exact dy_A hV hm2)) (fun H1 locs hP2 hkp hS => ?_)
  obtain ⟨ad1, -, -, c1, c2, c3, c4, c5⟩ := lift_X hP hV hm1 hm2 hP2 hkp
  exact kk ad1 H1 locs c1 c2 c3 c4 c5 hS
/-- new ArrayList(5) -/
theorem ck_newlist (E : CallFix p m c cc nL s args lw_all RX0) (hT : ∀ w ∈ lw_tbl, w.before a0 s0 = true) (hAl : ∀ q, A q → s0.heap.size ≤ q) (hA : ∀ q, s.heap.size ≤ q → A q) (hX : xE s0 s) (hK : va_K D vCl (cT K) s) (hP : cP D K B ad z H) (hV : cV K B A ad z) (hS : va_S A s.heap H locs) (hl : lv_has ls nL lv) (hW : (rest.map fun v => v.category).sum ≤ 7) (hR : 5 ≤ R.frames ∧ 180 ≤ R.locals) (hf : cells + 2 ≤ R.cells ∧ slots + 8 ≤ R.slots) (d1 : decode cc pc = .ok (.new 15, 3)) (d2 : decode cc (pc + 3) = .ok (.dup, 1)) (d3 : decode cc (pc + 3 + 1) = .ok (.iconst 5, 1)) (d4 : decode cc (pc + 3 + 1 + 1) = .ok (.invokespecial 84, 3))
    (kk : ∀ (ad1 : CA) (h e1 : Nat) (H : Heap) (locs : List Loc), (∀ x ∈ ad.2.2, x ∈ ad1.2.2) → (h, .inr (2, [.int 0, .ref e1, .int (nI 0)])) ∈ ad1.2.2 → (e1, .inl (K 3, rqs 5 (fun _ => none))) ∈ ad1.2.2 → cP D K B ad1 z H → cV K B A ad1 z → va_S A s.heap H locs → W p l e R s m args below meth c H locs (cells + 2) (slots + 8) Q (F0 m (pc + 3 + 1 + 1 + 3) ls (.ref h :: rest))) : W p l e R s m args below meth c H locs cells slots Q (F0 m pc ls rest) := by
  refine va_new E.1 E.2.1 E.2.2.2.2 in_J2 tyJ2 tyJ2_ok E.2.2.2.1 (E.2.2.2.2 _ q95) (E.2.2.2.2 _ q96) (E.2.2.2.2 _ q57) hK hP.1 hV.1 hS hA (ci := 2) (C := RJ2) (T := TJ2) (N := 3) rfl (fs := [.int 0, .null, .int 0]) (by decide +kernel) (by omega) (by omega) d1 (fun q H hP1 hD1 hS => ?_)
  refine lv_dup E.1 E.2.1 d2 rfl ?_
  refine lv_iconst (v := (5 : Int32)) E.1 E.2.1 d3 (by decide) ?_
  have hlast : (cW K B ad z ++ [(q, (Sum.inr (2, [.int 0, .null, .int 0]) : va_E))])[(cW K B ad z).length]? = some (q, .inr (2, [.int 0, .null, .int 0])) := by simp
  have hAq : A q := hD1.2 _ _ hlast
  have hPq : va_P D vCl [(q, .inr (2, [.int 0, .null, .int 0]))] H := vP_of hP1 (fun x hx => List.mem_append_right _ hx)
  intro T hTt X
  obtain ⟨v', st₀, t, T', L, h0, X', hL, h1, -, ⟨⟨e1, hq, hq2, hqn⟩, hq3⟩, st⟩ := va_runI (As := [.int 5]) (rest := .ref q :: rest) E (jm_init_2 l (s0 := s0) (A := A) hT D K q hAq) (cwI 1 E.2.2.2.2 (lw_meth q890) rfl rfl rfl (E.2.2.2.2 _ q57) (E.2.2.2.2 _ q888) (E.2.2.2.2 _ q889) rfl (by decide +kernel) ⟨hR.1, by show 8 + 2 + 11 + 150 ≤ _; omega⟩) (jA_preS hAl hA hX hK hPq hS) (g := F0 m (pc + 3 + 1 + 1) ls (.int 5 :: .ref q :: .ref q :: rest)) rfl rfl hl.1 rfl (lv_room (by rw [List.map_cons, List.sum_cons]; show 1 + (rest.map fun v => v.category).sum ≤ 8; omega)) d4 ⟨by show cells + 1 + 1 ≤ _; omega, by show slots + 3 + 5 ≤ _; omega⟩ T hTt X
  cases hq
  rw [h0] at hqn
  have hkp : ∀ x, x < H.size → x ≠ q → t.heap[x]? = H[x]? := fun x g1 g2 => by
    have := hq3.2 x (by rw [h0]; exact g1) g2
    rw [h0] at this
    exact this
  have hS1 : va_S A s.heap t.heap (locs ++ L) := vS_call hS h0 hq3 (fun x _ hx => by rw [hx]; exact hAq) hL rfl
  obtain ⟨w1, w2⟩ := vP_setpush hP1 hD1 hlast (hq2 0 _ rfl) (hq2 1 _ rfl) hkp hqn (hA _ (Nat.le_trans hS.1 hqn))
  have hw : (cW K B ad z ++ [(q, (Sum.inr (2, [.int 0, .null, .int 0]) : va_E))]).set (cW K B ad z).length (q, .inr (2, [.int 0, .ref e1, .int 0])) ++ [(e1, .inl (K 3, rqs 5 (fun _ => none)))] = cW K B (adp (adp ad (q, .inr (2, [.int 0, .ref e1, .int 0]))) (e1, .inl (K 3, rqs 5 (fun _ => none)))) z := by
    rw [List.set_append_right _ _ (Nat.le_refl _), Nat.sub_self]
    rfl
  rw [hw] at w1 w2
  obtain ⟨t2, a1, b1⟩ := kk (adp (adp ad (q, .inr (2, [.int 0, .ref e1, .int 0]))) (e1, .inl (K 3, rqs 5 (fun _ => none)))) q e1 t.heap (locs ++ L) (fun x hx => List.mem_append_left _ (List.mem_append_left _ hx)) (List.mem_append_left _ (List.mem_append_right _ List.mem_cons_self)) (List.mem_append_right _ List.mem_cons_self) ⟨w1, cDy_push (cDy_push hP.2)⟩ ⟨w2, hV.2⟩ hS1 T' h1 X'
  exact ⟨t2, st t2 a1, b1⟩
set_option maxHeartbeats 1000000 in
theorem ck_addAll (E : CallFix p m c cc nL s args lw_all own) (hT : ∀ w ∈ lw_tbl, w.before a0 s0 = true) {mir : Nat} (hM : mirE s0 mir) (hE : jE0 s0 (B 10)) (hAl : ∀ q, A q → s0.heap.size ≤ q) (hA : ∀ q, s.heap.size ≤ q → A q) (hX : xE s0 s) (hB : ¬ A (B 10)) (hK : va_K D vCl (cT K) s) (hP : cP D K B ad z H) (hV : cV K B A ad z) (hS : va_S A s.heap H locs) {h e2 n idx : Nat} {mc2 : Int32} {f : Nat → Option Nat} {kd : Nat → Nat} {lm : Nat → Int32} (hz0 : cz_np z = 0) (hm1 : (h, .inr (2, [.int mc2, .ref e2, .int (nI n)])) ∈ ad.2.2) (hm2 : (e2, .inl (K 3, rqs 5 f)) ∈ ad.2.2) (hn0 : 0 < n) (hn : n ≤ 5) (hel : ∀ i, i < n → kd i ≤ 2 ∧ ∃ y, f i = some y ∧ (y, cRi B (kd i) i (lm i)) ∈ ad.2.2) (hlk : Cond.methodLink own idx ⟨"java/util/List", "addAll", "(Ljava/util/Collection;)Z"⟩ ∈ lw_all) (hl : lv_has ls nL lv) (hW : (rest.map fun v => v.category).sum ≤ 8) (hR : 7 ≤ R.frames ∧ 225 ≤ R.locals) (hf : cells + 2 ≤ R.cells ∧ slots + 20 ≤ R.slots) (hdg : decode cc pc = .ok (.invokeinterface idx 2, 5))
    (kk : ∀ (ad1 : CA) (H : Heap) (locs : List Loc), cP D K B ad1 (cz_P z n kd lm) H → cV K B A ad1 (cz_P z n kd lm) → va_S A s.heap H locs → W p l e R s m args below meth c H locs (cells + 2) (slots + 20) Q (F0 m (pc + 5) ls (.int 1 :: rest))) : W p l e R s m args below meth c H locs cells slots Q (F0 m pc ls (.ref h :: .ref (B 4) :: rest)) := by
  have hN := hX.1
  have hq : (cW K B ad z)[5]? = some (cLs B ad 4 (cz_np z)) := rfl
  have hA4 : A (B 4) := hV.1.2 _ _ hq
  have hP2 : ∀ x ∈ jW K h mc2 e2 (nI n) 5 f, x ∈ cW K B ad z := fun x hx => by
    simp only [List.mem_cons, List.not_mem_nil, or_false] at hx
    rcases hx with rfl | rfl
    · obtain ⟨i, hi⟩ := cW_dy (K := K) (B := B) (z := z) hm1
      exact List.mem_of_getElem? hi
    · obtain ⟨i, hi⟩ := cW_dy (K := K) (B := B) (z := z) hm2
      exact List.mem_of_getElem? hi
  have he4 : e2 ≠ B 4 := dy_neW hV hm2 hq (by decide)
  have hany : ∀ i, i < n → ∀ y, f i = some y → va_Any "java/lang/Object" s H y := fun i hi y hy => by
    obtain ⟨k1, y', e1, e2⟩ := hel i hi
    rw [e1] at hy
    cases hy
    exact rd_any hT hN hK hP k1 e2
  have hye : ∀ i, i < n → ∀ y, f i = some y → y ≠ B 4 ∧ y ≠ e2 := fun i hi y hy => by
    obtain ⟨k1, y', e1, e2⟩ := hel i hi
    rw [e1] at hy
    cases hy
    exact ⟨dy_neW hV e2 hq (by decide), dy_ne hV e2 hm2 (fun q => by cases q)⟩
  have hrd : ∀ (a2 : Nat → Nat), (∀ i, i < n → a2 (100 + i) = (f i).getD 0) → ∀ i, i < n → f i = some (a2 (100 + i)) ∧ kd i ≤ 2 ∧ (a2 (100 + i), cRi B (kd i) i (lm i)) ∈ ad.2.2 := fun a2 ha i hi => by
    obtain ⟨k1, y', e1, e2⟩ := hel i hi
    rw [ha i hi, e1]
    exact ⟨rfl, k1, e2⟩
  rcases hP.2.2.1 with ⟨fe, hfe, hfi⟩ | ⟨-, h10⟩
  · obtain ⟨j, hj⟩ := List.getElem?_of_mem hfe
    have hA0 : A (ad.2.1 4) := dy_A hV hfe
    have hP1 : va_P D vCl (jW K (B 4) (ad.1 4) (ad.2.1 4) 0 10 fe ++ jW K h mc2 e2 (nI n) 5 f) H := vP_of hP.1 (fun x hx => by
      rcases List.mem_append.mp hx with hx | hx
      · simp only [List.mem_cons, List.not_mem_nil, or_false] at hx
        rcases hx with rfl | rfl
        · have h2 := List.mem_of_getElem? hq
          rw [hz0] at h2
          exact h2
        · exact List.mem_of_getElem? (i := j + 7) hj
      · exact hP2 x hx)
    intro T hTt X
    obtain ⟨v', st₀, t, T', L, h0, X', hL, h1, -, ⟨⟨e1, g, hqq, hq2, hqg, hqe⟩, hq3⟩, st⟩ := va_runF (As := [.ref h]) (rest := rest) (hK.1 2 (RJ2, TJ2, 3) rfl).2 E (jm_addAll l (A := A) hT D K (B 4) (ad.1 4) (ad.2.1 4) fe h mc2 e2 n mir f hM hn0 hn (hAl _ (dy_A hV hm2)) (hAl _ hA4) (hAl _ hA0) hA4 hA0 (dy_A hV hm2) (ls_ne hV hq (by decide) hj) ⟨he4, dy_ne hV hm2 hfe (fun q => by
      simp only [Sum.inl.injEq, Prod.mk.injEq] at q
      exact absurd q.2.1 (by decide))⟩ (fun i hi y hy => by
      obtain ⟨k1, y', e1, e2⟩ := hel i hi
      have hy2 := hye i hi y hy
      rw [e1] at hy
      cases hy
      exact ⟨hy2.1, dy_ne hV e2 hfe (fun q => by cases q), hy2.2⟩)) (va_cwF 1 E.2.2.2.2 (lw_F hlk q906 q908 q57 q910) rfl rfl rfl (cN_I (by decide) hT hN q905 q904 q909 q907 q171) (by decide +kernel) ⟨hR.1, hR.2⟩) ⟨jC_blind, va_recv hK hP1 (ci := 2) (q0 := 0) (q := (RJ2, TJ2, 3)) rfl rfl, fun U hU hW => ⟨rfl, jA_at hAl hA hX hK hP1 hS hU hW, fun i hi y hy => by rw [hU]; exact any_moved hW.alike (hany i hi y hy)⟩⟩ (g := F0 m pc ls (.ref h :: .ref (B 4) :: rest)) rfl rfl hl.1 rfl (lv_room hW) hdg hf T hTt X
    cases hqq
    subst hqe
    have hkp : ∀ x, x < H.size → ¬ jF (B 4) (ad.2.1 4) x → t.heap[x]? = H[x]? := fun x g1 g2 => by
      have := hq3.2 x (by rw [h0]; exact g1) g2
      rw [h0] at this
      exact this
    have hS1 : va_S A s.heap t.heap (locs ++ L) := vS_call hS h0 hq3 (fun x _ hx => ls_F hV hq hj x hx) hL rfl
    have ha2 := hrd (fun x => if 100 ≤ x ∧ x < 200 then (f (x - 100)).getD 0 else ad.2.1 x) (fun i hi => by
      show (if 100 ≤ 100 + i ∧ 100 + i < 200 then _ else _) = _
      rw [if_pos (by omega), show 100 + i - 100 = i by omega])
    obtain ⟨r1, r2⟩ := lift_P (a2 := fun x => if 100 ≤ x ∧ x < 200 then (f (x - 100)).getD 0 else ad.2.1 x) (n := n) (kd := kd) (lm := lm) hP hV hB hj (fun x hx => if_neg (by omega)) (by omega) (fun x hx => by rw [hqg x hx]; exact (ha2 x hx).1) (fun x hx => (ha2 x hx).2) hq2 hkp
    obtain ⟨t2, a1, b1⟩ := kk _ t.heap (locs ++ L) r1 r2 hS1 T' h1 X'
    exact ⟨t2, st t2 a1, b1⟩
  · have hP1 : va_P D vCl (jL (B 4) (ad.1 4) (B 10) 0 :: jW K h mc2 e2 (nI n) 5 f) H := vP_of hP.1 (fun x hx => by
      rcases List.mem_cons.mp hx with hx | hx
      · rw [hx]
        have h2 := List.mem_of_getElem? hq
        rw [hz0] at h2
        show (B 4, (Sum.inr (2, [.int (ad.1 4), .ref (B 10), .int 0]) : va_E)) ∈ _
        rw [← h10]
        exact h2
      · exact hP2 x hx)
    intro T hTt X
    obtain ⟨v', st₀, t, T', L, h0, X', hL, h1, -, ⟨⟨e1, g, hqq, hq2, hqg, hqe⟩, hq3⟩, st⟩ := va_runF (As := [.ref h]) (rest := rest) (hK.1 2 (RJ2, TJ2, 3) rfl).2 E (jm_addAllE l (A := A) hT D K (B 4) (ad.1 4) (B 10) h mc2 e2 n mir f hM hE hn0 hn (hAl _ (dy_A hV hm2)) (hAl _ hA4) hA4 (dy_A hV hm2) he4 hye) (va_cwF 1 E.2.2.2.2 (lw_F hlk q906 q908 q57 q910) rfl rfl rfl (cN_I (by decide) hT hN q905 q904 q909 q907 q171) (by decide +kernel) ⟨hR.1, hR.2⟩) ⟨jC_blind, va_recv hK hP1 (ci := 2) (q0 := 0) (q := (RJ2, TJ2, 3)) rfl rfl, fun U hU hW => ⟨rfl, jA_at hAl hA hX hK hP1 hS hU hW, fun i hi y hy => by rw [hU]; exact any_moved hW.alike (hany i hi y hy)⟩⟩ (g := F0 m pc ls (.ref h :: .ref (B 4) :: rest)) rfl rfl hl.1 rfl (lv_room hW) hdg hf T hTt X
    cases hqq
    rw [h0] at hqe
    have hkp : ∀ x, x < H.size → x ≠ B 4 → t.heap[x]? = H[x]? := fun x g1 g2 => by
      have := hq3.2 x (by rw [h0]; exact g1) g2
      rw [h0] at this
      exact this
    have hS1 : va_S A s.heap t.heap (locs ++ L) := vS_call hS h0 hq3 (fun x _ hx => by rw [hx]; exact hA4) hL rfl
    have ha2 := hrd (fun x => if x = 4 then e1 else if 100 ≤ x ∧ x < 200 then (f (x - 100)).getD 0 else ad.2.1 x) (fun i hi => by
      show (if 100 + i = 4 then _ else if 100 ≤ 100 + i ∧ 100 + i < 200 then _ else _) = _
      rw [if_neg (by omega), if_pos (by omega), show 100 + i - 100 = i by omega])
    obtain ⟨r1, r2⟩ := lift_Pg (a2 := fun x => if x = 4 then e1 else if 100 ≤ x ∧ x < 200 then (f (x - 100)).getD 0 else ad.2.1 x) (n := n) (kd := kd) (lm := lm) hP hV (fun x h4 hx => by rw [if_neg h4, if_neg (by omega)]) (if_pos rfl) (by omega) (fun x hx => by rw [hqg x hx]; exact (ha2 x hx).1) (fun x hx => (ha2 x hx).2) hq2 hkp hqe (hA _ (Nat.le_trans hS.1 hqe))
    obtain ⟨t2, a1, b1⟩ := kk _ t.heap (locs ++ L) r1 r2 hS1 T' h1 X'
    exact ⟨t2, st t2 a1, b1⟩
end OWN
