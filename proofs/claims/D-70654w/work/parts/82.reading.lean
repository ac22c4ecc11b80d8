/-! DebtFerry.reading(II)I: walked -/
theorem pr_noRiver {z : CZ} {r : Int32 × CZ} (h : c_noRiver z = some r) : r.2 = z := by
  unfold c_noRiver at h
  obtain ⟨_, _, h⟩ := bnd h
  cases h; rfl
theorem pr_isLoad {x : Int32} {z : CZ} {r : Int32 × CZ} (h : c_isLoad x z = some r) : r.2 = z := by
  unfold c_isLoad c_everyone at h
  obtain ⟨q, h1, h⟩ := bnd h
  cases h1
  obtain ⟨_, _, h⟩ := bnd h
  obtain ⟨_, _, h⟩ := bnd h
  cases h; rfl
/-- one cell changed, one new -/
theorem vP_setpush {D : va_G} {cl : List vw_C} {ws : va_W} {H H1 : Heap} {A : Nat → Prop} {i a b : Nat} {e1 e1' e2 : va_E} (hP : va_P D cl ws H) (hD : va_D A ws) (hi : ws[i]? = some (a, e1)) (ha : va_at D cl (a, e1') H1) (hb : va_at D cl (b, e2) H1) (hk : ∀ q, q < H.size → q ≠ a → H1[q]? = H[q]?) (hbn : H.size ≤ b) (hAb : A b) : va_P D cl (ws.set i (a, e1') ++ [(b, e2)]) H1 ∧ va_D A (ws.set i (a, e1') ++ [(b, e2)]) := by
  have hlen : (ws.set i (a, e1')).length = ws.length := List.length_set
  have hfst : (ws.set i (a, e1')).map (·.1) = ws.map (·.1) := by
    rw [List.map_set]
    exact set_same (by rw [List.getElem?_map, hi]; rfl)
  have hD1 : va_D A (ws.set i (a, e1')) := vaD_fst hfst.symm hD
  have hlt : ∀ (k : Nat) (x : Nat × va_E), (ws.set i (a, e1'))[k]? = some x → x.1 < H.size := by
    intro k x hx
    have h1 : ((ws.set i (a, e1')).map (·.1))[k]? = some x.1 := by rw [List.getElem?_map, hx]; rfl
    rw [hfst, List.getElem?_map] at h1
    cases hw : ws[k]? with
    | none => rw [hw] at h1; cases h1
    | some y =>
      rw [hw] at h1
      have : y.1 = x.1 := Option.some.inj h1
      rw [← this]; exact (hP k y hw).lt
  refine ⟨fun k x hx => ?_, fun k k' x x' hx hx' he => ?_, fun k x hx => ?_⟩
  · by_cases hkl : k < ws.length
    · rw [List.getElem?_append_left (by rw [hlen]; exact hkl), List.getElem?_set] at hx
      split at hx
      · split at hx
        · cases hx; exact ha
        · cases hx
      · rename_i hik
        have h0 := hP k x hx
        exact h0.kept (hk x.1 h0.lt (fun h => hik (hD.1 i k (a, e1) x hi hx h.symm)))
    · rw [List.getElem?_append_right (by rw [hlen]; omega)] at hx
      have hz : k - (ws.set i (a, e1')).length < 1 := (List.getElem?_eq_some_iff.mp hx).1
      rw [show k - (ws.set i (a, e1')).length = 0 by omega] at hx
      cases hx
      exact hb
  · have cas : ∀ (k : Nat) (x : Nat × va_E), (ws.set i (a, e1') ++ [(b, e2)])[k]? = some x → ((ws.set i (a, e1'))[k]? = some x) ∨ (k = ws.length ∧ x = (b, e2)) := by
      intro k x hx
      by_cases hkl : k < ws.length
      · rw [List.getElem?_append_left (by rw [hlen]; exact hkl)] at hx
        exact Or.inl hx
      · rw [List.getElem?_append_right (by rw [hlen]; omega)] at hx
        have hz : k - (ws.set i (a, e1')).length < 1 := (List.getElem?_eq_some_iff.mp hx).1
        rw [show k - (ws.set i (a, e1')).length = 0 by omega] at hx
        cases hx
        exact Or.inr ⟨by rw [hlen] at hz; omega, rfl⟩
    rcases cas k x hx with h1 | ⟨h1, h2⟩ <;> rcases cas k' x' hx' with g1 | ⟨g1, g2⟩
    · exact hD1.1 k k' x x' h1 g1 he
    · have := hlt k x h1
      rw [he, g2] at this
      exact absurd this (by show ¬ b < _; omega)
    · have := hlt k' x' g1
      rw [← he, h2] at this
      exact absurd this (by show ¬ b < _; omega)
    · omega
  · by_cases hkl : k < ws.length
    · rw [List.getElem?_append_left (by rw [hlen]; exact hkl)] at hx
      exact hD1.2 k x hx
    · rw [List.getElem?_append_right (by rw [hlen]; omega)] at hx
      have hz : k - (ws.set i (a, e1')).length < 1 := (List.getElem?_eq_some_iff.mp hx).1
      rw [show k - (ws.set i (a, e1')).length = 0 by omega] at hx
      cases hx
      exact hAb
set_option maxHeartbeats 1000000 in
/-- the readings' list gets its array -/
theorem lift_Rg {D : va_G} {K : Nat → ClassId} {B : Nat → Nat} {A : Nat → Prop} {ad : CA} {z : CZ} {H H1 : Heap} {e1 n : Nat} {fe' : Nat → Option Nat} {mc : Int32} {rl rp : Nat → Int32} {a2 : Nat → Nat} (hP : cP D K B ad z H) (hV : cV K B A ad z) (ha2 : ∀ x, x ≠ 7 → (x < 200 ∨ 300 ≤ x) → a2 x = ad.2.1 x) (h7 : a2 7 = e1) (hn : n ≤ 10) (hfe : ∀ x, x < n → fe' x = some (a2 (200 + x))) (hrd : ∀ x, x < n → (a2 (200 + x), .inr (6, [.int (rl x), .int (rp x)])) ∈ ad.2.2)
    (hP1 : va_P D vCl (jW K (B 7) mc e1 (nI n) 10 fe') H1) (hk : ∀ q, q < H.size → q ≠ B 7 → H1[q]? = H[q]?) (he1 : H.size ≤ e1) (hAe : A e1) : cP D K B (upd ad.1 7 mc, a2, ad.2.2 ++ [(e1, .inl (K 3, rqs 10 fe'))]) (cz_R z n rl rp) H1 ∧ cV K B A (upd ad.1 7 mc, a2, ad.2.2 ++ [(e1, .inl (K 3, rqs 10 fe'))]) (cz_R z n rl rp) := by
  have h4 : a2 4 = ad.2.1 4 := ha2 4 (by omega) (by omega)
  have h300 : ∀ k, a2 (300 + k) = ad.2.1 (300 + k) := fun k => ha2 _ (by omega) (by omega)
  have hw : cW K B (upd ad.1 7 mc, a2, ad.2.2 ++ [(e1, .inl (K 3, rqs 10 fe'))]) (cz_R z n rl rp) = (cW K B ad z).set 6 (B 7, .inr (2, [.int mc, .ref e1, .int (nI n)])) ++ [(e1, .inl (K 3, rqs 10 fe'))] := by
    have hsh : (fun k => (cz_sh (cz_R z n rl rp) k).map (fun _ => a2 (300 + k))) = (fun k => (cz_sh z k).map (fun _ => ad.2.1 (300 + k))) := funext fun k => by rw [h300]; rfl
    have hl7 : cLs B (upd ad.1 7 mc, a2, ad.2.2 ++ [(e1, .inl (K 3, rqs 10 fe'))]) 7 n = (B 7, .inr (2, [.int mc, .ref e1, .int (nI n)])) := by
      show (B 7, (Sum.inr (2, [.int mc, .ref (a2 7), .int (nI n)]) : va_E)) = _
      rw [h7]
    have hl4 : cLs B (upd ad.1 7 mc, a2, ad.2.2 ++ [(e1, .inl (K 3, rqs 10 fe'))]) 4 (cz_np z) = cLs B ad 4 (cz_np z) := by
      show (B 4, (Sum.inr (2, [.int (ad.1 4), .ref (a2 4), .int (nI (cz_np z))]) : va_E)) = _
      rw [h4]
    show (B 0, .inr (0, cF B z)) :: (B 3, .inl (K 0, 25, .inl (z.2.1 3))) :: (B 5, .inl (K 0, 32, .inl (z.2.1 5))) :: (B 6, .inl (K 0, 25, .inl (z.2.1 6))) :: (B 9, .inl (K 4, rqs 4 (fun k => (cz_sh (cz_R z n rl rp) k).map (fun _ => a2 (300 + k))))) :: cLs B (upd ad.1 7 mc, a2, ad.2.2 ++ [(e1, .inl (K 3, rqs 10 fe'))]) 4 (cz_np z) :: cLs B (upd ad.1 7 mc, a2, ad.2.2 ++ [(e1, .inl (K 3, rqs 10 fe'))]) 7 n :: (ad.2.2 ++ [(e1, .inl (K 3, rqs 10 fe'))]) = _
    rw [hsh, hl4, hl7]
    rfl
  have hset := vP_setpush (i := 6) hP.1 hV.1 rfl (hP1 0 _ rfl) (hP1 1 _ rfl) hk he1 hAe
  obtain ⟨⟨g1, g2⟩, g3, g4, g5, g6, g7⟩ := hP.2
  refine ⟨⟨by rw [hw]; exact hset.1, ⟨g1, hn⟩, ?_, Or.inl ⟨fe', ?_, hfe⟩, fun x hx => ?_, fun x hx => List.mem_append_left _ (hrd x hx), fun k hk q hq => ?_⟩, by rw [hw]; exact hset.2, ?_, ?_⟩
  · rcases g3 with ⟨f7, c1, c2⟩ | ⟨c1, c2⟩
    · refine Or.inl ⟨f7, ?_, fun x hx => ?_⟩
      · show (a2 4, _) ∈ ad.2.2 ++ _
        rw [h4]
        exact List.mem_append_left _ c1
      · show f7 x = some (a2 (100 + x))
        have hx : x < cz_np z := hx
        rw [ha2 _ (by omega) (by omega)]; exact c2 x hx
    · exact Or.inr ⟨c1, by show a2 4 = B 10; rw [h4]; exact c2⟩
  · show (a2 7, _) ∈ _
    rw [h7]
    exact List.mem_append_right _ List.mem_cons_self
  · have hx : x < cz_np z := hx
    refine ⟨(g5 x hx).1, ?_⟩
    show (a2 (100 + x), _) ∈ ad.2.2 ++ _
    rw [ha2 _ (by omega) (by omega)]
    exact List.mem_append_left _ (g5 x hx).2
  · obtain ⟨c1, c2, c3, c4⟩ := g7 k hk q hq
    refine ⟨c1, c2, ?_, ?_⟩
    · show (a2 (300 + k), Sum.inr (7, [.ref (a2 (400 + k))])) ∈ ad.2.2 ++ _
      rw [h300, ha2 (400 + k) (by omega) (by omega)]
      exact List.mem_append_left _ c3
    · show (a2 (400 + k), _) ∈ ad.2.2 ++ _
      rw [ha2 (400 + k) (by omega) (by omega)]
      exact List.mem_append_left _ c4
  · show a2 4 = a2 7 → a2 4 = B 10
    rw [h4, h7]
    intro h
    rcases g3 with ⟨f7, c1, -⟩ | ⟨-, c2⟩
    · exfalso
      obtain ⟨i, hi⟩ := cW_dy (K := K) (B := B) (z := z) c1
      have := (hP.1 _ _ hi).lt
      have : ad.2.1 4 < H.size := this
      omega
    · exact c2
  · intro k k' b1 b2 b3 b4 b5
    show a2 (400 + k) ≠ a2 (400 + k')
    rw [ha2 _ (by omega) (by omega), ha2 _ (by omega) (by omega)]
    exact hV.2.2 k k' b1 b2 b3 b4 b5
section RADD
variable {p : Program} {l : Launch} {e : Env} {R : Room} {s : State} {m : MethodId} {args : Array Value} {below : List Frame} {meth : Method} {c : Code} {H : Heap} {locs : List Loc} {cells slots : Nat} {Q : State → Prop} {cc : ByteArray} {nL pc : Nat} {rest : List Value} {ls : Array Slot} {D : va_G} {K : Nat → ClassId} {s0 : State} {a0 : Array Value} {B : Nat → Nat} {ad : CA} {A : Nat → Prop} {z : CZ} {lv : List (Nat × Value)} {own : String}
/-- behind an interface call that grows a list -/
theorem jG_go5 {mc ms : Nat} {av : Array Value} {h : Nat} {md n : Int32} {v : Nat → Option Value} {cap : Nat} {f : Nat → Option Nat} {st0 : List Value} (hr : va_Run5 p l e R s m args below meth c H locs cells slots mc ms (F0 m pc ls st0) rest (jGQ D K h md n v cap f av) A) (hS : va_S A s.heap H locs) (hA : ∀ q, s.heap.size ≤ q → A q) (hAh : A h)
    (kk : ∀ (e1 : Nat) (H1 : Heap) (locs : List Loc), va_P D vCl (jW K h md e1 n cap f) H1 → H.size ≤ e1 → A e1 → (∀ q, q < H.size → q ≠ h → H1[q]? = H[q]?) → va_S A s.heap H1 locs → W p l e R s m args below meth c H1 locs (cells + mc) (slots + ms) Q (F0 m (pc + 5) ls ((v e1).toList ++ rest))) : W p l e R s m args below meth c H locs cells slots Q (F0 m pc ls st0) := by
  intro T hT X
  obtain ⟨v', st₀, t, T', L, h0, X', hL, h1, -, ⟨⟨e1, hq, hq2, hqn⟩, hq3⟩, st⟩ := hr T hT X
  cases hq
  rw [h0] at hqn
  obtain ⟨t2, a1, b1⟩ := kk e1 t.heap (locs ++ L) hq2 hqn (hA _ (Nat.le_trans hS.1 hqn)) (fun q g1 g2 => by have := hq3.2 q (by rw [h0]; exact g1) g2; rw [h0] at this; exact this) (vS_call hS h0 hq3 (fun q _ h => by rw [h]; exact hAh) hL rfl) T' h1 X'
  exact ⟨t2, st t2 a1, b1⟩
theorem ck_radd (E : CallFix p m c cc nL s args lw_all own) (hT : ∀ w ∈ lw_tbl, w.before a0 s0 = true) (hAl : ∀ q, A q → s0.heap.size ≤ q) (hA : ∀ q, s.heap.size ≤ q → A q) (hX : xE s0 s) (hE : jE0 s0 (B 10)) (hB : ¬ A (B 10)) (hK : va_K D vCl (cT K) s) (hP : cP D K B ad z H) (hV : cV K B A ad z) (hS : va_S A s.heap H locs) {v idx : Nat} {a b : Int32} (hnr : cz_nr z < 8) (hv : (v, .inr (6, [.int a, .int b])) ∈ ad.2.2) (hlk : Cond.methodLink own idx ⟨"java/util/List", "add", "(Ljava/lang/Object;)Z"⟩ ∈ lw_all) (hl : lv_has ls nL lv) (hW : (rest.map fun v => v.category).sum ≤ 8) (hR : 7 ≤ R.frames ∧ 221 ≤ R.locals) (hf : cells + 1 ≤ R.cells ∧ slots + 10 ≤ R.slots) (hdg : decode cc pc = .ok (.invokeinterface idx 2, 5))
    (kk : ∀ (ad1 : CA) (H : Heap) (locs : List Loc), cP D K B ad1 (cz_Radd z a b) H → cV K B A ad1 (cz_Radd z a b) → va_S A s.heap H locs → W p l e R s m args below meth c H locs (cells + 1) (slots + 10) Q (F0 m (pc + 5) ls (.int 1 :: rest))) : W p l e R s m args below meth c H locs cells slots Q (F0 m pc ls (.ref v :: .ref (B 7) :: rest)) := by
  have hN := hX.1
  obtain ⟨iv, hiv⟩ := cW_dy (K := K) (B := B) (z := z) hv
  have hany : va_Any "java/lang/Object" s H v := any_of (cN_C hT hN q1453) (va_recv hK hP.1 (ci := 6) (q := (RX9, TX9, 2)) rfl hiv)
  have hq : (cW K B ad z)[6]? = some (cLs B ad 7 (cz_nr z)) := rfl
  have hvB : v ≠ B 7 := fun h => absurd (hV.1.1 (iv + 7) 6 _ _ hiv hq h) (by omega)
  rcases hP.2.2.2.1 with ⟨fe, hfe, hfi⟩ | ⟨hn0, h10⟩
  · obtain ⟨i, hi⟩ := List.getElem?_of_mem hfe
    have hP1 := ls_P hP hq hi
    have hve : v ≠ ad.2.1 7 := fun h => by
      have := hV.1.1 (iv + 7) (i + 7) _ _ hiv hi h
      have : iv = i := by omega
      subst this
      have h2 : ad.2.2[iv]? = some (v, .inr (6, [.int a, .int b])) := hiv
      rw [hi] at h2
      cases h2
    refine j_go5 (va_runF (As := [.ref v]) (rest := rest) (hK.1 2 (RJ2, TJ2, 3) rfl).2 E (jm_add l D K (B 7) (ad.1 7) (ad.2.1 7) (cz_nr z) 10 v fe (ls_ne hV hq (by decide) hi) ⟨hvB, hve⟩ (by omega) (by decide)) (va_cwF 1 E.2.2.2.2 (lw_F hlk q387 q389 q57 q391) rfl rfl rfl (cN_I (by decide) hT hN q386 q385 q390 q388 q171) (by decide +kernel) ⟨by have := hR.1; show 3 ≤ _; omega, by have := hR.2; show 81 ≤ _; omega⟩) (jx_pre hK hP1 hany (va_recv hK hP1 (ci := 2) (q0 := 0) (q := (RJ2, TJ2, 3)) rfl rfl)) rfl rfl hl.1 rfl (lv_room hW) hdg ⟨by show cells + 0 ≤ _; omega, by show slots + 0 ≤ _; omega⟩) hS (ls_F hV hq hi) (fun H1 locs hP2 hkp hS => ?_)
    obtain ⟨r1, r2⟩ := lift_R (a2 := fun x => if x = 200 + cz_nr z then v else ad.2.1 x) (n := cz_nr z + 1) (rl := upd (cz_rl z) (cz_nr z) a) (rp := upd (cz_rp z) (cz_nr z) b) hP hV hB hi (fun x hx => if_neg (by omega)) (by omega) (fun x hx => by
      by_cases h : x = cz_nr z
      · subst h; rw [va_up, if_pos rfl, if_pos rfl]
      · rw [va_up, if_neg h, if_neg (by omega)]; exact hfi x (by omega)) (fun x hx => by
      unfold upd
      by_cases h : x = cz_nr z
      · subst h; simp only [if_pos]; exact hv
      · rw [if_neg h, if_neg h, if_neg (by omega)]; exact hP.2.2.2.2.2.1 x (by omega)) hP2 hkp
    exact W_pad (c' := cells + 1) (s' := slots + 10) (by omega) (by omega) (kk _ H1 locs r1 r2 hS)
  · have hP1 : va_P D vCl [jL (B 7) (ad.1 7) (B 10) 0] H := vP_of hP.1 (fun x hx => by
      rw [List.mem_singleton] at hx
      rw [hx]
      have h2 := List.mem_of_getElem? hq
      rw [hn0] at h2
      show (B 7, (Sum.inr (2, [.int (ad.1 7), .ref (B 10), .int 0]) : va_E)) ∈ _
      rw [← h10]
      exact h2)
    have hA7 : A (B 7) := hV.1.2 _ _ hq
    refine jG_go5 (va_runF (As := [.ref v]) (rest := rest) (hK.1 2 (RJ2, TJ2, 3) rfl).2 E (jm_addE l (A := A) hT D K (B 7) (B 10) v (ad.1 7) hE (hAl _ hA7) hA7 hvB) (va_cwF 1 E.2.2.2.2 (lw_F hlk q387 q389 q57 q391) rfl rfl rfl (cN_I (by decide) hT hN q386 q385 q390 q388 q171) (by decide +kernel) ⟨hR.1, hR.2⟩) ⟨jAx_blind, va_recv hK hP1 (ci := 2) (q0 := 0) (q := (RJ2, TJ2, 3)) rfl rfl, fun U hU hW => ⟨rfl, jA_at hAl hA hX hK hP1 hS hU hW, by rw [hU]; exact any_moved hW.alike hany⟩⟩ rfl rfl hl.1 rfl (lv_room hW) hdg hf) hS hA hA7 (fun e1 H1 locs hP2 hge hAe hkp hS => ?_)
    obtain ⟨r1, r2⟩ := lift_Rg (a2 := fun x => if x = 7 then e1 else if x = 200 then v else ad.2.1 x) (n := 1) (rl := upd (cz_rl z) (cz_nr z) a) (rp := upd (cz_rp z) (cz_nr z) b) hP hV (fun x h7 hx => by rw [if_neg h7, if_neg (by omega)]) (if_pos rfl) (by decide) (fun x hx => by
      have : x = 0 := by omega
      subst this
      rfl) (fun x hx => by
      have : x = 0 := by omega
      subst this
      rw [hn0]
      exact hv) hP2 hkp hge hAe
    have ez : cz_R z 1 (upd (cz_rl z) (cz_nr z) a) (upd (cz_rp z) (cz_nr z) b) = cz_Radd z a b := by unfold cz_Radd; rw [hn0]
    rw [ez] at r1 r2
    exact kk _ H1 locs r1 r2 hS
end RADD
abbrev rmX0_reading : Room := { frames := 8, cells := 2, slots := 12, locals := 300 }
set_option maxHeartbeats 4000000 in
set_option maxRecDepth 100000 in
theorem mm_X0_reading (l : Launch) {D : va_G} {K : Nat → ClassId} {s0 : State} {a0 : Array Value} {B : Nat → Nat} {ad : CA} {A : Nat → Prop} (hT : ∀ w ∈ lw_tbl, w.before a0 s0 = true) (hAl : ∀ q, A q → s0.heap.size ≤ q) (hE : jE0 s0 (B 10)) (hB : ¬ A (B 10)) (x1 x2 : Int32) (z0 : CZ) (res : Int32 × CZ) (hF : c_reading x1 x2 z0 = some res) : Met l yX0_reading (ws_ yX0_reading cX0_reading 3 (some .int)) rmX0_reading (cIPc D K s0 B A ad z0 [.ref (B 0), .int x1, .int x2]) (cIQ D K B A (some (.int res.1)) res.2) 2 12 A := by
  refine cI_start RX0 (by decide) rfl (Nat.le_of_ble_eq_true rfl) ?_
  intro p e s m args below meth c H locs ls E hr hlocks hK hX hA hP hV hS hl
  have hN := hX.1
  have hD : ∀ z, va_D A (cW K B ad z) := fun z => cW_D hV.1 z
  have hl : lv_has ls 3 [(0, .ref (B 0)), (1, .int x1), (2, .int x2)] := hl
  unfold c_reading at hF
  refine lv_aload_n E.1 E.2.1 dX0_reading_0 rfl (lv_at hl 0 rfl) ?_
  obtain ⟨r1, hq1, hF⟩ := bnd hF
  refine cx_go (va_runV (As := []) (rest := []) E (mm_X0_noRiver l hT hD z0 _ hq1) (cwV 0 E.2.2.2.2 (lw_V q237 q239 qs4 q54 q240) rfl rfl rfl (by decide +kernel) ⟨Nat.le_of_ble_eq_true rfl, Nat.le_of_ble_eq_true rfl⟩) (ck_pre hK hN hP (ck_me hK hP)) rfl rfl hl.1 rfl (lv_room (Nat.le_of_ble_eq_true rfl)) dX0_reading_1 ⟨Nat.zero_le _, Nat.zero_le _⟩) hS (fun H locs hP hS => ?_)
  rw [pr_noRiver hq1] at hP hF
  refine lv_if_eq (tgt := 10) E.1 E.2.1 dX0_reading_4 (by decide) (fun h => ?_) (fun h => ?_)
  · have hF := ite_t h hF
    refine lv_aload_n E.1 E.2.1 dX0_reading_10 rfl (lv_at hl 0 rfl) ?_
    refine lv_iload_n E.1 E.2.1 dX0_reading_11 rfl (lv_at hl 1 rfl) ?_
    obtain ⟨r12, hq12, hF⟩ := bnd hF
    refine cx_go (va_runV (As := [.int x1]) (rest := []) E (mm_X0_isLoad l hT hD x1 z0 _ hq12) (cwV 1 E.2.2.2.2 (lw_V q258 q260 qs5 q54 q261) rfl rfl rfl (by decide +kernel) ⟨Nat.le_of_ble_eq_true rfl, Nat.le_of_ble_eq_true rfl⟩) (ck_pre hK hN hP (ck_me hK hP)) rfl rfl hl.1 rfl (lv_room (Nat.le_of_ble_eq_true rfl)) dX0_reading_12 ⟨Nat.zero_le _, Nat.zero_le _⟩) hS (fun H locs hP hS => ?_)
    rw [pr_isLoad hq12] at hP hF
    have J34 : ∀ (H : Heap) (locs : List Loc), some ((-2 : Int32), z0) = some res → cP D K B ad z0 H → va_S A s.heap H locs → W p l e rmX0_reading s m args below meth c H locs 0 0 (MQ below (cIQ D K B A (some (.int res.1)) res.2) args s 2 12 A) (F0 m 34 ls []) := by
      intro H locs hF hP hS
      refine lv_bipush (v := (-2 : Int32)) E.1 E.2.1 dX0_reading_34 (by decide) ?_
      refine W_pad (c' := 2) (s' := 12) (by decide) (by decide) ?_
      exact cI_iret E hr hlocks hP hV hS hF dX0_reading_36
    refine lv_if_eq (tgt := 34) E.1 E.2.1 dX0_reading_15 (by decide) (fun h => ?_) (fun h => ?_)
    · have hF := ite_t h hF
      exact J34 H locs hF hP hS
    · have hF := ite_f h hF
      refine lv_aload_n E.1 E.2.1 dX0_reading_18 rfl (lv_at hl 0 rfl) ?_
      refine lv_iload_n E.1 E.2.1 dX0_reading_19 rfl (lv_at hl 2 rfl) ?_
      obtain ⟨r20, hq20, hF⟩ := bnd hF
      refine cx_go (va_runV (As := [.int x2]) (rest := []) E (mm_X0_isLoad l hT hD x2 z0 _ hq20) (cwV 1 E.2.2.2.2 (lw_V q258 q260 qs5 q54 q261) rfl rfl rfl (by decide +kernel) ⟨Nat.le_of_ble_eq_true rfl, Nat.le_of_ble_eq_true rfl⟩) (ck_pre hK hN hP (ck_me hK hP)) rfl rfl hl.1 rfl (lv_room (Nat.le_of_ble_eq_true rfl)) dX0_reading_20 ⟨Nat.zero_le _, Nat.zero_le _⟩) hS (fun H locs hP hS => ?_)
      rw [pr_isLoad hq20] at hP hF
      refine lv_if_eq (tgt := 34) E.1 E.2.1 dX0_reading_23 (by decide) (fun h => ?_) (fun h => ?_)
      · have hF := ite_t h hF
        exact J34 H locs hF hP hS
      · have hF := ite_f h hF
        refine lv_iload_n E.1 E.2.1 dX0_reading_26 rfl (lv_at hl 2 rfl) ?_
        refine lv_iload_n E.1 E.2.1 dX0_reading_27 rfl (lv_at hl 1 rfl) ?_
        refine lv_iconst (v := (-1 : Int32)) E.1 E.2.1 dX0_reading_28 (by decide) ?_
        refine lv_ixor E.1 E.2.1 dX0_reading_29 ?_
        refine lv_iand E.1 E.2.1 dX0_reading_30 ?_
        refine lv_if_eq (tgt := 37) E.1 E.2.1 dX0_reading_31 (by decide) (fun h => ?_) (fun h => ?_)
        · have hF := ite_t h hF
          refine lv_aload_n E.1 E.2.1 dX0_reading_37 rfl (lv_at hl 0 rfl) ?_
          refine ck_get E hK hP 7 (by decide) q134 rfl (v := .ref (B 7)) rfl dX0_reading_38 ?_
          refine ck_size E hT hN hK hP (q0 := 6) (j := 7) (n := cz_nr z0) rfl q168 hl (Nat.le_of_ble_eq_true rfl) ⟨Nat.le_of_ble_eq_true rfl, Nat.le_of_ble_eq_true rfl⟩ ⟨Nat.zero_le _, Nat.zero_le _⟩ dX0_reading_41 ?_
          refine lv_bipush (v := (8 : Int32)) E.1 E.2.1 dX0_reading_46 (by decide) ?_
          refine lv_icmp_ne (tgt := 54) E.1 E.2.1 dX0_reading_48 (by decide) (fun h => ?_) (fun h => ?_)
          · have hF := ite_f h hF
            obtain ⟨h8, hF⟩ := gd_some hF
            have h8 := of_decide_eq_true h8
            refine lv_aload_n E.1 E.2.1 dX0_reading_54 rfl (lv_at hl 0 rfl) ?_
            refine ck_get E hK hP 7 (by decide) q134 rfl (v := .ref (B 7)) rfl dX0_reading_55 ?_
            refine va_new E.1 E.2.1 E.2.2.2.2 in_X9 tyX9 tyX9_ok E.2.2.2.1 (E.2.2.2.2 _ q368) (E.2.2.2.2 _ q369) (E.2.2.2.2 _ q83) hK hP.1 hV.1 hS hA (ci := 6) (C := RX9) (T := TX9) (N := 2) rfl (fs := [.int 0, .int 0]) (by decide +kernel) (by decide) (by decide) dX0_reading_58 (fun q H hP1 hD1 hS => ?_)
            refine lv_dup E.1 E.2.1 dX0_reading_61 rfl ?_
            refine lv_iload_n E.1 E.2.1 dX0_reading_62 rfl (lv_at hl 1 rfl) ?_
            refine lv_iload_n E.1 E.2.1 dX0_reading_63 rfl (lv_at hl 2 rfl) ?_
            refine ck_ctor (va_runI (As := [.int x1, .int x2]) (rest := [.ref q, .ref (B 7)]) E (nm_X9_6 l hT D K q (.int 0) (.int 0) x1 x2) (cwI 2 E.2.2.2.2 (lw_meth q372) rfl rfl rfl (E.2.2.2.2 _ q83) (E.2.2.2.2 _ q370) (E.2.2.2.2 _ q371) rfl (by decide +kernel) ⟨Nat.le_of_ble_eq_true rfl, Nat.le_of_ble_eq_true rfl⟩) (n_preS hK hN (vP_of hP1 (fun x hx => List.mem_append_right _ hx))) rfl rfl hl.1 rfl (lv_room (Nat.le_of_ble_eq_true rfl)) dX0_reading_64 ⟨Nat.le_of_ble_eq_true rfl, Nat.le_of_ble_eq_true rfl⟩) hP1 hD1 hS (fun H locs hP1 hD1 hS => ?_)
            have hP2 : cP D K B (adp ad (q, .inr (6, [.int x1, .int x2]))) z0 H := ⟨hP1, cDy_push hP.2⟩
            have hV2 : cV K B A (adp ad (q, .inr (6, [.int x1, .int x2]))) z0 := ⟨hD1, hV.2⟩
            refine ck_radd (a := x1) (b := x2) E hT hAl hA hX hE hB hK hP2 hV2 hS h8 (List.mem_append_right _ List.mem_cons_self) q384 hl (Nat.le_of_ble_eq_true rfl) ⟨Nat.le_of_ble_eq_true rfl, Nat.le_of_ble_eq_true rfl⟩ ⟨Nat.le_of_ble_eq_true rfl, Nat.le_of_ble_eq_true rfl⟩ dX0_reading_67 (fun ad1 H locs hP hV hS => ?_)
            refine lv_pop E.1 E.2.1 dX0_reading_72 rfl ?_
            refine lv_aload_n E.1 E.2.1 dX0_reading_73 rfl (lv_at hl 0 rfl) ?_
            refine ck_get E hK hP 7 (by decide) q134 rfl (v := .ref (B 7)) rfl dX0_reading_74 ?_
            refine ck_size E hT hN hK hP (q0 := 6) (j := 7) (n := cz_nr z0 + 1) rfl q168 hl (Nat.le_of_ble_eq_true rfl) ⟨Nat.le_of_ble_eq_true rfl, Nat.le_of_ble_eq_true rfl⟩ ⟨Nat.le_of_ble_eq_true rfl, Nat.le_of_ble_eq_true rfl⟩ dX0_reading_77 ?_
            refine lv_iconst (v := (1 : Int32)) E.1 E.2.1 dX0_reading_82 (by decide) ?_
            refine lv_isub E.1 E.2.1 dX0_reading_83 ?_
            refine W_pad (c' := 2) (s' := 12) (by decide) (by decide) ?_
            exact cI_iret E hr hlocks hP hV hS hF dX0_reading_84
          · have hF := ite_t h hF
            refine lv_bipush (v := (-4 : Int32)) E.1 E.2.1 dX0_reading_51 (by decide) ?_
            refine W_pad (c' := 2) (s' := 12) (by decide) (by decide) ?_
            exact cI_iret E hr hlocks hP hV hS hF dX0_reading_53
        · have hF := ite_f h hF
          exact J34 H locs hF hP hS
  · have hF := ite_f h hF
    refine lv_bipush (v := (-3 : Int32)) E.1 E.2.1 dX0_reading_7 (by decide) ?_
    refine W_pad (c' := 2) (s' := 12) (by decide) (by decide) ?_
    exact cI_iret E hr hlocks hP hV hS hF dX0_reading_9
