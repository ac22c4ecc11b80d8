/-! rows: people.set, readings.remove of the last, readings.add where there is room -/
section LROWS
variable {p : Program} {l : Launch} {e : Env} {R : Room} {s : State} {m : MethodId} {args : Array Value} {below : List Frame} {meth : Method} {c : Code} {H : Heap} {locs : List Loc} {cells slots : Nat} {Q : State → Prop} {cc : ByteArray} {nL pc : Nat} {rest : List Value} {ls : Array Slot} {D : va_G} {K : Nat → ClassId} {s0 : State} {a0 : Array Value} {B : Nat → Nat} {ad : CA} {A : Nat → Prop} {z : CZ} {lv : List (Nat × Value)} {own : String}
/-- behind an interface call on a list -/
theorem j_go5 {mc ms : Nat} {F : Nat → Prop} {av : Array Value} {v : Option Value} {ws' : va_W} {st0 : List Value} (hr : va_Run5 p l e R s m args below meth c H locs cells slots mc ms (F0 m pc ls st0) rest (jQ D ws' F v av) F) (hS : va_S A s.heap H locs) (hF : ∀ q, F q → A q)
    (kk : ∀ (H1 : Heap) (locs : List Loc), va_P D vCl ws' H1 → (∀ q, q < H.size → ¬ F q → H1[q]? = H[q]?) → va_S A s.heap H1 locs → W p l e R s m args below meth c H1 locs (cells + mc) (slots + ms) Q (F0 m (pc + 5) ls (v.toList ++ rest))) : W p l e R s m args below meth c H locs cells slots Q (F0 m pc ls st0) := by
  intro T hT X
  obtain ⟨v', st₀, t, T', L, h0, X', hL, h1, -, ⟨⟨hq, hq2⟩, hq3⟩, st⟩ := hr T hT X
  cases hq
  obtain ⟨t2, a1, b1⟩ := kk t.heap (locs ++ L) hq2 (fun q g1 g2 => by have := hq3.2 q (by rw [h0]; exact g1) g2; rw [h0] at this; exact this) (vS_call hS h0 hq3 (fun q _ h => hF q h) (fun q h => hF _ (hL q h)) rfl) T' h1 X'
  exact ⟨t2, st t2 a1, b1⟩
theorem ls_F (hV : cV K B A ad z) {j q0 i n : Nat} {x : va_E} (hq : (cW K B ad z)[q0]? = some (cLs B ad j n)) (hi : ad.2.2[i]? = some (ad.2.1 j, x)) : ∀ q, jF (B j) (ad.2.1 j) q → A q := by
  intro q h
  rcases h with h | h
  · rw [h]; exact hV.1.2 _ _ hq
  · rw [h]; exact hV.1.2 (i + 7) _ hi
theorem ls_ne (hV : cV K B A ad z) {j q0 i n : Nat} {x : va_E} (hq : (cW K B ad z)[q0]? = some (cLs B ad j n)) (hq7 : q0 < 7) (hi : ad.2.2[i]? = some (ad.2.1 j, x)) : B j ≠ ad.2.1 j := fun h => absurd (hV.1.1 q0 (i + 7) _ _ hq hi h) (by omega)
theorem ls_P (hP : cP D K B ad z H) {j q0 i n : Nat} {fe : Nat → Option Nat} (hq : (cW K B ad z)[q0]? = some (cLs B ad j n)) (hi : ad.2.2[i]? = some (ad.2.1 j, .inl (K 3, rqs 10 fe))) : va_P D vCl (jW K (B j) (ad.1 j) (ad.2.1 j) (nI n) 10 fe) H := vP_of hP.1 (fun x hx => by
  simp only [List.mem_cons, List.not_mem_nil, or_false] at hx
  rcases hx with rfl | rfl
  · exact List.mem_of_getElem? hq
  · exact List.mem_of_getElem? (i := i + 7) hi)
theorem ck_lrem (E : CallFix p m c cc nL s args lw_all own) (hT : ∀ w ∈ lw_tbl, w.before a0 s0 = true) (hN : s0.WarmedH s.vm) (hK : va_K D vCl (cT K) s) (hP : cP D K B ad z H) (hV : cV K B A ad z) (hB : ¬ A (B 10)) (hS : va_S A s.heap H locs) {k idx : Nat} (hk : cz_nr z = k + 1) (hlk : Cond.methodLink own idx ⟨"java/util/List", "remove", "(I)Ljava/lang/Object;"⟩ ∈ lw_all) (hl : lv_has ls nL lv) (hW : (rest.map fun v => v.category).sum ≤ 8) (hR : 4 ≤ R.frames ∧ 103 ≤ R.locals) (hf : cells ≤ R.cells ∧ slots ≤ R.slots) (hdg : decode cc pc = .ok (.invokeinterface idx 2, 5))
    (kk : ∀ (ad1 : CA) (q : Nat) (H : Heap) (locs : List Loc), cP D K B ad1 (cz_R z k (cz_rl z) (cz_rp z)) H → cV K B A ad1 (cz_R z k (cz_rl z) (cz_rp z)) → va_S A s.heap H locs → W p l e R s m args below meth c H locs cells slots Q (F0 m (pc + 5) ls (.ref q :: rest))) : W p l e R s m args below meth c H locs cells slots Q (F0 m pc ls (.int (nI k) :: .ref (B 7) :: rest)) := by
  have hn := hP.2.1.2
  rcases hP.2.2.2.1 with ⟨fe, hfe, hfi⟩ | ⟨h0, -⟩
  · obtain ⟨i, hi⟩ := List.getElem?_of_mem hfe
    have hq : (cW K B ad z)[6]? = some (cLs B ad 7 (cz_nr z)) := rfl
    have hP1 := ls_P hP hq hi
    rw [hk] at hP1 hn hfi
    refine j_go5 (va_runF (As := [.int (nI k)]) (rest := rest) (hK.1 2 (RJ2, TJ2, 3) rfl).2 E (jm_remove l D K (B 7) (ad.1 7) (ad.2.1 7) k 10 (ad.2.1 (200 + k)) fe (ls_ne hV hq (by decide) hi) (by omega) (by decide) (hfi k (by omega))) (va_cwF 1 E.2.2.2.2 (lw_F hlk q457 q459 q57 q461) rfl rfl rfl (cN_I (by decide) hT hN q456 q455 q460 q458 q171) (by decide +kernel) ⟨hR.1, hR.2⟩) (j_pre hK hP1 (va_recv hK hP1 (ci := 2) (q0 := 0) (q := (RJ2, TJ2, 3)) rfl rfl)) rfl rfl hl.1 rfl (lv_room hW) hdg hf) hS (ls_F hV hq hi) (fun H1 locs hP2 hkp hS => ?_)
    obtain ⟨r1, r2⟩ := lift_R (a2 := ad.2.1) (n := k) (rl := cz_rl z) (rp := cz_rp z) hP hV hB hi (fun _ _ => rfl) (by omega) (fun x hx => by rw [va_up, if_neg (by omega)]; exact hfi x (by omega)) (fun x hx => hP.2.2.2.2.2.1 x (by rw [hk]; omega)) hP2 hkp
    exact kk _ _ H1 locs r1 r2 hS
  · omega
theorem rd_any (hT : ∀ w ∈ lw_tbl, w.before a0 s0 = true) (hN : s0.WarmedH s.vm) (hK : va_K D vCl (cT K) s) (hP : cP D K B ad z H) {v kd x : Nat} {lm : Int32} (hk : kd ≤ 2) (hv : (v, cRi B kd x lm) ∈ ad.2.2) : va_Any "java/lang/Object" s H v := by
  obtain ⟨q, hq⟩ := cW_dy (K := K) (B := B) (z := z) hv
  rcases (show kd = 0 ∨ kd = 1 ∨ kd = 2 by omega) with rfl | rfl | rfl
  · exact any_of (cN_C hT hN q1449) (va_recv hK hP.1 (ci := 3) (q := (RX5, TX5, 3)) rfl hq)
  · exact any_of (cN_C hT hN q1450) (va_recv hK hP.1 (ci := 4) (q := (RX6, TX6, 4)) rfl hq)
  · exact any_of (cN_C hT hN q1451) (va_recv hK hP.1 (ci := 5) (q := (RX7, TX7, 5)) rfl hq)
def cz_K (z : CZ) (i kd : Nat) (lm : Int32) : CZ := cz_P z (cz_np z) (fun x => if x = i then kd else cz_k z x) (fun x => if x = i then lm else cz_l z x)
theorem ck_lset (E : CallFix p m c cc nL s args lw_all own) (hT : ∀ w ∈ lw_tbl, w.before a0 s0 = true) (hN : s0.WarmedH s.vm) (hK : va_K D vCl (cT K) s) (hP : cP D K B ad z H) (hV : cV K B A ad z) (hB : ¬ A (B 10)) (hS : va_S A s.heap H locs) {i idx v kd : Nat} {lm : Int32} (hi0 : i < cz_np z) (hkd : kd ≤ 2) (hv : (v, cRi B kd i lm) ∈ ad.2.2) (hlk : Cond.methodLink own idx ⟨"java/util/List", "set", "(ILjava/lang/Object;)Ljava/lang/Object;"⟩ ∈ lw_all) (hl : lv_has ls nL lv) (hW : (rest.map fun v => v.category).sum ≤ 8) (hR : 4 ≤ R.frames ∧ 83 ≤ R.locals) (hf : cells ≤ R.cells ∧ slots ≤ R.slots) (hdg : decode cc pc = .ok (.invokeinterface idx 3, 5))
    (kk : ∀ (ad1 : CA) (H : Heap) (locs : List Loc), (∀ x, x ∈ ad.2.2 → (∀ c n f, x.2 ≠ .inl (c, rqs n f)) → x ∈ ad1.2.2) → cP D K B ad1 (cz_K z i kd lm) H → cV K B A ad1 (cz_K z i kd lm) → va_S A s.heap H locs → W p l e R s m args below meth c H locs cells slots Q (F0 m (pc + 5) ls (.ref (ad.2.1 (100 + i)) :: rest))) : W p l e R s m args below meth c H locs cells slots Q (F0 m pc ls (.ref v :: .int (nI i) :: .ref (B 4) :: rest)) := by
  have hn := hP.2.1.1
  rcases hP.2.2.1 with ⟨fe, hfe, hfi⟩ | ⟨h0, -⟩
  · obtain ⟨j, hj⟩ := List.getElem?_of_mem hfe
    have hq : (cW K B ad z)[5]? = some (cLs B ad 4 (cz_np z)) := rfl
    have hP1 := ls_P hP hq hj
    have hcl : (nI i).toNatClampNeg = i := nI_clamp (by omega)
    refine j_go5 (va_runF (As := [.int (nI i), .ref v]) (rest := rest) (hK.1 2 (RJ2, TJ2, 3) rfl).2 E (jm_set l D K (B 4) (ad.1 4) (ad.2.1 4) (nI (cz_np z)) 10 fe (nI i) v (ls_ne hV hq (by decide) hj) (vp_in_nI (by omega) (by decide)) (nI_pos (by omega)) (nI_lt hi0 (by omega))) (va_cwF 2 E.2.2.2.2 (lw_F hlk q534 q536 q57 q538) rfl rfl rfl (cN_I (by decide) hT hN q533 q532 q537 q535 q171) (by decide +kernel) ⟨hR.1, hR.2⟩) (jx_pre hK hP1 (rd_any hT hN hK hP hkd hv) (va_recv hK hP1 (ci := 2) (q0 := 0) (q := (RJ2, TJ2, 3)) rfl rfl)) rfl rfl hl.1 rfl (lv_room hW) hdg hf) hS (ls_F hV hq hj) (fun H1 locs hP2 hkp hS => ?_)
    rw [hcl] at hP2 ⊢
    rw [hfi i hi0]
    obtain ⟨r1, r2⟩ := lift_P (a2 := fun x => if x = 100 + i then v else ad.2.1 x) (n := cz_np z) (kd := fun x => if x = i then kd else cz_k z x) (lm := fun x => if x = i then lm else cz_l z x) hP hV hB hj (fun x hx => if_neg (by omega)) hn (fun x hx => by
      by_cases h : x = i
      · subst h; rw [va_up, if_pos rfl, if_pos rfl]
      · rw [va_up, if_neg h, if_neg (by omega)]; exact hfi x hx) (fun x hx => by
      by_cases h : x = i
      · subst h; simp only [if_pos]; exact ⟨hkd, hv⟩
      · rw [if_neg h, if_neg h, if_neg (by omega)]; exact hP.2.2.2.2.1 x hx) hP2 hkp
    exact kk _ H1 locs (fun x hx hne => dy_stay hV.1 hj (a := x.1) (x := x.2) hx hne) r1 r2 hS
  · omega
end LROWS
