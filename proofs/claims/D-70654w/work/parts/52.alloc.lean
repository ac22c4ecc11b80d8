/-! methods that make cells -/
abbrev adp (ad : CA) (x : Nat × va_E) : CA := (ad.1, ad.2.1, ad.2.2 ++ [x])
theorem vaD_fst {A : Nat → Prop} {ws ws' : va_W} (h : ws.map (·.1) = ws'.map (·.1)) (hD : va_D A ws) : va_D A ws' := by
  have at' : ∀ (i : Nat) (p : Nat × va_E), ws'[i]? = some p → ∃ p', ws[i]? = some p' ∧ p'.1 = p.1 := by
    intro i p hp
    have h1 : (ws'.map (·.1))[i]? = some p.1 := by rw [List.getElem?_map, hp]; rfl
    rw [← h, List.getElem?_map] at h1
    cases hw : ws[i]? with
    | none => rw [hw] at h1; cases h1
    | some p' => rw [hw] at h1; exact ⟨p', rfl, Option.some.inj h1⟩
  refine ⟨fun i j p q hi hj e => ?_, fun k q hk => ?_⟩
  · obtain ⟨p', h1, e1⟩ := at' i p hi
    obtain ⟨q', h2, e2⟩ := at' j q hj
    exact hD.1 i j p' q' h1 h2 (by rw [e1, e2]; exact e)
  · obtain ⟨q', h2, e2⟩ := at' k q hk
    rw [← e2]; exact hD.2 k q' h2
theorem cW_D {A : Nat → Prop} {K : Nat → ClassId} {B : Nat → Nat} {ad : CA} {z : CZ} (h : va_D A (cW K B ad z)) (z' : CZ) : va_D A (cW K B ad z') := vaD_fst (ws := cW K B ad z) rfl h
theorem cDy_mono {K : Nat → ClassId} {B : Nat → Nat} {ad : CA} {z : CZ} {dy : va_W} (h : cDy K B ad z) (hs : ∀ x ∈ ad.2.2, x ∈ dy) : cDy K B (ad.1, ad.2.1, dy) z := by
  obtain ⟨h0, h1, h2, h3, h4, h5⟩ := h
  have el : ∀ {j n o : Nat}, cEl K B ad j n o → cEl K B (ad.1, ad.2.1, dy) j n o := by
    intro j n o h
    rcases h with ⟨fe, g1, g2⟩ | g
    · exact Or.inl ⟨fe, hs _ g1, g2⟩
    · exact Or.inr g
  exact ⟨h0, el h1, el h2, fun i hi => ⟨(h3 i hi).1, hs _ (h3 i hi).2⟩, fun i hi => hs _ (h4 i hi), fun k hk q hq => ⟨(h5 k hk q hq).1, (h5 k hk q hq).2.1, hs _ (h5 k hk q hq).2.2.1, hs _ (h5 k hk q hq).2.2.2⟩⟩
theorem cDy_push {K : Nat → ClassId} {B : Nat → Nat} {ad : CA} {z : CZ} {x : Nat × va_E} (h : cDy K B ad z) : cDy K B (adp ad x) z := cDy_mono h (fun _ hy => List.mem_append_left _ hy)
/-- cells that are written are nobody else's: the two lists' arrays, the sheets' rows -/
def cJ (B : Nat → Nat) (ad : CA) (z : CZ) : Prop := (ad.2.1 4 = ad.2.1 7 → ad.2.1 4 = B 10) ∧ ∀ k k', k < 4 → k' < 4 → k ≠ k' → cz_sh z k ≠ none → cz_sh z k' ≠ none → ad.2.1 (400 + k) ≠ ad.2.1 (400 + k')
abbrev cV (K : Nat → ClassId) (B : Nat → Nat) (A : Nat → Prop) (ad : CA) (z : CZ) : Prop := va_D A (cW K B ad z) ∧ cJ B ad z
/-- the component at a method's entry, where cells may be made -/
def cI (D : va_G) (K : Nat → ClassId) (s0 : State) (B : Nat → Nat) (A : Nat → Prop) (ad : CA) (z : CZ) (U : State) : Prop := cP D K B ad z U.heap ∧ va_K D vCl (cT K) U ∧ xE s0 U ∧ cV K B A ad z ∧ ∀ q, U.heap.size ≤ q → A q
abbrev cIPc (D : va_G) (K : Nat → ClassId) (s0 : State) (B : Nat → Nat) (A : Nat → Prop) (ad : CA) (z : CZ) (av : List Value) : Array Value → State → Prop := va_Pc av (cI D K s0 B A ad z)
abbrev cIQ (D : va_G) (K : Nat → ClassId) (B : Nat → Nat) (A : Nat → Prop) (v : Option Value) (z : CZ) : Array Value → State → Outcome → State → Prop := fun _ st o t => (o = .returned v ∧ ∃ ad' : CA, cP D K B ad' z t.heap ∧ cV K B A ad' z) ∧ va_F A st t
/-- answers a new cell -/
abbrev cIQr (D : va_G) (K : Nat → ClassId) (B : Nat → Nat) (A : Nat → Prop) (ad : CA) (z : CZ) (x : va_E) : Array Value → State → Outcome → State → Prop := fun _ st o t => (∃ q : Nat, o = .returned (some (.ref q)) ∧ cP D K B (adp ad (q, x)) z t.heap ∧ cV K B A (adp ad (q, x)) z) ∧ va_F A st t
section ALLOC
variable {p : Program} {l : Launch} {e : Env} {R : Room} {s : State} {m : MethodId} {args : Array Value} {below : List Frame} {meth : Method} {c : Code} {H : Heap} {locs : List Loc} {cells slots : Nat} {Q : State → Prop} {cc : ByteArray} {nL pc : Nat} {rest : List Value} {ls : Array Slot} {D : va_G} {K : Nat → ClassId} {s0 : State} {a0 : Array Value} {B : Nat → Nat} {ad : CA} {A : Nat → Prop} {z : CZ} {lv : List (Nat × Value)} {own : String}
theorem W_pad {c' s' : Nat} {g : JFrame} (hc : cells ≤ c') (hs : slots ≤ s') (k : W p l e R s m args below meth c H locs c' s' Q g) : W p l e R s m args below meth c H locs cells slots Q g :=
  fun T hT X => k T hT ⟨X.admits, X.cas, X.clock, X.frames, X.room, X.hears, X.method, X.code, X.here, X.tail, X.warmed, X.limits, X.bytes, X.same.weaken (fun x h _ => h) hc hs⟩
theorem cI_blind {av : List Value} : FrameBlind (cIPc D K s0 B A ad z av) := by
  intro a U g mk q
  obtain ⟨q0, qP, qK, qN, qD⟩ := q
  exact ⟨q0, qP, va_K.moved (u := U) (U := U.calling g mk a) (Vm.Alike.refl U.vm) qK, qN, qD⟩
/-- the old heap, and what is new, at a point of a walk -/
theorem xE_at (hAl : ∀ q, A q → s0.heap.size ≤ q) (hX : xE s0 s) (hS : va_S A s.heap H locs) {U : State} (hU : U.heap = H) (hW : s.WarmedH U.vm) : xE s0 U := by
  refine ⟨State.WarmedH.trans hX.1 hW, by rw [hU]; exact Nat.le_trans hX.2.1 hS.1, fun q hq => ?_⟩
  rw [hU, hS.2.1 q (Nat.lt_of_lt_of_le hq hX.2.1) (fun h => absurd (hAl q h) (by omega))]
  exact hX.2.2 q hq
theorem cI_at (hAl : ∀ q, A q → s0.heap.size ≤ q) (hA : ∀ q, s.heap.size ≤ q → A q) (hX : xE s0 s) (hK : va_K D vCl (cT K) s) (hP : cP D K B ad z H) (hD : cV K B A ad z) (hS : va_S A s.heap H locs) {U : State} (hU : U.heap = H) (hW : s.WarmedH U.vm) : cI D K s0 B A ad z U :=
  ⟨by rw [hU]; exact hP, va_K.moved hW.alike hK, xE_at hAl hX hS hU hW, hD, fun q hq => hA q (Nat.le_trans hS.1 (by rw [hU] at hq; exact hq))⟩
theorem cI_pre (hAl : ∀ q, A q → s0.heap.size ≤ q) (hA : ∀ q, s.heap.size ≤ q → A q) (hX : xE s0 s) (hK : va_K D vCl (cT K) s) (hP : cP D K B ad z H) (hD : cV K B A ad z) (hS : va_S A s.heap H locs) {C : String} {b : Nat} {As : List Value} (hc : ∃ cellB : Cell, H[b]? = some cellB ∧ cellB.vm.isStatics = false ∧ s.vm.findClass C = some cellB.cls) : PreV s H C b (cIPc D K s0 B A ad z (.ref b :: As)) As :=
  ⟨cI_blind, hc, fun U hU hW => ⟨rfl, cI_at hAl hA hX hK hP hD hS hU hW⟩⟩
theorem cI_preS (hAl : ∀ q, A q → s0.heap.size ≤ q) (hA : ∀ q, s.heap.size ≤ q → A q) (hX : xE s0 s) (hK : va_K D vCl (cT K) s) (hP : cP D K B ad z H) (hD : cV K B A ad z) (hS : va_S A s.heap H locs) {As : List Value} : PreS s H (cIPc D K s0 B A ad z As) As :=
  ⟨cI_blind, fun U hU hW => ⟨rfl, cI_at hAl hA hX hK hP hD hS hU hW⟩⟩
/-- va_S behind a call -/
theorem vS_call {H1 : Heap} {L : List Loc} {st t : State} {F : Nat → Prop} (hS : va_S A s.heap H locs) (h0 : st.heap = H) (hq : va_F F st t) (hF : ∀ q, q < H.size → F q → A q) (hL : ∀ q ∈ L, A q.base) (h1 : H1 = t.heap) : va_S A s.heap H1 (locs ++ L) := by
  obtain ⟨a1, a2, a3⟩ := hS
  obtain ⟨b1, b2⟩ := hq
  rw [h0] at b1 b2
  subst h1
  refine ⟨Nat.le_trans a1 b1, fun q g1 g2 => ?_, fun q hq => ?_⟩
  · rw [b2 q (Nat.lt_of_lt_of_le g1 a1) (fun h => g2 (hF q (Nat.lt_of_lt_of_le g1 a1) h))]; exact a2 q g1 g2
  · rcases List.mem_append.mp hq with g | g
    · exact a3 q g
    · exact hL q g
/-- behind a constructor of the newest cell -/
theorem ck_ctor {mc ms q ci : Nat} {av : Array Value} {vs vs' st0 : List Value} {Wd : va_W} (hr : va_Run p l e R s m args below meth c H locs cells slots mc ms (F0 m pc ls st0) rest (nQ D q ci vs' av) (fun x => x = q)) (hP : va_P D vCl (Wd ++ [(q, .inr (ci, vs))]) H) (hD : va_D A (Wd ++ [(q, .inr (ci, vs))])) (hS : va_S A s.heap H locs)
    (kk : ∀ (H : Heap) (locs : List Loc), va_P D vCl (Wd ++ [(q, .inr (ci, vs'))]) H → va_D A (Wd ++ [(q, .inr (ci, vs'))]) → va_S A s.heap H locs → W p l e R s m args below meth c H locs (cells + mc) (slots + ms) Q (F0 m (pc + 3) ls rest)) : W p l e R s m args below meth c H locs cells slots Q (F0 m pc ls st0) := by
  intro T hT X
  obtain ⟨v', st₀, t, T', L, h0, X', hL, h1, -, ⟨⟨hq, hq2⟩, hq3⟩, st⟩ := hr T hT X
  cases hq
  have hl : (Wd ++ [(q, (Sum.inr (ci, vs) : va_E))])[Wd.length]? = some (q, .inr (ci, vs)) := by simp
  have hAq : A q := hD.2 _ _ hl
  have hS1 : va_S A s.heap t.heap (locs ++ L) := vS_call hS h0 hq3 (fun x _ hx => by rw [hx]; exact hAq) (fun x hx => by rw [hL x hx]; exact hAq) rfl
  have hP1 : va_P D vCl (Wd ++ [(q, .inr (ci, vs'))]) t.heap := by
    intro k x hk
    by_cases hlt : k < Wd.length
    · rw [List.getElem?_append_left hlt] at hk
      have hk' : (Wd ++ [(q, (Sum.inr (ci, vs) : va_E))])[k]? = some x := by rw [List.getElem?_append_left hlt]; exact hk
      have hx := hP k x hk'
      have hne : x.1 ≠ q := fun h => absurd (hD.1 k Wd.length x _ hk' hl h) (by omega)
      refine hx.kept ?_
      have := hq3.2 x.1 (by rw [h0]; exact hx.lt) hne
      rw [h0] at this
      exact this
    · rw [List.getElem?_append_right (by omega)] at hk
      have hz : k - Wd.length < 1 := (List.getElem?_eq_some_iff.mp hk).1
      rw [show k - Wd.length = 0 by omega] at hk
      cases hk
      exact hq2 0 _ rfl
  obtain ⟨t2, a1, b1⟩ := kk t.heap (locs ++ L) hP1 (vaD_fst (by simp) hD) hS1 T' h1 X'
  exact ⟨t2, st t2 a1, b1⟩
/-- behind a call that makes cells -/
theorem cI_go {mc ms : Nat} {av : Array Value} {v : Option Value} {z1 : CZ} {st0 : List Value} (hr : va_Run p l e R s m args below meth c H locs cells slots mc ms (F0 m pc ls st0) rest (cIQ D K B A v z1 av) A) (hS : va_S A s.heap H locs)
    (kk : ∀ (H : Heap) (locs : List Loc) (ad : CA), cP D K B ad z1 H → cV K B A ad z1 → va_S A s.heap H locs → W p l e R s m args below meth c H locs (cells + mc) (slots + ms) Q (F0 m (pc + 3) ls (v.toList ++ rest))) : W p l e R s m args below meth c H locs cells slots Q (F0 m pc ls st0) := by
  intro T hT X
  obtain ⟨v', st₀, t, T', L, h0, X', hL, h1, -, ⟨⟨hq, ad', hq2, hqD⟩, hq3⟩, st⟩ := hr T hT X
  cases hq
  obtain ⟨t2, a1, b1⟩ := kk t.heap (locs ++ L) ad' hq2 hqD (vS_call hS h0 hq3 (fun _ _ h => h) hL rfl) T' h1 X'
  exact ⟨t2, st t2 a1, b1⟩
theorem cI_goR {mc ms : Nat} {av : Array Value} {x : va_E} {z1 : CZ} {st0 : List Value} (hr : va_Run p l e R s m args below meth c H locs cells slots mc ms (F0 m pc ls st0) rest (cIQr D K B A ad z1 x av) A) (hS : va_S A s.heap H locs)
    (kk : ∀ (q : Nat) (H : Heap) (locs : List Loc), cP D K B (adp ad (q, x)) z1 H → cV K B A (adp ad (q, x)) z1 → va_S A s.heap H locs → W p l e R s m args below meth c H locs (cells + mc) (slots + ms) Q (F0 m (pc + 3) ls (.ref q :: rest))) : W p l e R s m args below meth c H locs cells slots Q (F0 m pc ls st0) := by
  intro T hT X
  obtain ⟨v', st₀, t, T', L, h0, X', hL, h1, -, ⟨⟨q, hq, hq2, hqD⟩, hq3⟩, st⟩ := hr T hT X
  cases hq
  obtain ⟨t2, a1, b1⟩ := kk q t.heap (locs ++ L) hq2 hqD (vS_call hS h0 hq3 (fun _ _ h => h) hL rfl) T' h1 X'
  exact ⟨t2, st t2 a1, b1⟩
end ALLOC
