/-! what is done to a list, in the component's world -/
theorem vP_set2 {D : va_G} {cl : List vw_C} {ws : va_W} {H H1 : Heap} {A : Nat → Prop} {i j a b : Nat} {e1 e2 e1' e2' : va_E} (hP : va_P D cl ws H) (hD : va_D A ws) (hi : ws[i]? = some (a, e1)) (hj : ws[j]? = some (b, e2)) (hij : i ≠ j) (ha : va_at D cl (a, e1') H1) (hb : va_at D cl (b, e2') H1) (hk : ∀ q, q < H.size → ¬ (q = a ∨ q = b) → H1[q]? = H[q]?) : va_P D cl ((ws.set i (a, e1')).set j (b, e2')) H1 := by
  intro k x hx
  rw [List.getElem?_set] at hx
  split at hx
  · rename_i hjk
    split at hx
    · cases hx; exact hb
    · cases hx
  · rename_i hjk
    rw [List.getElem?_set] at hx
    split at hx
    · split at hx
      · cases hx; exact ha
      · cases hx
    · rename_i hik
      have h0 := hP k x hx
      refine h0.kept (hk x.1 h0.lt (fun h => ?_))
      rcases h with h | h
      · exact hik (hD.1 i k (a, e1) x hi hx h.symm)
      · exact hjk (hD.1 j k (b, e2) x hj hx h.symm)
def cz_P (z : CZ) (n : Nat) (k : Nat → Nat) (lm : Nat → Int32) : CZ := (z.1, z.2.1, (n, k, lm), z.2.2.2.1, z.2.2.2.2)
def cz_R (z : CZ) (n : Nat) (a b : Nat → Int32) : CZ := (z.1, z.2.1, z.2.2.1, (n, a, b), z.2.2.2.2)
/-- in a world apart, a cell is known by its address -/
theorem dy_uniq {A : Nat → Prop} {K : Nat → ClassId} {B : Nat → Nat} {ad : CA} {z : CZ} (hD : va_D A (cW K B ad z)) {a : Nat} {x y : va_E} (hx : (a, x) ∈ ad.2.2) (hy : (a, y) ∈ ad.2.2) : x = y := by
  obtain ⟨i, hi⟩ := cW_dy (K := K) (B := B) (z := z) hx
  obtain ⟨j, hj⟩ := cW_dy (K := K) (B := B) (z := z) hy
  have h := hD.1 _ _ _ _ hi hj rfl
  rw [h] at hi
  cases hi.symm.trans hj
  rfl
theorem mem_set {α : Type} {l : List α} {i : Nat} {x y w : α} (hi : l[i]? = some w) (hy : y ∈ l) (hne : y ≠ w) : y ∈ l.set i x := by
  obtain ⟨j, hj⟩ := List.getElem?_of_mem hy
  have hji : j ≠ i := fun h => by rw [h, hi] at hj; exact hne (Option.some.inj hj).symm
  refine List.mem_of_getElem? (i := j) ?_
  rw [List.getElem?_set, if_neg (fun h => hji h.symm)]
  exact hj
theorem mem_set_self {α : Type} {l : List α} {i : Nat} {x w : α} (hi : l[i]? = some w) : x ∈ l.set i x := by
  refine List.mem_of_getElem? (i := i) ?_
  rw [List.getElem?_set, if_pos rfl, if_pos (List.getElem?_eq_some_iff.mp hi).1]
/-- cells that no list's array is stay where they are -/
theorem dy_stay {A : Nat → Prop} {K : Nat → ClassId} {B : Nat → Nat} {ad : CA} {z : CZ} (hD : va_D A (cW K B ad z)) {i e0 cap : Nat} {fe : Nat → Option Nat} {nw : va_E} (hi : ad.2.2[i]? = some (e0, .inl (K 3, rqs cap fe))) {a : Nat} {x : va_E} (hx : (a, x) ∈ ad.2.2) (hne : ∀ c n f, x ≠ .inl (c, rqs n f)) : (a, x) ∈ ad.2.2.set i (e0, nw) :=
  mem_set hi hx (fun h => hne (K 3) cap fe (congrArg Prod.snd h))
theorem set_same {α : Type} {l : List α} {i : Nat} {x : α} (h : l[i]? = some x) : l.set i x = l := by
  obtain ⟨hl, rfl⟩ := List.getElem?_eq_some_iff.mp h
  exact List.set_getElem_self hl
set_option maxHeartbeats 1000000 in
theorem lift_P {D : va_G} {K : Nat → ClassId} {B : Nat → Nat} {A : Nat → Prop} {ad : CA} {z : CZ} {H H1 : Heap} {i n : Nat} {fe fe' : Nat → Option Nat} {mc : Int32} {kd : Nat → Nat} {lm : Nat → Int32} {a2 : Nat → Nat} (hP : cP D K B ad z H) (hV : cV K B A ad z) (hB : ¬ A (B 10)) (hi : ad.2.2[i]? = some (ad.2.1 4, .inl (K 3, rqs 10 fe))) (ha2 : ∀ x, (x < 100 ∨ 200 ≤ x) → a2 x = ad.2.1 x) (hn : n ≤ 10) (hfe : ∀ x, x < n → fe' x = some (a2 (100 + x))) (hrd : ∀ x, x < n → kd x ≤ 2 ∧ (a2 (100 + x), cRi B (kd x) x (lm x)) ∈ ad.2.2)
    (hP1 : va_P D vCl (jW K (B 4) mc (ad.2.1 4) (nI n) 10 fe') H1) (hk : ∀ q, q < H.size → ¬ jF (B 4) (ad.2.1 4) q → H1[q]? = H[q]?) : cP D K B (upd ad.1 4 mc, a2, ad.2.2.set i (ad.2.1 4, .inl (K 3, rqs 10 fe'))) (cz_P z n kd lm) H1 ∧ cV K B A (upd ad.1 4 mc, a2, ad.2.2.set i (ad.2.1 4, .inl (K 3, rqs 10 fe'))) (cz_P z n kd lm) := by
  have h4 : a2 4 = ad.2.1 4 := ha2 4 (by omega)
  have h7 : a2 7 = ad.2.1 7 := ha2 7 (by omega)
  have h300 : ∀ k, a2 (300 + k) = ad.2.1 (300 + k) := fun k => ha2 _ (by omega)
  have hw : cW K B (upd ad.1 4 mc, a2, ad.2.2.set i (ad.2.1 4, .inl (K 3, rqs 10 fe'))) (cz_P z n kd lm) = ((cW K B ad z).set 5 (B 4, .inr (2, [.int mc, .ref (ad.2.1 4), .int (nI n)]))).set (i + 7) (ad.2.1 4, .inl (K 3, rqs 10 fe')) := by
    have hsh : (fun k => (cz_sh (cz_P z n kd lm) k).map (fun _ => a2 (300 + k))) = (fun k => (cz_sh z k).map (fun _ => ad.2.1 (300 + k))) := funext fun k => by rw [h300]; rfl
    have hl4 : cLs B (upd ad.1 4 mc, a2, ad.2.2.set i (ad.2.1 4, .inl (K 3, rqs 10 fe'))) 4 n = (B 4, .inr (2, [.int mc, .ref (ad.2.1 4), .int (nI n)])) := by
      show (B 4, (Sum.inr (2, [.int mc, .ref (a2 4), .int (nI n)]) : va_E)) = _
      rw [h4]
    have hl7 : cLs B (upd ad.1 4 mc, a2, ad.2.2.set i (ad.2.1 4, .inl (K 3, rqs 10 fe'))) 7 (cz_nr z) = cLs B ad 7 (cz_nr z) := by
      show (B 7, (Sum.inr (2, [.int (ad.1 7), .ref (a2 7), .int (nI (cz_nr z))]) : va_E)) = _
      rw [h7]
    show (B 0, .inr (0, cF B z)) :: (B 3, .inl (K 0, 25, .inl (z.2.1 3))) :: (B 5, .inl (K 0, 32, .inl (z.2.1 5))) :: (B 6, .inl (K 0, 25, .inl (z.2.1 6))) :: (B 9, .inl (K 4, rqs 4 (fun k => (cz_sh (cz_P z n kd lm) k).map (fun _ => a2 (300 + k))))) :: cLs B (upd ad.1 4 mc, a2, ad.2.2.set i (ad.2.1 4, .inl (K 3, rqs 10 fe'))) 4 n :: cLs B (upd ad.1 4 mc, a2, ad.2.2.set i (ad.2.1 4, .inl (K 3, rqs 10 fe'))) 7 (cz_nr z) :: ad.2.2.set i (ad.2.1 4, .inl (K 3, rqs 10 fe')) = _
    rw [hsh, hl4, hl7]
    rfl
  have hiW : (cW K B ad z)[i + 7]? = some (ad.2.1 4, .inl (K 3, rqs 10 fe)) := hi
  have hA0 : A (ad.2.1 4) := hV.1.2 _ _ hiW
  have h47 : ad.2.1 4 ≠ ad.2.1 7 := fun h => hB (hV.2.1 h ▸ hA0)
  obtain ⟨⟨g1, g2⟩, g3, g4, g5, g6, g7⟩ := hP.2
  refine ⟨⟨?_, ⟨hn, g2⟩, Or.inl ⟨fe', ?_, hfe⟩, ?_, fun x hx => ⟨(hrd x hx).1, dy_stay hV.1 hi (hrd x hx).2 (fun _ _ _ h => by cases h)⟩, fun x hx => ?_, fun k hk q hq => ?_⟩, ?_, ?_, ?_⟩
  · rw [hw]
    exact vP_set2 hP.1 hV.1 (i := 5) rfl hiW (by omega) (hP1 0 _ rfl) (hP1 1 _ rfl) hk
  · show (a2 4, _) ∈ _
    rw [h4]; exact mem_set_self hi
  · rcases g4 with ⟨f7, c1, c2⟩ | ⟨c1, c2⟩
    · refine Or.inl ⟨f7, ?_, fun x hx => ?_⟩
      · show (a2 7, _) ∈ ad.2.2.set i _
        rw [h7]
        exact mem_set hi c1 (fun h => h47 (congrArg Prod.fst h).symm)
      · show f7 x = some (a2 (200 + x))
        rw [ha2 _ (by omega)]; exact c2 x hx
    · exact Or.inr ⟨c1, by show a2 7 = B 10; rw [h7]; exact c2⟩
  · show (a2 (200 + x), _) ∈ ad.2.2.set i _
    rw [ha2 _ (by omega)]
    exact dy_stay hV.1 hi (g6 x hx) (fun _ _ _ h => by cases h)
  · obtain ⟨c1, c2, c3, c4⟩ := g7 k hk q hq
    refine ⟨c1, c2, ?_, ?_⟩
    · show (a2 (300 + k), Sum.inr (7, [.ref (a2 (400 + k))])) ∈ ad.2.2.set i _
      rw [h300, ha2 (400 + k) (by omega)]
      exact dy_stay hV.1 hi c3 (fun _ _ _ h => by cases h)
    · show (a2 (400 + k), _) ∈ ad.2.2.set i _
      rw [ha2 (400 + k) (by omega)]
      exact dy_stay hV.1 hi c4 (fun _ _ _ h => by cases h)
  · rw [hw]
    refine vaD_fst ?_ hV.1
    rw [List.map_set, List.map_set]
    have e5 : ((cW K B ad z).map (·.1))[5]? = some (B 4) := rfl
    have e6 : ((cW K B ad z).map (·.1))[i + 7]? = some (ad.2.1 4) := by rw [List.getElem?_map, hiW]; rfl
    rw [set_same e5, set_same e6]
  · show a2 4 = a2 7 → a2 4 = B 10
    rw [h4, h7]; exact hV.2.1
  · intro k k' b1 b2 b3 b4 b5
    show a2 (400 + k) ≠ a2 (400 + k')
    rw [ha2 _ (by omega), ha2 _ (by omega)]
    exact hV.2.2 k k' b1 b2 b3 b4 b5
set_option maxHeartbeats 1000000 in
theorem lift_R {D : va_G} {K : Nat → ClassId} {B : Nat → Nat} {A : Nat → Prop} {ad : CA} {z : CZ} {H H1 : Heap} {i n : Nat} {fe fe' : Nat → Option Nat} {mc : Int32} {rl rp : Nat → Int32} {a2 : Nat → Nat} (hP : cP D K B ad z H) (hV : cV K B A ad z) (hB : ¬ A (B 10)) (hi : ad.2.2[i]? = some (ad.2.1 7, .inl (K 3, rqs 10 fe))) (ha2 : ∀ x, (x < 200 ∨ 300 ≤ x) → a2 x = ad.2.1 x) (hn : n ≤ 10) (hfe : ∀ x, x < n → fe' x = some (a2 (200 + x))) (hrd : ∀ x, x < n → (a2 (200 + x), .inr (6, [.int (rl x), .int (rp x)])) ∈ ad.2.2)
    (hP1 : va_P D vCl (jW K (B 7) mc (ad.2.1 7) (nI n) 10 fe') H1) (hk : ∀ q, q < H.size → ¬ jF (B 7) (ad.2.1 7) q → H1[q]? = H[q]?) : cP D K B (upd ad.1 7 mc, a2, ad.2.2.set i (ad.2.1 7, .inl (K 3, rqs 10 fe'))) (cz_R z n rl rp) H1 ∧ cV K B A (upd ad.1 7 mc, a2, ad.2.2.set i (ad.2.1 7, .inl (K 3, rqs 10 fe'))) (cz_R z n rl rp) := by
  have h4 : a2 4 = ad.2.1 4 := ha2 4 (by omega)
  have h7 : a2 7 = ad.2.1 7 := ha2 7 (by omega)
  have h300 : ∀ k, a2 (300 + k) = ad.2.1 (300 + k) := fun k => ha2 _ (by omega)
  have hw : cW K B (upd ad.1 7 mc, a2, ad.2.2.set i (ad.2.1 7, .inl (K 3, rqs 10 fe'))) (cz_R z n rl rp) = ((cW K B ad z).set 6 (B 7, .inr (2, [.int mc, .ref (ad.2.1 7), .int (nI n)]))).set (i + 7) (ad.2.1 7, .inl (K 3, rqs 10 fe')) := by
    have hsh : (fun k => (cz_sh (cz_R z n rl rp) k).map (fun _ => a2 (300 + k))) = (fun k => (cz_sh z k).map (fun _ => ad.2.1 (300 + k))) := funext fun k => by rw [h300]; rfl
    have hl7 : cLs B (upd ad.1 7 mc, a2, ad.2.2.set i (ad.2.1 7, .inl (K 3, rqs 10 fe'))) 7 n = (B 7, .inr (2, [.int mc, .ref (ad.2.1 7), .int (nI n)])) := by
      show (B 7, (Sum.inr (2, [.int mc, .ref (a2 7), .int (nI n)]) : va_E)) = _
      rw [h7]
    have hl4 : cLs B (upd ad.1 7 mc, a2, ad.2.2.set i (ad.2.1 7, .inl (K 3, rqs 10 fe'))) 4 (cz_np z) = cLs B ad 4 (cz_np z) := by
      show (B 4, (Sum.inr (2, [.int (ad.1 4), .ref (a2 4), .int (nI (cz_np z))]) : va_E)) = _
      rw [h4]
    show (B 0, .inr (0, cF B z)) :: (B 3, .inl (K 0, 25, .inl (z.2.1 3))) :: (B 5, .inl (K 0, 32, .inl (z.2.1 5))) :: (B 6, .inl (K 0, 25, .inl (z.2.1 6))) :: (B 9, .inl (K 4, rqs 4 (fun k => (cz_sh (cz_R z n rl rp) k).map (fun _ => a2 (300 + k))))) :: cLs B (upd ad.1 7 mc, a2, ad.2.2.set i (ad.2.1 7, .inl (K 3, rqs 10 fe'))) 4 (cz_np z) :: cLs B (upd ad.1 7 mc, a2, ad.2.2.set i (ad.2.1 7, .inl (K 3, rqs 10 fe'))) 7 n :: ad.2.2.set i (ad.2.1 7, .inl (K 3, rqs 10 fe')) = _
    rw [hsh, hl4, hl7]
    rfl
  have hiW : (cW K B ad z)[i + 7]? = some (ad.2.1 7, .inl (K 3, rqs 10 fe)) := hi
  have hA0 : A (ad.2.1 7) := hV.1.2 _ _ hiW
  have h47 : ad.2.1 4 ≠ ad.2.1 7 := fun h => hB (hV.2.1 h ▸ h ▸ hA0)
  obtain ⟨⟨g1, g2⟩, g3, g4, g5, g6, g7⟩ := hP.2
  refine ⟨⟨?_, ⟨g1, hn⟩, ?_, Or.inl ⟨fe', ?_, hfe⟩, fun x hx => ?_, fun x hx => dy_stay hV.1 hi (hrd x hx) (fun _ _ _ h => by cases h), fun k hk q hq => ?_⟩, ?_, ?_, ?_⟩
  · rw [hw]
    exact vP_set2 hP.1 hV.1 (i := 6) rfl hiW (by omega) (hP1 0 _ rfl) (hP1 1 _ rfl) hk
  · rcases g3 with ⟨f7, c1, c2⟩ | ⟨c1, c2⟩
    · refine Or.inl ⟨f7, ?_, fun x hx => ?_⟩
      · show (a2 4, _) ∈ ad.2.2.set i _
        rw [h4]
        exact mem_set hi c1 (fun h => h47 (congrArg Prod.fst h))
      · show f7 x = some (a2 (100 + x))
        have hx : x < cz_np z := hx
        rw [ha2 _ (by omega)]; exact c2 x hx
    · exact Or.inr ⟨c1, by show a2 4 = B 10; rw [h4]; exact c2⟩
  · show (a2 7, _) ∈ _
    rw [h7]; exact mem_set_self hi
  · have hx : x < cz_np z := hx
    refine ⟨(g5 x hx).1, ?_⟩
    show (a2 (100 + x), _) ∈ ad.2.2.set i _
    rw [ha2 _ (by omega)]
    exact dy_stay hV.1 hi (g5 x hx).2 (fun _ _ _ h => by cases h)
  · obtain ⟨c1, c2, c3, c4⟩ := g7 k hk q hq
    refine ⟨c1, c2, ?_, ?_⟩
    · show (a2 (300 + k), Sum.inr (7, [.ref (a2 (400 + k))])) ∈ ad.2.2.set i _
      rw [h300, ha2 (400 + k) (by omega)]
      exact dy_stay hV.1 hi c3 (fun _ _ _ h => by cases h)
    · show (a2 (400 + k), _) ∈ ad.2.2.set i _
      rw [ha2 (400 + k) (by omega)]
      exact dy_stay hV.1 hi c4 (fun _ _ _ h => by cases h)
  · rw [hw]
    refine vaD_fst ?_ hV.1
    rw [List.map_set, List.map_set]
    have e5 : ((cW K B ad z).map (·.1))[6]? = some (B 7) := rfl
    have e6 : ((cW K B ad z).map (·.1))[i + 7]? = some (ad.2.1 7) := by rw [List.getElem?_map, hiW]; rfl
    rw [set_same e5, set_same e6]
  · show a2 4 = a2 7 → a2 4 = B 10
    rw [h4, h7]; exact hV.2.1
  · intro k k' b1 b2 b3 b4 b5
    show a2 (400 + k) ≠ a2 (400 + k')
    rw [ha2 _ (by omega), ha2 _ (by omega)]
    exact hV.2.2 k k' b1 b2 b3 b4 b5
