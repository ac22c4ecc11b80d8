/-! what makes no cells leaves the sheets (python3 gen/sp.py) -/
def shk2 {α : Type} (S : Nat → Option (Nat × Nat × (Nat → Int32))) (o : Option (α × CZ)) : Prop := (∀ r, o = some r → r.2.2.2.2.2 = S) ∧ True
def shk1 (S : Nat → Option (Nat × Nat × (Nat → Int32))) (o : Option CZ) : Prop := (∀ r, o = some r → r.2.2.2.2 = S) ∧ True
section SHK
variable {α β : Type} {S : Nat → Option (Nat × Nat × (Nat → Int32))}
theorem shk_some {v : α} {z : CZ} (h : z.2.2.2.2 = S) : shk2 S (some (v, z)) := ⟨fun r e => by cases e; exact h, trivial⟩
theorem shk_some1 {z : CZ} (h : z.2.2.2.2 = S) : shk1 S (some z) := ⟨fun r e => by cases e; exact h, trivial⟩
theorem shk_ite {P : Prop} [Decidable P] {a b : Option (α × CZ)} (ha : shk2 S a) (hb : shk2 S b) : shk2 S (if P then a else b) := by
  split
  · exact ha
  · exact hb
theorem shk_ite1 {P : Prop} [Decidable P] {a b : Option CZ} (ha : shk1 S a) (hb : shk1 S b) : shk1 S (if P then a else b) := by
  split
  · exact ha
  · exact hb
theorem shk_gd {b : Bool} {a : Option (α × CZ)} (ha : shk2 S a) : shk2 S (gd b a) := ⟨fun r h => ha.1 r (gd_some h).2, trivial⟩
theorem shk_gd1 {b : Bool} {a : Option CZ} (ha : shk1 S a) : shk1 S (gd b a) := ⟨fun r h => ha.1 r (gd_some h).2, trivial⟩
theorem shk_bind {o : Option (β × CZ)} {f : β × CZ → Option (α × CZ)} (ho : shk2 S o) (hf : ∀ r : β × CZ, r.2.2.2.2.2 = S → shk2 S (f r)) : shk2 S (o.bind f) := ⟨fun r h => by
  obtain ⟨q, h1, h2⟩ := bnd h
  exact (hf q (ho.1 q h1)).1 r h2, trivial⟩
theorem shk_bind1 {o : Option CZ} {f : CZ → Option (α × CZ)} (ho : shk1 S o) (hf : ∀ r : CZ, r.2.2.2.2 = S → shk2 S (f r)) : shk2 S (o.bind f) := ⟨fun r h => by
  obtain ⟨q, h1, h2⟩ := bnd h
  exact (hf q (ho.1 q h1)).1 r h2, trivial⟩
theorem shk_bind21 {o : Option (β × CZ)} {f : β × CZ → Option CZ} (ho : shk2 S o) (hf : ∀ r : β × CZ, r.2.2.2.2.2 = S → shk1 S (f r)) : shk1 S (o.bind f) := ⟨fun r h => by
  obtain ⟨q, h1, h2⟩ := bnd h
  exact (hf q (ho.1 q h1)).1 r h2, trivial⟩
theorem shk_bind11 {o : Option CZ} {f : CZ → Option CZ} (ho : shk1 S o) (hf : ∀ r : CZ, r.2.2.2.2 = S → shk1 S (f r)) : shk1 S (o.bind f) := ⟨fun r h => by
  obtain ⟨q, h1, h2⟩ := bnd h
  exact (hf q (ho.1 q h1)).1 r h2, trivial⟩
theorem shk_bindP {o : Option β} {f : β → Option (α × CZ)} (hf : ∀ r : β, shk2 S (f r)) : shk2 S (o.bind f) := ⟨fun r h => by
  obtain ⟨q, h1, h2⟩ := bnd h
  exact (hf q).1 r h2, trivial⟩
theorem shk_bindP1 {o : Option β} {f : β → Option CZ} (hf : ∀ r : β, shk1 S (f r)) : shk1 S (o.bind f) := ⟨fun r h => by
  obtain ⟨q, h1, h2⟩ := bnd h
  exact (hf q).1 r h2, trivial⟩
theorem shk_jn0 {k : CZ → Option (α × CZ)} {f : (CZ → Option (α × CZ)) → Option (α × CZ)} (hk : ∀ (z : CZ), z.2.2.2.2 = S → shk2 S (k z)) (hf : ∀ k : CZ → Option (α × CZ), (∀ (z : CZ), z.2.2.2.2 = S → shk2 S (k z)) → shk2 S (f k)) : shk2 S (jn k f) := hf k hk
theorem shk_jn1 {b0 : Type} {k : b0 → CZ → Option (α × CZ)} {f : (b0 → CZ → Option (α × CZ)) → Option (α × CZ)} (hk : ∀ (v0 : b0) (z : CZ), z.2.2.2.2 = S → shk2 S (k v0 z)) (hf : ∀ k : b0 → CZ → Option (α × CZ), (∀ (v0 : b0) (z : CZ), z.2.2.2.2 = S → shk2 S (k v0 z)) → shk2 S (f k)) : shk2 S (jn k f) := hf k hk
theorem shk_jn2 {b0 : Type} {b1 : Type} {k : b0 → b1 → CZ → Option (α × CZ)} {f : (b0 → b1 → CZ → Option (α × CZ)) → Option (α × CZ)} (hk : ∀ (v0 : b0) (v1 : b1) (z : CZ), z.2.2.2.2 = S → shk2 S (k v0 v1 z)) (hf : ∀ k : b0 → b1 → CZ → Option (α × CZ), (∀ (v0 : b0) (v1 : b1) (z : CZ), z.2.2.2.2 = S → shk2 S (k v0 v1 z)) → shk2 S (f k)) : shk2 S (jn k f) := hf k hk
theorem shk_jn3 {b0 : Type} {b1 : Type} {b2 : Type} {k : b0 → b1 → b2 → CZ → Option (α × CZ)} {f : (b0 → b1 → b2 → CZ → Option (α × CZ)) → Option (α × CZ)} (hk : ∀ (v0 : b0) (v1 : b1) (v2 : b2) (z : CZ), z.2.2.2.2 = S → shk2 S (k v0 v1 v2 z)) (hf : ∀ k : b0 → b1 → b2 → CZ → Option (α × CZ), (∀ (v0 : b0) (v1 : b1) (v2 : b2) (z : CZ), z.2.2.2.2 = S → shk2 S (k v0 v1 v2 z)) → shk2 S (f k)) : shk2 S (jn k f) := hf k hk
theorem shk_jn4 {b0 : Type} {b1 : Type} {b2 : Type} {b3 : Type} {k : b0 → b1 → b2 → b3 → CZ → Option (α × CZ)} {f : (b0 → b1 → b2 → b3 → CZ → Option (α × CZ)) → Option (α × CZ)} (hk : ∀ (v0 : b0) (v1 : b1) (v2 : b2) (v3 : b3) (z : CZ), z.2.2.2.2 = S → shk2 S (k v0 v1 v2 v3 z)) (hf : ∀ k : b0 → b1 → b2 → b3 → CZ → Option (α × CZ), (∀ (v0 : b0) (v1 : b1) (v2 : b2) (v3 : b3) (z : CZ), z.2.2.2.2 = S → shk2 S (k v0 v1 v2 v3 z)) → shk2 S (f k)) : shk2 S (jn k f) := hf k hk
end SHK
theorem sp_c_noRiver {S : Nat → Option (Nat × Nat × (Nat → Int32))}  (z0 : CZ) (hs : z0.2.2.2.2 = S) : shk2 S (c_noRiver z0) := by
  unfold c_noRiver
  repeat' first
      | assumption
      | with_reducible apply_assumption
      | with_reducible apply shk_ite
      | with_reducible apply shk_gd
      | with_reducible refine shk_some ?_
      | with_reducible apply shk_ite1
      | with_reducible apply shk_gd1
      | with_reducible refine shk_some1 ?_
      | with_reducible refine shk_jn0 (fun _ _ => ?_) (fun _ _ => ?_)
      | with_reducible refine shk_jn1 (fun _ _ _ => ?_) (fun _ _ => ?_)
      | with_reducible refine shk_jn2 (fun _ _ _ _ => ?_) (fun _ _ => ?_)
      | with_reducible refine shk_jn3 (fun _ _ _ _ _ => ?_) (fun _ _ => ?_)
      | with_reducible refine shk_jn4 (fun _ _ _ _ _ _ => ?_) (fun _ _ => ?_)
      | with_reducible refine shk_bind ?_ (fun _ _ => ?_)
      | with_reducible refine shk_bind1 ?_ (fun _ _ => ?_)
      | with_reducible refine shk_bindP (fun _ => ?_)
theorem sp_c_noPerson {S : Nat → Option (Nat × Nat × (Nat → Int32))} (x1 : Int32) (z0 : CZ) (hs : z0.2.2.2.2 = S) : shk2 S (c_noPerson x1 z0) := by
  unfold c_noPerson
  repeat' first
      | assumption
      | with_reducible apply_assumption
      | with_reducible apply shk_ite
      | with_reducible apply shk_gd
      | with_reducible refine shk_some ?_
      | with_reducible apply shk_ite1
      | with_reducible apply shk_gd1
      | with_reducible refine shk_some1 ?_
      | with_reducible refine shk_jn0 (fun _ _ => ?_) (fun _ _ => ?_)
      | with_reducible refine shk_jn1 (fun _ _ _ => ?_) (fun _ _ => ?_)
      | with_reducible refine shk_jn2 (fun _ _ _ _ => ?_) (fun _ _ => ?_)
      | with_reducible refine shk_jn3 (fun _ _ _ _ _ => ?_) (fun _ _ => ?_)
      | with_reducible refine shk_jn4 (fun _ _ _ _ _ _ => ?_) (fun _ _ => ?_)
      | with_reducible refine shk_bind ?_ (fun _ _ => ?_)
      | with_reducible refine shk_bind1 ?_ (fun _ _ => ?_)
      | with_reducible refine shk_bindP (fun _ => ?_)
theorem sp_c_isNoNote {S : Nat → Option (Nat × Nat × (Nat → Int32))} (x1 : Int32) (x2 : Int32) (z0 : CZ) (hs : z0.2.2.2.2 = S) : shk2 S (c_isNoNote x1 x2 z0) := by
  unfold c_isNoNote
  repeat' first
      | assumption
      | with_reducible apply_assumption
      | with_reducible apply shk_ite
      | with_reducible apply shk_gd
      | with_reducible refine shk_some ?_
      | with_reducible apply shk_ite1
      | with_reducible apply shk_gd1
      | with_reducible refine shk_some1 ?_
      | with_reducible refine shk_jn0 (fun _ _ => ?_) (fun _ _ => ?_)
      | with_reducible refine shk_jn1 (fun _ _ _ => ?_) (fun _ _ => ?_)
      | with_reducible refine shk_jn2 (fun _ _ _ _ => ?_) (fun _ _ => ?_)
      | with_reducible refine shk_jn3 (fun _ _ _ _ _ => ?_) (fun _ _ => ?_)
      | with_reducible refine shk_jn4 (fun _ _ _ _ _ _ => ?_) (fun _ _ => ?_)
      | with_reducible refine sp_c_noPerson _ _ ?_
      | with_reducible refine shk_bind ?_ (fun _ _ => ?_)
      | with_reducible refine shk_bind1 ?_ (fun _ _ => ?_)
      | with_reducible refine shk_bindP (fun _ => ?_)
theorem sp_c_everyone {S : Nat → Option (Nat × Nat × (Nat → Int32))}  (z0 : CZ) (hs : z0.2.2.2.2 = S) : shk2 S (c_everyone z0) := by
  unfold c_everyone
  repeat' first
      | assumption
      | with_reducible apply_assumption
      | with_reducible apply shk_ite
      | with_reducible apply shk_gd
      | with_reducible refine shk_some ?_
      | with_reducible apply shk_ite1
      | with_reducible apply shk_gd1
      | with_reducible refine shk_some1 ?_
      | with_reducible refine shk_jn0 (fun _ _ => ?_) (fun _ _ => ?_)
      | with_reducible refine shk_jn1 (fun _ _ _ => ?_) (fun _ _ => ?_)
      | with_reducible refine shk_jn2 (fun _ _ _ _ => ?_) (fun _ _ => ?_)
      | with_reducible refine shk_jn3 (fun _ _ _ _ _ => ?_) (fun _ _ => ?_)
      | with_reducible refine shk_jn4 (fun _ _ _ _ _ _ => ?_) (fun _ _ => ?_)
      | with_reducible refine shk_bind ?_ (fun _ _ => ?_)
      | with_reducible refine shk_bind1 ?_ (fun _ _ => ?_)
      | with_reducible refine shk_bindP (fun _ => ?_)
theorem sp_c_isLoad {S : Nat → Option (Nat × Nat × (Nat → Int32))} (x1 : Int32) (z0 : CZ) (hs : z0.2.2.2.2 = S) : shk2 S (c_isLoad x1 z0) := by
  unfold c_isLoad
  repeat' first
      | assumption
      | with_reducible apply_assumption
      | with_reducible apply shk_ite
      | with_reducible apply shk_gd
      | with_reducible refine shk_some ?_
      | with_reducible apply shk_ite1
      | with_reducible apply shk_gd1
      | with_reducible refine shk_some1 ?_
      | with_reducible refine shk_jn0 (fun _ _ => ?_) (fun _ _ => ?_)
      | with_reducible refine shk_jn1 (fun _ _ _ => ?_) (fun _ _ => ?_)
      | with_reducible refine shk_jn2 (fun _ _ _ _ => ?_) (fun _ _ => ?_)
      | with_reducible refine shk_jn3 (fun _ _ _ _ _ => ?_) (fun _ _ => ?_)
      | with_reducible refine shk_jn4 (fun _ _ _ _ _ _ => ?_) (fun _ _ => ?_)
      | with_reducible refine sp_c_everyone _ ?_
      | with_reducible refine shk_bind ?_ (fun _ _ => ?_)
      | with_reducible refine shk_bind1 ?_ (fun _ _ => ?_)
      | with_reducible refine shk_bindP (fun _ => ?_)
theorem sp_c_noteOf {S : Nat → Option (Nat × Nat × (Nat → Int32))} (x1 : Int32) (x2 : Int32) (z0 : CZ) (hs : z0.2.2.2.2 = S) : shk2 S (c_noteOf x1 x2 z0) := by
  unfold c_noteOf
  repeat' first
      | assumption
      | with_reducible apply_assumption
      | with_reducible apply shk_ite
      | with_reducible apply shk_gd
      | with_reducible refine shk_some ?_
      | with_reducible apply shk_ite1
      | with_reducible apply shk_gd1
      | with_reducible refine shk_some1 ?_
      | with_reducible refine shk_jn0 (fun _ _ => ?_) (fun _ _ => ?_)
      | with_reducible refine shk_jn1 (fun _ _ _ => ?_) (fun _ _ => ?_)
      | with_reducible refine shk_jn2 (fun _ _ _ _ => ?_) (fun _ _ => ?_)
      | with_reducible refine shk_jn3 (fun _ _ _ _ _ => ?_) (fun _ _ => ?_)
      | with_reducible refine shk_jn4 (fun _ _ _ _ _ _ => ?_) (fun _ _ => ?_)
      | with_reducible refine shk_bind ?_ (fun _ _ => ?_)
      | with_reducible refine shk_bind1 ?_ (fun _ _ => ?_)
      | with_reducible refine shk_bindP (fun _ => ?_)
theorem sp_c_allOwedBy_L4 {S : Nat → Option (Nat × Nat × (Nat → Int32))} (x1 : Int32) : ∀ (n : Nat) (y0 : Int32) (y1 : Int32) (z : CZ), z.2.2.2.2 = S → shk2 S (c_allOwedBy_L4 x1 n y0 y1 z) := by
  intro n
  induction n with
  | zero => intro y0 y1 z hs; exact ⟨fun r h => (by cases h), trivial⟩
  | succ n ih =>
    intro y0 y1 z hs
    rw [c_allOwedBy_L4]
    repeat' first
      | assumption
      | with_reducible apply_assumption
      | with_reducible apply shk_ite
      | with_reducible apply shk_gd
      | with_reducible refine shk_some ?_
      | with_reducible apply shk_ite1
      | with_reducible apply shk_gd1
      | with_reducible refine shk_some1 ?_
      | with_reducible refine shk_jn0 (fun _ _ => ?_) (fun _ _ => ?_)
      | with_reducible refine shk_jn1 (fun _ _ _ => ?_) (fun _ _ => ?_)
      | with_reducible refine shk_jn2 (fun _ _ _ _ => ?_) (fun _ _ => ?_)
      | with_reducible refine shk_jn3 (fun _ _ _ _ _ => ?_) (fun _ _ => ?_)
      | with_reducible refine shk_jn4 (fun _ _ _ _ _ _ => ?_) (fun _ _ => ?_)
      | with_reducible refine sp_c_noteOf _ _ _ ?_
      | with_reducible refine ih _ _ _ ?_
      | with_reducible refine shk_bind ?_ (fun _ _ => ?_)
      | with_reducible refine shk_bind1 ?_ (fun _ _ => ?_)
      | with_reducible refine shk_bindP (fun _ => ?_)
theorem sp_c_allOwedBy {S : Nat → Option (Nat × Nat × (Nat → Int32))} (x1 : Int32) (z0 : CZ) (hs : z0.2.2.2.2 = S) : shk2 S (c_allOwedBy x1 z0) := by
  unfold c_allOwedBy
  repeat' first
      | assumption
      | with_reducible apply_assumption
      | with_reducible apply shk_ite
      | with_reducible apply shk_gd
      | with_reducible refine shk_some ?_
      | with_reducible apply shk_ite1
      | with_reducible apply shk_gd1
      | with_reducible refine shk_some1 ?_
      | with_reducible refine shk_jn0 (fun _ _ => ?_) (fun _ _ => ?_)
      | with_reducible refine shk_jn1 (fun _ _ _ => ?_) (fun _ _ => ?_)
      | with_reducible refine shk_jn2 (fun _ _ _ _ => ?_) (fun _ _ => ?_)
      | with_reducible refine shk_jn3 (fun _ _ _ _ _ => ?_) (fun _ _ => ?_)
      | with_reducible refine shk_jn4 (fun _ _ _ _ _ _ => ?_) (fun _ _ => ?_)
      | with_reducible refine sp_c_allOwedBy_L4 _ _ _ _ _ ?_
      | with_reducible refine shk_bind ?_ (fun _ _ => ?_)
      | with_reducible refine shk_bind1 ?_ (fun _ _ => ?_)
      | with_reducible refine shk_bindP (fun _ => ?_)
theorem sp_c_owes {S : Nat → Option (Nat × Nat × (Nat → Int32))} (x1 : Int32) (x2 : Int32) (z0 : CZ) (hs : z0.2.2.2.2 = S) : shk2 S (c_owes x1 x2 z0) := by
  unfold c_owes
  repeat' first
      | assumption
      | with_reducible apply_assumption
      | with_reducible apply shk_ite
      | with_reducible apply shk_gd
      | with_reducible refine shk_some ?_
      | with_reducible apply shk_ite1
      | with_reducible apply shk_gd1
      | with_reducible refine shk_some1 ?_
      | with_reducible refine shk_jn0 (fun _ _ => ?_) (fun _ _ => ?_)
      | with_reducible refine shk_jn1 (fun _ _ _ => ?_) (fun _ _ => ?_)
      | with_reducible refine shk_jn2 (fun _ _ _ _ => ?_) (fun _ _ => ?_)
      | with_reducible refine shk_jn3 (fun _ _ _ _ _ => ?_) (fun _ _ => ?_)
      | with_reducible refine shk_jn4 (fun _ _ _ _ _ _ => ?_) (fun _ _ => ?_)
      | with_reducible refine sp_c_noPerson _ _ ?_
      | with_reducible refine sp_c_noteOf _ _ _ ?_
      | with_reducible refine shk_bind ?_ (fun _ _ => ?_)
      | with_reducible refine shk_bind1 ?_ (fun _ _ => ?_)
      | with_reducible refine shk_bindP (fun _ => ?_)
theorem sp_c_lend {S : Nat → Option (Nat × Nat × (Nat → Int32))} (x1 : Int32) (x2 : Int32) (x3 : Int32) (z0 : CZ) (hs : z0.2.2.2.2 = S) : shk2 S (c_lend x1 x2 x3 z0) := by
  unfold c_lend
  repeat' first
      | assumption
      | with_reducible apply_assumption
      | with_reducible apply shk_ite
      | with_reducible apply shk_gd
      | with_reducible refine shk_some ?_
      | with_reducible apply shk_ite1
      | with_reducible apply shk_gd1
      | with_reducible refine shk_some1 ?_
      | with_reducible refine shk_jn0 (fun _ _ => ?_) (fun _ _ => ?_)
      | with_reducible refine shk_jn1 (fun _ _ _ => ?_) (fun _ _ => ?_)
      | with_reducible refine shk_jn2 (fun _ _ _ _ => ?_) (fun _ _ => ?_)
      | with_reducible refine shk_jn3 (fun _ _ _ _ _ => ?_) (fun _ _ => ?_)
      | with_reducible refine shk_jn4 (fun _ _ _ _ _ _ => ?_) (fun _ _ => ?_)
      | with_reducible refine sp_c_isNoNote _ _ _ ?_
      | with_reducible refine sp_c_noteOf _ _ _ ?_
      | with_reducible refine shk_bind ?_ (fun _ _ => ?_)
      | with_reducible refine shk_bind1 ?_ (fun _ _ => ?_)
      | with_reducible refine shk_bindP (fun _ => ?_)
theorem sp_c_count {S : Nat → Option (Nat × Nat × (Nat → Int32))} (x1 : Int32) (z0 : CZ) (hs : z0.2.2.2.2 = S) : shk2 S (c_count x1 z0) := by
  unfold c_count
  repeat' first
      | assumption
      | with_reducible apply_assumption
      | with_reducible apply shk_ite
      | with_reducible apply shk_gd
      | with_reducible refine shk_some ?_
      | with_reducible apply shk_ite1
      | with_reducible apply shk_gd1
      | with_reducible refine shk_some1 ?_
      | with_reducible refine shk_jn0 (fun _ _ => ?_) (fun _ _ => ?_)
      | with_reducible refine shk_jn1 (fun _ _ _ => ?_) (fun _ _ => ?_)
      | with_reducible refine shk_jn2 (fun _ _ _ _ => ?_) (fun _ _ => ?_)
      | with_reducible refine shk_jn3 (fun _ _ _ _ _ => ?_) (fun _ _ => ?_)
      | with_reducible refine shk_jn4 (fun _ _ _ _ _ _ => ?_) (fun _ _ => ?_)
      | with_reducible refine sp_c_noRiver _ ?_
      | with_reducible refine shk_bind ?_ (fun _ _ => ?_)
      | with_reducible refine shk_bind1 ?_ (fun _ _ => ?_)
      | with_reducible refine shk_bindP (fun _ => ?_)
theorem sp_c_build {S : Nat → Option (Nat × Nat × (Nat → Int32))} (x1 : Int32) (z0 : CZ) (hs : z0.2.2.2.2 = S) : shk2 S (c_build x1 z0) := by
  unfold c_build
  repeat' first
      | assumption
      | with_reducible apply_assumption
      | with_reducible apply shk_ite
      | with_reducible apply shk_gd
      | with_reducible refine shk_some ?_
      | with_reducible apply shk_ite1
      | with_reducible apply shk_gd1
      | with_reducible refine shk_some1 ?_
      | with_reducible refine shk_jn0 (fun _ _ => ?_) (fun _ _ => ?_)
      | with_reducible refine shk_jn1 (fun _ _ _ => ?_) (fun _ _ => ?_)
      | with_reducible refine shk_jn2 (fun _ _ _ _ => ?_) (fun _ _ => ?_)
      | with_reducible refine shk_jn3 (fun _ _ _ _ _ => ?_) (fun _ _ => ?_)
      | with_reducible refine shk_jn4 (fun _ _ _ _ _ _ => ?_) (fun _ _ => ?_)
      | with_reducible refine sp_c_noRiver _ ?_
      | with_reducible refine shk_bind ?_ (fun _ _ => ?_)
      | with_reducible refine shk_bind1 ?_ (fun _ _ => ?_)
      | with_reducible refine shk_bindP (fun _ => ?_)
theorem sp_c_trace {S : Nat → Option (Nat × Nat × (Nat → Int32))}  (z0 : CZ) (hs : z0.2.2.2.2 = S) : shk2 S (c_trace z0) := by
  unfold c_trace
  repeat' first
      | assumption
      | with_reducible apply_assumption
      | with_reducible apply shk_ite
      | with_reducible apply shk_gd
      | with_reducible refine shk_some ?_
      | with_reducible apply shk_ite1
      | with_reducible apply shk_gd1
      | with_reducible refine shk_some1 ?_
      | with_reducible refine shk_jn0 (fun _ _ => ?_) (fun _ _ => ?_)
      | with_reducible refine shk_jn1 (fun _ _ _ => ?_) (fun _ _ => ?_)
      | with_reducible refine shk_jn2 (fun _ _ _ _ => ?_) (fun _ _ => ?_)
      | with_reducible refine shk_jn3 (fun _ _ _ _ _ => ?_) (fun _ _ => ?_)
      | with_reducible refine shk_jn4 (fun _ _ _ _ _ _ => ?_) (fun _ _ => ?_)
      | with_reducible refine shk_bind ?_ (fun _ _ => ?_)
      | with_reducible refine shk_bind1 ?_ (fun _ _ => ?_)
      | with_reducible refine shk_bindP (fun _ => ?_)
theorem sp_c_fault {S : Nat → Option (Nat × Nat × (Nat → Int32))}  (z0 : CZ) (hs : z0.2.2.2.2 = S) : shk2 S (c_fault z0) := by
  unfold c_fault
  repeat' first
      | assumption
      | with_reducible apply_assumption
      | with_reducible apply shk_ite
      | with_reducible apply shk_gd
      | with_reducible refine shk_some ?_
      | with_reducible apply shk_ite1
      | with_reducible apply shk_gd1
      | with_reducible refine shk_some1 ?_
      | with_reducible refine shk_jn0 (fun _ _ => ?_) (fun _ _ => ?_)
      | with_reducible refine shk_jn1 (fun _ _ _ => ?_) (fun _ _ => ?_)
      | with_reducible refine shk_jn2 (fun _ _ _ _ => ?_) (fun _ _ => ?_)
      | with_reducible refine shk_jn3 (fun _ _ _ _ _ => ?_) (fun _ _ => ?_)
      | with_reducible refine shk_jn4 (fun _ _ _ _ _ _ => ?_) (fun _ _ => ?_)
      | with_reducible refine shk_bind ?_ (fun _ _ => ?_)
      | with_reducible refine shk_bind1 ?_ (fun _ _ => ?_)
      | with_reducible refine shk_bindP (fun _ => ?_)
theorem sp_c_many {S : Nat → Option (Nat × Nat × (Nat → Int32))} (x1 : Int32) (z0 : CZ) (hs : z0.2.2.2.2 = S) : shk2 S (c_many x1 z0) := by
  unfold c_many
  repeat' first
      | assumption
      | with_reducible apply_assumption
      | with_reducible apply shk_ite
      | with_reducible apply shk_gd
      | with_reducible refine shk_some ?_
      | with_reducible apply shk_ite1
      | with_reducible apply shk_gd1
      | with_reducible refine shk_some1 ?_
      | with_reducible refine shk_jn0 (fun _ _ => ?_) (fun _ _ => ?_)
      | with_reducible refine shk_jn1 (fun _ _ _ => ?_) (fun _ _ => ?_)
      | with_reducible refine shk_jn2 (fun _ _ _ _ => ?_) (fun _ _ => ?_)
      | with_reducible refine shk_jn3 (fun _ _ _ _ _ => ?_) (fun _ _ => ?_)
      | with_reducible refine shk_jn4 (fun _ _ _ _ _ _ => ?_) (fun _ _ => ?_)
      | with_reducible refine shk_bind ?_ (fun _ _ => ?_)
      | with_reducible refine shk_bind1 ?_ (fun _ _ => ?_)
      | with_reducible refine shk_bindP (fun _ => ?_)
theorem sp_c_refused {S : Nat → Option (Nat × Nat × (Nat → Int32))} (x1 : Int32) (z0 : CZ) (hs : z0.2.2.2.2 = S) : shk2 S (c_refused x1 z0) := by
  unfold c_refused
  repeat' first
      | assumption
      | with_reducible apply_assumption
      | with_reducible apply shk_ite
      | with_reducible apply shk_gd
      | with_reducible refine shk_some ?_
      | with_reducible apply shk_ite1
      | with_reducible apply shk_gd1
      | with_reducible refine shk_some1 ?_
      | with_reducible refine shk_jn0 (fun _ _ => ?_) (fun _ _ => ?_)
      | with_reducible refine shk_jn1 (fun _ _ _ => ?_) (fun _ _ => ?_)
      | with_reducible refine shk_jn2 (fun _ _ _ _ => ?_) (fun _ _ => ?_)
      | with_reducible refine shk_jn3 (fun _ _ _ _ _ => ?_) (fun _ _ => ?_)
      | with_reducible refine shk_jn4 (fun _ _ _ _ _ _ => ?_) (fun _ _ => ?_)
      | with_reducible refine shk_bind ?_ (fun _ _ => ?_)
      | with_reducible refine shk_bind1 ?_ (fun _ _ => ?_)
      | with_reducible refine shk_bindP (fun _ => ?_)
theorem sp_c_fails {S : Nat → Option (Nat × Nat × (Nat → Int32))} (x1 : Int32) (z0 : CZ) (hs : z0.2.2.2.2 = S) : shk2 S (c_fails x1 z0) := by
  unfold c_fails
  repeat' first
      | assumption
      | with_reducible apply_assumption
      | with_reducible apply shk_ite
      | with_reducible apply shk_gd
      | with_reducible refine shk_some ?_
      | with_reducible apply shk_ite1
      | with_reducible apply shk_gd1
      | with_reducible refine shk_some1 ?_
      | with_reducible refine shk_jn0 (fun _ _ => ?_) (fun _ _ => ?_)
      | with_reducible refine shk_jn1 (fun _ _ _ => ?_) (fun _ _ => ?_)
      | with_reducible refine shk_jn2 (fun _ _ _ _ => ?_) (fun _ _ => ?_)
      | with_reducible refine shk_jn3 (fun _ _ _ _ _ => ?_) (fun _ _ => ?_)
      | with_reducible refine shk_jn4 (fun _ _ _ _ _ _ => ?_) (fun _ _ => ?_)
      | with_reducible refine shk_bind ?_ (fun _ _ => ?_)
      | with_reducible refine shk_bind1 ?_ (fun _ _ => ?_)
      | with_reducible refine shk_bindP (fun _ => ?_)
theorem sp_c_failsLong {S : Nat → Option (Nat × Nat × (Nat → Int32))} (x1 : Int32) (z0 : CZ) (hs : z0.2.2.2.2 = S) : shk2 S (c_failsLong x1 z0) := by
  unfold c_failsLong
  repeat' first
      | assumption
      | with_reducible apply_assumption
      | with_reducible apply shk_ite
      | with_reducible apply shk_gd
      | with_reducible refine shk_some ?_
      | with_reducible apply shk_ite1
      | with_reducible apply shk_gd1
      | with_reducible refine shk_some1 ?_
      | with_reducible refine shk_jn0 (fun _ _ => ?_) (fun _ _ => ?_)
      | with_reducible refine shk_jn1 (fun _ _ _ => ?_) (fun _ _ => ?_)
      | with_reducible refine shk_jn2 (fun _ _ _ _ => ?_) (fun _ _ => ?_)
      | with_reducible refine shk_jn3 (fun _ _ _ _ _ => ?_) (fun _ _ => ?_)
      | with_reducible refine shk_jn4 (fun _ _ _ _ _ _ => ?_) (fun _ _ => ?_)
      | with_reducible refine shk_bind ?_ (fun _ _ => ?_)
      | with_reducible refine shk_bind1 ?_ (fun _ _ => ?_)
      | with_reducible refine shk_bindP (fun _ => ?_)
theorem sp_c_keep {S : Nat → Option (Nat × Nat × (Nat → Int32))}  (z0 : CZ) (hs : z0.2.2.2.2 = S) : shk1 S (c_keep z0) := by
  unfold c_keep
  repeat' first
      | assumption
      | with_reducible apply_assumption
      | with_reducible apply shk_ite
      | with_reducible apply shk_gd
      | with_reducible refine shk_some ?_
      | with_reducible apply shk_ite1
      | with_reducible apply shk_gd1
      | with_reducible refine shk_some1 ?_
      | with_reducible refine shk_jn0 (fun _ _ => ?_) (fun _ _ => ?_)
      | with_reducible refine shk_jn1 (fun _ _ _ => ?_) (fun _ _ => ?_)
      | with_reducible refine shk_jn2 (fun _ _ _ _ => ?_) (fun _ _ => ?_)
      | with_reducible refine shk_jn3 (fun _ _ _ _ _ => ?_) (fun _ _ => ?_)
      | with_reducible refine shk_jn4 (fun _ _ _ _ _ _ => ?_) (fun _ _ => ?_)
      | with_reducible refine shk_bind21 ?_ (fun _ _ => ?_)
      | with_reducible refine shk_bind11 ?_ (fun _ _ => ?_)
      | with_reducible refine shk_bindP1 (fun _ => ?_)
theorem sp_c_putBack {S : Nat → Option (Nat × Nat × (Nat → Int32))}  (z0 : CZ) (hs : z0.2.2.2.2 = S) : shk1 S (c_putBack z0) := by
  unfold c_putBack
  repeat' first
      | assumption
      | with_reducible apply_assumption
      | with_reducible apply shk_ite
      | with_reducible apply shk_gd
      | with_reducible refine shk_some ?_
      | with_reducible apply shk_ite1
      | with_reducible apply shk_gd1
      | with_reducible refine shk_some1 ?_
      | with_reducible refine shk_jn0 (fun _ _ => ?_) (fun _ _ => ?_)
      | with_reducible refine shk_jn1 (fun _ _ _ => ?_) (fun _ _ => ?_)
      | with_reducible refine shk_jn2 (fun _ _ _ _ => ?_) (fun _ _ => ?_)
      | with_reducible refine shk_jn3 (fun _ _ _ _ _ => ?_) (fun _ _ => ?_)
      | with_reducible refine shk_jn4 (fun _ _ _ _ _ _ => ?_) (fun _ _ => ?_)
      | with_reducible refine shk_bind21 ?_ (fun _ _ => ?_)
      | with_reducible refine shk_bind11 ?_ (fun _ _ => ?_)
      | with_reducible refine shk_bindP1 (fun _ => ?_)
theorem sp_c5_kind {S : Nat → Option (Nat × Nat × (Nat → Int32))} (i : Nat) (z0 : CZ) (hs : z0.2.2.2.2 = S) : shk2 S (c5_kind i z0) := by
  unfold c5_kind
  repeat' first
      | assumption
      | with_reducible apply_assumption
      | with_reducible apply shk_ite
      | with_reducible apply shk_gd
      | with_reducible refine shk_some ?_
      | with_reducible apply shk_ite1
      | with_reducible apply shk_gd1
      | with_reducible refine shk_some1 ?_
      | with_reducible refine shk_jn0 (fun _ _ => ?_) (fun _ _ => ?_)
      | with_reducible refine shk_jn1 (fun _ _ _ => ?_) (fun _ _ => ?_)
      | with_reducible refine shk_jn2 (fun _ _ _ _ => ?_) (fun _ _ => ?_)
      | with_reducible refine shk_jn3 (fun _ _ _ _ _ => ?_) (fun _ _ => ?_)
      | with_reducible refine shk_jn4 (fun _ _ _ _ _ _ => ?_) (fun _ _ => ?_)
      | with_reducible refine shk_bind ?_ (fun _ _ => ?_)
      | with_reducible refine shk_bind1 ?_ (fun _ _ => ?_)
      | with_reducible refine shk_bindP (fun _ => ?_)
theorem sp_c5_number {S : Nat → Option (Nat × Nat × (Nat → Int32))} (i : Nat) (z0 : CZ) (hs : z0.2.2.2.2 = S) : shk2 S (c5_number i z0) := by
  unfold c5_number
  repeat' first
      | assumption
      | with_reducible apply_assumption
      | with_reducible apply shk_ite
      | with_reducible apply shk_gd
      | with_reducible refine shk_some ?_
      | with_reducible apply shk_ite1
      | with_reducible apply shk_gd1
      | with_reducible refine shk_some1 ?_
      | with_reducible refine shk_jn0 (fun _ _ => ?_) (fun _ _ => ?_)
      | with_reducible refine shk_jn1 (fun _ _ _ => ?_) (fun _ _ => ?_)
      | with_reducible refine shk_jn2 (fun _ _ _ _ => ?_) (fun _ _ => ?_)
      | with_reducible refine shk_jn3 (fun _ _ _ _ _ => ?_) (fun _ _ => ?_)
      | with_reducible refine shk_jn4 (fun _ _ _ _ _ _ => ?_) (fun _ _ => ?_)
      | with_reducible refine shk_bind ?_ (fun _ _ => ?_)
      | with_reducible refine shk_bind1 ?_ (fun _ _ => ?_)
      | with_reducible refine shk_bindP (fun _ => ?_)
theorem sp_c5_tracedBy {S : Nat → Option (Nat × Nat × (Nat → Int32))} (i : Nat) (x1 : Int32) (z0 : CZ) (hs : z0.2.2.2.2 = S) : shk2 S (c5_tracedBy i x1 z0) := by
  unfold c5_tracedBy
  repeat' first
      | assumption
      | with_reducible apply_assumption
      | with_reducible apply shk_ite
      | with_reducible apply shk_gd
      | with_reducible refine shk_some ?_
      | with_reducible apply shk_ite1
      | with_reducible apply shk_gd1
      | with_reducible refine shk_some1 ?_
      | with_reducible refine shk_jn0 (fun _ _ => ?_) (fun _ _ => ?_)
      | with_reducible refine shk_jn1 (fun _ _ _ => ?_) (fun _ _ => ?_)
      | with_reducible refine shk_jn2 (fun _ _ _ _ => ?_) (fun _ _ => ?_)
      | with_reducible refine shk_jn3 (fun _ _ _ _ _ => ?_) (fun _ _ => ?_)
      | with_reducible refine shk_jn4 (fun _ _ _ _ _ _ => ?_) (fun _ _ => ?_)
      | with_reducible refine shk_bind ?_ (fun _ _ => ?_)
      | with_reducible refine shk_bind1 ?_ (fun _ _ => ?_)
      | with_reducible refine shk_bindP (fun _ => ?_)
theorem sp_c5_debtIn_L4 {S : Nat → Option (Nat × Nat × (Nat → Int32))} (i : Nat) (x1 : Int32) : ∀ (n : Nat) (y0 : Int32) (y1 : Int32) (z : CZ), z.2.2.2.2 = S → shk2 S (c5_debtIn_L4 i x1 n y0 y1 z) := by
  intro n
  induction n with
  | zero => intro y0 y1 z hs; exact ⟨fun r h => (by cases h), trivial⟩
  | succ n ih =>
    intro y0 y1 z hs
    rw [c5_debtIn_L4]
    repeat' first
      | assumption
      | with_reducible apply_assumption
      | with_reducible apply shk_ite
      | with_reducible apply shk_gd
      | with_reducible refine shk_some ?_
      | with_reducible apply shk_ite1
      | with_reducible apply shk_gd1
      | with_reducible refine shk_some1 ?_
      | with_reducible refine shk_jn0 (fun _ _ => ?_) (fun _ _ => ?_)
      | with_reducible refine shk_jn1 (fun _ _ _ => ?_) (fun _ _ => ?_)
      | with_reducible refine shk_jn2 (fun _ _ _ _ => ?_) (fun _ _ => ?_)
      | with_reducible refine shk_jn3 (fun _ _ _ _ _ => ?_) (fun _ _ => ?_)
      | with_reducible refine shk_jn4 (fun _ _ _ _ _ _ => ?_) (fun _ _ => ?_)
      | with_reducible refine sp_c_noteOf _ _ _ ?_
      | with_reducible refine ih _ _ _ ?_
      | with_reducible refine shk_bind ?_ (fun _ _ => ?_)
      | with_reducible refine shk_bind1 ?_ (fun _ _ => ?_)
      | with_reducible refine shk_bindP (fun _ => ?_)
theorem sp_c5_debtIn {S : Nat → Option (Nat × Nat × (Nat → Int32))} (i : Nat) (x1 : Int32) (z0 : CZ) (hs : z0.2.2.2.2 = S) : shk2 S (c5_debtIn i x1 z0) := by
  unfold c5_debtIn
  repeat' first
      | assumption
      | with_reducible apply_assumption
      | with_reducible apply shk_ite
      | with_reducible apply shk_gd
      | with_reducible refine shk_some ?_
      | with_reducible apply shk_ite1
      | with_reducible apply shk_gd1
      | with_reducible refine shk_some1 ?_
      | with_reducible refine shk_jn0 (fun _ _ => ?_) (fun _ _ => ?_)
      | with_reducible refine shk_jn1 (fun _ _ _ => ?_) (fun _ _ => ?_)
      | with_reducible refine shk_jn2 (fun _ _ _ _ => ?_) (fun _ _ => ?_)
      | with_reducible refine shk_jn3 (fun _ _ _ _ _ => ?_) (fun _ _ => ?_)
      | with_reducible refine shk_jn4 (fun _ _ _ _ _ _ => ?_) (fun _ _ => ?_)
      | with_reducible refine sp_c5_debtIn_L4 _ _ _ _ _ _ ?_
      | with_reducible refine shk_bind ?_ (fun _ _ => ?_)
      | with_reducible refine shk_bind1 ?_ (fun _ _ => ?_)
      | with_reducible refine shk_bindP (fun _ => ?_)
theorem sp_c5_said {S : Nat → Option (Nat × Nat × (Nat → Int32))} (i : Nat) (z0 : CZ) (hs : z0.2.2.2.2 = S) : shk2 S (c5_said i z0) := by
  unfold c5_said
  repeat' first
      | assumption
      | with_reducible apply_assumption
      | with_reducible apply shk_ite
      | with_reducible apply shk_gd
      | with_reducible refine shk_some ?_
      | with_reducible apply shk_ite1
      | with_reducible apply shk_gd1
      | with_reducible refine shk_some1 ?_
      | with_reducible refine shk_jn0 (fun _ _ => ?_) (fun _ _ => ?_)
      | with_reducible refine shk_jn1 (fun _ _ _ => ?_) (fun _ _ => ?_)
      | with_reducible refine shk_jn2 (fun _ _ _ _ => ?_) (fun _ _ => ?_)
      | with_reducible refine shk_jn3 (fun _ _ _ _ _ => ?_) (fun _ _ => ?_)
      | with_reducible refine shk_jn4 (fun _ _ _ _ _ _ => ?_) (fun _ _ => ?_)
      | with_reducible refine sp_c_allOwedBy _ _ ?_
      | with_reducible refine sp_c5_tracedBy _ _ _ ?_
      | with_reducible refine shk_bind ?_ (fun _ _ => ?_)
      | with_reducible refine shk_bind1 ?_ (fun _ _ => ?_)
      | with_reducible refine shk_bindP (fun _ => ?_)
theorem sp_c6_kind {S : Nat → Option (Nat × Nat × (Nat → Int32))} (i : Nat) (z0 : CZ) (hs : z0.2.2.2.2 = S) : shk2 S (c6_kind i z0) := by
  unfold c6_kind
  repeat' first
      | assumption
      | with_reducible apply_assumption
      | with_reducible apply shk_ite
      | with_reducible apply shk_gd
      | with_reducible refine shk_some ?_
      | with_reducible apply shk_ite1
      | with_reducible apply shk_gd1
      | with_reducible refine shk_some1 ?_
      | with_reducible refine shk_jn0 (fun _ _ => ?_) (fun _ _ => ?_)
      | with_reducible refine shk_jn1 (fun _ _ _ => ?_) (fun _ _ => ?_)
      | with_reducible refine shk_jn2 (fun _ _ _ _ => ?_) (fun _ _ => ?_)
      | with_reducible refine shk_jn3 (fun _ _ _ _ _ => ?_) (fun _ _ => ?_)
      | with_reducible refine shk_jn4 (fun _ _ _ _ _ _ => ?_) (fun _ _ => ?_)
      | with_reducible refine shk_bind ?_ (fun _ _ => ?_)
      | with_reducible refine shk_bind1 ?_ (fun _ _ => ?_)
      | with_reducible refine shk_bindP (fun _ => ?_)
theorem sp_c6_plainDebt {S : Nat → Option (Nat × Nat × (Nat → Int32))} (i : Nat) (x1 : Int32) (z0 : CZ) (hs : z0.2.2.2.2 = S) : shk2 S (c6_plainDebt i x1 z0) := by
  unfold c6_plainDebt
  repeat' first
      | assumption
      | with_reducible apply_assumption
      | with_reducible apply shk_ite
      | with_reducible apply shk_gd
      | with_reducible refine shk_some ?_
      | with_reducible apply shk_ite1
      | with_reducible apply shk_gd1
      | with_reducible refine shk_some1 ?_
      | with_reducible refine shk_jn0 (fun _ _ => ?_) (fun _ _ => ?_)
      | with_reducible refine shk_jn1 (fun _ _ _ => ?_) (fun _ _ => ?_)
      | with_reducible refine shk_jn2 (fun _ _ _ _ => ?_) (fun _ _ => ?_)
      | with_reducible refine shk_jn3 (fun _ _ _ _ _ => ?_) (fun _ _ => ?_)
      | with_reducible refine shk_jn4 (fun _ _ _ _ _ _ => ?_) (fun _ _ => ?_)
      | with_reducible refine sp_c5_debtIn _ _ _ ?_
      | with_reducible refine shk_bind ?_ (fun _ _ => ?_)
      | with_reducible refine shk_bind1 ?_ (fun _ _ => ?_)
      | with_reducible refine shk_bindP (fun _ => ?_)
theorem sp_c6_debtIn {S : Nat → Option (Nat × Nat × (Nat → Int32))} (i : Nat) (x1 : Int32) (z0 : CZ) (hs : z0.2.2.2.2 = S) : shk2 S (c6_debtIn i x1 z0) := by
  unfold c6_debtIn
  repeat' first
      | assumption
      | with_reducible apply_assumption
      | with_reducible apply shk_ite
      | with_reducible apply shk_gd
      | with_reducible refine shk_some ?_
      | with_reducible apply shk_ite1
      | with_reducible apply shk_gd1
      | with_reducible refine shk_some1 ?_
      | with_reducible refine shk_jn0 (fun _ _ => ?_) (fun _ _ => ?_)
      | with_reducible refine shk_jn1 (fun _ _ _ => ?_) (fun _ _ => ?_)
      | with_reducible refine shk_jn2 (fun _ _ _ _ => ?_) (fun _ _ => ?_)
      | with_reducible refine shk_jn3 (fun _ _ _ _ _ => ?_) (fun _ _ => ?_)
      | with_reducible refine shk_jn4 (fun _ _ _ _ _ _ => ?_) (fun _ _ => ?_)
      | with_reducible refine sp_c6_plainDebt _ _ _ ?_
      | with_reducible refine shk_bind ?_ (fun _ _ => ?_)
      | with_reducible refine shk_bind1 ?_ (fun _ _ => ?_)
      | with_reducible refine shk_bindP (fun _ => ?_)
theorem sp_c6_said {S : Nat → Option (Nat × Nat × (Nat → Int32))} (i : Nat) (z0 : CZ) (hs : z0.2.2.2.2 = S) : shk2 S (c6_said i z0) := by
  unfold c6_said
  repeat' first
      | assumption
      | with_reducible apply_assumption
      | with_reducible apply shk_ite
      | with_reducible apply shk_gd
      | with_reducible refine shk_some ?_
      | with_reducible apply shk_ite1
      | with_reducible apply shk_gd1
      | with_reducible refine shk_some1 ?_
      | with_reducible refine shk_jn0 (fun _ _ => ?_) (fun _ _ => ?_)
      | with_reducible refine shk_jn1 (fun _ _ _ => ?_) (fun _ _ => ?_)
      | with_reducible refine shk_jn2 (fun _ _ _ _ => ?_) (fun _ _ => ?_)
      | with_reducible refine shk_jn3 (fun _ _ _ _ _ => ?_) (fun _ _ => ?_)
      | with_reducible refine shk_jn4 (fun _ _ _ _ _ _ => ?_) (fun _ _ => ?_)
      | with_reducible refine sp_c5_tracedBy _ _ _ ?_
      | with_reducible refine sp_c5_said _ _ ?_
      | with_reducible refine shk_bind ?_ (fun _ _ => ?_)
      | with_reducible refine shk_bind1 ?_ (fun _ _ => ?_)
      | with_reducible refine shk_bindP (fun _ => ?_)
theorem sp_c6_plainly {S : Nat → Option (Nat × Nat × (Nat → Int32))} (i : Nat) (z0 : CZ) (hs : z0.2.2.2.2 = S) : shk2 S (c6_plainly i z0) := by
  unfold c6_plainly
  repeat' first
      | assumption
      | with_reducible apply_assumption
      | with_reducible apply shk_ite
      | with_reducible apply shk_gd
      | with_reducible refine shk_some ?_
      | with_reducible apply shk_ite1
      | with_reducible apply shk_gd1
      | with_reducible refine shk_some1 ?_
      | with_reducible refine shk_jn0 (fun _ _ => ?_) (fun _ _ => ?_)
      | with_reducible refine shk_jn1 (fun _ _ _ => ?_) (fun _ _ => ?_)
      | with_reducible refine shk_jn2 (fun _ _ _ _ => ?_) (fun _ _ => ?_)
      | with_reducible refine shk_jn3 (fun _ _ _ _ _ => ?_) (fun _ _ => ?_)
      | with_reducible refine shk_jn4 (fun _ _ _ _ _ _ => ?_) (fun _ _ => ?_)
      | with_reducible refine sp_c5_said _ _ ?_
      | with_reducible refine shk_bind ?_ (fun _ _ => ?_)
      | with_reducible refine shk_bind1 ?_ (fun _ _ => ?_)
      | with_reducible refine shk_bindP (fun _ => ?_)
theorem sp_c7_kind {S : Nat → Option (Nat × Nat × (Nat → Int32))} (i : Nat) (z0 : CZ) (hs : z0.2.2.2.2 = S) : shk2 S (c7_kind i z0) := by
  unfold c7_kind
  repeat' first
      | assumption
      | with_reducible apply_assumption
      | with_reducible apply shk_ite
      | with_reducible apply shk_gd
      | with_reducible refine shk_some ?_
      | with_reducible apply shk_ite1
      | with_reducible apply shk_gd1
      | with_reducible refine shk_some1 ?_
      | with_reducible refine shk_jn0 (fun _ _ => ?_) (fun _ _ => ?_)
      | with_reducible refine shk_jn1 (fun _ _ _ => ?_) (fun _ _ => ?_)
      | with_reducible refine shk_jn2 (fun _ _ _ _ => ?_) (fun _ _ => ?_)
      | with_reducible refine shk_jn3 (fun _ _ _ _ _ => ?_) (fun _ _ => ?_)
      | with_reducible refine shk_jn4 (fun _ _ _ _ _ _ => ?_) (fun _ _ => ?_)
      | with_reducible refine shk_bind ?_ (fun _ _ => ?_)
      | with_reducible refine shk_bind1 ?_ (fun _ _ => ?_)
      | with_reducible refine shk_bindP (fun _ => ?_)
theorem sp_c7_debtIn {S : Nat → Option (Nat × Nat × (Nat → Int32))} (i : Nat) (x1 : Int32) (z0 : CZ) (hs : z0.2.2.2.2 = S) : shk2 S (c7_debtIn i x1 z0) := by
  unfold c7_debtIn
  repeat' first
      | assumption
      | with_reducible apply_assumption
      | with_reducible apply shk_ite
      | with_reducible apply shk_gd
      | with_reducible refine shk_some ?_
      | with_reducible apply shk_ite1
      | with_reducible apply shk_gd1
      | with_reducible refine shk_some1 ?_
      | with_reducible refine shk_jn0 (fun _ _ => ?_) (fun _ _ => ?_)
      | with_reducible refine shk_jn1 (fun _ _ _ => ?_) (fun _ _ => ?_)
      | with_reducible refine shk_jn2 (fun _ _ _ _ => ?_) (fun _ _ => ?_)
      | with_reducible refine shk_jn3 (fun _ _ _ _ _ => ?_) (fun _ _ => ?_)
      | with_reducible refine shk_jn4 (fun _ _ _ _ _ _ => ?_) (fun _ _ => ?_)
      | with_reducible refine sp_c6_plainDebt _ _ _ ?_
      | with_reducible refine shk_bind ?_ (fun _ _ => ?_)
      | with_reducible refine shk_bind1 ?_ (fun _ _ => ?_)
      | with_reducible refine shk_bindP (fun _ => ?_)
theorem sp_c7_said {S : Nat → Option (Nat × Nat × (Nat → Int32))} (i : Nat) (z0 : CZ) (hs : z0.2.2.2.2 = S) : shk2 S (c7_said i z0) := by
  unfold c7_said
  repeat' first
      | assumption
      | with_reducible apply_assumption
      | with_reducible apply shk_ite
      | with_reducible apply shk_gd
      | with_reducible refine shk_some ?_
      | with_reducible apply shk_ite1
      | with_reducible apply shk_gd1
      | with_reducible refine shk_some1 ?_
      | with_reducible refine shk_jn0 (fun _ _ => ?_) (fun _ _ => ?_)
      | with_reducible refine shk_jn1 (fun _ _ _ => ?_) (fun _ _ => ?_)
      | with_reducible refine shk_jn2 (fun _ _ _ _ => ?_) (fun _ _ => ?_)
      | with_reducible refine shk_jn3 (fun _ _ _ _ _ => ?_) (fun _ _ => ?_)
      | with_reducible refine shk_jn4 (fun _ _ _ _ _ _ => ?_) (fun _ _ => ?_)
      | with_reducible refine sp_c5_tracedBy _ _ _ ?_
      | with_reducible refine sp_c6_said _ _ ?_
      | with_reducible refine sp_c6_plainly _ _ ?_
      | with_reducible refine shk_bind ?_ (fun _ _ => ?_)
      | with_reducible refine shk_bind1 ?_ (fun _ _ => ?_)
      | with_reducible refine shk_bindP (fun _ => ?_)
theorem sp_c7_hailed {S : Nat → Option (Nat × Nat × (Nat → Int32))} (i : Nat) (z0 : CZ) (hs : z0.2.2.2.2 = S) : shk2 S (c7_hailed i z0) := by
  unfold c7_hailed
  repeat' first
      | assumption
      | with_reducible apply_assumption
      | with_reducible apply shk_ite
      | with_reducible apply shk_gd
      | with_reducible refine shk_some ?_
      | with_reducible apply shk_ite1
      | with_reducible apply shk_gd1
      | with_reducible refine shk_some1 ?_
      | with_reducible refine shk_jn0 (fun _ _ => ?_) (fun _ _ => ?_)
      | with_reducible refine shk_jn1 (fun _ _ _ => ?_) (fun _ _ => ?_)
      | with_reducible refine shk_jn2 (fun _ _ _ _ => ?_) (fun _ _ => ?_)
      | with_reducible refine shk_jn3 (fun _ _ _ _ _ => ?_) (fun _ _ => ?_)
      | with_reducible refine shk_jn4 (fun _ _ _ _ _ _ => ?_) (fun _ _ => ?_)
      | with_reducible refine sp_c5_tracedBy _ _ _ ?_
      | with_reducible refine shk_bind ?_ (fun _ _ => ?_)
      | with_reducible refine shk_bind1 ?_ (fun _ _ => ?_)
      | with_reducible refine shk_bindP (fun _ => ?_)
theorem sp_c_pulling_L7 {S : Nat → Option (Nat × Nat × (Nat → Int32))} (x1 : Int32) : ∀ (n : Nat) (y0 : Int32) (y1 : Int32) (y2 : Int32) (z : CZ), z.2.2.2.2 = S → shk2 S (c_pulling_L7 x1 n y0 y1 y2 z) := by
  intro n
  induction n with
  | zero => intro y0 y1 y2 z hs; exact ⟨fun r h => (by cases h), trivial⟩
  | succ n ih =>
    intro y0 y1 y2 z hs
    rw [c_pulling_L7]
    repeat' first
      | assumption
      | with_reducible apply_assumption
      | with_reducible apply shk_ite
      | with_reducible apply shk_gd
      | with_reducible refine shk_some ?_
      | with_reducible apply shk_ite1
      | with_reducible apply shk_gd1
      | with_reducible refine shk_some1 ?_
      | with_reducible refine shk_jn0 (fun _ _ => ?_) (fun _ _ => ?_)
      | with_reducible refine shk_jn1 (fun _ _ _ => ?_) (fun _ _ => ?_)
      | with_reducible refine shk_jn2 (fun _ _ _ _ => ?_) (fun _ _ => ?_)
      | with_reducible refine shk_jn3 (fun _ _ _ _ _ => ?_) (fun _ _ => ?_)
      | with_reducible refine shk_jn4 (fun _ _ _ _ _ _ => ?_) (fun _ _ => ?_)
      | with_reducible refine sp_c5_debtIn _ _ _ ?_
      | with_reducible refine sp_c6_debtIn _ _ _ ?_
      | with_reducible refine sp_c7_debtIn _ _ _ ?_
      | with_reducible refine ih _ _ _ _ ?_
      | with_reducible refine shk_bind ?_ (fun _ _ => ?_)
      | with_reducible refine shk_bind1 ?_ (fun _ _ => ?_)
      | with_reducible refine shk_bindP (fun _ => ?_)
theorem sp_c_pulling {S : Nat → Option (Nat × Nat × (Nat → Int32))} (x1 : Int32) (z0 : CZ) (hs : z0.2.2.2.2 = S) : shk2 S (c_pulling x1 z0) := by
  unfold c_pulling
  repeat' first
      | assumption
      | with_reducible apply_assumption
      | with_reducible apply shk_ite
      | with_reducible apply shk_gd
      | with_reducible refine shk_some ?_
      | with_reducible apply shk_ite1
      | with_reducible apply shk_gd1
      | with_reducible refine shk_some1 ?_
      | with_reducible refine shk_jn0 (fun _ _ => ?_) (fun _ _ => ?_)
      | with_reducible refine shk_jn1 (fun _ _ _ => ?_) (fun _ _ => ?_)
      | with_reducible refine shk_jn2 (fun _ _ _ _ => ?_) (fun _ _ => ?_)
      | with_reducible refine shk_jn3 (fun _ _ _ _ _ => ?_) (fun _ _ => ?_)
      | with_reducible refine shk_jn4 (fun _ _ _ _ _ _ => ?_) (fun _ _ => ?_)
      | with_reducible refine sp_c_pulling_L7 _ _ _ _ _ _ ?_
      | with_reducible refine shk_bind ?_ (fun _ _ => ?_)
      | with_reducible refine shk_bind1 ?_ (fun _ _ => ?_)
      | with_reducible refine shk_bindP (fun _ => ?_)
theorem sp_c_isFair {S : Nat → Option (Nat × Nat × (Nat → Int32))} (x1 : Int32) (z0 : CZ) (hs : z0.2.2.2.2 = S) : shk2 S (c_isFair x1 z0) := by
  unfold c_isFair
  repeat' first
      | assumption
      | with_reducible apply_assumption
      | with_reducible apply shk_ite
      | with_reducible apply shk_gd
      | with_reducible refine shk_some ?_
      | with_reducible apply shk_ite1
      | with_reducible apply shk_gd1
      | with_reducible refine shk_some1 ?_
      | with_reducible refine shk_jn0 (fun _ _ => ?_) (fun _ _ => ?_)
      | with_reducible refine shk_jn1 (fun _ _ _ => ?_) (fun _ _ => ?_)
      | with_reducible refine shk_jn2 (fun _ _ _ _ => ?_) (fun _ _ => ?_)
      | with_reducible refine shk_jn3 (fun _ _ _ _ _ => ?_) (fun _ _ => ?_)
      | with_reducible refine shk_jn4 (fun _ _ _ _ _ _ => ?_) (fun _ _ => ?_)
      | with_reducible refine sp_c_pulling _ _ ?_
      | with_reducible refine shk_bind ?_ (fun _ _ => ?_)
      | with_reducible refine shk_bind1 ?_ (fun _ _ => ?_)
      | with_reducible refine shk_bindP (fun _ => ?_)
theorem sp_c_debt {S : Nat → Option (Nat × Nat × (Nat → Int32))} (x1 : Int32) (x2 : Int32) (z0 : CZ) (hs : z0.2.2.2.2 = S) : shk2 S (c_debt x1 x2 z0) := by
  unfold c_debt
  repeat' first
      | assumption
      | with_reducible apply_assumption
      | with_reducible apply shk_ite
      | with_reducible apply shk_gd
      | with_reducible refine shk_some ?_
      | with_reducible apply shk_ite1
      | with_reducible apply shk_gd1
      | with_reducible refine shk_some1 ?_
      | with_reducible refine shk_jn0 (fun _ _ => ?_) (fun _ _ => ?_)
      | with_reducible refine shk_jn1 (fun _ _ _ => ?_) (fun _ _ => ?_)
      | with_reducible refine shk_jn2 (fun _ _ _ _ => ?_) (fun _ _ => ?_)
      | with_reducible refine shk_jn3 (fun _ _ _ _ _ => ?_) (fun _ _ => ?_)
      | with_reducible refine shk_jn4 (fun _ _ _ _ _ _ => ?_) (fun _ _ => ?_)
      | with_reducible refine sp_c_noPerson _ _ ?_
      | with_reducible refine sp_c_isLoad _ _ ?_
      | with_reducible refine sp_c5_debtIn _ _ _ ?_
      | with_reducible refine sp_c6_debtIn _ _ _ ?_
      | with_reducible refine sp_c7_debtIn _ _ _ ?_
      | with_reducible refine shk_bind ?_ (fun _ _ => ?_)
      | with_reducible refine shk_bind1 ?_ (fun _ _ => ?_)
      | with_reducible refine shk_bindP (fun _ => ?_)
theorem sp_c_pullers {S : Nat → Option (Nat × Nat × (Nat → Int32))} (x1 : Int32) (z0 : CZ) (hs : z0.2.2.2.2 = S) : shk2 S (c_pullers x1 z0) := by
  unfold c_pullers
  repeat' first
      | assumption
      | with_reducible apply_assumption
      | with_reducible apply shk_ite
      | with_reducible apply shk_gd
      | with_reducible refine shk_some ?_
      | with_reducible apply shk_ite1
      | with_reducible apply shk_gd1
      | with_reducible refine shk_some1 ?_
      | with_reducible refine shk_jn0 (fun _ _ => ?_) (fun _ _ => ?_)
      | with_reducible refine shk_jn1 (fun _ _ _ => ?_) (fun _ _ => ?_)
      | with_reducible refine shk_jn2 (fun _ _ _ _ => ?_) (fun _ _ => ?_)
      | with_reducible refine shk_jn3 (fun _ _ _ _ _ => ?_) (fun _ _ => ?_)
      | with_reducible refine shk_jn4 (fun _ _ _ _ _ _ => ?_) (fun _ _ => ?_)
      | with_reducible refine sp_c_noRiver _ ?_
      | with_reducible refine sp_c_isLoad _ _ ?_
      | with_reducible refine sp_c_pulling _ _ ?_
      | with_reducible refine shk_bind ?_ (fun _ _ => ?_)
      | with_reducible refine shk_bind1 ?_ (fun _ _ => ?_)
      | with_reducible refine shk_bindP (fun _ => ?_)
theorem sp_c_fair {S : Nat → Option (Nat × Nat × (Nat → Int32))} (x1 : Int32) (z0 : CZ) (hs : z0.2.2.2.2 = S) : shk2 S (c_fair x1 z0) := by
  unfold c_fair
  repeat' first
      | assumption
      | with_reducible apply_assumption
      | with_reducible apply shk_ite
      | with_reducible apply shk_gd
      | with_reducible refine shk_some ?_
      | with_reducible apply shk_ite1
      | with_reducible apply shk_gd1
      | with_reducible refine shk_some1 ?_
      | with_reducible refine shk_jn0 (fun _ _ => ?_) (fun _ _ => ?_)
      | with_reducible refine shk_jn1 (fun _ _ _ => ?_) (fun _ _ => ?_)
      | with_reducible refine shk_jn2 (fun _ _ _ _ => ?_) (fun _ _ => ?_)
      | with_reducible refine shk_jn3 (fun _ _ _ _ _ => ?_) (fun _ _ => ?_)
      | with_reducible refine shk_jn4 (fun _ _ _ _ _ _ => ?_) (fun _ _ => ?_)
      | with_reducible refine sp_c_noRiver _ ?_
      | with_reducible refine sp_c_isLoad _ _ ?_
      | with_reducible refine sp_c_isFair _ _ ?_
      | with_reducible refine shk_bind ?_ (fun _ _ => ?_)
      | with_reducible refine shk_bind1 ?_ (fun _ _ => ?_)
      | with_reducible refine shk_bindP (fun _ => ?_)
theorem sp_c_fewestFor_L5 {S : Nat → Option (Nat × Nat × (Nat → Int32))} (x1 : Int32) : ∀ (n : Nat) (y0 : Int32) (y1 : Int32) (z : CZ), z.2.2.2.2 = S → shk2 S (c_fewestFor_L5 x1 n y0 y1 z) := by
  intro n
  induction n with
  | zero => intro y0 y1 z hs; exact ⟨fun r h => (by cases h), trivial⟩
  | succ n ih =>
    intro y0 y1 z hs
    rw [c_fewestFor_L5]
    repeat' first
      | assumption
      | with_reducible apply_assumption
      | with_reducible apply shk_ite
      | with_reducible apply shk_gd
      | with_reducible refine shk_some ?_
      | with_reducible apply shk_ite1
      | with_reducible apply shk_gd1
      | with_reducible refine shk_some1 ?_
      | with_reducible refine shk_jn0 (fun _ _ => ?_) (fun _ _ => ?_)
      | with_reducible refine shk_jn1 (fun _ _ _ => ?_) (fun _ _ => ?_)
      | with_reducible refine shk_jn2 (fun _ _ _ _ => ?_) (fun _ _ => ?_)
      | with_reducible refine shk_jn3 (fun _ _ _ _ _ => ?_) (fun _ _ => ?_)
      | with_reducible refine shk_jn4 (fun _ _ _ _ _ _ => ?_) (fun _ _ => ?_)
      | with_reducible refine sp_c_isFair _ _ ?_
      | with_reducible refine ih _ _ _ ?_
      | with_reducible refine shk_bind ?_ (fun _ _ => ?_)
      | with_reducible refine shk_bind1 ?_ (fun _ _ => ?_)
      | with_reducible refine shk_bindP (fun _ => ?_)
theorem sp_c_fewestFor {S : Nat → Option (Nat × Nat × (Nat → Int32))} (x1 : Int32) (z0 : CZ) (hs : z0.2.2.2.2 = S) : shk2 S (c_fewestFor x1 z0) := by
  unfold c_fewestFor
  repeat' first
      | assumption
      | with_reducible apply_assumption
      | with_reducible apply shk_ite
      | with_reducible apply shk_gd
      | with_reducible refine shk_some ?_
      | with_reducible apply shk_ite1
      | with_reducible apply shk_gd1
      | with_reducible refine shk_some1 ?_
      | with_reducible refine shk_jn0 (fun _ _ => ?_) (fun _ _ => ?_)
      | with_reducible refine shk_jn1 (fun _ _ _ => ?_) (fun _ _ => ?_)
      | with_reducible refine shk_jn2 (fun _ _ _ _ => ?_) (fun _ _ => ?_)
      | with_reducible refine shk_jn3 (fun _ _ _ _ _ => ?_) (fun _ _ => ?_)
      | with_reducible refine shk_jn4 (fun _ _ _ _ _ _ => ?_) (fun _ _ => ?_)
      | with_reducible refine sp_c_fewestFor_L5 _ _ _ _ _ ?_
      | with_reducible refine shk_bind ?_ (fun _ _ => ?_)
      | with_reducible refine shk_bind1 ?_ (fun _ _ => ?_)
      | with_reducible refine shk_bindP (fun _ => ?_)
theorem sp_c_reckon_L9 {S : Nat → Option (Nat × Nat × (Nat → Int32))}  : ∀ (n : Nat) (y0 : Int32) (z : CZ), z.2.2.2.2 = S → shk1 S (c_reckon_L9  n y0 z) := by
  intro n
  induction n with
  | zero => intro y0 z hs; exact ⟨fun r h => (by cases h), trivial⟩
  | succ n ih =>
    intro y0 z hs
    rw [c_reckon_L9]
    repeat' first
      | assumption
      | with_reducible apply_assumption
      | with_reducible apply shk_ite
      | with_reducible apply shk_gd
      | with_reducible refine shk_some ?_
      | with_reducible apply shk_ite1
      | with_reducible apply shk_gd1
      | with_reducible refine shk_some1 ?_
      | with_reducible refine shk_jn0 (fun _ _ => ?_) (fun _ _ => ?_)
      | with_reducible refine shk_jn1 (fun _ _ _ => ?_) (fun _ _ => ?_)
      | with_reducible refine shk_jn2 (fun _ _ _ _ => ?_) (fun _ _ => ?_)
      | with_reducible refine shk_jn3 (fun _ _ _ _ _ => ?_) (fun _ _ => ?_)
      | with_reducible refine shk_jn4 (fun _ _ _ _ _ _ => ?_) (fun _ _ => ?_)
      | with_reducible refine sp_c_everyone _ ?_
      | with_reducible refine sp_c_fewestFor _ _ ?_
      | with_reducible refine ih _ _ ?_
      | with_reducible refine shk_bind21 ?_ (fun _ _ => ?_)
      | with_reducible refine shk_bind11 ?_ (fun _ _ => ?_)
      | with_reducible refine shk_bindP1 (fun _ => ?_)
theorem sp_c_reckon {S : Nat → Option (Nat × Nat × (Nat → Int32))}  (z0 : CZ) (hs : z0.2.2.2.2 = S) : shk1 S (c_reckon z0) := by
  unfold c_reckon
  repeat' first
      | assumption
      | with_reducible apply_assumption
      | with_reducible apply shk_ite
      | with_reducible apply shk_gd
      | with_reducible refine shk_some ?_
      | with_reducible apply shk_ite1
      | with_reducible apply shk_gd1
      | with_reducible refine shk_some1 ?_
      | with_reducible refine shk_jn0 (fun _ _ => ?_) (fun _ _ => ?_)
      | with_reducible refine shk_jn1 (fun _ _ _ => ?_) (fun _ _ => ?_)
      | with_reducible refine shk_jn2 (fun _ _ _ _ => ?_) (fun _ _ => ?_)
      | with_reducible refine shk_jn3 (fun _ _ _ _ _ => ?_) (fun _ _ => ?_)
      | with_reducible refine shk_jn4 (fun _ _ _ _ _ _ => ?_) (fun _ _ => ?_)
      | with_reducible refine sp_c_reckon_L9 _ _ _ ?_
      | with_reducible refine shk_bind21 ?_ (fun _ _ => ?_)
      | with_reducible refine shk_bind11 ?_ (fun _ _ => ?_)
      | with_reducible refine shk_bindP1 (fun _ => ?_)
theorem sp_c_firstLoad_L2 {S : Nat → Option (Nat × Nat × (Nat → Int32))} (x1 : Int32) : ∀ (n : Nat) (y0 : Int32) (z : CZ), z.2.2.2.2 = S → shk2 S (c_firstLoad_L2 x1 n y0 z) := by
  intro n
  induction n with
  | zero => intro y0 z hs; exact ⟨fun r h => (by cases h), trivial⟩
  | succ n ih =>
    intro y0 z hs
    rw [c_firstLoad_L2]
    repeat' first
      | assumption
      | with_reducible apply_assumption
      | with_reducible apply shk_ite
      | with_reducible apply shk_gd
      | with_reducible refine shk_some ?_
      | with_reducible apply shk_ite1
      | with_reducible apply shk_gd1
      | with_reducible refine shk_some1 ?_
      | with_reducible refine shk_jn0 (fun _ _ => ?_) (fun _ _ => ?_)
      | with_reducible refine shk_jn1 (fun _ _ _ => ?_) (fun _ _ => ?_)
      | with_reducible refine shk_jn2 (fun _ _ _ _ => ?_) (fun _ _ => ?_)
      | with_reducible refine shk_jn3 (fun _ _ _ _ _ => ?_) (fun _ _ => ?_)
      | with_reducible refine shk_jn4 (fun _ _ _ _ _ _ => ?_) (fun _ _ => ?_)
      | with_reducible refine sp_c_isFair _ _ ?_
      | with_reducible refine ih _ _ ?_
      | with_reducible refine shk_bind ?_ (fun _ _ => ?_)
      | with_reducible refine shk_bind1 ?_ (fun _ _ => ?_)
      | with_reducible refine shk_bindP (fun _ => ?_)
theorem sp_c_firstLoad {S : Nat → Option (Nat × Nat × (Nat → Int32))} (x1 : Int32) (z0 : CZ) (hs : z0.2.2.2.2 = S) : shk2 S (c_firstLoad x1 z0) := by
  unfold c_firstLoad
  repeat' first
      | assumption
      | with_reducible apply_assumption
      | with_reducible apply shk_ite
      | with_reducible apply shk_gd
      | with_reducible refine shk_some ?_
      | with_reducible apply shk_ite1
      | with_reducible apply shk_gd1
      | with_reducible refine shk_some1 ?_
      | with_reducible refine shk_jn0 (fun _ _ => ?_) (fun _ _ => ?_)
      | with_reducible refine shk_jn1 (fun _ _ _ => ?_) (fun _ _ => ?_)
      | with_reducible refine shk_jn2 (fun _ _ _ _ => ?_) (fun _ _ => ?_)
      | with_reducible refine shk_jn3 (fun _ _ _ _ _ => ?_) (fun _ _ => ?_)
      | with_reducible refine shk_jn4 (fun _ _ _ _ _ _ => ?_) (fun _ _ => ?_)
      | with_reducible refine sp_c_firstLoad_L2 _ _ _ _ ?_
      | with_reducible refine shk_bind ?_ (fun _ _ => ?_)
      | with_reducible refine shk_bind1 ?_ (fun _ _ => ?_)
      | with_reducible refine shk_bindP (fun _ => ?_)
theorem sp_c_cross_L69 {S : Nat → Option (Nat × Nat × (Nat → Int32))} (x1 : Int32) : ∀ (n : Nat) (y0 : Int32) (y1 : Int32) (z : CZ), z.2.2.2.2 = S → shk2 S (c_cross_L69 x1 n y0 y1 z) := by
  intro n
  induction n with
  | zero => intro y0 y1 z hs; exact ⟨fun r h => (by cases h), trivial⟩
  | succ n ih =>
    intro y0 y1 z hs
    rw [c_cross_L69]
    repeat' first
      | assumption
      | with_reducible apply_assumption
      | with_reducible apply shk_ite
      | with_reducible apply shk_gd
      | with_reducible refine shk_some ?_
      | with_reducible apply shk_ite1
      | with_reducible apply shk_gd1
      | with_reducible refine shk_some1 ?_
      | with_reducible refine shk_jn0 (fun _ _ => ?_) (fun _ _ => ?_)
      | with_reducible refine shk_jn1 (fun _ _ _ => ?_) (fun _ _ => ?_)
      | with_reducible refine shk_jn2 (fun _ _ _ _ => ?_) (fun _ _ => ?_)
      | with_reducible refine shk_jn3 (fun _ _ _ _ _ => ?_) (fun _ _ => ?_)
      | with_reducible refine shk_jn4 (fun _ _ _ _ _ _ => ?_) (fun _ _ => ?_)
      | with_reducible refine sp_c_firstLoad _ _ ?_
      | with_reducible refine ih _ _ _ ?_
      | with_reducible refine shk_bind ?_ (fun _ _ => ?_)
      | with_reducible refine shk_bind1 ?_ (fun _ _ => ?_)
      | with_reducible refine shk_bindP (fun _ => ?_)
theorem sp_c_cross {S : Nat → Option (Nat × Nat × (Nat → Int32))} (x1 : Int32) (z0 : CZ) (hs : z0.2.2.2.2 = S) : shk2 S (c_cross x1 z0) := by
  unfold c_cross
  repeat' first
      | assumption
      | with_reducible apply_assumption
      | with_reducible apply shk_ite
      | with_reducible apply shk_gd
      | with_reducible refine shk_some ?_
      | with_reducible apply shk_ite1
      | with_reducible apply shk_gd1
      | with_reducible refine shk_some1 ?_
      | with_reducible refine shk_jn0 (fun _ _ => ?_) (fun _ _ => ?_)
      | with_reducible refine shk_jn1 (fun _ _ _ => ?_) (fun _ _ => ?_)
      | with_reducible refine shk_jn2 (fun _ _ _ _ => ?_) (fun _ _ => ?_)
      | with_reducible refine shk_jn3 (fun _ _ _ _ _ => ?_) (fun _ _ => ?_)
      | with_reducible refine shk_jn4 (fun _ _ _ _ _ _ => ?_) (fun _ _ => ?_)
      | with_reducible refine sp_c_noRiver _ ?_
      | with_reducible refine sp_c_everyone _ ?_
      | with_reducible refine sp_c_reckon _ ?_
      | with_reducible refine sp_c_cross_L69 _ _ _ _ _ ?_
      | with_reducible refine shk_bind ?_ (fun _ _ => ?_)
      | with_reducible refine shk_bind1 ?_ (fun _ _ => ?_)
      | with_reducible refine shk_bindP (fun _ => ?_)
theorem sp_c_penceTo_L26 {S : Nat → Option (Nat × Nat × (Nat → Int32))} (x1 : Int32) (x3 : Int32) : ∀ (n : Nat) (y0 : Int32) (y1 : Int32) (y2 : Int32) (y3 : Int32) (z : CZ), z.2.2.2.2 = S → shk2 S (c_penceTo_L26 x1 x3 n y0 y1 y2 y3 z) := by
  intro n
  induction n with
  | zero => intro y0 y1 y2 y3 z hs; exact ⟨fun r h => (by cases h), trivial⟩
  | succ n ih =>
    intro y0 y1 y2 y3 z hs
    rw [c_penceTo_L26]
    repeat' first
      | assumption
      | with_reducible apply_assumption
      | with_reducible apply shk_ite
      | with_reducible apply shk_gd
      | with_reducible refine shk_some ?_
      | with_reducible apply shk_ite1
      | with_reducible apply shk_gd1
      | with_reducible refine shk_some1 ?_
      | with_reducible refine shk_jn0 (fun _ _ => ?_) (fun _ _ => ?_)
      | with_reducible refine shk_jn1 (fun _ _ _ => ?_) (fun _ _ => ?_)
      | with_reducible refine shk_jn2 (fun _ _ _ _ => ?_) (fun _ _ => ?_)
      | with_reducible refine shk_jn3 (fun _ _ _ _ _ => ?_) (fun _ _ => ?_)
      | with_reducible refine shk_jn4 (fun _ _ _ _ _ _ => ?_) (fun _ _ => ?_)
      | with_reducible refine sp_c_pulling _ _ ?_
      | with_reducible refine ih _ _ _ _ _ ?_
      | with_reducible refine shk_bind ?_ (fun _ _ => ?_)
      | with_reducible refine shk_bind1 ?_ (fun _ _ => ?_)
      | with_reducible refine shk_bindP (fun _ => ?_)
theorem sp_c_penceTo {S : Nat → Option (Nat × Nat × (Nat → Int32))} (x1 : Int32) (x2 : Int32) (x3 : Int32) (z0 : CZ) (hs : z0.2.2.2.2 = S) : shk2 S (c_penceTo x1 x2 x3 z0) := by
  unfold c_penceTo
  repeat' first
      | assumption
      | with_reducible apply_assumption
      | with_reducible apply shk_ite
      | with_reducible apply shk_gd
      | with_reducible refine shk_some ?_
      | with_reducible apply shk_ite1
      | with_reducible apply shk_gd1
      | with_reducible refine shk_some1 ?_
      | with_reducible refine shk_jn0 (fun _ _ => ?_) (fun _ _ => ?_)
      | with_reducible refine shk_jn1 (fun _ _ _ => ?_) (fun _ _ => ?_)
      | with_reducible refine shk_jn2 (fun _ _ _ _ => ?_) (fun _ _ => ?_)
      | with_reducible refine shk_jn3 (fun _ _ _ _ _ => ?_) (fun _ _ => ?_)
      | with_reducible refine shk_jn4 (fun _ _ _ _ _ _ => ?_) (fun _ _ => ?_)
      | with_reducible refine sp_c_penceTo_L26 _ _ _ _ _ _ _ _ ?_
      | with_reducible refine shk_bind ?_ (fun _ _ => ?_)
      | with_reducible refine shk_bind1 ?_ (fun _ _ => ?_)
      | with_reducible refine shk_bindP (fun _ => ?_)
theorem sp_c_loan_L75 {S : Nat → Option (Nat × Nat × (Nat → Int32))} (k141 : Int32 → Int32 → CZ → Option (Int32 × CZ)) (x1 : Int32) (x2 : Int32) (x3 : Int32) (hk141 : ∀ (a0 : Int32) (a1 : Int32) (a2 : CZ), a2.2.2.2.2 = S → shk2 S (k141 a0 a1 a2)) : ∀ (n : Nat) (y0 : Int32) (y1 : Int32) (y2 : Int32) (z : CZ), z.2.2.2.2 = S → shk2 S (c_loan_L75 k141 x1 x2 x3 n y0 y1 y2 z) := by
  intro n
  induction n with
  | zero => intro y0 y1 y2 z hs; exact ⟨fun r h => (by cases h), trivial⟩
  | succ n ih =>
    intro y0 y1 y2 z hs
    rw [c_loan_L75]
    repeat' first
      | assumption
      | with_reducible apply_assumption
      | with_reducible apply shk_ite
      | with_reducible apply shk_gd
      | with_reducible refine shk_some ?_
      | with_reducible apply shk_ite1
      | with_reducible apply shk_gd1
      | with_reducible refine shk_some1 ?_
      | with_reducible refine shk_jn0 (fun _ _ => ?_) (fun _ _ => ?_)
      | with_reducible refine shk_jn1 (fun _ _ _ => ?_) (fun _ _ => ?_)
      | with_reducible refine shk_jn2 (fun _ _ _ _ => ?_) (fun _ _ => ?_)
      | with_reducible refine shk_jn3 (fun _ _ _ _ _ => ?_) (fun _ _ => ?_)
      | with_reducible refine shk_jn4 (fun _ _ _ _ _ _ => ?_) (fun _ _ => ?_)
      | with_reducible refine sp_c_penceTo _ _ _ _ ?_
      | with_reducible refine ih _ _ _ _ ?_
      | with_reducible refine shk_bind ?_ (fun _ _ => ?_)
      | with_reducible refine shk_bind1 ?_ (fun _ _ => ?_)
      | with_reducible refine shk_bindP (fun _ => ?_)
theorem sp_c_loan {S : Nat → Option (Nat × Nat × (Nat → Int32))} (x1 : Int32) (x2 : Int32) (x3 : Int32) (z0 : CZ) (hs : z0.2.2.2.2 = S) : shk2 S (c_loan x1 x2 x3 z0) := by
  unfold c_loan
  repeat' first
      | assumption
      | with_reducible apply_assumption
      | with_reducible apply shk_ite
      | with_reducible apply shk_gd
      | with_reducible refine shk_some ?_
      | with_reducible apply shk_ite1
      | with_reducible apply shk_gd1
      | with_reducible refine shk_some1 ?_
      | with_reducible refine shk_jn0 (fun _ _ => ?_) (fun _ _ => ?_)
      | with_reducible refine shk_jn1 (fun _ _ _ => ?_) (fun _ _ => ?_)
      | with_reducible refine shk_jn2 (fun _ _ _ _ => ?_) (fun _ _ => ?_)
      | with_reducible refine shk_jn3 (fun _ _ _ _ _ => ?_) (fun _ _ => ?_)
      | with_reducible refine shk_jn4 (fun _ _ _ _ _ _ => ?_) (fun _ _ => ?_)
      | with_reducible refine sp_c_noPerson _ _ ?_
      | with_reducible refine sp_c_isLoad _ _ ?_
      | with_reducible refine sp_c_pulling _ _ ?_
      | with_reducible refine sp_c_loan_L75 _ _ _ _ (fun _ _ _ _ => ?_) _ _ _ _ _ ?_
      | with_reducible refine shk_bind ?_ (fun _ _ => ?_)
      | with_reducible refine shk_bind1 ?_ (fun _ _ => ?_)
      | with_reducible refine shk_bindP (fun _ => ?_)
theorem sp_c_forgave_L64 {S : Nat → Option (Nat × Nat × (Nat → Int32))} (k109 : CZ → Option (Int32 × CZ)) (x1 : Int32) (y30_2 : Int32) (y30_3 : Int32) (hk109 : ∀ (a0 : CZ), a0.2.2.2.2 = S → shk2 S (k109 a0)) : ∀ (n : Nat) (y0 : Int32) (z : CZ), z.2.2.2.2 = S → shk2 S (c_forgave_L64 k109 x1 y30_2 y30_3 n y0 z) := by
  intro n
  induction n with
  | zero => intro y0 z hs; exact ⟨fun r h => (by cases h), trivial⟩
  | succ n ih =>
    intro y0 z hs
    rw [c_forgave_L64]
    repeat' first
      | assumption
      | with_reducible apply_assumption
      | with_reducible apply shk_ite
      | with_reducible apply shk_gd
      | with_reducible refine shk_some ?_
      | with_reducible apply shk_ite1
      | with_reducible apply shk_gd1
      | with_reducible refine shk_some1 ?_
      | with_reducible refine shk_jn0 (fun _ _ => ?_) (fun _ _ => ?_)
      | with_reducible refine shk_jn1 (fun _ _ _ => ?_) (fun _ _ => ?_)
      | with_reducible refine shk_jn2 (fun _ _ _ _ => ?_) (fun _ _ => ?_)
      | with_reducible refine shk_jn3 (fun _ _ _ _ _ => ?_) (fun _ _ => ?_)
      | with_reducible refine shk_jn4 (fun _ _ _ _ _ _ => ?_) (fun _ _ => ?_)
      | with_reducible refine ih _ _ ?_
      | with_reducible refine shk_bind ?_ (fun _ _ => ?_)
      | with_reducible refine shk_bind1 ?_ (fun _ _ => ?_)
      | with_reducible refine shk_bindP (fun _ => ?_)
theorem sp_c_forgave_L30 {S : Nat → Option (Nat × Nat × (Nat → Int32))} (x1 : Int32) : ∀ (n : Nat) (y0 : Int32) (y1 : Int32) (z : CZ), z.2.2.2.2 = S → shk2 S (c_forgave_L30 x1 n y0 y1 z) := by
  intro n
  induction n with
  | zero => intro y0 y1 z hs; exact ⟨fun r h => (by cases h), trivial⟩
  | succ n ih =>
    intro y0 y1 z hs
    rw [c_forgave_L30]
    repeat' first
      | assumption
      | with_reducible apply_assumption
      | with_reducible apply shk_ite
      | with_reducible apply shk_gd
      | with_reducible refine shk_some ?_
      | with_reducible apply shk_ite1
      | with_reducible apply shk_gd1
      | with_reducible refine shk_some1 ?_
      | with_reducible refine shk_jn0 (fun _ _ => ?_) (fun _ _ => ?_)
      | with_reducible refine shk_jn1 (fun _ _ _ => ?_) (fun _ _ => ?_)
      | with_reducible refine shk_jn2 (fun _ _ _ _ => ?_) (fun _ _ => ?_)
      | with_reducible refine shk_jn3 (fun _ _ _ _ _ => ?_) (fun _ _ => ?_)
      | with_reducible refine shk_jn4 (fun _ _ _ _ _ _ => ?_) (fun _ _ => ?_)
      | with_reducible refine sp_c_everyone _ ?_
      | with_reducible refine sp_c_putBack _ ?_
      | with_reducible refine sp_c_pulling _ _ ?_
      | with_reducible refine sp_c_forgave_L64 _ _ _ _ (fun _ _ => ?_) _ _ _ ?_
      | with_reducible refine ih _ _ _ ?_
      | with_reducible refine shk_bind ?_ (fun _ _ => ?_)
      | with_reducible refine shk_bind1 ?_ (fun _ _ => ?_)
      | with_reducible refine shk_bindP (fun _ => ?_)
theorem sp_c_forgave {S : Nat → Option (Nat × Nat × (Nat → Int32))} (x1 : Int32) (z0 : CZ) (hs : z0.2.2.2.2 = S) : shk2 S (c_forgave x1 z0) := by
  unfold c_forgave
  repeat' first
      | assumption
      | with_reducible apply_assumption
      | with_reducible apply shk_ite
      | with_reducible apply shk_gd
      | with_reducible refine shk_some ?_
      | with_reducible apply shk_ite1
      | with_reducible apply shk_gd1
      | with_reducible refine shk_some1 ?_
      | with_reducible refine shk_jn0 (fun _ _ => ?_) (fun _ _ => ?_)
      | with_reducible refine shk_jn1 (fun _ _ _ => ?_) (fun _ _ => ?_)
      | with_reducible refine shk_jn2 (fun _ _ _ _ => ?_) (fun _ _ => ?_)
      | with_reducible refine shk_jn3 (fun _ _ _ _ _ => ?_) (fun _ _ => ?_)
      | with_reducible refine shk_jn4 (fun _ _ _ _ _ _ => ?_) (fun _ _ => ?_)
      | with_reducible refine sp_c_noRiver _ ?_
      | with_reducible refine sp_c_isLoad _ _ ?_
      | with_reducible refine sp_c_keep _ ?_
      | with_reducible refine sp_c_forgave_L30 _ _ _ _ _ ?_
      | with_reducible refine shk_bind ?_ (fun _ _ => ?_)
      | with_reducible refine shk_bind1 ?_ (fun _ _ => ?_)
      | with_reducible refine shk_bindP (fun _ => ?_)
theorem sp_c_areSo_L4 {S : Nat → Option (Nat × Nat × (Nat → Int32))}  : ∀ (n : Nat) (y0 : Int32) (y1 : Int32) (z : CZ), z.2.2.2.2 = S → shk2 S (c_areSo_L4  n y0 y1 z) := by
  intro n
  induction n with
  | zero => intro y0 y1 z hs; exact ⟨fun r h => (by cases h), trivial⟩
  | succ n ih =>
    intro y0 y1 z hs
    rw [c_areSo_L4]
    repeat' first
      | assumption
      | with_reducible apply_assumption
      | with_reducible apply shk_ite
      | with_reducible apply shk_gd
      | with_reducible refine shk_some ?_
      | with_reducible apply shk_ite1
      | with_reducible apply shk_gd1
      | with_reducible refine shk_some1 ?_
      | with_reducible refine shk_jn0 (fun _ _ => ?_) (fun _ _ => ?_)
      | with_reducible refine shk_jn1 (fun _ _ _ => ?_) (fun _ _ => ?_)
      | with_reducible refine shk_jn2 (fun _ _ _ _ => ?_) (fun _ _ => ?_)
      | with_reducible refine shk_jn3 (fun _ _ _ _ _ => ?_) (fun _ _ => ?_)
      | with_reducible refine shk_jn4 (fun _ _ _ _ _ _ => ?_) (fun _ _ => ?_)
      | with_reducible refine sp_c_pulling _ _ ?_
      | with_reducible refine ih _ _ _ ?_
      | with_reducible refine shk_bind ?_ (fun _ _ => ?_)
      | with_reducible refine shk_bind1 ?_ (fun _ _ => ?_)
      | with_reducible refine shk_bindP (fun _ => ?_)
theorem sp_c_areSo {S : Nat → Option (Nat × Nat × (Nat → Int32))}  (z0 : CZ) (hs : z0.2.2.2.2 = S) : shk2 S (c_areSo z0) := by
  unfold c_areSo
  repeat' first
      | assumption
      | with_reducible apply_assumption
      | with_reducible apply shk_ite
      | with_reducible apply shk_gd
      | with_reducible refine shk_some ?_
      | with_reducible apply shk_ite1
      | with_reducible apply shk_gd1
      | with_reducible refine shk_some1 ?_
      | with_reducible refine shk_jn0 (fun _ _ => ?_) (fun _ _ => ?_)
      | with_reducible refine shk_jn1 (fun _ _ _ => ?_) (fun _ _ => ?_)
      | with_reducible refine shk_jn2 (fun _ _ _ _ => ?_) (fun _ _ => ?_)
      | with_reducible refine shk_jn3 (fun _ _ _ _ _ => ?_) (fun _ _ => ?_)
      | with_reducible refine shk_jn4 (fun _ _ _ _ _ _ => ?_) (fun _ _ => ?_)
      | with_reducible refine sp_c_areSo_L4 _ _ _ _ ?_
      | with_reducible refine shk_bind ?_ (fun _ _ => ?_)
      | with_reducible refine shk_bind1 ?_ (fun _ _ => ?_)
      | with_reducible refine shk_bindP (fun _ => ?_)
theorem sp_c_notes_L24 {S : Nat → Option (Nat × Nat × (Nat → Int32))} (k69 : Int32 → Int32 → CZ → Option (Int32 × CZ)) (x1 : Int32) (x2 : Int32) (hk69 : ∀ (a0 : Int32) (a1 : Int32) (a2 : CZ), a2.2.2.2.2 = S → shk2 S (k69 a0 a1 a2)) : ∀ (n : Nat) (y0 : Int32) (y1 : Int32) (y2 : Int32) (z : CZ), z.2.2.2.2 = S → shk2 S (c_notes_L24 k69 x1 x2 n y0 y1 y2 z) := by
  intro n
  induction n with
  | zero => intro y0 y1 y2 z hs; exact ⟨fun r h => (by cases h), trivial⟩
  | succ n ih =>
    intro y0 y1 y2 z hs
    rw [c_notes_L24]
    repeat' first
      | assumption
      | with_reducible apply_assumption
      | with_reducible apply shk_ite
      | with_reducible apply shk_gd
      | with_reducible refine shk_some ?_
      | with_reducible apply shk_ite1
      | with_reducible apply shk_gd1
      | with_reducible refine shk_some1 ?_
      | with_reducible refine shk_jn0 (fun _ _ => ?_) (fun _ _ => ?_)
      | with_reducible refine shk_jn1 (fun _ _ _ => ?_) (fun _ _ => ?_)
      | with_reducible refine shk_jn2 (fun _ _ _ _ => ?_) (fun _ _ => ?_)
      | with_reducible refine shk_jn3 (fun _ _ _ _ _ => ?_) (fun _ _ => ?_)
      | with_reducible refine shk_jn4 (fun _ _ _ _ _ _ => ?_) (fun _ _ => ?_)
      | with_reducible refine sp_c_areSo _ ?_
      | with_reducible refine ih _ _ _ _ ?_
      | with_reducible refine shk_bind ?_ (fun _ _ => ?_)
      | with_reducible refine shk_bind1 ?_ (fun _ _ => ?_)
      | with_reducible refine shk_bindP (fun _ => ?_)
theorem sp_c_notes {S : Nat → Option (Nat × Nat × (Nat → Int32))} (x1 : Int32) (x2 : Int32) (z0 : CZ) (hs : z0.2.2.2.2 = S) : shk2 S (c_notes x1 x2 z0) := by
  unfold c_notes
  repeat' first
      | assumption
      | with_reducible apply_assumption
      | with_reducible apply shk_ite
      | with_reducible apply shk_gd
      | with_reducible refine shk_some ?_
      | with_reducible apply shk_ite1
      | with_reducible apply shk_gd1
      | with_reducible refine shk_some1 ?_
      | with_reducible refine shk_jn0 (fun _ _ => ?_) (fun _ _ => ?_)
      | with_reducible refine shk_jn1 (fun _ _ _ => ?_) (fun _ _ => ?_)
      | with_reducible refine shk_jn2 (fun _ _ _ _ => ?_) (fun _ _ => ?_)
      | with_reducible refine shk_jn3 (fun _ _ _ _ _ => ?_) (fun _ _ => ?_)
      | with_reducible refine shk_jn4 (fun _ _ _ _ _ _ => ?_) (fun _ _ => ?_)
      | with_reducible refine sp_c_isNoNote _ _ _ ?_
      | with_reducible refine sp_c_noteOf _ _ _ ?_
      | with_reducible refine sp_c_notes_L24 _ _ _ (fun _ _ _ _ => ?_) _ _ _ _ _ ?_
      | with_reducible refine shk_bind ?_ (fun _ _ => ?_)
      | with_reducible refine shk_bind1 ?_ (fun _ _ => ?_)
      | with_reducible refine shk_bindP (fun _ => ?_)
theorem sp_c_often_L19 {S : Nat → Option (Nat × Nat × (Nat → Int32))}  : ∀ (n : Nat) (y0 : Int32) (y1 : Int32) (y2 : Int32) (z : CZ), z.2.2.2.2 = S → shk2 S (c_often_L19  n y0 y1 y2 z) := by
  intro n
  induction n with
  | zero => intro y0 y1 y2 z hs; exact ⟨fun r h => (by cases h), trivial⟩
  | succ n ih =>
    intro y0 y1 y2 z hs
    rw [c_often_L19]
    repeat' first
      | assumption
      | with_reducible apply_assumption
      | with_reducible apply shk_ite
      | with_reducible apply shk_gd
      | with_reducible refine shk_some ?_
      | with_reducible apply shk_ite1
      | with_reducible apply shk_gd1
      | with_reducible refine shk_some1 ?_
      | with_reducible refine shk_jn0 (fun _ _ => ?_) (fun _ _ => ?_)
      | with_reducible refine shk_jn1 (fun _ _ _ => ?_) (fun _ _ => ?_)
      | with_reducible refine shk_jn2 (fun _ _ _ _ => ?_) (fun _ _ => ?_)
      | with_reducible refine shk_jn3 (fun _ _ _ _ _ => ?_) (fun _ _ => ?_)
      | with_reducible refine shk_jn4 (fun _ _ _ _ _ _ => ?_) (fun _ _ => ?_)
      | with_reducible refine sp_c_areSo _ ?_
      | with_reducible refine ih _ _ _ _ ?_
      | with_reducible refine shk_bind ?_ (fun _ _ => ?_)
      | with_reducible refine shk_bind1 ?_ (fun _ _ => ?_)
      | with_reducible refine shk_bindP (fun _ => ?_)
theorem sp_c_often {S : Nat → Option (Nat × Nat × (Nat → Int32))}  (z0 : CZ) (hs : z0.2.2.2.2 = S) : shk2 S (c_often z0) := by
  unfold c_often
  repeat' first
      | assumption
      | with_reducible apply_assumption
      | with_reducible apply shk_ite
      | with_reducible apply shk_gd
      | with_reducible refine shk_some ?_
      | with_reducible apply shk_ite1
      | with_reducible apply shk_gd1
      | with_reducible refine shk_some1 ?_
      | with_reducible refine shk_jn0 (fun _ _ => ?_) (fun _ _ => ?_)
      | with_reducible refine shk_jn1 (fun _ _ _ => ?_) (fun _ _ => ?_)
      | with_reducible refine shk_jn2 (fun _ _ _ _ => ?_) (fun _ _ => ?_)
      | with_reducible refine shk_jn3 (fun _ _ _ _ _ => ?_) (fun _ _ => ?_)
      | with_reducible refine shk_jn4 (fun _ _ _ _ _ _ => ?_) (fun _ _ => ?_)
      | with_reducible refine sp_c_noRiver _ ?_
      | with_reducible refine sp_c_often_L19 _ _ _ _ _ ?_
      | with_reducible refine shk_bind ?_ (fun _ _ => ?_)
      | with_reducible refine shk_bind1 ?_ (fun _ _ => ?_)
      | with_reducible refine shk_bindP (fun _ => ?_)
theorem sp_c_ofPerson {S : Nat → Option (Nat × Nat × (Nat → Int32))} (x1 : Int32) (x2 : Int32) (z0 : CZ) (hs : z0.2.2.2.2 = S) : shk2 S (c_ofPerson x1 x2 z0) := by
  unfold c_ofPerson
  repeat' first
      | assumption
      | with_reducible apply_assumption
      | with_reducible apply shk_ite
      | with_reducible apply shk_gd
      | with_reducible refine shk_some ?_
      | with_reducible apply shk_ite1
      | with_reducible apply shk_gd1
      | with_reducible refine shk_some1 ?_
      | with_reducible refine shk_jn0 (fun _ _ => ?_) (fun _ _ => ?_)
      | with_reducible refine shk_jn1 (fun _ _ _ => ?_) (fun _ _ => ?_)
      | with_reducible refine shk_jn2 (fun _ _ _ _ => ?_) (fun _ _ => ?_)
      | with_reducible refine shk_jn3 (fun _ _ _ _ _ => ?_) (fun _ _ => ?_)
      | with_reducible refine shk_jn4 (fun _ _ _ _ _ _ => ?_) (fun _ _ => ?_)
      | with_reducible refine sp_c_noPerson _ _ ?_
      | with_reducible refine sp_c_allOwedBy _ _ ?_
      | with_reducible refine sp_c5_kind _ _ ?_
      | with_reducible refine sp_c6_kind _ _ ?_
      | with_reducible refine sp_c7_kind _ _ ?_
      | with_reducible refine shk_bind ?_ (fun _ _ => ?_)
      | with_reducible refine shk_bind1 ?_ (fun _ _ => ?_)
      | with_reducible refine shk_bindP (fun _ => ?_)
theorem sp_c_tell {S : Nat → Option (Nat × Nat × (Nat → Int32))} (x1 : Int32) (z0 : CZ) (hs : z0.2.2.2.2 = S) : shk2 S (c_tell x1 z0) := by
  unfold c_tell
  repeat' first
      | assumption
      | with_reducible apply_assumption
      | with_reducible apply shk_ite
      | with_reducible apply shk_gd
      | with_reducible refine shk_some ?_
      | with_reducible apply shk_ite1
      | with_reducible apply shk_gd1
      | with_reducible refine shk_some1 ?_
      | with_reducible refine shk_jn0 (fun _ _ => ?_) (fun _ _ => ?_)
      | with_reducible refine shk_jn1 (fun _ _ _ => ?_) (fun _ _ => ?_)
      | with_reducible refine shk_jn2 (fun _ _ _ _ => ?_) (fun _ _ => ?_)
      | with_reducible refine shk_jn3 (fun _ _ _ _ _ => ?_) (fun _ _ => ?_)
      | with_reducible refine shk_jn4 (fun _ _ _ _ _ _ => ?_) (fun _ _ => ?_)
      | with_reducible refine sp_c_noPerson _ _ ?_
      | with_reducible refine sp_c5_said _ _ ?_
      | with_reducible refine sp_c6_said _ _ ?_
      | with_reducible refine sp_c7_said _ _ ?_
      | with_reducible refine shk_bind ?_ (fun _ _ => ?_)
      | with_reducible refine shk_bind1 ?_ (fun _ _ => ?_)
      | with_reducible refine shk_bindP (fun _ => ?_)
theorem sp_c_odds_L71 {S : Nat → Option (Nat × Nat × (Nat → Int32))} (k117 : CZ → Option (Int64 × CZ)) (x1 : Int32) (x2 : Int32) (x3 : Int32) (y61_4 : Int32) (y61_5 : Int32) (y61_6 : Int32) (hk117 : ∀ (a0 : CZ), a0.2.2.2.2 = S → shk2 S (k117 a0)) : ∀ (n : Nat) (y0 : Int32) (z : CZ), z.2.2.2.2 = S → shk2 S (c_odds_L71 k117 x1 x2 x3 y61_4 y61_5 y61_6 n y0 z) := by
  intro n
  induction n with
  | zero => intro y0 z hs; exact ⟨fun r h => (by cases h), trivial⟩
  | succ n ih =>
    intro y0 z hs
    rw [c_odds_L71]
    repeat' first
      | assumption
      | with_reducible apply_assumption
      | with_reducible apply shk_ite
      | with_reducible apply shk_gd
      | with_reducible refine shk_some ?_
      | with_reducible apply shk_ite1
      | with_reducible apply shk_gd1
      | with_reducible refine shk_some1 ?_
      | with_reducible refine shk_jn0 (fun _ _ => ?_) (fun _ _ => ?_)
      | with_reducible refine shk_jn1 (fun _ _ _ => ?_) (fun _ _ => ?_)
      | with_reducible refine shk_jn2 (fun _ _ _ _ => ?_) (fun _ _ => ?_)
      | with_reducible refine shk_jn3 (fun _ _ _ _ _ => ?_) (fun _ _ => ?_)
      | with_reducible refine shk_jn4 (fun _ _ _ _ _ _ => ?_) (fun _ _ => ?_)
      | with_reducible refine ih _ _ ?_
      | with_reducible refine shk_bind ?_ (fun _ _ => ?_)
      | with_reducible refine shk_bind1 ?_ (fun _ _ => ?_)
      | with_reducible refine shk_bindP (fun _ => ?_)
theorem sp_c_odds_L61 {S : Nat → Option (Nat × Nat × (Nat → Int32))} (k145 : Int32 → Int32 → CZ → Option (Int64 × CZ)) (x1 : Int32) (x2 : Int32) (x3 : Int32) (hk145 : ∀ (a0 : Int32) (a1 : Int32) (a2 : CZ), a2.2.2.2.2 = S → shk2 S (k145 a0 a1 a2)) : ∀ (n : Nat) (y0 : Int32) (y1 : Int32) (y2 : Int32) (z : CZ), z.2.2.2.2 = S → shk2 S (c_odds_L61 k145 x1 x2 x3 n y0 y1 y2 z) := by
  intro n
  induction n with
  | zero => intro y0 y1 y2 z hs; exact ⟨fun r h => (by cases h), trivial⟩
  | succ n ih =>
    intro y0 y1 y2 z hs
    rw [c_odds_L61]
    repeat' first
      | assumption
      | with_reducible apply_assumption
      | with_reducible apply shk_ite
      | with_reducible apply shk_gd
      | with_reducible refine shk_some ?_
      | with_reducible apply shk_ite1
      | with_reducible apply shk_gd1
      | with_reducible refine shk_some1 ?_
      | with_reducible refine shk_jn0 (fun _ _ => ?_) (fun _ _ => ?_)
      | with_reducible refine shk_jn1 (fun _ _ _ => ?_) (fun _ _ => ?_)
      | with_reducible refine shk_jn2 (fun _ _ _ _ => ?_) (fun _ _ => ?_)
      | with_reducible refine shk_jn3 (fun _ _ _ _ _ => ?_) (fun _ _ => ?_)
      | with_reducible refine shk_jn4 (fun _ _ _ _ _ _ => ?_) (fun _ _ => ?_)
      | with_reducible refine sp_c_pulling _ _ ?_
      | with_reducible refine sp_c_odds_L71 _ _ _ _ _ _ _ (fun _ _ => ?_) _ _ _ ?_
      | with_reducible refine ih _ _ _ _ ?_
      | with_reducible refine shk_bind ?_ (fun _ _ => ?_)
      | with_reducible refine shk_bind1 ?_ (fun _ _ => ?_)
      | with_reducible refine shk_bindP (fun _ => ?_)
theorem sp_c_odds {S : Nat → Option (Nat × Nat × (Nat → Int32))} (x1 : Int32) (x2 : Int32) (x3 : Int32) (z0 : CZ) (hs : z0.2.2.2.2 = S) : shk2 S (c_odds x1 x2 x3 z0) := by
  unfold c_odds
  repeat' first
      | assumption
      | with_reducible apply_assumption
      | with_reducible apply shk_ite
      | with_reducible apply shk_gd
      | with_reducible refine shk_some ?_
      | with_reducible apply shk_ite1
      | with_reducible apply shk_gd1
      | with_reducible refine shk_some1 ?_
      | with_reducible refine shk_jn0 (fun _ _ => ?_) (fun _ _ => ?_)
      | with_reducible refine shk_jn1 (fun _ _ _ => ?_) (fun _ _ => ?_)
      | with_reducible refine shk_jn2 (fun _ _ _ _ => ?_) (fun _ _ => ?_)
      | with_reducible refine shk_jn3 (fun _ _ _ _ _ => ?_) (fun _ _ => ?_)
      | with_reducible refine shk_jn4 (fun _ _ _ _ _ _ => ?_) (fun _ _ => ?_)
      | with_reducible refine sp_c_noPerson _ _ ?_
      | with_reducible refine sp_c_isLoad _ _ ?_
      | with_reducible refine sp_c_keep _ ?_
      | with_reducible refine sp_c_putBack _ ?_
      | with_reducible refine sp_c_odds_L61 _ _ _ _ (fun _ _ _ _ => ?_) _ _ _ _ _ ?_
      | with_reducible refine shk_bind ?_ (fun _ _ => ?_)
      | with_reducible refine shk_bind1 ?_ (fun _ _ => ?_)
      | with_reducible refine shk_bindP (fun _ => ?_)
theorem sp_c_loadsBarred_L12 {S : Nat → Option (Nat × Nat × (Nat → Int32))} (rn : Nat) (rg : Nat → Int32) : ∀ (n : Nat) (y0 : Int32) (z : CZ), z.2.2.2.2 = S → shk2 S (c_loadsBarred_L12 rn rg n y0 z) := by
  intro n
  induction n with
  | zero => intro y0 z hs; exact ⟨fun r h => (by cases h), trivial⟩
  | succ n ih =>
    intro y0 z hs
    rw [c_loadsBarred_L12]
    repeat' first
      | assumption
      | with_reducible apply_assumption
      | with_reducible apply shk_ite
      | with_reducible apply shk_gd
      | with_reducible refine shk_some ?_
      | with_reducible apply shk_ite1
      | with_reducible apply shk_gd1
      | with_reducible refine shk_some1 ?_
      | with_reducible refine shk_jn0 (fun _ _ => ?_) (fun _ _ => ?_)
      | with_reducible refine shk_jn1 (fun _ _ _ => ?_) (fun _ _ => ?_)
      | with_reducible refine shk_jn2 (fun _ _ _ _ => ?_) (fun _ _ => ?_)
      | with_reducible refine shk_jn3 (fun _ _ _ _ _ => ?_) (fun _ _ => ?_)
      | with_reducible refine shk_jn4 (fun _ _ _ _ _ _ => ?_) (fun _ _ => ?_)
      | with_reducible refine sp_c_isLoad _ _ ?_
      | with_reducible refine ih _ _ ?_
      | with_reducible refine shk_bind ?_ (fun _ _ => ?_)
      | with_reducible refine shk_bind1 ?_ (fun _ _ => ?_)
      | with_reducible refine shk_bindP (fun _ => ?_)
theorem sp_c_loadsBarred {S : Nat → Option (Nat × Nat × (Nat → Int32))} (rn : Nat) (rg : Nat → Int32) (z0 : CZ) (hs : z0.2.2.2.2 = S) : shk2 S (c_loadsBarred rn rg z0) := by
  unfold c_loadsBarred
  repeat' first
      | assumption
      | with_reducible apply_assumption
      | with_reducible apply shk_ite
      | with_reducible apply shk_gd
      | with_reducible refine shk_some ?_
      | with_reducible apply shk_ite1
      | with_reducible apply shk_gd1
      | with_reducible refine shk_some1 ?_
      | with_reducible refine shk_jn0 (fun _ _ => ?_) (fun _ _ => ?_)
      | with_reducible refine shk_jn1 (fun _ _ _ => ?_) (fun _ _ => ?_)
      | with_reducible refine shk_jn2 (fun _ _ _ _ => ?_) (fun _ _ => ?_)
      | with_reducible refine shk_jn3 (fun _ _ _ _ _ => ?_) (fun _ _ => ?_)
      | with_reducible refine shk_jn4 (fun _ _ _ _ _ _ => ?_) (fun _ _ => ?_)
      | with_reducible refine sp_c_noRiver _ ?_
      | with_reducible refine sp_c_loadsBarred_L12 _ _ _ _ _ ?_
      | with_reducible refine shk_bind ?_ (fun _ _ => ?_)
      | with_reducible refine shk_bind1 ?_ (fun _ _ => ?_)
      | with_reducible refine shk_bindP (fun _ => ?_)
theorem sp_c_loadsBy_L21 {S : Nat → Option (Nat × Nat × (Nat → Int32))} (k178 : Int32 → Int32 → Int32 → Int32 → Int32 → Int32 → CZ → Option (Int32 × CZ)) (rn : Nat) (rg : Nat → Int32) (x2 : Int32) (hk178 : ∀ (a0 : Int32) (a1 : Int32) (a2 : Int32) (a3 : Int32) (a4 : Int32) (a5 : Int32) (a6 : CZ), a6.2.2.2.2 = S → shk2 S (k178 a0 a1 a2 a3 a4 a5 a6)) : ∀ (n : Nat) (y0 : Int32) (y1 : Int32) (y2 : Int32) (y3 : Int32) (y4 : Int32) (y5 : Int32) (y6 : Int32) (z : CZ), z.2.2.2.2 = S → shk2 S (c_loadsBy_L21 k178 rn rg x2 n y0 y1 y2 y3 y4 y5 y6 z) := by
  intro n
  induction n with
  | zero => intro y0 y1 y2 y3 y4 y5 y6 z hs; exact ⟨fun r h => (by cases h), trivial⟩
  | succ n ih =>
    intro y0 y1 y2 y3 y4 y5 y6 z hs
    rw [c_loadsBy_L21]
    repeat' first
      | assumption
      | with_reducible apply_assumption
      | with_reducible apply shk_ite
      | with_reducible apply shk_gd
      | with_reducible refine shk_some ?_
      | with_reducible apply shk_ite1
      | with_reducible apply shk_gd1
      | with_reducible refine shk_some1 ?_
      | with_reducible refine shk_jn0 (fun _ _ => ?_) (fun _ _ => ?_)
      | with_reducible refine shk_jn1 (fun _ _ _ => ?_) (fun _ _ => ?_)
      | with_reducible refine shk_jn2 (fun _ _ _ _ => ?_) (fun _ _ => ?_)
      | with_reducible refine shk_jn3 (fun _ _ _ _ _ => ?_) (fun _ _ => ?_)
      | with_reducible refine shk_jn4 (fun _ _ _ _ _ _ => ?_) (fun _ _ => ?_)
      | with_reducible refine sp_c_pulling _ _ ?_
      | with_reducible refine sp_c_isFair _ _ ?_
      | with_reducible refine ih _ _ _ _ _ _ _ _ ?_
      | with_reducible refine shk_bind ?_ (fun _ _ => ?_)
      | with_reducible refine shk_bind1 ?_ (fun _ _ => ?_)
      | with_reducible refine shk_bindP (fun _ => ?_)
theorem sp_c_loadsBy {S : Nat → Option (Nat × Nat × (Nat → Int32))} (rn : Nat) (rg : Nat → Int32) (x2 : Int32) (z0 : CZ) (hs : z0.2.2.2.2 = S) : shk2 S (c_loadsBy rn rg x2 z0) := by
  unfold c_loadsBy
  repeat' first
      | assumption
      | with_reducible apply_assumption
      | with_reducible apply shk_ite
      | with_reducible apply shk_gd
      | with_reducible refine shk_some ?_
      | with_reducible apply shk_ite1
      | with_reducible apply shk_gd1
      | with_reducible refine shk_some1 ?_
      | with_reducible refine shk_jn0 (fun _ _ => ?_) (fun _ _ => ?_)
      | with_reducible refine shk_jn1 (fun _ _ _ => ?_) (fun _ _ => ?_)
      | with_reducible refine shk_jn2 (fun _ _ _ _ => ?_) (fun _ _ => ?_)
      | with_reducible refine shk_jn3 (fun _ _ _ _ _ => ?_) (fun _ _ => ?_)
      | with_reducible refine shk_jn4 (fun _ _ _ _ _ _ => ?_) (fun _ _ => ?_)
      | with_reducible refine sp_c_noPerson _ _ ?_
      | with_reducible refine sp_c_loadsBy_L21 _ _ _ _ (fun _ _ _ _ _ _ _ _ => ?_) _ _ _ _ _ _ _ _ _ ?_
      | with_reducible refine shk_bind ?_ (fun _ _ => ?_)
      | with_reducible refine shk_bind1 ?_ (fun _ _ => ?_)
      | with_reducible refine shk_bindP (fun _ => ?_)
theorem sp_c13_hailed {S : Nat → Option (Nat × Nat × (Nat → Int32))} (i : Nat) (z0 : CZ) (hs : z0.2.2.2.2 = S) : shk2 S (c13_hailed i z0) := by
  unfold c13_hailed
  repeat' first
      | assumption
      | with_reducible apply_assumption
      | with_reducible apply shk_ite
      | with_reducible apply shk_gd
      | with_reducible refine shk_some ?_
      | with_reducible apply shk_ite1
      | with_reducible apply shk_gd1
      | with_reducible refine shk_some1 ?_
      | with_reducible refine shk_jn0 (fun _ _ => ?_) (fun _ _ => ?_)
      | with_reducible refine shk_jn1 (fun _ _ _ => ?_) (fun _ _ => ?_)
      | with_reducible refine shk_jn2 (fun _ _ _ _ => ?_) (fun _ _ => ?_)
      | with_reducible refine shk_jn3 (fun _ _ _ _ _ => ?_) (fun _ _ => ?_)
      | with_reducible refine shk_jn4 (fun _ _ _ _ _ _ => ?_) (fun _ _ => ?_)
      | with_reducible refine sp_c5_number _ _ ?_
      | with_reducible refine sp_c5_tracedBy _ _ _ ?_
      | with_reducible refine shk_bind ?_ (fun _ _ => ?_)
      | with_reducible refine shk_bind1 ?_ (fun _ _ => ?_)
      | with_reducible refine shk_bindP (fun _ => ?_)
theorem sp_c_hail {S : Nat → Option (Nat × Nat × (Nat → Int32))} (x1 : Int32) (z0 : CZ) (hs : z0.2.2.2.2 = S) : shk2 S (c_hail x1 z0) := by
  unfold c_hail
  repeat' first
      | assumption
      | with_reducible apply_assumption
      | with_reducible apply shk_ite
      | with_reducible apply shk_gd
      | with_reducible refine shk_some ?_
      | with_reducible apply shk_ite1
      | with_reducible apply shk_gd1
      | with_reducible refine shk_some1 ?_
      | with_reducible refine shk_jn0 (fun _ _ => ?_) (fun _ _ => ?_)
      | with_reducible refine shk_jn1 (fun _ _ _ => ?_) (fun _ _ => ?_)
      | with_reducible refine shk_jn2 (fun _ _ _ _ => ?_) (fun _ _ => ?_)
      | with_reducible refine shk_jn3 (fun _ _ _ _ _ => ?_) (fun _ _ => ?_)
      | with_reducible refine shk_jn4 (fun _ _ _ _ _ _ => ?_) (fun _ _ => ?_)
      | with_reducible refine sp_c_noPerson _ _ ?_
      | with_reducible refine sp_c7_hailed _ _ ?_
      | with_reducible refine sp_c13_hailed _ _ ?_
      | with_reducible refine shk_bind ?_ (fun _ _ => ?_)
      | with_reducible refine shk_bind1 ?_ (fun _ _ => ?_)
      | with_reducible refine shk_bindP (fun _ => ?_)
