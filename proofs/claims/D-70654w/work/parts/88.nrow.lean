/-! newRiver: reading codes -/
theorem codeAt_eq {n i : Nat} {g : Nat → Int32} (hn : n < 2 ^ 31) (hi : i < 2 ^ 31) : c_codeAt n g (nI i) = some (cA n g i) := by
  unfold c_codeAt cA
  by_cases h : i < n
  · rw [if_neg (nI_ge h hn), if_pos h, gd_t (inb_nI h hn), nI_clamp hi]
  · rw [if_pos (nI_le (by omega) hi), if_neg h]
theorem figAt_eq {n i : Nat} {g : Nat → Int32} (hn : n < 2 ^ 31) (hi : i < n) : c_figureAt n g (nI i) = some (g i - 48) := by
  unfold c_figureAt
  rw [gd_t (inb_nI hi hn), nI_clamp (by omega)]
theorem isFig_eq {n i lo hi : Nat} {g : Nat → Int32} (hn : n < 2 ^ 31) (hi' : i < 2 ^ 31) : c_isFigure n g (nI i) (nI lo) (nI hi) = some (if fg n g i lo hi = true then 1 else 0) := by
  unfold c_isFigure
  rw [codeAt_eq hn hi']
  simp only [Option.bind_some]
  rw [c_in32 (cA n g i - 48) (nI lo) (nI hi) rfl rfl]
  unfold fg
  by_cases h : nI lo ≤ cA n g i - 48 ∧ cA n g i - 48 ≤ nI hi
  · rw [if_pos h, if_pos (decide_eq_true h)]; rfl
  · rw [if_neg h, if_neg (by simp [h])]; rfl
/-- what was found right of one -/
def nrOk (rn : Nat) (rg : Nat → Int32) (np i : Nat) : Prop := (∃ kd, kd ≤ 2 ∧ kdO (cA rn rg (nrAt np i + 1)) = some kd) ∧ fg rn rg (nrAt np i + 2) 0 1 = true ∧ ∀ q, q < np → fg rn rg (nrAt np i + 3 + q) 0 (if q = i then 0 else 9) = true
theorem kdO_le {x : Int32} {kd : Nat} (h : kdO x = some kd) : kd ≤ 2 := by
  unfold kdO at h
  split at h
  · cases h; exact Nat.zero_le _
  · split at h
    · cases h; decide
    · split at h
      · cases h; decide
      · cases h
section NROW
variable {p : Program} {l : Launch} {e : Env} {R : Room} {s : State} {m : MethodId} {args : Array Value} {below : List Frame} {meth : Method} {c : Code} {H : Heap} {locs : List Loc} {cells slots : Nat} {Q : State → Prop} {cc : ByteArray} {nL pc : Nat} {rest : List Value} {ls : Array Slot} {D : va_G} {K : Nat → ClassId} {B : Nat → Nat} {ad : CA} {z : CZ} {lv : List (Nat × Value)} {w rn : Nat} {rg : Nat → Int32}
theorem ck_codeAt (E : CallFix p m c cc nL s args lw_all RX0) (hK : va_K D vCl (cT K) s) (hP : cP D K B ad z H) (hw : rwW K w rn rg ∈ ad.2.2) {i : Nat} {x : Int32} (hx : x = nI i) (hn : rn < 2 ^ 31) (hi : i < 2 ^ 31) (hl : lv_has ls nL lv) (hW : (rest.map fun v => v.category).sum ≤ 8) (hR : 2 ≤ R.frames ∧ 33 ≤ R.locals) (hf : cells ≤ R.cells ∧ slots ≤ R.slots) (hdg : decode cc pc = .ok (.invokestatic 73, 3))
    (kk : W p l e R s m args below meth c H locs cells slots Q (F0 m (pc + 3) ls (.int (cA rn rg i) :: rest))) : W p l e R s m args below meth c H locs cells slots Q (F0 m pc ls (.int x :: .ref w :: rest)) := by
  subst hx
  exact px_go (va_runS (As := [.ref w, .int (nI i)]) (rest := rest) E (mm_X0_codeAt l D K w rn rg (nI i) _ (codeAt_eq hn hi)) (va_cwS 2 E.2.2.2.2 (lw_S q879 q880 q54 q881) rfl rfl rfl (by decide +kernel) ⟨hR.1, hR.2⟩) (js_pre hK (row_P hP hw)) rfl rfl hl.1 rfl (lv_room hW) hdg hf) kk
theorem ck_figAt (E : CallFix p m c cc nL s args lw_all RX0) (hK : va_K D vCl (cT K) s) (hP : cP D K B ad z H) (hw : rwW K w rn rg ∈ ad.2.2) {i : Nat} {x : Int32} (hx : x = nI i) (hn : rn < 2 ^ 31) (hi : i < rn) (hl : lv_has ls nL lv) (hW : (rest.map fun v => v.category).sum ≤ 8) (hR : 2 ≤ R.frames ∧ 33 ≤ R.locals) (hf : cells ≤ R.cells ∧ slots ≤ R.slots) (hdg : decode cc pc = .ok (.invokestatic 81, 3))
    (kk : W p l e R s m args below meth c H locs cells slots Q (F0 m (pc + 3) ls (.int (rg i - 48) :: rest))) : W p l e R s m args below meth c H locs cells slots Q (F0 m pc ls (.int x :: .ref w :: rest)) := by
  subst hx
  exact px_go (va_runS (As := [.ref w, .int (nI i)]) (rest := rest) E (mm_X0_figureAt l D K w rn rg (nI i) _ (figAt_eq hn hi)) (va_cwS 2 E.2.2.2.2 (lw_S q885 q886 q54 q887) rfl rfl rfl (by decide +kernel) ⟨hR.1, hR.2⟩) (js_pre hK (row_P hP hw)) rfl rfl hl.1 rfl (lv_room hW) hdg hf) kk
theorem ck_isFig (E : CallFix p m c cc nL s args lw_all RX0) (hK : va_K D vCl (cT K) s) (hP : cP D K B ad z H) (hw : rwW K w rn rg ∈ ad.2.2) {i lo hi : Nat} {x a b : Int32} (hx : x = nI i) (ha : a = nI lo) (hb : b = nI hi) (hn : rn < 2 ^ 31) (hi' : i < 2 ^ 31) (hl : lv_has ls nL lv) (hW : (rest.map fun v => v.category).sum ≤ 8) (hR : 3 ≤ R.frames ∧ 83 ≤ R.locals) (hf : cells ≤ R.cells ∧ slots ≤ R.slots) (hdg : decode cc pc = .ok (.invokestatic 77, 3))
    (kk : W p l e R s m args below meth c H locs cells slots Q (F0 m (pc + 3) ls (.int (if fg rn rg i lo hi = true then 1 else 0) :: rest))) : W p l e R s m args below meth c H locs cells slots Q (F0 m pc ls (.int b :: .int a :: .int x :: .ref w :: rest)) := by
  subst hx ha hb
  exact px_go (va_runS (As := [.ref w, .int (nI i), .int (nI lo), .int (nI hi)]) (rest := rest) E (mm_X0_isFigure l D K w rn rg (nI i) (nI lo) (nI hi) _ (isFig_eq hn hi')) (va_cwS 4 E.2.2.2.2 (lw_S q882 q883 q54 q884) rfl rfl rfl (by decide +kernel) ⟨hR.1, hR.2⟩) (js_pre hK (row_P hP hw)) rfl rfl hl.1 rfl (lv_room hW) hdg hf) kk
end NROW
