/-! a rider's cell that may have left the list -/
section KIN
variable {p : Program} {l : Launch} {e : Env} {R : Room} {s : State} {m : MethodId} {args : Array Value} {below : List Frame} {meth : Method} {c : Code} {H : Heap} {locs : List Loc} {cells slots : Nat} {Q : State → Prop} {cc : ByteArray} {nL pc : Nat} {rest : List Value} {ls : Array Slot} {D : va_G} {K : Nat → ClassId} {B : Nat → Nat} {ad : CA} {z : CZ} {own : String}
theorem ck_lameM (E : CallFix p m c cc nL s args lw_all own) (hK : va_K D vCl (cT K) s) (hP : cP D K B ad z H) {v kd x : Nat} {lm : Int32} (hkd : kd ≤ 2) (hv : (v, cRi B kd x lm) ∈ ad.2.2) {idx : Nat} (hl : Cond.fieldLink own idx RX5 "isLame" "Z" ∈ lw_all) (hdg : decode cc pc = .ok (.getfield idx, 3))
    (kk : W p l e R s m args below meth c H locs cells slots Q (F0 m (pc + 3) ls (.int lm :: rest))) : W p l e R s m args below meth c H locs cells slots Q (F0 m pc ls (.ref v :: rest)) := by
  obtain ⟨q, hq⟩ := cW_dy (K := K) (B := B) (z := z) hv
  rcases (show kd = 0 ∨ kd = 1 ∨ kd = 2 by omega) with rfl | rfl | rfl
  · exact va_get E.1 E.2.1 E.2.2.2.2 in_X5 E.2.2.2.1 hK hP.1 (q + 7) hq (ci := 3) (C := RX5) (T := TX5) (N := 3) rfl 1 (by decide) (E.2.2.2.2 _ hl) (fun _ h => h) rfl hdg kk
  · exact va_get E.1 E.2.1 E.2.2.2.2 in_X6 E.2.2.2.1 hK hP.1 (q + 7) hq (ci := 4) (C := RX6) (T := TX6) (N := 4) rfl 1 (by decide) (E.2.2.2.2 _ hl) (fun _ h => h) rfl hdg kk
  · exact va_get E.1 E.2.1 E.2.2.2.2 in_X7 E.2.2.2.1 hK hP.1 (q + 7) hq (ci := 5) (C := RX7) (T := TX7) (N := 5) rfl 1 (by decide) (E.2.2.2.2 _ hl) (fun _ h => h) rfl hdg kk
end KIN
