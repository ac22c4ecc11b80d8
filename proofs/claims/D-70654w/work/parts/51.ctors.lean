theorem apX4 : ∀ a, a < 7 → ∀ b, b < 7 → a ≠ b → (TX4 a).2.1 ≠ (TX4 b).2.1 ∨ ((TX4 a).2.2.2 = true ∧ (TX4 b).2.2.2 = true ∧ (TX4 a).1 ≠ (TX4 b).1) := by decide +kernel
theorem apX5 : ∀ a, a < 3 → ∀ b, b < 3 → a ≠ b → (TX5 a).2.1 ≠ (TX5 b).2.1 ∨ ((TX5 a).2.2.2 = true ∧ (TX5 b).2.2.2 = true ∧ (TX5 a).1 ≠ (TX5 b).1) := by decide +kernel
theorem apX6 : ∀ a, a < 4 → ∀ b, b < 4 → a ≠ b → (TX6 a).2.1 ≠ (TX6 b).2.1 ∨ ((TX6 a).2.2.2 = true ∧ (TX6 b).2.2.2 = true ∧ (TX6 a).1 ≠ (TX6 b).1) := by decide +kernel
theorem apX7 : ∀ a, a < 5 → ∀ b, b < 5 → a ≠ b → (TX7 a).2.1 ≠ (TX7 b).2.1 ∨ ((TX7 a).2.2.2 = true ∧ (TX7 b).2.2.2 = true ∧ (TX7 a).1 ≠ (TX7 b).1) := by decide +kernel
theorem apX8 : ∀ a, a < 8 → ∀ b, b < 8 → a ≠ b → (TX8 a).2.1 ≠ (TX8 b).2.1 ∨ ((TX8 a).2.2.2 = true ∧ (TX8 b).2.2.2 = true ∧ (TX8 a).1 ≠ (TX8 b).1) := by decide +kernel
theorem apX9 : ∀ a, a < 2 → ∀ b, b < 2 → a ≠ b → (TX9 a).2.1 ≠ (TX9 b).2.1 ∨ ((TX9 a).2.2.2 = true ∧ (TX9 b).2.2.2 = true ∧ (TX9 a).1 ≠ (TX9 b).1) := by decide +kernel
theorem apX10 : ∀ a, a < 1 → ∀ b, b < 1 → a ≠ b → (TX10 a).2.1 ≠ (TX10 b).2.1 ∨ ((TX10 a).2.2.2 = true ∧ (TX10 b).2.2.2 = true ∧ (TX10 a).1 ≠ (TX10 b).1) := by decide +kernel
theorem apX11 : ∀ a, a < 7 → ∀ b, b < 7 → a ≠ b → (TX11 a).2.1 ≠ (TX11 b).2.1 ∨ ((TX11 a).2.2.2 = true ∧ (TX11 b).2.2.2 = true ∧ (TX11 a).1 ≠ (TX11 b).1) := by decide +kernel
theorem apX12 : ∀ a, a < 4 → ∀ b, b < 4 → a ≠ b → (TX12 a).2.1 ≠ (TX12 b).2.1 ∨ ((TX12 a).2.2.2 = true ∧ (TX12 b).2.2.2 = true ∧ (TX12 a).1 ≠ (TX12 b).1) := by decide +kernel
abbrev rmN0 : Room := { frames := 1, cells := 0, slots := 0, locals := 30 }
abbrev rmN1 : Room := { frames := 2, cells := 0, slots := 0, locals := 70 }
abbrev rmN2 : Room := { frames := 3, cells := 0, slots := 0, locals := 110 }
set_option maxHeartbeats 1000000 in
theorem nm_X5_3 (l : Launch) {s0 : State} {a0 : Array Value} (hT : ∀ w ∈ lw_tbl, w.before a0 s0 = true) (D : va_G) (K : Nat → ClassId) (q : Nat) (v0 v1 v2 : Value) (o1 : Nat) (x2 : Int32) (x3 : Int32) (hz : narrow .boolean (.int x3) = .int x3 ∧ fits .boolean (.int x3) = true) : Met l yX5_init (ws_ yX5_init cX5_init 4 none) rmN0 (nPc D K s0 q 3 [v0, v1, v2] [.ref q, .ref o1, .int x2, .int x3]) (nQ D q 3 [.int x2, .int x3, .ref o1]) 0 0 (fun x => x = q) := by
  refine n_start RX5 (by decide) rfl rfl (Nat.le_of_ble_eq_true rfl) ?_
  intro p e s m args below meth c H locs ls E hr hlocks hm hK hN hP hS hl
  have hl : lv_has ls 4 [(0, .ref q), (1, .ref o1), (2, .int x2), (3, .int x3)] := hl
  refine lv_aload_n E.1 E.2.1 dX5_init_0 rfl (lv_at hl 0 rfl) ?_
  refine lv_aload_n E.1 E.2.1 dX5_init_1 rfl (lv_at hl 1 rfl) ?_
  refine va_putF' E.1 E.2.1 E.2.2.2.2 in_X5 tyX5 tyX5_ok apX5 E.2.2.2.1 hK hP n_D hS 0 rfl (ci := 3) (C := RX5) (T := TX5) (N := 3) rfl 2 (by decide) (E.2.2.2.2 _ q496) (fun _ h => h) rfl hm rfl (ty := .object "DebtFerry") (by decide +kernel) rfl rfl (Nat.le_of_ble_eq_true rfl) dX5_init_2 (fun H locs hP _ hS => ?_)
  have hP : va_P D vCl [(q, .inr (3, [v0, v1, .ref o1]))] H := hP
  refine lv_aload_n E.1 E.2.1 dX5_init_5 rfl (lv_at hl 0 rfl) ?_
  refine W.objInit E.1 E.2.1 E.2.2.2.1 (E.2.2.2.2 _ q487) (E.2.2.2.2 _ q93) (E.2.2.2.2 _ q94) rfl (hl.1.trans E.2.2.1.symm) rfl dX5_init_6 (by decide) (Nat.le_of_ble_eq_true rfl) ?_
  refine lv_aload_n E.1 E.2.1 dX5_init_9 rfl (lv_at hl 0 rfl) ?_
  refine lv_iload_n E.1 E.2.1 dX5_init_10 rfl (lv_at hl 2 rfl) ?_
  refine va_putF' E.1 E.2.1 E.2.2.2.2 in_X5 tyX5 tyX5_ok apX5 E.2.2.2.1 hK hP n_D hS 0 rfl (ci := 3) (C := RX5) (T := TX5) (N := 3) rfl 0 (by decide) (E.2.2.2.2 _ q488) (fun _ h => h) rfl hm rfl (ty := .int) (by decide +kernel) rfl rfl (Nat.le_of_ble_eq_true rfl) dX5_init_11 (fun H locs hP _ hS => ?_)
  have hP : va_P D vCl [(q, .inr (3, [.int x2, v1, .ref o1]))] H := hP
  refine lv_aload_n E.1 E.2.1 dX5_init_14 rfl (lv_at hl 0 rfl) ?_
  refine lv_iload_n E.1 E.2.1 dX5_init_15 rfl (lv_at hl 3 rfl) ?_
  refine va_putF' E.1 E.2.1 E.2.2.2.2 in_X5 tyX5 tyX5_ok apX5 E.2.2.2.1 hK hP n_D hS 0 rfl (ci := 3) (C := RX5) (T := TX5) (N := 3) rfl 1 (by decide) (E.2.2.2.2 _ q494) (fun _ h => h) rfl hm rfl (ty := .boolean) (by decide +kernel) hz.1 hz.2 (Nat.le_of_ble_eq_true rfl) dX5_init_16 (fun H locs hP _ hS => ?_)
  have hP : va_P D vCl [(q, .inr (3, [.int x2, .int x3, .ref o1]))] H := hP
  exact n_ret E hr hlocks hP hS dX5_init_19
set_option maxHeartbeats 1000000 in
theorem nm_X5_4 (l : Launch) {s0 : State} {a0 : Array Value} (hT : ∀ w ∈ lw_tbl, w.before a0 s0 = true) (D : va_G) (K : Nat → ClassId) (q : Nat) (v0 v1 v2 v3 : Value) (o1 : Nat) (x2 : Int32) (x3 : Int32) (hz : narrow .boolean (.int x3) = .int x3 ∧ fits .boolean (.int x3) = true) : Met l yX5_init (ws_ yX5_init cX5_init 4 none) rmN0 (nPc D K s0 q 4 [v0, v1, v2, v3] [.ref q, .ref o1, .int x2, .int x3]) (nQ D q 4 [.int x2, .int x3, .ref o1, v3]) 0 0 (fun x => x = q) := by
  refine n_start RX5 (by decide) rfl rfl (Nat.le_of_ble_eq_true rfl) ?_
  intro p e s m args below meth c H locs ls E hr hlocks hm hK hN hP hS hl
  have hl : lv_has ls 4 [(0, .ref q), (1, .ref o1), (2, .int x2), (3, .int x3)] := hl
  refine lv_aload_n E.1 E.2.1 dX5_init_0 rfl (lv_at hl 0 rfl) ?_
  refine lv_aload_n E.1 E.2.1 dX5_init_1 rfl (lv_at hl 1 rfl) ?_
  refine va_putF' E.1 E.2.1 E.2.2.2.2 in_X6 tyX6 tyX6_ok apX6 E.2.2.2.1 hK hP n_D hS 0 rfl (ci := 4) (C := RX6) (T := TX6) (N := 4) rfl 2 (by decide) (E.2.2.2.2 _ q496) (fun _ h => h) rfl hm rfl (ty := .object "DebtFerry") (by decide +kernel) rfl rfl (Nat.le_of_ble_eq_true rfl) dX5_init_2 (fun H locs hP _ hS => ?_)
  have hP : va_P D vCl [(q, .inr (4, [v0, v1, .ref o1, v3]))] H := hP
  refine lv_aload_n E.1 E.2.1 dX5_init_5 rfl (lv_at hl 0 rfl) ?_
  refine W.objInit E.1 E.2.1 E.2.2.2.1 (E.2.2.2.2 _ q487) (E.2.2.2.2 _ q93) (E.2.2.2.2 _ q94) rfl (hl.1.trans E.2.2.1.symm) rfl dX5_init_6 (by decide) (Nat.le_of_ble_eq_true rfl) ?_
  refine lv_aload_n E.1 E.2.1 dX5_init_9 rfl (lv_at hl 0 rfl) ?_
  refine lv_iload_n E.1 E.2.1 dX5_init_10 rfl (lv_at hl 2 rfl) ?_
  refine va_putF' E.1 E.2.1 E.2.2.2.2 in_X6 tyX6 tyX6_ok apX6 E.2.2.2.1 hK hP n_D hS 0 rfl (ci := 4) (C := RX6) (T := TX6) (N := 4) rfl 0 (by decide) (E.2.2.2.2 _ q488) (fun _ h => h) rfl hm rfl (ty := .int) (by decide +kernel) rfl rfl (Nat.le_of_ble_eq_true rfl) dX5_init_11 (fun H locs hP _ hS => ?_)
  have hP : va_P D vCl [(q, .inr (4, [.int x2, v1, .ref o1, v3]))] H := hP
  refine lv_aload_n E.1 E.2.1 dX5_init_14 rfl (lv_at hl 0 rfl) ?_
  refine lv_iload_n E.1 E.2.1 dX5_init_15 rfl (lv_at hl 3 rfl) ?_
  refine va_putF' E.1 E.2.1 E.2.2.2.2 in_X6 tyX6 tyX6_ok apX6 E.2.2.2.1 hK hP n_D hS 0 rfl (ci := 4) (C := RX6) (T := TX6) (N := 4) rfl 1 (by decide) (E.2.2.2.2 _ q494) (fun _ h => h) rfl hm rfl (ty := .boolean) (by decide +kernel) hz.1 hz.2 (Nat.le_of_ble_eq_true rfl) dX5_init_16 (fun H locs hP _ hS => ?_)
  have hP : va_P D vCl [(q, .inr (4, [.int x2, .int x3, .ref o1, v3]))] H := hP
  exact n_ret E hr hlocks hP hS dX5_init_19
set_option maxHeartbeats 1000000 in
theorem nm_X5_5 (l : Launch) {s0 : State} {a0 : Array Value} (hT : ∀ w ∈ lw_tbl, w.before a0 s0 = true) (D : va_G) (K : Nat → ClassId) (q : Nat) (v0 v1 v2 v3 v4 : Value) (o1 : Nat) (x2 : Int32) (x3 : Int32) (hz : narrow .boolean (.int x3) = .int x3 ∧ fits .boolean (.int x3) = true) : Met l yX5_init (ws_ yX5_init cX5_init 4 none) rmN0 (nPc D K s0 q 5 [v0, v1, v2, v3, v4] [.ref q, .ref o1, .int x2, .int x3]) (nQ D q 5 [.int x2, .int x3, .ref o1, v3, v4]) 0 0 (fun x => x = q) := by
  refine n_start RX5 (by decide) rfl rfl (Nat.le_of_ble_eq_true rfl) ?_
  intro p e s m args below meth c H locs ls E hr hlocks hm hK hN hP hS hl
  have hl : lv_has ls 4 [(0, .ref q), (1, .ref o1), (2, .int x2), (3, .int x3)] := hl
  refine lv_aload_n E.1 E.2.1 dX5_init_0 rfl (lv_at hl 0 rfl) ?_
  refine lv_aload_n E.1 E.2.1 dX5_init_1 rfl (lv_at hl 1 rfl) ?_
  refine va_putF' E.1 E.2.1 E.2.2.2.2 in_X7 tyX7 tyX7_ok apX7 E.2.2.2.1 hK hP n_D hS 0 rfl (ci := 5) (C := RX7) (T := TX7) (N := 5) rfl 2 (by decide) (E.2.2.2.2 _ q496) (fun _ h => h) rfl hm rfl (ty := .object "DebtFerry") (by decide +kernel) rfl rfl (Nat.le_of_ble_eq_true rfl) dX5_init_2 (fun H locs hP _ hS => ?_)
  have hP : va_P D vCl [(q, .inr (5, [v0, v1, .ref o1, v3, v4]))] H := hP
  refine lv_aload_n E.1 E.2.1 dX5_init_5 rfl (lv_at hl 0 rfl) ?_
  refine W.objInit E.1 E.2.1 E.2.2.2.1 (E.2.2.2.2 _ q487) (E.2.2.2.2 _ q93) (E.2.2.2.2 _ q94) rfl (hl.1.trans E.2.2.1.symm) rfl dX5_init_6 (by decide) (Nat.le_of_ble_eq_true rfl) ?_
  refine lv_aload_n E.1 E.2.1 dX5_init_9 rfl (lv_at hl 0 rfl) ?_
  refine lv_iload_n E.1 E.2.1 dX5_init_10 rfl (lv_at hl 2 rfl) ?_
  refine va_putF' E.1 E.2.1 E.2.2.2.2 in_X7 tyX7 tyX7_ok apX7 E.2.2.2.1 hK hP n_D hS 0 rfl (ci := 5) (C := RX7) (T := TX7) (N := 5) rfl 0 (by decide) (E.2.2.2.2 _ q488) (fun _ h => h) rfl hm rfl (ty := .int) (by decide +kernel) rfl rfl (Nat.le_of_ble_eq_true rfl) dX5_init_11 (fun H locs hP _ hS => ?_)
  have hP : va_P D vCl [(q, .inr (5, [.int x2, v1, .ref o1, v3, v4]))] H := hP
  refine lv_aload_n E.1 E.2.1 dX5_init_14 rfl (lv_at hl 0 rfl) ?_
  refine lv_iload_n E.1 E.2.1 dX5_init_15 rfl (lv_at hl 3 rfl) ?_
  refine va_putF' E.1 E.2.1 E.2.2.2.2 in_X7 tyX7 tyX7_ok apX7 E.2.2.2.1 hK hP n_D hS 0 rfl (ci := 5) (C := RX7) (T := TX7) (N := 5) rfl 1 (by decide) (E.2.2.2.2 _ q494) (fun _ h => h) rfl hm rfl (ty := .boolean) (by decide +kernel) hz.1 hz.2 (Nat.le_of_ble_eq_true rfl) dX5_init_16 (fun H locs hP _ hS => ?_)
  have hP : va_P D vCl [(q, .inr (5, [.int x2, .int x3, .ref o1, v3, v4]))] H := hP
  exact n_ret E hr hlocks hP hS dX5_init_19
set_option maxHeartbeats 1000000 in
theorem nm_X6_4 (l : Launch) {s0 : State} {a0 : Array Value} (hT : ∀ w ∈ lw_tbl, w.before a0 s0 = true) (D : va_G) (K : Nat → ClassId) (q : Nat) (v0 v1 v2 v3 : Value) (o1 : Nat) (x2 : Int32) (x3 : Int32) (hz : narrow .boolean (.int x3) = .int x3 ∧ fits .boolean (.int x3) = true) : Met l yX6_init (ws_ yX6_init cX6_init 4 none) rmN1 (nPc D K s0 q 4 [v0, v1, v2, v3] [.ref q, .ref o1, .int x2, .int x3]) (nQ D q 4 [.int x2, .int x3, .ref o1, .ref o1]) 0 0 (fun x => x = q) := by
  refine n_start RX6 (by decide) rfl rfl (Nat.le_of_ble_eq_true rfl) ?_
  intro p e s m args below meth c H locs ls E hr hlocks hm hK hN hP hS hl
  have hl : lv_has ls 4 [(0, .ref q), (1, .ref o1), (2, .int x2), (3, .int x3)] := hl
  refine lv_aload_n E.1 E.2.1 dX6_init_0 rfl (lv_at hl 0 rfl) ?_
  refine lv_aload_n E.1 E.2.1 dX6_init_1 rfl (lv_at hl 1 rfl) ?_
  refine va_putF' E.1 E.2.1 E.2.2.2.2 in_X6 tyX6 tyX6_ok apX6 E.2.2.2.1 hK hP n_D hS 0 rfl (ci := 4) (C := RX6) (T := TX6) (N := 4) rfl 3 (by decide) (E.2.2.2.2 _ q510) (fun _ h => h) rfl hm rfl (ty := .object "DebtFerry") (by decide +kernel) rfl rfl (Nat.le_of_ble_eq_true rfl) dX6_init_2 (fun H locs hP _ hS => ?_)
  have hP : va_P D vCl [(q, .inr (4, [v0, v1, v2, .ref o1]))] H := hP
  refine lv_aload_n E.1 E.2.1 dX6_init_5 rfl (lv_at hl 0 rfl) ?_
  refine lv_aload_n E.1 E.2.1 dX6_init_6 rfl (lv_at hl 1 rfl) ?_
  refine lv_iload_n E.1 E.2.1 dX6_init_7 rfl (lv_at hl 2 rfl) ?_
  refine lv_iload_n E.1 E.2.1 dX6_init_8 rfl (lv_at hl 3 rfl) ?_
  refine n_go (va_runI (As := [.ref o1, .int x2, .int x3]) (rest := []) E (nm_X5_4 l hT D K q (v0) (v1) (v2) (.ref o1) o1 x2 x3 hz) (cwI 3 E.2.2.2.2 (lw_meth q486) rfl rfl rfl (E.2.2.2.2 _ q77) (E.2.2.2.2 _ q509) (E.2.2.2.2 _ q485) rfl (by decide +kernel) ⟨Nat.le_of_ble_eq_true rfl, Nat.le_of_ble_eq_true rfl⟩) (n_preS hK hN hP) rfl rfl hl.1 rfl (lv_room (Nat.le_of_ble_eq_true rfl)) dX6_init_9 ⟨Nat.zero_le _, Nat.zero_le _⟩) hS (fun H locs hP hS => ?_)
  exact n_ret E hr hlocks hP hS dX6_init_12
set_option maxHeartbeats 1000000 in
theorem nm_X6_5 (l : Launch) {s0 : State} {a0 : Array Value} (hT : ∀ w ∈ lw_tbl, w.before a0 s0 = true) (D : va_G) (K : Nat → ClassId) (q : Nat) (v0 v1 v2 v3 v4 : Value) (o1 : Nat) (x2 : Int32) (x3 : Int32) (hz : narrow .boolean (.int x3) = .int x3 ∧ fits .boolean (.int x3) = true) : Met l yX6_init (ws_ yX6_init cX6_init 4 none) rmN1 (nPc D K s0 q 5 [v0, v1, v2, v3, v4] [.ref q, .ref o1, .int x2, .int x3]) (nQ D q 5 [.int x2, .int x3, .ref o1, .ref o1, v4]) 0 0 (fun x => x = q) := by
  refine n_start RX6 (by decide) rfl rfl (Nat.le_of_ble_eq_true rfl) ?_
  intro p e s m args below meth c H locs ls E hr hlocks hm hK hN hP hS hl
  have hl : lv_has ls 4 [(0, .ref q), (1, .ref o1), (2, .int x2), (3, .int x3)] := hl
  refine lv_aload_n E.1 E.2.1 dX6_init_0 rfl (lv_at hl 0 rfl) ?_
  refine lv_aload_n E.1 E.2.1 dX6_init_1 rfl (lv_at hl 1 rfl) ?_
  refine va_putF' E.1 E.2.1 E.2.2.2.2 in_X7 tyX7 tyX7_ok apX7 E.2.2.2.1 hK hP n_D hS 0 rfl (ci := 5) (C := RX7) (T := TX7) (N := 5) rfl 3 (by decide) (E.2.2.2.2 _ q510) (fun _ h => h) rfl hm rfl (ty := .object "DebtFerry") (by decide +kernel) rfl rfl (Nat.le_of_ble_eq_true rfl) dX6_init_2 (fun H locs hP _ hS => ?_)
  have hP : va_P D vCl [(q, .inr (5, [v0, v1, v2, .ref o1, v4]))] H := hP
  refine lv_aload_n E.1 E.2.1 dX6_init_5 rfl (lv_at hl 0 rfl) ?_
  refine lv_aload_n E.1 E.2.1 dX6_init_6 rfl (lv_at hl 1 rfl) ?_
  refine lv_iload_n E.1 E.2.1 dX6_init_7 rfl (lv_at hl 2 rfl) ?_
  refine lv_iload_n E.1 E.2.1 dX6_init_8 rfl (lv_at hl 3 rfl) ?_
  refine n_go (va_runI (As := [.ref o1, .int x2, .int x3]) (rest := []) E (nm_X5_5 l hT D K q (v0) (v1) (v2) (.ref o1) (v4) o1 x2 x3 hz) (cwI 3 E.2.2.2.2 (lw_meth q486) rfl rfl rfl (E.2.2.2.2 _ q77) (E.2.2.2.2 _ q509) (E.2.2.2.2 _ q485) rfl (by decide +kernel) ⟨Nat.le_of_ble_eq_true rfl, Nat.le_of_ble_eq_true rfl⟩) (n_preS hK hN hP) rfl rfl hl.1 rfl (lv_room (Nat.le_of_ble_eq_true rfl)) dX6_init_9 ⟨Nat.zero_le _, Nat.zero_le _⟩) hS (fun H locs hP hS => ?_)
  exact n_ret E hr hlocks hP hS dX6_init_12
set_option maxHeartbeats 1000000 in
theorem nm_X7_5 (l : Launch) {s0 : State} {a0 : Array Value} (hT : ∀ w ∈ lw_tbl, w.before a0 s0 = true) (D : va_G) (K : Nat → ClassId) (q : Nat) (v0 v1 v2 v3 v4 : Value) (o1 : Nat) (x2 : Int32) (x3 : Int32) (hz : narrow .boolean (.int x3) = .int x3 ∧ fits .boolean (.int x3) = true) : Met l yX7_init (ws_ yX7_init cX7_init 4 none) rmN2 (nPc D K s0 q 5 [v0, v1, v2, v3, v4] [.ref q, .ref o1, .int x2, .int x3]) (nQ D q 5 [.int x2, .int x3, .ref o1, .ref o1, .ref o1]) 0 0 (fun x => x = q) := by
  refine n_start RX7 (by decide) rfl rfl (Nat.le_of_ble_eq_true rfl) ?_
  intro p e s m args below meth c H locs ls E hr hlocks hm hK hN hP hS hl
  have hl : lv_has ls 4 [(0, .ref q), (1, .ref o1), (2, .int x2), (3, .int x3)] := hl
  refine lv_aload_n E.1 E.2.1 dX7_init_0 rfl (lv_at hl 0 rfl) ?_
  refine lv_aload_n E.1 E.2.1 dX7_init_1 rfl (lv_at hl 1 rfl) ?_
  refine va_putF' E.1 E.2.1 E.2.2.2.2 in_X7 tyX7 tyX7_ok apX7 E.2.2.2.1 hK hP n_D hS 0 rfl (ci := 5) (C := RX7) (T := TX7) (N := 5) rfl 4 (by decide) (E.2.2.2.2 _ q522) (fun _ h => h) rfl hm rfl (ty := .object "DebtFerry") (by decide +kernel) rfl rfl (Nat.le_of_ble_eq_true rfl) dX7_init_2 (fun H locs hP _ hS => ?_)
  have hP : va_P D vCl [(q, .inr (5, [v0, v1, v2, v3, .ref o1]))] H := hP
  refine lv_aload_n E.1 E.2.1 dX7_init_5 rfl (lv_at hl 0 rfl) ?_
  refine lv_aload_n E.1 E.2.1 dX7_init_6 rfl (lv_at hl 1 rfl) ?_
  refine lv_iload_n E.1 E.2.1 dX7_init_7 rfl (lv_at hl 2 rfl) ?_
  refine lv_iload_n E.1 E.2.1 dX7_init_8 rfl (lv_at hl 3 rfl) ?_
  refine n_go (va_runI (As := [.ref o1, .int x2, .int x3]) (rest := []) E (nm_X6_5 l hT D K q (v0) (v1) (v2) (v3) (.ref o1) o1 x2 x3 hz) (cwI 3 E.2.2.2.2 (lw_meth q508) rfl rfl rfl (E.2.2.2.2 _ q78) (E.2.2.2.2 _ q521) (E.2.2.2.2 _ q507) rfl (by decide +kernel) ⟨Nat.le_of_ble_eq_true rfl, Nat.le_of_ble_eq_true rfl⟩) (n_preS hK hN hP) rfl rfl hl.1 rfl (lv_room (Nat.le_of_ble_eq_true rfl)) dX7_init_9 ⟨Nat.zero_le _, Nat.zero_le _⟩) hS (fun H locs hP hS => ?_)
  exact n_ret E hr hlocks hP hS dX7_init_12
set_option maxHeartbeats 1000000 in
theorem nm_X9_6 (l : Launch) {s0 : State} {a0 : Array Value} (hT : ∀ w ∈ lw_tbl, w.before a0 s0 = true) (D : va_G) (K : Nat → ClassId) (q : Nat) (v0 v1 : Value) (x1 : Int32) (x2 : Int32)  : Met l yX9_init (ws_ yX9_init cX9_init 3 none) rmN0 (nPc D K s0 q 6 [v0, v1] [.ref q, .int x1, .int x2]) (nQ D q 6 [.int x1, .int x2]) 0 0 (fun x => x = q) := by
  refine n_start RX9 (by decide) rfl rfl (Nat.le_of_ble_eq_true rfl) ?_
  intro p e s m args below meth c H locs ls E hr hlocks hm hK hN hP hS hl
  have hl : lv_has ls 3 [(0, .ref q), (1, .int x1), (2, .int x2)] := hl
  refine lv_aload_n E.1 E.2.1 dX9_init_0 rfl (lv_at hl 0 rfl) ?_
  refine W.objInit E.1 E.2.1 E.2.2.2.1 (E.2.2.2.2 _ q373) (E.2.2.2.2 _ q93) (E.2.2.2.2 _ q94) rfl (hl.1.trans E.2.2.1.symm) rfl dX9_init_1 (by decide) (Nat.le_of_ble_eq_true rfl) ?_
  refine lv_aload_n E.1 E.2.1 dX9_init_4 rfl (lv_at hl 0 rfl) ?_
  refine lv_iload_n E.1 E.2.1 dX9_init_5 rfl (lv_at hl 1 rfl) ?_
  refine va_putF' E.1 E.2.1 E.2.2.2.2 in_X9 tyX9 tyX9_ok apX9 E.2.2.2.1 hK hP n_D hS 0 rfl (ci := 6) (C := RX9) (T := TX9) (N := 2) rfl 0 (by decide) (E.2.2.2.2 _ q374) (fun _ h => h) rfl hm rfl (ty := .int) (by decide +kernel) rfl rfl (Nat.le_of_ble_eq_true rfl) dX9_init_6 (fun H locs hP _ hS => ?_)
  have hP : va_P D vCl [(q, .inr (6, [.int x1, v1]))] H := hP
  refine lv_aload_n E.1 E.2.1 dX9_init_9 rfl (lv_at hl 0 rfl) ?_
  refine lv_iload_n E.1 E.2.1 dX9_init_10 rfl (lv_at hl 2 rfl) ?_
  refine va_putF' E.1 E.2.1 E.2.2.2.2 in_X9 tyX9 tyX9_ok apX9 E.2.2.2.1 hK hP n_D hS 0 rfl (ci := 6) (C := RX9) (T := TX9) (N := 2) rfl 1 (by decide) (E.2.2.2.2 _ q376) (fun _ h => h) rfl hm rfl (ty := .int) (by decide +kernel) rfl rfl (Nat.le_of_ble_eq_true rfl) dX9_init_11 (fun H locs hP _ hS => ?_)
  have hP : va_P D vCl [(q, .inr (6, [.int x1, .int x2]))] H := hP
  exact n_ret E hr hlocks hP hS dX9_init_14
set_option maxHeartbeats 1000000 in
theorem nm_X10_7 (l : Launch) {s0 : State} {a0 : Array Value} (hT : ∀ w ∈ lw_tbl, w.before a0 s0 = true) (D : va_G) (K : Nat → ClassId) (q : Nat) (v0 : Value) (o1 : Nat)  : Met l yX10_init (ws_ yX10_init cX10_init 2 none) rmN0 (nPc D K s0 q 7 [v0] [.ref q, .ref o1]) (nQ D q 7 [.ref o1]) 0 0 (fun x => x = q) := by
  refine n_start RX10 (by decide) rfl rfl (Nat.le_of_ble_eq_true rfl) ?_
  intro p e s m args below meth c H locs ls E hr hlocks hm hK hN hP hS hl
  have hl : lv_has ls 2 [(0, .ref q), (1, .ref o1)] := hl
  refine lv_aload_n E.1 E.2.1 dX10_init_0 rfl (lv_at hl 0 rfl) ?_
  refine W.objInit E.1 E.2.1 E.2.2.2.1 (E.2.2.2.2 _ q657) (E.2.2.2.2 _ q93) (E.2.2.2.2 _ q94) rfl (hl.1.trans E.2.2.1.symm) rfl dX10_init_1 (by decide) (Nat.le_of_ble_eq_true rfl) ?_
  refine lv_aload_n E.1 E.2.1 dX10_init_4 rfl (lv_at hl 0 rfl) ?_
  refine lv_aload_n E.1 E.2.1 dX10_init_5 rfl (lv_at hl 1 rfl) ?_
  refine va_putF' E.1 E.2.1 E.2.2.2.2 in_X10 tyX10 tyX10_ok apX10 E.2.2.2.1 hK hP n_D hS 0 rfl (ci := 7) (C := RX10) (T := TX10) (N := 1) rfl 0 (by decide) (E.2.2.2.2 _ q658) (fun _ h => h) rfl hm rfl (ty := .object "java/lang/Object") (by decide +kernel) rfl rfl (Nat.le_of_ble_eq_true rfl) dX10_init_6 (fun H locs hP _ hS => ?_)
  have hP : va_P D vCl [(q, .inr (7, [.ref o1]))] H := hP
  exact n_ret E hr hlocks hP hS dX10_init_9
set_option maxHeartbeats 1000000 in
theorem nm_X2_8 (l : Launch) {s0 : State} {a0 : Array Value} (hT : ∀ w ∈ lw_tbl, w.before a0 s0 = true) (D : va_G) (K : Nat → ClassId) (q : Nat) (v0 v1 v2 v3 v4 v5 v6 : Value) (o1 : Nat)  : Met l yX2_init (ws_ yX2_init cX2_init 2 none) rmN0 (nPc D K s0 q 8 [v0, v1, v2, v3, v4, v5, v6] [.ref q, .ref o1]) (nQ D q 8 [v0, v1, v2, v3, v4, .ref o1, v6]) 0 0 (fun x => x = q) := by
  refine n_start RX2 (by decide) rfl rfl (Nat.le_of_ble_eq_true rfl) ?_
  intro p e s m args below meth c H locs ls E hr hlocks hm hK hN hP hS hl
  have hl : lv_has ls 2 [(0, .ref q), (1, .ref o1)] := hl
  refine lv_aload_n E.1 E.2.1 dX2_init_0 rfl (lv_at hl 0 rfl) ?_
  refine lv_aload_n E.1 E.2.1 dX2_init_1 rfl (lv_at hl 1 rfl) ?_
  refine va_putF' E.1 E.2.1 E.2.2.2.2 in_X4 tyX4 tyX4_ok apX4 E.2.2.2.1 hK hP n_D hS 0 rfl (ci := 8) (C := RX4) (T := TX4) (N := 7) rfl 5 (by decide) (E.2.2.2.2 _ q779) (fun _ h => h) rfl hm rfl (ty := .object "DebtFerry") (by decide +kernel) rfl rfl (Nat.le_of_ble_eq_true rfl) dX2_init_2 (fun H locs hP _ hS => ?_)
  have hP : va_P D vCl [(q, .inr (8, [v0, v1, v2, v3, v4, .ref o1, v6]))] H := hP
  refine lv_aload_n E.1 E.2.1 dX2_init_5 rfl (lv_at hl 0 rfl) ?_
  refine W.objInit E.1 E.2.1 E.2.2.2.1 (E.2.2.2.2 _ q770) (E.2.2.2.2 _ q93) (E.2.2.2.2 _ q94) rfl (hl.1.trans E.2.2.1.symm) rfl dX2_init_6 (by decide) (Nat.le_of_ble_eq_true rfl) ?_
  exact n_ret E hr hlocks hP hS dX2_init_9
set_option maxHeartbeats 1000000 in
theorem nm_X2_9 (l : Launch) {s0 : State} {a0 : Array Value} (hT : ∀ w ∈ lw_tbl, w.before a0 s0 = true) (D : va_G) (K : Nat → ClassId) (q : Nat) (v0 v1 v2 v3 v4 v5 v6 v7 : Value) (o1 : Nat)  : Met l yX2_init (ws_ yX2_init cX2_init 2 none) rmN0 (nPc D K s0 q 9 [v0, v1, v2, v3, v4, v5, v6, v7] [.ref q, .ref o1]) (nQ D q 9 [v0, v1, v2, v3, v4, .ref o1, v6, v7]) 0 0 (fun x => x = q) := by
  refine n_start RX2 (by decide) rfl rfl (Nat.le_of_ble_eq_true rfl) ?_
  intro p e s m args below meth c H locs ls E hr hlocks hm hK hN hP hS hl
  have hl : lv_has ls 2 [(0, .ref q), (1, .ref o1)] := hl
  refine lv_aload_n E.1 E.2.1 dX2_init_0 rfl (lv_at hl 0 rfl) ?_
  refine lv_aload_n E.1 E.2.1 dX2_init_1 rfl (lv_at hl 1 rfl) ?_
  refine va_putF' E.1 E.2.1 E.2.2.2.2 in_X8 tyX8 tyX8_ok apX8 E.2.2.2.1 hK hP n_D hS 0 rfl (ci := 9) (C := RX8) (T := TX8) (N := 8) rfl 5 (by decide) (E.2.2.2.2 _ q779) (fun _ h => h) rfl hm rfl (ty := .object "DebtFerry") (by decide +kernel) rfl rfl (Nat.le_of_ble_eq_true rfl) dX2_init_2 (fun H locs hP _ hS => ?_)
  have hP : va_P D vCl [(q, .inr (9, [v0, v1, v2, v3, v4, .ref o1, v6, v7]))] H := hP
  refine lv_aload_n E.1 E.2.1 dX2_init_5 rfl (lv_at hl 0 rfl) ?_
  refine W.objInit E.1 E.2.1 E.2.2.2.1 (E.2.2.2.2 _ q770) (E.2.2.2.2 _ q93) (E.2.2.2.2 _ q94) rfl (hl.1.trans E.2.2.1.symm) rfl dX2_init_6 (by decide) (Nat.le_of_ble_eq_true rfl) ?_
  exact n_ret E hr hlocks hP hS dX2_init_9
set_option maxHeartbeats 1000000 in
theorem nm_X2_10 (l : Launch) {s0 : State} {a0 : Array Value} (hT : ∀ w ∈ lw_tbl, w.before a0 s0 = true) (D : va_G) (K : Nat → ClassId) (q : Nat) (v0 v1 v2 v3 v4 v5 v6 : Value) (o1 : Nat)  : Met l yX2_init (ws_ yX2_init cX2_init 2 none) rmN0 (nPc D K s0 q 10 [v0, v1, v2, v3, v4, v5, v6] [.ref q, .ref o1]) (nQ D q 10 [.ref o1, v1, v2, v3, v4, v5, v6]) 0 0 (fun x => x = q) := by
  refine n_start RX2 (by decide) rfl rfl (Nat.le_of_ble_eq_true rfl) ?_
  intro p e s m args below meth c H locs ls E hr hlocks hm hK hN hP hS hl
  have hl : lv_has ls 2 [(0, .ref q), (1, .ref o1)] := hl
  refine lv_aload_n E.1 E.2.1 dX2_init_0 rfl (lv_at hl 0 rfl) ?_
  refine lv_aload_n E.1 E.2.1 dX2_init_1 rfl (lv_at hl 1 rfl) ?_
  refine va_putF' E.1 E.2.1 E.2.2.2.2 in_X11 tyX11 tyX11_ok apX11 E.2.2.2.1 hK hP n_D hS 0 rfl (ci := 10) (C := RX11) (T := TX11) (N := 7) rfl 0 (by decide) (E.2.2.2.2 _ q779) (fun _ h => h) rfl hm rfl (ty := .object "DebtFerry") (by decide +kernel) rfl rfl (Nat.le_of_ble_eq_true rfl) dX2_init_2 (fun H locs hP _ hS => ?_)
  have hP : va_P D vCl [(q, .inr (10, [.ref o1, v1, v2, v3, v4, v5, v6]))] H := hP
  refine lv_aload_n E.1 E.2.1 dX2_init_5 rfl (lv_at hl 0 rfl) ?_
  refine W.objInit E.1 E.2.1 E.2.2.2.1 (E.2.2.2.2 _ q770) (E.2.2.2.2 _ q93) (E.2.2.2.2 _ q94) rfl (hl.1.trans E.2.2.1.symm) rfl dX2_init_6 (by decide) (Nat.le_of_ble_eq_true rfl) ?_
  exact n_ret E hr hlocks hP hS dX2_init_9
set_option maxHeartbeats 1000000 in
theorem nm_X2_11 (l : Launch) {s0 : State} {a0 : Array Value} (hT : ∀ w ∈ lw_tbl, w.before a0 s0 = true) (D : va_G) (K : Nat → ClassId) (q : Nat) (v0 v1 v2 v3 : Value) (o1 : Nat)  : Met l yX2_init (ws_ yX2_init cX2_init 2 none) rmN0 (nPc D K s0 q 11 [v0, v1, v2, v3] [.ref q, .ref o1]) (nQ D q 11 [.ref o1, v1, v2, v3]) 0 0 (fun x => x = q) := by
  refine n_start RX2 (by decide) rfl rfl (Nat.le_of_ble_eq_true rfl) ?_
  intro p e s m args below meth c H locs ls E hr hlocks hm hK hN hP hS hl
  have hl : lv_has ls 2 [(0, .ref q), (1, .ref o1)] := hl
  refine lv_aload_n E.1 E.2.1 dX2_init_0 rfl (lv_at hl 0 rfl) ?_
  refine lv_aload_n E.1 E.2.1 dX2_init_1 rfl (lv_at hl 1 rfl) ?_
  refine va_putF' E.1 E.2.1 E.2.2.2.2 in_X12 tyX12 tyX12_ok apX12 E.2.2.2.1 hK hP n_D hS 0 rfl (ci := 11) (C := RX12) (T := TX12) (N := 4) rfl 0 (by decide) (E.2.2.2.2 _ q779) (fun _ h => h) rfl hm rfl (ty := .object "DebtFerry") (by decide +kernel) rfl rfl (Nat.le_of_ble_eq_true rfl) dX2_init_2 (fun H locs hP _ hS => ?_)
  have hP : va_P D vCl [(q, .inr (11, [.ref o1, v1, v2, v3]))] H := hP
  refine lv_aload_n E.1 E.2.1 dX2_init_5 rfl (lv_at hl 0 rfl) ?_
  refine W.objInit E.1 E.2.1 E.2.2.2.1 (E.2.2.2.2 _ q770) (E.2.2.2.2 _ q93) (E.2.2.2.2 _ q94) rfl (hl.1.trans E.2.2.1.symm) rfl dX2_init_6 (by decide) (Nat.le_of_ble_eq_true rfl) ?_
  exact n_ret E hr hlocks hP hS dX2_init_9
set_option maxHeartbeats 1000000 in
theorem nm_X3_8 (l : Launch) {s0 : State} {a0 : Array Value} (hT : ∀ w ∈ lw_tbl, w.before a0 s0 = true) (D : va_G) (K : Nat → ClassId) (q : Nat) (v0 v1 v2 v3 v4 v5 v6 : Value) (o1 : Nat) (x2 : Int32) (x3 : Int32) (x4 : Int32) (x5 : Int32)  : Met l yX3_init (ws_ yX3_init cX3_init 6 none) rmN1 (nPc D K s0 q 8 [v0, v1, v2, v3, v4, v5, v6] [.ref q, .ref o1, .int x2, .int x3, .int x4, .int x5]) (nQ D q 8 [.int x2, .int x3, .int x4, .int x5, .ref o1, .ref o1, v6]) 0 0 (fun x => x = q) := by
  refine n_start RX3 (by decide) rfl rfl (Nat.le_of_ble_eq_true rfl) ?_
  intro p e s m args below meth c H locs ls E hr hlocks hm hK hN hP hS hl
  have hl : lv_has ls 6 [(0, .ref q), (1, .ref o1), (2, .int x2), (3, .int x3), (4, .int x4), (5, .int x5)] := hl
  refine lv_aload_n E.1 E.2.1 dX3_init_0 rfl (lv_at hl 0 rfl) ?_
  refine lv_aload_n E.1 E.2.1 dX3_init_1 rfl (lv_at hl 1 rfl) ?_
  refine va_putF' E.1 E.2.1 E.2.2.2.2 in_X4 tyX4 tyX4_ok apX4 E.2.2.2.1 hK hP n_D hS 0 rfl (ci := 8) (C := RX4) (T := TX4) (N := 7) rfl 4 (by decide) (E.2.2.2.2 _ q778) (fun _ h => h) rfl hm rfl (ty := .object "DebtFerry") (by decide +kernel) rfl rfl (Nat.le_of_ble_eq_true rfl) dX3_init_2 (fun H locs hP _ hS => ?_)
  have hP : va_P D vCl [(q, .inr (8, [v0, v1, v2, v3, .ref o1, v5, v6]))] H := hP
  refine lv_aload_n E.1 E.2.1 dX3_init_5 rfl (lv_at hl 0 rfl) ?_
  refine lv_aload_n E.1 E.2.1 dX3_init_6 rfl (lv_at hl 1 rfl) ?_
  refine n_go (va_runIN (As := [.ref o1]) (rest := []) E (nm_X2_8 l hT D K q (v0) (v1) (v2) (v3) (.ref o1) (v5) (v6) o1) ⟨va_cnB 1 E.2.2.2.2 (lw_meth q769) rfl rfl rfl (cN_M hT hN q767) (E.2.2.2.2 _ q59) (by decide +kernel) ⟨Nat.le_of_ble_eq_true rfl, Nat.le_of_ble_eq_true rfl⟩, rfl, E.2.2.2.2 _ q768⟩ (n_preS hK hN hP) rfl rfl hl.1 rfl (lv_room (Nat.le_of_ble_eq_true rfl)) dX3_init_7 ⟨Nat.zero_le _, Nat.zero_le _⟩) hS (fun H locs hP hS => ?_)
  refine lv_aload_n E.1 E.2.1 dX3_init_10 rfl (lv_at hl 0 rfl) ?_
  refine lv_iload_n E.1 E.2.1 dX3_init_11 rfl (lv_at hl 2 rfl) ?_
  refine va_putF' E.1 E.2.1 E.2.2.2.2 in_X4 tyX4 tyX4_ok apX4 E.2.2.2.1 hK hP n_D hS 0 rfl (ci := 8) (C := RX4) (T := TX4) (N := 7) rfl 0 (by decide) (E.2.2.2.2 _ q772) (fun _ h => h) rfl hm rfl (ty := .int) (by decide +kernel) rfl rfl (Nat.le_of_ble_eq_true rfl) dX3_init_12 (fun H locs hP _ hS => ?_)
  have hP : va_P D vCl [(q, .inr (8, [.int x2, v1, v2, v3, .ref o1, .ref o1, v6]))] H := hP
  refine lv_aload_n E.1 E.2.1 dX3_init_15 rfl (lv_at hl 0 rfl) ?_
  refine lv_iload_n E.1 E.2.1 dX3_init_16 rfl (lv_at hl 3 rfl) ?_
  refine va_putF' E.1 E.2.1 E.2.2.2.2 in_X4 tyX4 tyX4_ok apX4 E.2.2.2.1 hK hP n_D hS 0 rfl (ci := 8) (C := RX4) (T := TX4) (N := 7) rfl 1 (by decide) (E.2.2.2.2 _ q774) (fun _ h => h) rfl hm rfl (ty := .int) (by decide +kernel) rfl rfl (Nat.le_of_ble_eq_true rfl) dX3_init_17 (fun H locs hP _ hS => ?_)
  have hP : va_P D vCl [(q, .inr (8, [.int x2, .int x3, v2, v3, .ref o1, .ref o1, v6]))] H := hP
  refine lv_aload_n E.1 E.2.1 dX3_init_20 rfl (lv_at hl 0 rfl) ?_
  refine lv_iload E.1 E.2.1 dX3_init_21 (lv_at hl 4 rfl) ?_
  refine va_putF' E.1 E.2.1 E.2.2.2.2 in_X4 tyX4 tyX4_ok apX4 E.2.2.2.1 hK hP n_D hS 0 rfl (ci := 8) (C := RX4) (T := TX4) (N := 7) rfl 2 (by decide) (E.2.2.2.2 _ q776) (fun _ h => h) rfl hm rfl (ty := .int) (by decide +kernel) rfl rfl (Nat.le_of_ble_eq_true rfl) dX3_init_23 (fun H locs hP _ hS => ?_)
  have hP : va_P D vCl [(q, .inr (8, [.int x2, .int x3, .int x4, v3, .ref o1, .ref o1, v6]))] H := hP
  refine lv_aload_n E.1 E.2.1 dX3_init_26 rfl (lv_at hl 0 rfl) ?_
  refine lv_iload E.1 E.2.1 dX3_init_27 (lv_at hl 5 rfl) ?_
  refine va_putF' E.1 E.2.1 E.2.2.2.2 in_X4 tyX4 tyX4_ok apX4 E.2.2.2.1 hK hP n_D hS 0 rfl (ci := 8) (C := RX4) (T := TX4) (N := 7) rfl 3 (by decide) (E.2.2.2.2 _ q777) (fun _ h => h) rfl hm rfl (ty := .int) (by decide +kernel) rfl rfl (Nat.le_of_ble_eq_true rfl) dX3_init_29 (fun H locs hP _ hS => ?_)
  have hP : va_P D vCl [(q, .inr (8, [.int x2, .int x3, .int x4, .int x5, .ref o1, .ref o1, v6]))] H := hP
  exact n_ret E hr hlocks hP hS dX3_init_32
set_option maxHeartbeats 1000000 in
theorem nm_X3_9 (l : Launch) {s0 : State} {a0 : Array Value} (hT : ∀ w ∈ lw_tbl, w.before a0 s0 = true) (D : va_G) (K : Nat → ClassId) (q : Nat) (v0 v1 v2 v3 v4 v5 v6 v7 : Value) (o1 : Nat) (x2 : Int32) (x3 : Int32) (x4 : Int32) (x5 : Int32)  : Met l yX3_init (ws_ yX3_init cX3_init 6 none) rmN1 (nPc D K s0 q 9 [v0, v1, v2, v3, v4, v5, v6, v7] [.ref q, .ref o1, .int x2, .int x3, .int x4, .int x5]) (nQ D q 9 [.int x2, .int x3, .int x4, .int x5, .ref o1, .ref o1, v6, v7]) 0 0 (fun x => x = q) := by
  refine n_start RX3 (by decide) rfl rfl (Nat.le_of_ble_eq_true rfl) ?_
  intro p e s m args below meth c H locs ls E hr hlocks hm hK hN hP hS hl
  have hl : lv_has ls 6 [(0, .ref q), (1, .ref o1), (2, .int x2), (3, .int x3), (4, .int x4), (5, .int x5)] := hl
  refine lv_aload_n E.1 E.2.1 dX3_init_0 rfl (lv_at hl 0 rfl) ?_
  refine lv_aload_n E.1 E.2.1 dX3_init_1 rfl (lv_at hl 1 rfl) ?_
  refine va_putF' E.1 E.2.1 E.2.2.2.2 in_X8 tyX8 tyX8_ok apX8 E.2.2.2.1 hK hP n_D hS 0 rfl (ci := 9) (C := RX8) (T := TX8) (N := 8) rfl 4 (by decide) (E.2.2.2.2 _ q778) (fun _ h => h) rfl hm rfl (ty := .object "DebtFerry") (by decide +kernel) rfl rfl (Nat.le_of_ble_eq_true rfl) dX3_init_2 (fun H locs hP _ hS => ?_)
  have hP : va_P D vCl [(q, .inr (9, [v0, v1, v2, v3, .ref o1, v5, v6, v7]))] H := hP
  refine lv_aload_n E.1 E.2.1 dX3_init_5 rfl (lv_at hl 0 rfl) ?_
  refine lv_aload_n E.1 E.2.1 dX3_init_6 rfl (lv_at hl 1 rfl) ?_
  refine n_go (va_runIN (As := [.ref o1]) (rest := []) E (nm_X2_9 l hT D K q (v0) (v1) (v2) (v3) (.ref o1) (v5) (v6) (v7) o1) ⟨va_cnB 1 E.2.2.2.2 (lw_meth q769) rfl rfl rfl (cN_M hT hN q767) (E.2.2.2.2 _ q59) (by decide +kernel) ⟨Nat.le_of_ble_eq_true rfl, Nat.le_of_ble_eq_true rfl⟩, rfl, E.2.2.2.2 _ q768⟩ (n_preS hK hN hP) rfl rfl hl.1 rfl (lv_room (Nat.le_of_ble_eq_true rfl)) dX3_init_7 ⟨Nat.zero_le _, Nat.zero_le _⟩) hS (fun H locs hP hS => ?_)
  refine lv_aload_n E.1 E.2.1 dX3_init_10 rfl (lv_at hl 0 rfl) ?_
  refine lv_iload_n E.1 E.2.1 dX3_init_11 rfl (lv_at hl 2 rfl) ?_
  refine va_putF' E.1 E.2.1 E.2.2.2.2 in_X8 tyX8 tyX8_ok apX8 E.2.2.2.1 hK hP n_D hS 0 rfl (ci := 9) (C := RX8) (T := TX8) (N := 8) rfl 0 (by decide) (E.2.2.2.2 _ q772) (fun _ h => h) rfl hm rfl (ty := .int) (by decide +kernel) rfl rfl (Nat.le_of_ble_eq_true rfl) dX3_init_12 (fun H locs hP _ hS => ?_)
  have hP : va_P D vCl [(q, .inr (9, [.int x2, v1, v2, v3, .ref o1, .ref o1, v6, v7]))] H := hP
  refine lv_aload_n E.1 E.2.1 dX3_init_15 rfl (lv_at hl 0 rfl) ?_
  refine lv_iload_n E.1 E.2.1 dX3_init_16 rfl (lv_at hl 3 rfl) ?_
  refine va_putF' E.1 E.2.1 E.2.2.2.2 in_X8 tyX8 tyX8_ok apX8 E.2.2.2.1 hK hP n_D hS 0 rfl (ci := 9) (C := RX8) (T := TX8) (N := 8) rfl 1 (by decide) (E.2.2.2.2 _ q774) (fun _ h => h) rfl hm rfl (ty := .int) (by decide +kernel) rfl rfl (Nat.le_of_ble_eq_true rfl) dX3_init_17 (fun H locs hP _ hS => ?_)
  have hP : va_P D vCl [(q, .inr (9, [.int x2, .int x3, v2, v3, .ref o1, .ref o1, v6, v7]))] H := hP
  refine lv_aload_n E.1 E.2.1 dX3_init_20 rfl (lv_at hl 0 rfl) ?_
  refine lv_iload E.1 E.2.1 dX3_init_21 (lv_at hl 4 rfl) ?_
  refine va_putF' E.1 E.2.1 E.2.2.2.2 in_X8 tyX8 tyX8_ok apX8 E.2.2.2.1 hK hP n_D hS 0 rfl (ci := 9) (C := RX8) (T := TX8) (N := 8) rfl 2 (by decide) (E.2.2.2.2 _ q776) (fun _ h => h) rfl hm rfl (ty := .int) (by decide +kernel) rfl rfl (Nat.le_of_ble_eq_true rfl) dX3_init_23 (fun H locs hP _ hS => ?_)
  have hP : va_P D vCl [(q, .inr (9, [.int x2, .int x3, .int x4, v3, .ref o1, .ref o1, v6, v7]))] H := hP
  refine lv_aload_n E.1 E.2.1 dX3_init_26 rfl (lv_at hl 0 rfl) ?_
  refine lv_iload E.1 E.2.1 dX3_init_27 (lv_at hl 5 rfl) ?_
  refine va_putF' E.1 E.2.1 E.2.2.2.2 in_X8 tyX8 tyX8_ok apX8 E.2.2.2.1 hK hP n_D hS 0 rfl (ci := 9) (C := RX8) (T := TX8) (N := 8) rfl 3 (by decide) (E.2.2.2.2 _ q777) (fun _ h => h) rfl hm rfl (ty := .int) (by decide +kernel) rfl rfl (Nat.le_of_ble_eq_true rfl) dX3_init_29 (fun H locs hP _ hS => ?_)
  have hP : va_P D vCl [(q, .inr (9, [.int x2, .int x3, .int x4, .int x5, .ref o1, .ref o1, v6, v7]))] H := hP
  exact n_ret E hr hlocks hP hS dX3_init_32
set_option maxHeartbeats 1000000 in
theorem nm_X4_8 (l : Launch) {s0 : State} {a0 : Array Value} (hT : ∀ w ∈ lw_tbl, w.before a0 s0 = true) (D : va_G) (K : Nat → ClassId) (q : Nat) (v0 v1 v2 v3 v4 v5 v6 : Value) (o1 : Nat) (x2 : Int32) (x3 : Int32) (x4 : Int32) (x5 : Int32)  : Met l yX4_init (ws_ yX4_init cX4_init 6 none) rmN2 (nPc D K s0 q 8 [v0, v1, v2, v3, v4, v5, v6] [.ref q, .ref o1, .int x2, .int x3, .int x4, .int x5]) (nQ D q 8 [.int x2, .int x3, .int x4, .int x5, .ref o1, .ref o1, .ref o1]) 0 0 (fun x => x = q) := by
  refine n_start RX4 (by decide) rfl rfl (Nat.le_of_ble_eq_true rfl) ?_
  intro p e s m args below meth c H locs ls E hr hlocks hm hK hN hP hS hl
  have hl : lv_has ls 6 [(0, .ref q), (1, .ref o1), (2, .int x2), (3, .int x3), (4, .int x4), (5, .int x5)] := hl
  refine lv_aload_n E.1 E.2.1 dX4_init_0 rfl (lv_at hl 0 rfl) ?_
  refine lv_aload_n E.1 E.2.1 dX4_init_1 rfl (lv_at hl 1 rfl) ?_
  refine va_putF' E.1 E.2.1 E.2.2.2.2 in_X4 tyX4 tyX4_ok apX4 E.2.2.2.1 hK hP n_D hS 0 rfl (ci := 8) (C := RX4) (T := TX4) (N := 7) rfl 6 (by decide) (E.2.2.2.2 _ q771) (fun _ h => h) rfl hm rfl (ty := .object "DebtFerry") (by decide +kernel) rfl rfl (Nat.le_of_ble_eq_true rfl) dX4_init_2 (fun H locs hP _ hS => ?_)
  have hP : va_P D vCl [(q, .inr (8, [v0, v1, v2, v3, v4, v5, .ref o1]))] H := hP
  refine lv_aload_n E.1 E.2.1 dX4_init_5 rfl (lv_at hl 0 rfl) ?_
  refine lv_aload_n E.1 E.2.1 dX4_init_6 rfl (lv_at hl 1 rfl) ?_
  refine lv_iload_n E.1 E.2.1 dX4_init_7 rfl (lv_at hl 2 rfl) ?_
  refine lv_iload_n E.1 E.2.1 dX4_init_8 rfl (lv_at hl 3 rfl) ?_
  refine lv_iload E.1 E.2.1 dX4_init_9 (lv_at hl 4 rfl) ?_
  refine lv_iload E.1 E.2.1 dX4_init_11 (lv_at hl 5 rfl) ?_
  refine n_go (va_runI (As := [.ref o1, .int x2, .int x3, .int x4, .int x5]) (rest := []) E (nm_X3_8 l hT D K q (v0) (v1) (v2) (v3) (v4) (v5) (.ref o1) o1 x2 x3 x4 x5) (cwI 5 E.2.2.2.2 (lw_meth q766) rfl rfl rfl (E.2.2.2.2 _ q60) (E.2.2.2.2 _ q764) (E.2.2.2.2 _ q765) rfl (by decide +kernel) ⟨Nat.le_of_ble_eq_true rfl, Nat.le_of_ble_eq_true rfl⟩) (n_preS hK hN hP) rfl rfl hl.1 rfl (lv_room (Nat.le_of_ble_eq_true rfl)) dX4_init_13 ⟨Nat.zero_le _, Nat.zero_le _⟩) hS (fun H locs hP hS => ?_)
  exact n_ret E hr hlocks hP hS dX4_init_16
set_option maxHeartbeats 1000000 in
theorem nm_X8_9 (l : Launch) {s0 : State} {a0 : Array Value} (hT : ∀ w ∈ lw_tbl, w.before a0 s0 = true) (D : va_G) (K : Nat → ClassId) (q : Nat) (v0 v1 v2 v3 v4 v5 v6 v7 : Value) (o1 : Nat) (x2 : Int32) (x3 : Int32) (x4 : Int32) (x5 : Int32) (x6 : Int32)  : Met l yX8_init (ws_ yX8_init cX8_init 7 none) rmN2 (nPc D K s0 q 9 [v0, v1, v2, v3, v4, v5, v6, v7] [.ref q, .ref o1, .int x2, .int x3, .int x4, .int x5, .int x6]) (nQ D q 9 [.int x2, .int x3, .int x4, .int x5, .ref o1, .ref o1, .int x6, .ref o1]) 0 0 (fun x => x = q) := by
  refine n_start RX8 (by decide) rfl rfl (Nat.le_of_ble_eq_true rfl) ?_
  intro p e s m args below meth c H locs ls E hr hlocks hm hK hN hP hS hl
  have hl : lv_has ls 7 [(0, .ref q), (1, .ref o1), (2, .int x2), (3, .int x3), (4, .int x4), (5, .int x5), (6, .int x6)] := hl
  refine lv_aload_n E.1 E.2.1 dX8_init_0 rfl (lv_at hl 0 rfl) ?_
  refine lv_aload_n E.1 E.2.1 dX8_init_1 rfl (lv_at hl 1 rfl) ?_
  refine va_putF' E.1 E.2.1 E.2.2.2.2 in_X8 tyX8 tyX8_ok apX8 E.2.2.2.1 hK hP n_D hS 0 rfl (ci := 9) (C := RX8) (T := TX8) (N := 8) rfl 7 (by decide) (E.2.2.2.2 _ q939) (fun _ h => h) rfl hm rfl (ty := .object "DebtFerry") (by decide +kernel) rfl rfl (Nat.le_of_ble_eq_true rfl) dX8_init_2 (fun H locs hP _ hS => ?_)
  have hP : va_P D vCl [(q, .inr (9, [v0, v1, v2, v3, v4, v5, v6, .ref o1]))] H := hP
  refine lv_aload_n E.1 E.2.1 dX8_init_5 rfl (lv_at hl 0 rfl) ?_
  refine lv_aload_n E.1 E.2.1 dX8_init_6 rfl (lv_at hl 1 rfl) ?_
  refine lv_iload_n E.1 E.2.1 dX8_init_7 rfl (lv_at hl 2 rfl) ?_
  refine lv_iload_n E.1 E.2.1 dX8_init_8 rfl (lv_at hl 3 rfl) ?_
  refine lv_iload E.1 E.2.1 dX8_init_9 (lv_at hl 4 rfl) ?_
  refine lv_iload E.1 E.2.1 dX8_init_11 (lv_at hl 5 rfl) ?_
  refine n_go (va_runI (As := [.ref o1, .int x2, .int x3, .int x4, .int x5]) (rest := []) E (nm_X3_9 l hT D K q (v0) (v1) (v2) (v3) (v4) (v5) (v6) (.ref o1) o1 x2 x3 x4 x5) (cwI 5 E.2.2.2.2 (lw_meth q766) rfl rfl rfl (E.2.2.2.2 _ q60) (E.2.2.2.2 _ q937) (E.2.2.2.2 _ q765) rfl (by decide +kernel) ⟨Nat.le_of_ble_eq_true rfl, Nat.le_of_ble_eq_true rfl⟩) (n_preS hK hN hP) rfl rfl hl.1 rfl (lv_room (Nat.le_of_ble_eq_true rfl)) dX8_init_13 ⟨Nat.zero_le _, Nat.zero_le _⟩) hS (fun H locs hP hS => ?_)
  refine lv_aload_n E.1 E.2.1 dX8_init_16 rfl (lv_at hl 0 rfl) ?_
  refine lv_iload E.1 E.2.1 dX8_init_17 (lv_at hl 6 rfl) ?_
  refine va_putF' E.1 E.2.1 E.2.2.2.2 in_X8 tyX8 tyX8_ok apX8 E.2.2.2.1 hK hP n_D hS 0 rfl (ci := 9) (C := RX8) (T := TX8) (N := 8) rfl 6 (by decide) (E.2.2.2.2 _ q938) (fun _ h => h) rfl hm rfl (ty := .int) (by decide +kernel) rfl rfl (Nat.le_of_ble_eq_true rfl) dX8_init_19 (fun H locs hP _ hS => ?_)
  have hP : va_P D vCl [(q, .inr (9, [.int x2, .int x3, .int x4, .int x5, .ref o1, .ref o1, .int x6, .ref o1]))] H := hP
  exact n_ret E hr hlocks hP hS dX8_init_22
set_option maxHeartbeats 1000000 in
theorem nm_X11_10 (l : Launch) {s0 : State} {a0 : Array Value} (hT : ∀ w ∈ lw_tbl, w.before a0 s0 = true) (D : va_G) (K : Nat → ClassId) (q : Nat) (v0 v1 v2 v3 v4 v5 v6 : Value) (o1 : Nat) (x2 : Int32) (x3 : Int32) (x4 : Int32) (x5 : Int32) (x6 : Int32)  : Met l yX11_init (ws_ yX11_init cX11_init 7 none) rmN1 (nPc D K s0 q 10 [v0, v1, v2, v3, v4, v5, v6] [.ref q, .ref o1, .int x2, .int x3, .int x4, .int x5, .int x6]) (nQ D q 10 [.ref o1, .int x2, .int x3, .int x4, .int x5, .int x6, .ref o1]) 0 0 (fun x => x = q) := by
  refine n_start RX11 (by decide) rfl rfl (Nat.le_of_ble_eq_true rfl) ?_
  intro p e s m args below meth c H locs ls E hr hlocks hm hK hN hP hS hl
  have hl : lv_has ls 7 [(0, .ref q), (1, .ref o1), (2, .int x2), (3, .int x3), (4, .int x4), (5, .int x5), (6, .int x6)] := hl
  refine lv_aload_n E.1 E.2.1 dX11_init_0 rfl (lv_at hl 0 rfl) ?_
  refine lv_aload_n E.1 E.2.1 dX11_init_1 rfl (lv_at hl 1 rfl) ?_
  refine va_putF' E.1 E.2.1 E.2.2.2.2 in_X11 tyX11 tyX11_ok apX11 E.2.2.2.1 hK hP n_D hS 0 rfl (ci := 10) (C := RX11) (T := TX11) (N := 7) rfl 6 (by decide) (E.2.2.2.2 _ q969) (fun _ h => h) rfl hm rfl (ty := .object "DebtFerry") (by decide +kernel) rfl rfl (Nat.le_of_ble_eq_true rfl) dX11_init_2 (fun H locs hP _ hS => ?_)
  have hP : va_P D vCl [(q, .inr (10, [v0, v1, v2, v3, v4, v5, .ref o1]))] H := hP
  refine lv_aload_n E.1 E.2.1 dX11_init_5 rfl (lv_at hl 0 rfl) ?_
  refine lv_aload_n E.1 E.2.1 dX11_init_6 rfl (lv_at hl 1 rfl) ?_
  refine n_go (va_runIN (As := [.ref o1]) (rest := []) E (nm_X2_10 l hT D K q (v0) (v1) (v2) (v3) (v4) (v5) (.ref o1) o1) ⟨va_cnB 1 E.2.2.2.2 (lw_meth q769) rfl rfl rfl (cN_M hT hN q963) (E.2.2.2.2 _ q59) (by decide +kernel) ⟨Nat.le_of_ble_eq_true rfl, Nat.le_of_ble_eq_true rfl⟩, rfl, E.2.2.2.2 _ q768⟩ (n_preS hK hN hP) rfl rfl hl.1 rfl (lv_room (Nat.le_of_ble_eq_true rfl)) dX11_init_7 ⟨Nat.zero_le _, Nat.zero_le _⟩) hS (fun H locs hP hS => ?_)
  refine lv_aload_n E.1 E.2.1 dX11_init_10 rfl (lv_at hl 0 rfl) ?_
  refine lv_iload_n E.1 E.2.1 dX11_init_11 rfl (lv_at hl 2 rfl) ?_
  refine va_putF' E.1 E.2.1 E.2.2.2.2 in_X11 tyX11 tyX11_ok apX11 E.2.2.2.1 hK hP n_D hS 0 rfl (ci := 10) (C := RX11) (T := TX11) (N := 7) rfl 1 (by decide) (E.2.2.2.2 _ q964) (fun _ h => h) rfl hm rfl (ty := .int) (by decide +kernel) rfl rfl (Nat.le_of_ble_eq_true rfl) dX11_init_12 (fun H locs hP _ hS => ?_)
  have hP : va_P D vCl [(q, .inr (10, [.ref o1, .int x2, v2, v3, v4, v5, .ref o1]))] H := hP
  refine lv_aload_n E.1 E.2.1 dX11_init_15 rfl (lv_at hl 0 rfl) ?_
  refine lv_iload_n E.1 E.2.1 dX11_init_16 rfl (lv_at hl 3 rfl) ?_
  refine va_putF' E.1 E.2.1 E.2.2.2.2 in_X11 tyX11 tyX11_ok apX11 E.2.2.2.1 hK hP n_D hS 0 rfl (ci := 10) (C := RX11) (T := TX11) (N := 7) rfl 2 (by decide) (E.2.2.2.2 _ q965) (fun _ h => h) rfl hm rfl (ty := .int) (by decide +kernel) rfl rfl (Nat.le_of_ble_eq_true rfl) dX11_init_17 (fun H locs hP _ hS => ?_)
  have hP : va_P D vCl [(q, .inr (10, [.ref o1, .int x2, .int x3, v3, v4, v5, .ref o1]))] H := hP
  refine lv_aload_n E.1 E.2.1 dX11_init_20 rfl (lv_at hl 0 rfl) ?_
  refine lv_iload E.1 E.2.1 dX11_init_21 (lv_at hl 4 rfl) ?_
  refine va_putF' E.1 E.2.1 E.2.2.2.2 in_X11 tyX11 tyX11_ok apX11 E.2.2.2.1 hK hP n_D hS 0 rfl (ci := 10) (C := RX11) (T := TX11) (N := 7) rfl 3 (by decide) (E.2.2.2.2 _ q966) (fun _ h => h) rfl hm rfl (ty := .int) (by decide +kernel) rfl rfl (Nat.le_of_ble_eq_true rfl) dX11_init_23 (fun H locs hP _ hS => ?_)
  have hP : va_P D vCl [(q, .inr (10, [.ref o1, .int x2, .int x3, .int x4, v4, v5, .ref o1]))] H := hP
  refine lv_aload_n E.1 E.2.1 dX11_init_26 rfl (lv_at hl 0 rfl) ?_
  refine lv_iload E.1 E.2.1 dX11_init_27 (lv_at hl 5 rfl) ?_
  refine va_putF' E.1 E.2.1 E.2.2.2.2 in_X11 tyX11 tyX11_ok apX11 E.2.2.2.1 hK hP n_D hS 0 rfl (ci := 10) (C := RX11) (T := TX11) (N := 7) rfl 4 (by decide) (E.2.2.2.2 _ q967) (fun _ h => h) rfl hm rfl (ty := .int) (by decide +kernel) rfl rfl (Nat.le_of_ble_eq_true rfl) dX11_init_29 (fun H locs hP _ hS => ?_)
  have hP : va_P D vCl [(q, .inr (10, [.ref o1, .int x2, .int x3, .int x4, .int x5, v5, .ref o1]))] H := hP
  refine lv_aload_n E.1 E.2.1 dX11_init_32 rfl (lv_at hl 0 rfl) ?_
  refine lv_iload E.1 E.2.1 dX11_init_33 (lv_at hl 6 rfl) ?_
  refine va_putF' E.1 E.2.1 E.2.2.2.2 in_X11 tyX11 tyX11_ok apX11 E.2.2.2.1 hK hP n_D hS 0 rfl (ci := 10) (C := RX11) (T := TX11) (N := 7) rfl 5 (by decide) (E.2.2.2.2 _ q968) (fun _ h => h) rfl hm rfl (ty := .int) (by decide +kernel) rfl rfl (Nat.le_of_ble_eq_true rfl) dX11_init_35 (fun H locs hP _ hS => ?_)
  have hP : va_P D vCl [(q, .inr (10, [.ref o1, .int x2, .int x3, .int x4, .int x5, .int x6, .ref o1]))] H := hP
  exact n_ret E hr hlocks hP hS dX11_init_38
set_option maxHeartbeats 1000000 in
theorem nm_X12_11 (l : Launch) {s0 : State} {a0 : Array Value} (hT : ∀ w ∈ lw_tbl, w.before a0 s0 = true) (D : va_G) (K : Nat → ClassId) (q : Nat) (v0 v1 v2 v3 : Value) (o1 : Nat) (o2 : Nat) (x3 : Int32)  : Met l yX12_init (ws_ yX12_init cX12_init 4 none) rmN1 (nPc D K s0 q 11 [v0, v1, v2, v3] [.ref q, .ref o1, .ref o2, .int x3]) (nQ D q 11 [.ref o1, .ref o2, .int x3, .ref o1]) 0 0 (fun x => x = q) := by
  refine n_start RX12 (by decide) rfl rfl (Nat.le_of_ble_eq_true rfl) ?_
  intro p e s m args below meth c H locs ls E hr hlocks hm hK hN hP hS hl
  have hl : lv_has ls 4 [(0, .ref q), (1, .ref o1), (2, .ref o2), (3, .int x3)] := hl
  refine lv_aload_n E.1 E.2.1 dX12_init_0 rfl (lv_at hl 0 rfl) ?_
  refine lv_aload_n E.1 E.2.1 dX12_init_1 rfl (lv_at hl 1 rfl) ?_
  refine va_putF' E.1 E.2.1 E.2.2.2.2 in_X12 tyX12 tyX12_ok apX12 E.2.2.2.1 hK hP n_D hS 0 rfl (ci := 11) (C := RX12) (T := TX12) (N := 4) rfl 3 (by decide) (E.2.2.2.2 _ q1080) (fun _ h => h) rfl hm rfl (ty := .object "DebtFerry") (by decide +kernel) rfl rfl (Nat.le_of_ble_eq_true rfl) dX12_init_2 (fun H locs hP _ hS => ?_)
  have hP : va_P D vCl [(q, .inr (11, [v0, v1, v2, .ref o1]))] H := hP
  refine lv_aload_n E.1 E.2.1 dX12_init_5 rfl (lv_at hl 0 rfl) ?_
  refine lv_aload_n E.1 E.2.1 dX12_init_6 rfl (lv_at hl 1 rfl) ?_
  refine n_go (va_runIN (As := [.ref o1]) (rest := []) E (nm_X2_11 l hT D K q (v0) (v1) (v2) (.ref o1) o1) ⟨va_cnB 1 E.2.2.2.2 (lw_meth q769) rfl rfl rfl (cN_M hT hN q1077) (E.2.2.2.2 _ q59) (by decide +kernel) ⟨Nat.le_of_ble_eq_true rfl, Nat.le_of_ble_eq_true rfl⟩, rfl, E.2.2.2.2 _ q768⟩ (n_preS hK hN hP) rfl rfl hl.1 rfl (lv_room (Nat.le_of_ble_eq_true rfl)) dX12_init_7 ⟨Nat.zero_le _, Nat.zero_le _⟩) hS (fun H locs hP hS => ?_)
  refine lv_aload_n E.1 E.2.1 dX12_init_10 rfl (lv_at hl 0 rfl) ?_
  refine lv_aload_n E.1 E.2.1 dX12_init_11 rfl (lv_at hl 2 rfl) ?_
  refine va_putF' E.1 E.2.1 E.2.2.2.2 in_X12 tyX12 tyX12_ok apX12 E.2.2.2.1 hK hP n_D hS 0 rfl (ci := 11) (C := RX12) (T := TX12) (N := 4) rfl 1 (by decide) (E.2.2.2.2 _ q1078) (fun _ h => h) rfl hm rfl (ty := .object "DebtFerry$Rider") (by decide +kernel) rfl rfl (Nat.le_of_ble_eq_true rfl) dX12_init_12 (fun H locs hP _ hS => ?_)
  have hP : va_P D vCl [(q, .inr (11, [.ref o1, .ref o2, v2, .ref o1]))] H := hP
  refine lv_aload_n E.1 E.2.1 dX12_init_15 rfl (lv_at hl 0 rfl) ?_
  refine lv_iload_n E.1 E.2.1 dX12_init_16 rfl (lv_at hl 3 rfl) ?_
  refine va_putF' E.1 E.2.1 E.2.2.2.2 in_X12 tyX12 tyX12_ok apX12 E.2.2.2.1 hK hP n_D hS 0 rfl (ci := 11) (C := RX12) (T := TX12) (N := 4) rfl 2 (by decide) (E.2.2.2.2 _ q1079) (fun _ h => h) rfl hm rfl (ty := .int) (by decide +kernel) rfl rfl (Nat.le_of_ble_eq_true rfl) dX12_init_17 (fun H locs hP _ hS => ?_)
  have hP : va_P D vCl [(q, .inr (11, [.ref o1, .ref o2, .int x3, .ref o1]))] H := hP
  exact n_ret E hr hlocks hP hS dX12_init_20
