/-! DebtFerry.kinds(I)I -/
def c_kinds_L29 (i k0 : Nat) (l0 : Int32) : Nat → Int32 → Int32 → CZ → Option (Int32 × CZ)
  | 0, _, _, _ => none
  | n + 1, y3, y4, z => gd (decide (i < cz_np z)) (if 3 ≤ y4 then some (y3, cz_K z i k0 l0) else (c_areSo (cz_K z i (kOf y4) l0)).bind (fun r => c_kinds_L29 i k0 l0 n (y3 ||| (if r.1 = 0 then 0 else (1 : Int32) <<< (y4 &&& 31))) (y4 + 1) r.2))
def c_kinds (x1 : Int32) (z : CZ) : Option (Int32 × CZ) := (c_noPerson x1 z).bind (fun r2 => if r2.1 = 0 then gd (inb x1 (cz_np r2.2)) (gd (decide (cz_l r2.2 x1.toNatClampNeg = 0 ∨ cz_l r2.2 x1.toNatClampNeg = 1)) (c_kinds_L29 x1.toNatClampNeg (cz_k r2.2 x1.toNatClampNeg) (cz_l r2.2 x1.toNatClampNeg) FU 0 0 r2.2)) else some (-1, r2.2))
