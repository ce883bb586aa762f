set_option maxRecDepth 100000
theorem bc16 : (Int8.ofInt 16).toInt32 = (nI 16) := by decide
theorem bc31 : (Int8.ofInt 31).toInt32 = (nI 31) := by decide
theorem bc63 : (Int8.ofInt 63).toInt32 = (nI 63) := by decide
theorem bc100 : (Int8.ofInt 100).toInt32 = (nI 100) := by decide
theorem icm16 : Int32.ofInt (-16) = (-16 : Int32) := by decide
theorem icm8 : Int32.ofInt (-8) = (-8 : Int32) := by decide
theorem icm4 : Int32.ofInt (-4) = (-4 : Int32) := by decide
theorem icm2 : Int32.ofInt (-2) = (-2 : Int32) := by decide
theorem ic8 : Int32.ofInt 8 = (nI 8) := by decide
theorem ic16 : Int32.ofInt 16 = (nI 16) := by decide
theorem sc256 : (Int16.ofInt 256).toInt32 = (nI 256) := by decide
theorem sc4096 : (Int16.ofInt 4096).toInt32 = (nI 4096) := by decide
def Xp_is (i0 : Nat) (x1 : Int64) (x3 : Int64) (σ : XS) : Option (XS) := (if i0 < xN σ then (if i0 < xN (zC σ i0 (uP (xC σ i0) x1)) then some (zC (zC σ i0 (uP (xC σ i0) x1)) i0 (uQ (xC (zC σ i0 (uP (xC σ i0) x1)) i0) x3)) else none) else none)
def X_lambda_new_0 (i0 : Nat) (x1 : Int32) (σ : XS) : Option (XS) := (if i0 < xN σ then ((Xp_is i0 (x1.toInt64) (lN 1) σ).bind fun q1 => some q1) else none)
def X_lambda_new_1 (i0 : Nat) (x1 : Int32) (σ : XS) : Option (XS) := (if i0 < xN σ then ((Xp_is i0 (x1.toInt64) (x1.toInt64) σ).bind fun q1 => some q1) else none)
def X_lambda_new_2 (i0 : Nat) (x1 : Int32) (σ : XS) : Option (XS) := (if i0 < xN σ then ((Xp_is i0 (x1.toInt64) (x1.toInt64) σ).bind fun q1 => some q1) else none)
def X_lambda_new_3 (i0 : Nat) (x1 : Int32) (σ : XS) : Option (XS) := (if (nI 101) = 0 then none else (if (nI 101) = 0 then none else (if (nI 101) = 0 then none else (if i0 < xN σ then ((Xp_is i0 (((x1 / (nI 101)) - (x1 / (nI 101)) / (nI 101) * (nI 101)).toInt64) ((x1 - x1 / (nI 101) * (nI 101)).toInt64) σ).bind fun q1 => some q1) else none))))
def X_bracket (i1 : Nat) (x2 : Int32) (σ : XS) : Option (XS) := (if (nI 2) = 0 then none else (if (nI 10) = 0 then none else (if (nI 2) = 0 then none else (if (x2 - x2 / (nI 2) * (nI 2)) = 0 then (if i1 < xN σ then ((Xp_is i1 (lN 0) (((x2 / (nI 2)) - (x2 / (nI 2)) / (nI 10) * (nI 10)).toInt64) σ).bind fun q2 => some q2) else none) else (if i1 < xN σ then ((Xp_is i1 (((x2 / (nI 2)) - (x2 / (nI 2)) / (nI 10) * (nI 10)).toInt64) (lN 0) σ).bind fun q1 => some q1) else none)))))
def X_leaps_44 (k4 : Int32 → Int32 → Int32 → XS → Option (Int32 × XS)) (k12 : Int32 → Int32 → Int32 → Int32 → XS → Option (Int32 × XS)) (x1 : Int32) (x3 : Int32) (x4 : Int32) (y0 : Int32) (y1 : Int32) (σ : XS) : Option (Int32 × XS) := k12 x1 (y1 + y0) x3 (x4 + (nI 1)) σ
def X_leaps_12 (k4 : Int32 → Int32 → Int32 → XS → Option (Int32 × XS)) : Nat → Int32 → Int32 → Int32 → Int32 → XS → Option (Int32 × XS)
  | 0, _, _, _, _, _ => none
  | n + 1, x1, x2, x3, x4, σ => (if x3 ≤ x4 then k4 x1 x2 (x3 + (nI 1)) σ else (if x1 < 0 ∨ 24 ≤ x1.toNatClampNeg then none else (if x4 < 0 ∨ 4 ≤ x4.toNatClampNeg then none else (if x1 < 0 ∨ 24 ≤ x1.toNatClampNeg then none else (if x3 < 0 ∨ 4 ≤ x3.toNatClampNeg then none else (if (xA σ (20 + x1.toNatClampNeg) x4.toNatClampNeg) ≤ (xA σ (20 + x1.toNatClampNeg) x3.toNatClampNeg) then X_leaps_44 k4 (X_leaps_12 k4 n) x1 x3 x4 (nI 0) x2 σ else X_leaps_44 k4 (X_leaps_12 k4 n) x1 x3 x4 (nI 1) x2 σ))))))
def X_leaps_4 : Nat → Int32 → Int32 → Int32 → XS → Option (Int32 × XS)
  | 0, _, _, _, _ => none
  | n + 1, x1, x2, x3, σ => (if (nI 4) ≤ x3 then some (x2, σ) else X_leaps_12 (X_leaps_4 n) FU x1 x2 x3 (nI 0) σ)
def X_leaps (x1 : Int32) (σ : XS) : Option (Int32 × XS) := X_leaps_4 FU x1 (nI 0) (nI 0) σ
def X_lambda_new_4 (i1 : Nat) (x2 : Int32) (σ : XS) : Option (XS) := (if (nI 24) = 0 then none else (if (nI 24) = 0 then none else ((X_leaps (x2 - x2 / (nI 24) * (nI 24)) σ).bind fun q1 => (if (nI 2) = 0 then none else (if i1 < xN q1.2 then ((Xp_is i1 ((x2 - x2 / (nI 24) * (nI 24)).toInt64) ((q1.1 - q1.1 / (nI 2) * (nI 2)).toInt64) q1.2).bind fun q2 => some q2) else none)))))
def X_lambda_new_5 (i0 : Nat) (x1 : Int32) (σ : XS) : Option (XS) := (if i0 < xN σ then ((Xp_is i0 (x1.toInt64) (x1.toInt64) σ).bind fun q1 => some q1) else none)
def X_ofTable (i1 : Nat) (x2 : Int32) (σ : XS) : Option (XS) := (if (xI σ 1) = 0 then none else (if i1 < xN σ then ((Xp_is i1 ((x2 - x2 / (xI σ 1) * (xI σ 1)).toInt64) (lN 0) σ).bind fun q1 => some q1) else none))
def X_lambda_new_6 (i0 : Nat) (i1 : Nat) (i2 : Nat) (σ : XS) : Option (XS) := (if i1 < xN σ then (if i2 < xN σ then (if i1 < xN σ then (if i2 < xN σ then (if i0 < xN σ then ((Xp_is i0 ((rP (xC σ i1)) + (rP (xC σ i2))) ((rQ (xC σ i1)) + (rQ (xC σ i2))) σ).bind fun q1 => some q1) else none) else none) else none) else none) else none)
def X_lambda_new_7 (i0 : Nat) (i1 : Nat) (i2 : Nat) (σ : XS) : Option (XS) := (if i1 < xN σ then (if i2 < xN σ then (if i1 < xN σ then (if i2 < xN σ then (if i0 < xN σ then ((Xp_is i0 (if (rP (xC σ i2)) < (rP (xC σ i1)) then (rP (xC σ i2)) else (rP (xC σ i1))) (if (rQ (xC σ i2)) < (rQ (xC σ i1)) then (rQ (xC σ i1)) else (rQ (xC σ i2))) σ).bind fun q1 => some q1) else none) else none) else none) else none) else none)
/-- the depth that is granted to the greatest common divisor -/
abbrev CD : Nat := 40
def X_common : Nat → Int64 → Int64 → Option Int64
  | 0, _, _ => none
  | n + 1, x0, x2 => (if (lg_cmp x2 (lN 0)) = 0 then some x0 else (if x2 = 0 then none else ((X_common n x2 (x0 - x0 / x2 * x2)).bind fun q1 => some q1)))
def X_lambda_new_8 (i0 : Nat) (i1 : Nat) (i2 : Nat) (σ : XS) : Option (XS) := (if i1 < xN σ then (if i2 < xN σ then ((X_common CD (rP (xC σ i1)) (rP (xC σ i2))).bind fun q1 => (if i1 < xN σ then (if i2 < xN σ then (if i0 < xN σ then ((Xp_is i0 q1 ((rQ (xC σ i1)) ^^^ (rQ (xC σ i2))) σ).bind fun q2 => some q2) else none) else none) else none)) else none) else none)
def X_maps (i1 : Nat) (i2 : Nat) (i3 : Nat) (σ : XS) : Option (XS) := (if i2 < xN σ then (if i3 < xN σ then (if (101 : Int64) = 0 then none else (if i3 < xN σ then (if i2 < xN σ then (if i3 < xN σ then (if (101 : Int64) = 0 then none else (if i1 < xN σ then ((Xp_is i1 (((rP (xC σ i2)) * (rP (xC σ i3))) - ((rP (xC σ i2)) * (rP (xC σ i3))) / (101 : Int64) * (101 : Int64)) ((((rP (xC σ i3)) * (rQ (xC σ i2))) + (rQ (xC σ i3))) - (((rP (xC σ i3)) * (rQ (xC σ i2))) + (rQ (xC σ i3))) / (101 : Int64) * (101 : Int64)) σ).bind fun q1 => some q1) else none)) else none) else none) else none)) else none) else none)
def X_brackets (i1 : Nat) (i2 : Nat) (i3 : Nat) (σ : XS) : Option (XS) := (if i2 < xN σ then (if i3 < xN σ then (if i2 < xN σ then (if i3 < xN σ then (if i2 < xN σ then (if i3 < xN σ then (if i1 < xN σ then ((Xp_is i1 (((rP (xC σ i2)) + (rP (xC σ i3))) - (if (rP (xC σ i3)) < (rQ (xC σ i2)) then (rP (xC σ i3)) else (rQ (xC σ i2)))) (((rQ (xC σ i2)) + (rQ (xC σ i3))) - (if (rP (xC σ i3)) < (rQ (xC σ i2)) then (rP (xC σ i3)) else (rQ (xC σ i2)))) σ).bind fun q1 => some q1) else none) else none) else none) else none) else none) else none) else none)
def X_areLikeRows_2 : Nat → Nat → Int32 → Int32 → XS → Option (Int32 × XS)
  | 0, _, _, _, _ => none
  | n + 1, i0, x2, x3, σ => (if x2 ≤ x3 then some ((nI 1), σ) else (if x3 < 0 ∨ 4 ≤ x3.toNatClampNeg then none else (if x3 < 0 ∨ 4 ≤ x3.toNatClampNeg then none else (if (xA σ (20 + i0) x3.toNatClampNeg) = (xA σ 0 x3.toNatClampNeg) then X_areLikeRows_2 n i0 x2 (x3 + (nI 1)) σ else some ((nI 0), σ)))))
def X_areLikeRows (i0 : Nat) (x2 : Int32) (σ : XS) : Option (Int32 × XS) := X_areLikeRows_2 FU i0 x2 (nI 0) σ
def X_numberOf_30 (k2 : Int32 → XS → Option (Int32 × XS)) (x2 : Int32) (σ : XS) : Option (Int32 × XS) := k2 (x2 + (nI 1)) σ
def X_numberOf_2 : Nat → Int32 → XS → Option (Int32 × XS)
  | 0, _, _ => none
  | n + 1, x2, σ => (if (nI 24) ≤ x2 then some ((-1 : Int32), σ) else (if (nI 4) = (nI 4) then (if x2 < 0 ∨ 24 ≤ x2.toNatClampNeg then none else ((X_areLikeRows x2.toNatClampNeg (nI 4) σ).bind fun q2 => (if q2.1 = 0 then X_numberOf_30 (X_numberOf_2 n) x2 q2.2 else some (x2, q2.2)))) else X_numberOf_30 (X_numberOf_2 n) x2 σ))
def X_numberOf (σ : XS) : Option (Int32 × XS) := X_numberOf_2 FU (nI 0) σ
def X_arranged_3 : Nat → Nat → Nat → Nat → Int32 → XS → Option (XS)
  | 0, _, _, _, _, _ => none
  | n + 1, i1, i2, i3, x4, σ => (if (nI 4) ≤ x4 then ((X_numberOf σ).bind fun q1 => (if i2 < xN q1.2 then (if i3 < xN q1.2 then (if (2 : Int64) = 0 then none else (if i1 < xN q1.2 then ((Xp_is i1 (q1.1.toInt64) (((rQ (xC q1.2 i2)) + (rQ (xC q1.2 i3))) - ((rQ (xC q1.2 i2)) + (rQ (xC q1.2 i3))) / (2 : Int64) * (2 : Int64)) q1.2).bind fun q2 => some q2) else none)) else none) else none)) else (if i3 < xN σ then (if ((rP (xC σ i3)).toInt32) < 0 ∨ 24 ≤ ((rP (xC σ i3)).toInt32).toNatClampNeg then none else (if i2 < xN σ then (if ((rP (xC σ i2)).toInt32) < 0 ∨ 24 ≤ ((rP (xC σ i2)).toInt32).toNatClampNeg then none else (if x4 < 0 ∨ 4 ≤ x4.toNatClampNeg then none else (if (xA σ (20 + ((rP (xC σ i2)).toInt32).toNatClampNeg) x4.toNatClampNeg) < 0 ∨ 4 ≤ (xA σ (20 + ((rP (xC σ i2)).toInt32).toNatClampNeg) x4.toNatClampNeg).toNatClampNeg then none else (if x4 < 0 ∨ 4 ≤ x4.toNatClampNeg then none else X_arranged_3 n i1 i2 i3 (x4 + (nI 1)) (zA σ 0 x4.toNatClampNeg (xA σ (20 + ((rP (xC σ i3)).toInt32).toNatClampNeg) (xA σ (20 + ((rP (xC σ i2)).toInt32).toNatClampNeg) x4.toNatClampNeg).toNatClampNeg)))))) else none)) else none))
def X_arranged (i1 : Nat) (i2 : Nat) (i3 : Nat) (σ : XS) : Option (XS) := X_arranged_3 FU i1 i2 i3 (nI 0) σ
def X_ends (i1 : Nat) (i2 : Nat) (i3 : Nat) (σ : XS) : Option (XS) := (if i2 < xN σ then (if 0 ≤ (lg_cmp (rP (xC σ i2)) (lN 0)) then (if i3 < xN σ then (if 0 ≤ (lg_cmp (rP (xC σ i3)) (lN 0)) then (if i2 < xN σ then (if i3 < xN σ then (if i1 < xN σ then ((Xp_is i1 (rP (xC σ i2)) (rQ (xC σ i3)) σ).bind fun q1 => some q1) else none) else none) else none) else (if i2 < xN σ then (if i2 < xN σ then (if i1 < xN σ then ((Xp_is i1 (rP (xC σ i2)) (rQ (xC σ i2)) σ).bind fun q2 => some q2) else none) else none) else none)) else none) else (if i3 < xN σ then (if i3 < xN σ then (if i1 < xN σ then ((Xp_is i1 (rP (xC σ i3)) (rQ (xC σ i3)) σ).bind fun q3 => some q3) else none) else none) else none)) else none)
def X_byTable (i1 : Nat) (i2 : Nat) (i3 : Nat) (σ : XS) : Option (XS) := (if i2 < xN σ then (if i3 < xN σ then (if (((nI 5) * ((rP (xC σ i2)).toInt32)) + ((rP (xC σ i3)).toInt32)) < 0 ∨ 25 ≤ (((nI 5) * ((rP (xC σ i2)).toInt32)) + ((rP (xC σ i3)).toInt32)).toNatClampNeg then none else (if i1 < xN σ then ((Xp_is i1 ((xA σ 1 (((nI 5) * ((rP (xC σ i2)).toInt32)) + ((rP (xC σ i3)).toInt32)).toNatClampNeg).toInt64) (lN 0) σ).bind fun q1 => some q1) else none)) else none) else none)
def X_sign_16 : Nat → Int32 → Int32 → XS → Option (Int32 × XS)
  | 0, _, _, _ => none
  | n + 1, x1, x2, σ => (if x2 < 0 then some ((xI σ 4), σ) else (if (xI σ 4) < 0 ∨ 100 ≤ (xI σ 4).toNatClampNeg then none else X_sign_16 n x1 (x2 + (-8 : Int32)) (zI (zA σ 2 (xI σ 4).toNatClampNeg (vp_nar .byte ((x1 >>> (x2 &&& 31)).toInt8.toInt32))) 4 ((xI (zA σ 2 (xI σ 4).toNatClampNeg (vp_nar .byte ((x1 >>> (x2 &&& 31)).toInt8.toInt32))) 4) + (nI 1)))))
def X_sign (x1 : Int32) (σ : XS) : Option (Int32 × XS) := (if ((xI σ 4) + (nI 4)) ≤ (nI 100) then X_sign_16 FU x1 (nI 24) σ else some ((-1 : Int32), σ))
def X_in (x0 : Int64) (x2 : Int64) (x4 : Int64) : Option (Int32) := (if (lg_cmp x0 x2) < 0 then some (nI 0) else (if 0 < (lg_cmp x0 x4) then some (nI 0) else some (nI 1)))
def X_end (x1 : Int32) (σ : XS) : Option (Int32 × XS) := ((X_in (x1.toInt64) (lN 0) ((xI σ 4).toInt64)).bind fun q1 => (if q1 = 0 then some ((nI 0), σ) else some ((nI 1), (zI σ 4 x1))))
def X_here (x1 : Int32) (x2 : Int32) (σ : XS) : Option (Int32 × XS) := (if x2 ≤ x1 then some ((-1 : Int32), σ) else (if x1 < 0 ∨ 100 ≤ x1.toNatClampNeg then none else some (((xA σ 2 x1.toNatClampNeg) &&& (nI 255)), σ)))
def X_tells (x1 : Int64) (σ : XS) : Option (XS) := (if (xI σ 5) < 0 ∨ 128 ≤ (xI σ 5).toNatClampNeg then none else some (zI (zB σ 0 (xI σ 5).toNatClampNeg x1) 5 ((xI (zB σ 0 (xI σ 5).toNatClampNeg x1) 5) + (nI 1))))
def X_isItem (x0 : Int32) : Option (Int32) := ((X_in (x0.toInt64) (lN 0) (9999 : Int64)).bind fun q1 => (if q1 = 0 ∨ q1 = 1 then some q1 else none))
def X_tellsPair (i1 : Nat) (σ : XS) : Option (XS) := (if i1 < xN σ then ((X_tells (rP (xC σ i1)) σ).bind fun q1 => (if i1 < xN q1 then ((X_tells (rQ (xC q1 i1)) q1).bind fun q2 => some q2) else none)) else none)
def X_empty_96 (i1 : Nat) (σ : XS) : Option (XS) := (if i1 < xN σ then ((Xp_is i1 (lN 0) (lN 0) σ).bind fun q5 => some q5) else none)
def X_empty (i1 : Nat) (σ : XS) : Option (XS) := (if (xI σ 0) = (nI 1) then (if i1 < xN σ then ((Xp_is i1 (10000 : Int64) (-1 : Int64) σ).bind fun q1 => some q1) else none) else (if (xI σ 0) = (nI 2) then X_empty_96 i1 σ else (if (xI σ 0) = (nI 3) then (if i1 < xN σ then ((Xp_is i1 (lN 1) (lN 0) σ).bind fun q2 => some q2) else none) else (if (xI σ 0) = (nI 4) then X_empty_96 i1 σ else (if (xI σ 0) = (nI 5) then X_empty_96 i1 σ else (if (xI σ 0) = (nI 6) then (if i1 < xN σ then ((Xp_is i1 (-1 : Int64) (-1 : Int64) σ).bind fun q3 => some q3) else none) else (if (xI σ 0) = (nI 7) then (if i1 < xN σ then ((Xp_is i1 ((xI σ 2).toInt64) (lN 0) σ).bind fun q4 => some q4) else none) else X_empty_96 i1 σ)))))))
def X_isLine (x0 : Int32) : Option (Int32) := ((X_in (x0.toInt64) (lN 0) (3 : Int64)).bind fun q1 => (if q1 = 0 ∨ q1 = 1 then some q1 else none))
def X_isEnd (x0 : Int32) : Option (Int32) := ((X_in (x0.toInt64) (lN 0) (lN 1)).bind fun q1 => (if q1 = 0 ∨ q1 = 1 then some q1 else none))
def Xl_be_2 : Nat → Nat → Nat → Int32 → XS → Option (XS)
  | 0, _, _, _, _ => none
  | n + 1, i0, i1, x2, σ => (if (nI 1) < x2 then some σ else (if x2 < 0 ∨ 2 ≤ x2.toNatClampNeg then none else (if x2 < 0 ∨ 2 ≤ x2.toNatClampNeg then none else (if cellOk σ (xT σ i1 x2.toNatClampNeg) = true then (if x2 < 0 ∨ 2 ≤ x2.toNatClampNeg then none else (if x2 < 0 ∨ 2 ≤ x2.toNatClampNeg then none else Xl_be_2 n i0 i1 (x2 + (nI 1)) (zA (zT σ i0 x2.toNatClampNeg (xT σ i1 x2.toNatClampNeg)) (5 + i0) x2.toNatClampNeg (xA (zT σ i0 x2.toNatClampNeg (xT σ i1 x2.toNatClampNeg)) (5 + i1) x2.toNatClampNeg)))) else none))))
def Xl_be (i0 : Nat) (i1 : Nat) (σ : XS) : Option (XS) := Xl_be_2 FU i0 i1 (nI 0) σ
def Xl_size (i0 : Nat) (σ : XS) : Option (Int32 × XS) := (if (nI 0) < 0 ∨ 2 ≤ (nI 0).toNatClampNeg then none else (if (nI 1) < 0 ∨ 2 ≤ (nI 1).toNatClampNeg then none else some (((xA σ (5 + i0) (nI 0).toNatClampNeg) + (xA σ (5 + i0) (nI 1).toNatClampNeg)), σ)))
def X_copies (x1 : Int32) (x2 : Int32) (σ : XS) : Option (Int32 × XS) := ((X_isLine x1).bind fun q1 => (if q1 = 0 then some ((-1 : Int32), σ) else ((X_isLine x2).bind fun q2 => (if q2 = 0 then some ((-1 : Int32), σ) else (if x1 = x2 then some ((-2 : Int32), σ) else (if x2 < 0 ∨ 4 ≤ x2.toNatClampNeg then none else (if x1 < 0 ∨ 4 ≤ x1.toNatClampNeg then none else ((Xl_be x2.toNatClampNeg x1.toNatClampNeg σ).bind fun q5 => (if x2 < 0 ∨ 4 ≤ x2.toNatClampNeg then none else ((Xl_size x2.toNatClampNeg q5).bind fun q7 => some (q7.1, q7.2)))))))))))
def X_tellsWork (x1 : Int64) (σ : XS) : Option (XS) := ((X_tells ((xL (zI σ 5 (nI 0)) 0) - x1) (zI σ 5 (nI 0))).bind fun q1 => some q1)
def Xl_empties_2 : Nat → Nat → Int32 → XS → Option (XS)
  | 0, _, _, _ => none
  | n + 1, i0, x1, σ => (if (nI 1) < x1 then some σ else (if x1 < 0 ∨ 2 ≤ x1.toNatClampNeg then none else (if cellOk σ none = true then (if x1 < 0 ∨ 2 ≤ x1.toNatClampNeg then none else Xl_empties_2 n i0 (x1 + (nI 1)) (zA (zT σ i0 x1.toNatClampNeg none) (5 + i0) x1.toNatClampNeg (nI 0))) else none)))
def Xl_empties (i0 : Nat) (σ : XS) : Option (XS) := Xl_empties_2 FU i0 (nI 0) σ
def X_clears (x1 : Int32) (σ : XS) : Option (Int32 × XS) := ((X_isLine x1).bind fun q1 => (if q1 = 0 then some ((-1 : Int32), σ) else (if x1 < 0 ∨ 4 ≤ x1.toNatClampNeg then none else ((Xl_size x1.toNatClampNeg σ).bind fun q3 => (if x1 < 0 ∨ 4 ≤ x1.toNatClampNeg then none else ((Xl_empties x1.toNatClampNeg q3.2).bind fun q5 => some (q3.1, q5)))))))
def X_isWindow (x1 : Int32) (σ : XS) : Option (Int32 × XS) := ((X_in (x1.toInt64) (lN 1) (64 : Int64)).bind fun q1 => (if q1 = 0 ∨ q1 = 1 then some (q1, σ) else none))
def X_drainedBy_49 (k18 : Int32 → Int32 → Int32 → XS → Option (Int32 × XS)) (x3 : Int32) (x4 : Int32) (x5 : Int32) (σ : XS) : Option (Int32 × XS) := k18 (x3 + (-1 : Int32)) x4 x5 σ
def X_drainedBy_18 : Nat → Int32 → Int32 → Int32 → XS → Option (Int32 × XS)
  | 0, _, _, _, _ => none
  | n + 1, x3, x4, x5, σ => (if (x3 + x4) ≤ 0 then some (x5, σ) else (if x3 = 0 then (if (nI 2) = 0 then none else X_drainedBy_49 (X_drainedBy_18 n) ((x4 + (nI 1)) / (nI 2)) (x4 - ((x4 + (nI 1)) / (nI 2))) (x5 + x4) σ) else X_drainedBy_49 (X_drainedBy_18 n) x3 x4 x5 σ))
def X_drainedBy (i1 : Nat) (x2 : Int32) (σ : XS) : Option (Int32 × XS) := (if x2 < 0 ∨ 2 ≤ x2.toNatClampNeg then none else ((Xl_size i1 σ).bind fun q1 => X_drainedBy_18 FU (xA σ (5 + i1) x2.toNatClampNeg) (q1.1 - (xA σ (5 + i1) x2.toNatClampNeg)) (nI 0) q1.2))
def X_drains_55 (x3 : Int32) (x4 : Int32) (y0 : Int64) (σ : XS) : Option (Int32 × XS) := ((X_tells y0 σ).bind fun q5 => ((X_tells (x3.toInt64) q5).bind fun q6 => ((X_tells (x4.toInt64) q6).bind fun q7 => some ((if x4 < x3 then x4 else x3), q7))))
def X_drains (x1 : Int32) (σ : XS) : Option (Int32 × XS) := ((X_isLine x1).bind fun q1 => (if q1 = 0 then some ((-1 : Int32), σ) else (if x1 < 0 ∨ 4 ≤ x1.toNatClampNeg then none else ((X_drainedBy x1.toNatClampNeg (nI 0) σ).bind fun q3 => ((X_drainedBy x1.toNatClampNeg (nI 1) q3.2).bind fun q4 => (if q3.1 ≤ q4.1 then X_drains_55 q3.1 q4.1 (lN 0) (zI q4.2 5 (nI 0)) else X_drains_55 q3.1 q4.1 (lN 1) (zI q4.2 5 (nI 0))))))))
def X_begins (σ : XS) : Option (XS) := some (zI σ 6 ((xI σ 6) + (nI 1)))
def Xi_bitCount (x0 : Int32) : Option (Int32) := some ((((((((x0 - (((x0.toUInt32 >>> ((nI 1).toUInt32 &&& Int32.toUInt32 31)).toInt32) &&& (1431655765 : Int32))) &&& (858993459 : Int32)) + ((((x0 - (((x0.toUInt32 >>> ((nI 1).toUInt32 &&& Int32.toUInt32 31)).toInt32) &&& (1431655765 : Int32))).toUInt32 >>> ((nI 2).toUInt32 &&& Int32.toUInt32 31)).toInt32) &&& (858993459 : Int32))) + (((((x0 - (((x0.toUInt32 >>> ((nI 1).toUInt32 &&& Int32.toUInt32 31)).toInt32) &&& (1431655765 : Int32))) &&& (858993459 : Int32)) + ((((x0 - (((x0.toUInt32 >>> ((nI 1).toUInt32 &&& Int32.toUInt32 31)).toInt32) &&& (1431655765 : Int32))).toUInt32 >>> ((nI 2).toUInt32 &&& Int32.toUInt32 31)).toInt32) &&& (858993459 : Int32))).toUInt32 >>> ((nI 4).toUInt32 &&& Int32.toUInt32 31)).toInt32)) &&& (252645135 : Int32)) + (((((((x0 - (((x0.toUInt32 >>> ((nI 1).toUInt32 &&& Int32.toUInt32 31)).toInt32) &&& (1431655765 : Int32))) &&& (858993459 : Int32)) + ((((x0 - (((x0.toUInt32 >>> ((nI 1).toUInt32 &&& Int32.toUInt32 31)).toInt32) &&& (1431655765 : Int32))).toUInt32 >>> ((nI 2).toUInt32 &&& Int32.toUInt32 31)).toInt32) &&& (858993459 : Int32))) + (((((x0 - (((x0.toUInt32 >>> ((nI 1).toUInt32 &&& Int32.toUInt32 31)).toInt32) &&& (1431655765 : Int32))) &&& (858993459 : Int32)) + ((((x0 - (((x0.toUInt32 >>> ((nI 1).toUInt32 &&& Int32.toUInt32 31)).toInt32) &&& (1431655765 : Int32))).toUInt32 >>> ((nI 2).toUInt32 &&& Int32.toUInt32 31)).toInt32) &&& (858993459 : Int32))).toUInt32 >>> ((nI 4).toUInt32 &&& Int32.toUInt32 31)).toInt32)) &&& (252645135 : Int32)).toUInt32 >>> ((nI 8).toUInt32 &&& Int32.toUInt32 31)).toInt32)) + ((((((((x0 - (((x0.toUInt32 >>> ((nI 1).toUInt32 &&& Int32.toUInt32 31)).toInt32) &&& (1431655765 : Int32))) &&& (858993459 : Int32)) + ((((x0 - (((x0.toUInt32 >>> ((nI 1).toUInt32 &&& Int32.toUInt32 31)).toInt32) &&& (1431655765 : Int32))).toUInt32 >>> ((nI 2).toUInt32 &&& Int32.toUInt32 31)).toInt32) &&& (858993459 : Int32))) + (((((x0 - (((x0.toUInt32 >>> ((nI 1).toUInt32 &&& Int32.toUInt32 31)).toInt32) &&& (1431655765 : Int32))) &&& (858993459 : Int32)) + ((((x0 - (((x0.toUInt32 >>> ((nI 1).toUInt32 &&& Int32.toUInt32 31)).toInt32) &&& (1431655765 : Int32))).toUInt32 >>> ((nI 2).toUInt32 &&& Int32.toUInt32 31)).toInt32) &&& (858993459 : Int32))).toUInt32 >>> ((nI 4).toUInt32 &&& Int32.toUInt32 31)).toInt32)) &&& (252645135 : Int32)) + (((((((x0 - (((x0.toUInt32 >>> ((nI 1).toUInt32 &&& Int32.toUInt32 31)).toInt32) &&& (1431655765 : Int32))) &&& (858993459 : Int32)) + ((((x0 - (((x0.toUInt32 >>> ((nI 1).toUInt32 &&& Int32.toUInt32 31)).toInt32) &&& (1431655765 : Int32))).toUInt32 >>> ((nI 2).toUInt32 &&& Int32.toUInt32 31)).toInt32) &&& (858993459 : Int32))) + (((((x0 - (((x0.toUInt32 >>> ((nI 1).toUInt32 &&& Int32.toUInt32 31)).toInt32) &&& (1431655765 : Int32))) &&& (858993459 : Int32)) + ((((x0 - (((x0.toUInt32 >>> ((nI 1).toUInt32 &&& Int32.toUInt32 31)).toInt32) &&& (1431655765 : Int32))).toUInt32 >>> ((nI 2).toUInt32 &&& Int32.toUInt32 31)).toInt32) &&& (858993459 : Int32))).toUInt32 >>> ((nI 4).toUInt32 &&& Int32.toUInt32 31)).toInt32)) &&& (252645135 : Int32)).toUInt32 >>> ((nI 8).toUInt32 &&& Int32.toUInt32 31)).toInt32)).toUInt32 >>> ((nI 16).toUInt32 &&& Int32.toUInt32 31)).toInt32)) &&& (nI 63))
def X_meets_98 (k30 : Int32 → Int32 → Nat → Int32 → Int32 → XS → Option (Int32 × XS)) (k48 : Int32 → Int32 → Nat → Int32 → Int32 → Option Nat → XS → Option (Int32 × XS)) (x1 : Int32) (i4 : Nat) (x5 : Int32) (x6 : Int32) (i8 : Nat) (y0 : Int32) (y1 : Int32) (σ : XS) : Option (Int32 × XS) := (if i8 < xN σ ∧ rK (xC σ i8) = true then (if i8 < xN σ ∧ rK (xC σ i8) = true then (if i8 < xN (zC σ i8 (uL (xC σ i8) ((rL (xC σ i8)) ||| ((nI 1) <<< (x1 &&& 31))))) ∧ rK (xC (zC σ i8 (uL (xC σ i8) ((rL (xC σ i8)) ||| ((nI 1) <<< (x1 &&& 31))))) i8) = true then k48 x1 (y1 + y0) i4 x5 x6 (rB (xC (zC σ i8 (uL (xC σ i8) ((rL (xC σ i8)) ||| ((nI 1) <<< (x1 &&& 31))))) i8)) (zC σ i8 (uL (xC σ i8) ((rL (xC σ i8)) ||| ((nI 1) <<< (x1 &&& 31))))) else none) else none) else none)
def X_meets_71 (k30 : Int32 → Int32 → Nat → Int32 → Int32 → XS → Option (Int32 × XS)) (k48 : Int32 → Int32 → Nat → Int32 → Int32 → Option Nat → XS → Option (Int32 × XS)) (x1 : Int32) (x2 : Int32) (i4 : Nat) (x5 : Int32) (x6 : Int32) (i8 : Nat) (σ : XS) : Option (Int32 × XS) := (if i8 < xN σ ∧ rK (xC σ i8) = true then (if i8 < xN (zC σ i8 (uR (xC σ i8) (xI σ 6))) ∧ rK (xC (zC σ i8 (uR (xC σ i8) (xI σ 6))) i8) = true then ((Xi_bitCount (rL (xC (zC σ i8 (uR (xC σ i8) (xI σ 6))) i8))).bind fun q3 => (if q3 = (nI 1) then X_meets_98 k30 k48 x1 i4 x5 x6 i8 (nI 1) x2 (zC σ i8 (uR (xC σ i8) (xI σ 6))) else X_meets_98 k30 k48 x1 i4 x5 x6 i8 (nI 0) x2 (zC σ i8 (uR (xC σ i8) (xI σ 6))))) else none) else none)
def X_meets_48 (k30 : Int32 → Int32 → Nat → Int32 → Int32 → XS → Option (Int32 × XS)) : Nat → Int32 → Int32 → Nat → Int32 → Int32 → Option Nat → XS → Option (Int32 × XS)
  | 0, _, _, _, _, _, _, _ => none
  | n + 1, x1, x2, i4, x5, x6, o8, σ => (oc o8 (k30 x1 x2 i4 x5 (x6 + (nI 1)) σ) fun i2 => (if i2 < xN σ ∧ rK (xC σ i2) = true then (if (rR (xC σ i2)) = (xI σ 6) then X_meets_71 k30 (X_meets_48 k30 n) x1 x2 i4 x5 x6 i2 σ else (if i2 < xN σ ∧ rK (xC σ i2) = true then X_meets_71 k30 (X_meets_48 k30 n) x1 x2 i4 x5 x6 i2 (zC σ i2 (uL (xC σ i2) (nI 0))) else none)) else none))
def X_meets_30 : Nat → Int32 → Int32 → Nat → Int32 → Int32 → XS → Option (Int32 × XS)
  | 0, _, _, _, _, _, _ => none
  | n + 1, x1, x2, i4, x5, x6, σ => (if x5 ≤ x6 then some (x2, σ) else (if x6 < 0 ∨ 2 ≤ x6.toNatClampNeg then none else X_meets_48 (X_meets_30 n) FU x1 x2 i4 x5 x6 (xT σ i4 x6.toNatClampNeg) σ))
def X_meets (x1 : Int32) (σ : XS) : Option (Int32 × XS) := (if x1 < 0 ∨ 4 ≤ x1.toNatClampNeg then none else X_meets_30 FU x1 (nI 0) x1.toNatClampNeg (nI 2) (nI 0) σ)
def Xi_numberOfTrailingZeros_74 (x0 : Int32) (x1 : Int32) : Option (Int32) := some (x1 + ((x0.toUInt32 >>> ((nI 1).toUInt32 &&& Int32.toUInt32 31)).toInt32))
def Xi_numberOfTrailingZeros_62 (x0 : Int32) (x1 : Int32) : Option (Int32) := (if x0 ≤ (nI 4) then Xi_numberOfTrailingZeros_74 x0 x1 else Xi_numberOfTrailingZeros_74 ((x0.toUInt32 >>> ((nI 2).toUInt32 &&& Int32.toUInt32 31)).toInt32) (x1 + (nI 2)))
def Xi_numberOfTrailingZeros_49 (x0 : Int32) (x1 : Int32) : Option (Int32) := (if x0 ≤ (nI 16) then Xi_numberOfTrailingZeros_62 x0 x1 else Xi_numberOfTrailingZeros_62 ((x0.toUInt32 >>> ((nI 4).toUInt32 &&& Int32.toUInt32 31)).toInt32) (x1 + (nI 4)))
def Xi_numberOfTrailingZeros_34 (x0 : Int32) (x1 : Int32) : Option (Int32) := (if x0 ≤ (nI 256) then Xi_numberOfTrailingZeros_49 x0 x1 else Xi_numberOfTrailingZeros_49 ((x0.toUInt32 >>> ((nI 8).toUInt32 &&& Int32.toUInt32 31)).toInt32) (x1 + (nI 8)))
def Xi_numberOfTrailingZeros (x0 : Int32) : Option (Int32) := (if 0 < ((x0 ^^^ (-1 : Int32)) &&& (x0 - (nI 1))) then (if ((x0 ^^^ (-1 : Int32)) &&& (x0 - (nI 1))) ≤ (65536 : Int32) then Xi_numberOfTrailingZeros_34 ((x0 ^^^ (-1 : Int32)) &&& (x0 - (nI 1))) (nI 1) else Xi_numberOfTrailingZeros_34 ((((x0 ^^^ (-1 : Int32)) &&& (x0 - (nI 1))).toUInt32 >>> ((nI 16).toUInt32 &&& Int32.toUInt32 31)).toInt32) ((nI 1) + (nI 16))) else some (((x0 ^^^ (-1 : Int32)) &&& (x0 - (nI 1))) &&& (nI 32)))
def X_shared_132 (k57 : Int32 → Int32 → Int32 → Int32 → XS → Option (Int32 × XS)) (k90 : Int32 → Int32 → Int32 → Int32 → Nat → Int32 → Int32 → XS → Option (Int32 × XS)) (k108 : Int32 → Int32 → Int32 → Int32 → Nat → Int32 → Int32 → Option Nat → XS → Option (Int32 × XS)) (x1 : Int32) (x2 : Int32) (x4 : Int32) (i5 : Nat) (x6 : Int32) (x7 : Int32) (i9 : Nat) (y0 : Int32) (y1 : Int32) (σ : XS) : Option (Int32 × XS) := (if i9 < xN σ ∧ rK (xC σ i9) = true then k108 x1 x2 (y1 + y0) x4 i5 x6 x7 (rB (xC σ i9)) σ else none)
def X_shared_108 (k57 : Int32 → Int32 → Int32 → Int32 → XS → Option (Int32 × XS)) (k90 : Int32 → Int32 → Int32 → Int32 → Nat → Int32 → Int32 → XS → Option (Int32 × XS)) : Nat → Int32 → Int32 → Int32 → Int32 → Nat → Int32 → Int32 → Option Nat → XS → Option (Int32 × XS)
  | 0, _, _, _, _, _, _, _, _, _ => none
  | n + 1, x1, x2, x3, x4, i5, x6, x7, o9, σ => (oc o9 (k90 x1 x2 x3 x4 i5 x6 (x7 + (nI 1)) σ) fun i8 => (if i8 < xN σ ∧ rK (xC σ i8) = true then ((Xi_numberOfTrailingZeros (rL (xC σ i8))).bind fun q9 => (if q9 = x4 then X_shared_132 k57 k90 (X_shared_108 k57 k90 n) x1 x2 x4 i5 x6 x7 i8 (nI 1) x3 σ else X_shared_132 k57 k90 (X_shared_108 k57 k90 n) x1 x2 x4 i5 x6 x7 i8 (nI 0) x3 σ)) else none))
def X_shared_90 (k57 : Int32 → Int32 → Int32 → Int32 → XS → Option (Int32 × XS)) : Nat → Int32 → Int32 → Int32 → Int32 → Nat → Int32 → Int32 → XS → Option (Int32 × XS)
  | 0, _, _, _, _, _, _, _, _ => none
  | n + 1, x1, x2, x3, x4, i5, x6, x7, σ => (if x6 ≤ x7 then k57 x1 x2 x3 (x4 + (nI 1)) σ else (if x7 < 0 ∨ 2 ≤ x7.toNatClampNeg then none else X_shared_108 k57 (X_shared_90 k57 n) FU x1 x2 x3 x4 i5 x6 x7 (xT σ i5 x7.toNatClampNeg) σ))
def X_shared_57 : Nat → Int32 → Int32 → Int32 → Int32 → XS → Option (Int32 × XS)
  | 0, _, _, _, _, _ => none
  | n + 1, x1, x2, x3, x4, σ => (if (nI 4) ≤ x4 then ((X_tells (x2.toInt64) (zI σ 5 (nI 0))).bind fun q5 => ((X_tells (x1.toInt64) q5).bind fun q6 => some (x3, q6))) else (if x4 < 0 ∨ 4 ≤ x4.toNatClampNeg then none else X_shared_90 (X_shared_57 n) FU x1 x2 x3 x4 x4.toNatClampNeg (nI 2) (nI 0) σ))
def X_shared_13 : Nat → Int32 → Int32 → Int32 → Int32 → XS → Option (Int32 × XS)
  | 0, _, _, _, _, _ => none
  | n + 1, x1, x2, x3, x4, σ => (if (nI 4) ≤ x4 then X_shared_57 FU x1 x2 x3 (nI 0) σ else (if x4 < 0 ∨ 4 ≤ x4.toNatClampNeg then none else ((Xl_size x4.toNatClampNeg σ).bind fun q3 => ((X_meets x4 q3.2).bind fun q4 => X_shared_13 n (x1 + q3.1) (x2 + q4.1) x3 (x4 + (nI 1)) q4.2))))
def X_shared (σ : XS) : Option (Int32 × XS) := ((X_begins σ).bind fun q1 => X_shared_13 FU (nI 0) (nI 0) (nI 0) (nI 0) q1)
def X_would_129 (x5 : Int32) (y0 : Int64) (σ : XS) : Option (Int32 × XS) := ((X_tells y0 σ).bind fun q6 => some (x5, q6))
def X_would_107 (x2 : Int32) (x4 : Int32) (x5 : Int32) (x6 : Int32) (y0 : Int64) (σ : XS) : Option (Int32 × XS) := ((X_tells y0 σ).bind fun q5 => (if x2 = 0 then X_would_129 x5 ((x4 - x6).toInt64) q5 else X_would_129 x5 ((x6 - (nI 1)).toInt64) q5))
def X_would_81 (x2 : Int32) (x4 : Int32) (x5 : Int32) (y0 : Int32) (σ : XS) : Option (Int32 × XS) := (if x2 = 0 then X_would_107 x2 x4 x5 y0 ((y0 - (nI 1)).toInt64) (zI σ 5 (nI 0)) else X_would_107 x2 x4 x5 y0 ((x4 - y0).toInt64) (zI σ 5 (nI 0)))
def X_would_59 (x2 : Int32) (i3 : Nat) (x4 : Int32) (y0 : Int32) (σ : XS) : Option (Int32 × XS) := (if y0 ≤ 0 then (if x2 < 0 ∨ 2 ≤ x2.toNatClampNeg then none else X_would_81 x2 x4 y0 (xA σ (5 + i3) x2.toNatClampNeg) σ) else (if (nI 2) = 0 then none else X_would_81 x2 x4 y0 ((x4 + (nI 1)) / (nI 2)) σ))
def X_would (x1 : Int32) (x2 : Int32) (σ : XS) : Option (Int32 × XS) := ((X_isLine x1).bind fun q1 => (if q1 = 0 then some ((-1 : Int32), σ) else ((X_isEnd x2).bind fun q2 => (if q2 = 0 then some ((-1 : Int32), σ) else (if x1 < 0 ∨ 4 ≤ x1.toNatClampNeg then none else ((Xl_size x1.toNatClampNeg σ).bind fun q4 => (if q4.1 = 0 then some ((-2 : Int32), q4.2) else (if x2 < 0 ∨ 2 ≤ x2.toNatClampNeg then none else (if (xA q4.2 (5 + x1.toNatClampNeg) x2.toNatClampNeg) = 0 then X_would_59 x2 x1.toNatClampNeg q4.1 q4.1 q4.2 else X_would_59 x2 x1.toNatClampNeg q4.1 (nI 0) q4.2)))))))))
def X_tries_34 (rec : Int32 → Int32 → Int32 → Int32 → Int32 → Int32 → XS → Option (XS)) (x5 : Int32) (x6 : Int32) (σ : XS) : Option (XS) := some (zI (zI σ 7 x5) 8 x6)
def X_tries_180 (rec : Int32 → Int32 → Int32 → Int32 → Int32 → Int32 → XS → Option (XS)) (x3 : Int32) (x6 : Int32) (y0 : Int32) (y1 : Int32) (y2 : Int32) (y3 : Int32) (y4 : Int32) (y5 : Int32) (σ : XS) : Option (XS) := ((rec y5 y4 y3 y2 (y1 + y0) (x6 ||| ((nI 1) <<< (x3 &&& 31))) σ).bind fun q2 => some q2)
def X_tries_160 (rec : Int32 → Int32 → Int32 → Int32 → Int32 → Int32 → XS → Option (XS)) (x3 : Int32) (x4 : Int32) (x5 : Int32) (x6 : Int32) (x7 : Int32) (x9 : Int32) (y0 : Int32) (y1 : Int32) (σ : XS) : Option (XS) := (if x9 = 0 then X_tries_180 rec x3 x6 (nI 0) x5 x4 (x3 + (nI 1)) (y0 - (nI 1)) y1 σ else X_tries_180 rec x3 x6 x7 x5 x4 (x3 + (nI 1)) (y0 - (nI 1)) y1 σ)
def X_tries_149 (rec : Int32 → Int32 → Int32 → Int32 → Int32 → Int32 → XS → Option (XS)) (x2 : Int32) (x3 : Int32) (x4 : Int32) (x5 : Int32) (x6 : Int32) (x7 : Int32) (x8 : Int32) (x9 : Int32) (y0 : Int32) (σ : XS) : Option (XS) := (if x9 = 0 then X_tries_160 rec x3 x4 x5 x6 x7 x9 x2 y0 σ else X_tries_160 rec x3 x4 x5 x6 x7 x9 x8 y0 σ)
def X_tries_132 (rec : Int32 → Int32 → Int32 → Int32 → Int32 → Int32 → XS → Option (XS)) (x1 : Int32) (x2 : Int32) (x3 : Int32) (x4 : Int32) (x5 : Int32) (x6 : Int32) (x7 : Int32) (x8 : Int32) (y0 : Int32) (σ : XS) : Option (XS) := (if y0 = 0 then X_tries_149 rec x2 x3 x4 x5 x6 x7 x8 y0 x1 σ else X_tries_149 rec x2 x3 x4 x5 x6 x7 x8 y0 (x7 - x8) σ)
def X_tries_117 (rec : Int32 → Int32 → Int32 → Int32 → Int32 → Int32 → XS → Option (XS)) (x1 : Int32) (x2 : Int32) (x3 : Int32) (x4 : Int32) (x5 : Int32) (x6 : Int32) (x7 : Int32) (x8 : Int32) (y0 : Int32) (y1 : Int32) (y2 : Int32) (y3 : Int32) (y4 : Int32) (y5 : Int32) (σ : XS) : Option (XS) := ((rec y5 y4 y3 y2 (y1 + y0) x6 σ).bind fun q1 => (if x2 = 0 then X_tries_132 rec x1 x2 x3 x4 x5 x6 x7 x8 (nI 1) q1 else X_tries_132 rec x1 x2 x3 x4 x5 x6 x7 x8 (nI 0) q1))
def X_tries_99 (rec : Int32 → Int32 → Int32 → Int32 → Int32 → Int32 → XS → Option (XS)) (x1 : Int32) (x2 : Int32) (x3 : Int32) (x4 : Int32) (x5 : Int32) (x6 : Int32) (x7 : Int32) (x8 : Int32) (x9 : Int32) (y0 : Int32) (y1 : Int32) (σ : XS) : Option (XS) := (if x9 = 0 then X_tries_117 rec x1 x2 x3 x4 x5 x6 x7 x8 (nI 0) x5 x4 (x3 + (nI 1)) y0 y1 σ else X_tries_117 rec x1 x2 x3 x4 x5 x6 x7 x8 x7 x5 x4 (x3 + (nI 1)) y0 y1 σ)
def X_tries_83 (rec : Int32 → Int32 → Int32 → Int32 → Int32 → Int32 → XS → Option (XS)) (x1 : Int32) (x2 : Int32) (x3 : Int32) (x4 : Int32) (x5 : Int32) (x6 : Int32) (x7 : Int32) (x8 : Int32) (x9 : Int32) (y0 : Int32) (σ : XS) : Option (XS) := (if x9 = 0 then X_tries_99 rec x1 x2 x3 x4 x5 x6 x7 x8 x9 x2 (y0 - (nI 1)) σ else X_tries_99 rec x1 x2 x3 x4 x5 x6 x7 x8 x9 (x7 - x8) (y0 - (nI 1)) σ)
def X_tries_69 (rec : Int32 → Int32 → Int32 → Int32 → Int32 → Int32 → XS → Option (XS)) (x1 : Int32) (x2 : Int32) (x3 : Int32) (x4 : Int32) (x5 : Int32) (x6 : Int32) (x7 : Int32) (x8 : Int32) (y0 : Int32) (σ : XS) : Option (XS) := (if y0 = 0 then X_tries_83 rec x1 x2 x3 x4 x5 x6 x7 x8 y0 x1 σ else X_tries_83 rec x1 x2 x3 x4 x5 x6 x7 x8 y0 x8 σ)
/-- the depth that is granted to tries -/
abbrev TD : Nat := 14
def X_tries : Nat → Int32 → Int32 → Int32 → Int32 → Int32 → Int32 → XS → Option (XS)
  | 0, _, _, _, _, _, _, _ => none
  | n + 1, x1, x2, x3, x4, x5, x6, σ => (if x3 = x4 then (if x5 < (xI σ 7) then some σ else (if x5 = (xI σ 7) then (if x6 ≤ (xI σ 8) then X_tries_34 (X_tries n) x5 x6 σ else some σ) else X_tries_34 (X_tries n) x5 x6 σ)) else (if (nI 2) = 0 then none else (if x1 = 0 then X_tries_69 (X_tries n) x1 x2 x3 x4 x5 x6 (x1 + x2) (((x1 + x2) + (nI 1)) / (nI 2)) (nI 1) σ else X_tries_69 (X_tries n) x1 x2 x3 x4 x5 x6 (x1 + x2) (((x1 + x2) + (nI 1)) / (nI 2)) (nI 0) σ)))
def X_dearest (x1 : Int32) (x2 : Int32) (σ : XS) : Option (Int32 × XS) := ((X_isLine x1).bind fun q1 => (if q1 = 0 then some ((-1 : Int32), σ) else ((X_in (x2.toInt64) (lN 1) (12 : Int64)).bind fun q2 => (if q2 = 0 then some ((-1 : Int32), σ) else (if x1 < 0 ∨ 4 ≤ x1.toNatClampNeg then none else ((Xl_size x1.toNatClampNeg σ).bind fun q4 => (if x2 ≤ q4.1 then (if (nI 0) < 0 ∨ 2 ≤ (nI 0).toNatClampNeg then none else (if (nI 1) < 0 ∨ 2 ≤ (nI 1).toNatClampNeg then none else ((X_tries TD (xA (zI (zI q4.2 7 (nI 0)) 8 (nI 4096)) (5 + x1.toNatClampNeg) (nI 0).toNatClampNeg) (xA (zI (zI q4.2 7 (nI 0)) 8 (nI 4096)) (5 + x1.toNatClampNeg) (nI 1).toNatClampNeg) (nI 0) x2 (nI 0) (nI 0) (zI (zI q4.2 7 (nI 0)) 8 (nI 4096))).bind fun q5 => ((X_tells ((xI (zI q5 5 (nI 0)) 8).toInt64) (zI q5 5 (nI 0))).bind fun q6 => some ((xI q6 7), q6))))) else some ((-2 : Int32), q4.2))))))))
def X_count (x1 : Int32) (σ : XS) : Option (Int32 × XS) := ((X_in (x1.toInt64) (lN 0) (3 : Int64)).bind fun q1 => (if q1 = 0 then (if x1 = (nI 4) then some ((xI σ 0), σ) else (if x1 = (nI 5) then some ((xI σ 1), σ) else (if x1 = (nI 6) then some ((xI σ 2), σ) else (if x1 = (nI 7) then some (((xL σ 0).toInt32), σ) else (if x1 = (nI 8) then some ((xI σ 3), σ) else (if x1 = (nI 9) then some ((xI σ 5), σ) else (if x1 = (nI 10) then some ((xI σ 4), σ) else some ((-1 : Int32), σ)))))))) else (if x1 < 0 ∨ 4 ≤ x1.toNatClampNeg then none else ((Xl_size x1.toNatClampNeg σ).bind fun q3 => some (q3.1, q3.2)))))
def Xp_isLike (i0 : Nat) (i1 : Nat) (σ : XS) : Option (Int32 × XS) := (if i0 < xN σ then (if i1 < xN σ then (if (lg_cmp (rP (xC σ i0)) (rP (xC σ i1))) = 0 then (if i0 < xN σ then (if i1 < xN σ then (if (lg_cmp (rQ (xC σ i0)) (rQ (xC σ i1))) = 0 then some ((nI 1), σ) else some ((nI 0), σ)) else none) else none) else some ((nI 0), σ)) else none) else none)
def Xl_endOf (i0 : Nat) (x1 : Int32) (σ : XS) : Option (Int32 × XS) := (if (nI 0) < 0 ∨ 2 ≤ (nI 0).toNatClampNeg then none else (if (xA σ (5 + i0) (nI 0).toNatClampNeg) ≤ x1 then some ((nI 1), σ) else some ((nI 0), σ)))
def Xl_lifts_r1_3 : Nat → Nat → Int32 → Int32 → Int32 → XS → Option (XS)
  | 0, _, _, _, _, _ => none
  | n + 1, i0, x1, x2, x4, σ => (if x2 ≤ x4 then some σ else (if x1 < 0 ∨ 2 ≤ x1.toNatClampNeg then none else (oc (xT σ i0 x1.toNatClampNeg) none fun i1 => (if i1 < xN σ ∧ rK (xC σ i1) = true then (if x4 < 0 ∨ 64 ≤ x4.toNatClampNeg then none else (if x1 < 0 ∨ 2 ≤ x1.toNatClampNeg then none else (oc (xT (zA σ 4 x4.toNatClampNeg (rI (xC σ i1))) i0 x1.toNatClampNeg) none fun i2 => (if i2 < xN (zA σ 4 x4.toNatClampNeg (rI (xC σ i1))) ∧ rK (xC (zA σ 4 x4.toNatClampNeg (rI (xC σ i1))) i2) = true then (if x1 < 0 ∨ 2 ≤ x1.toNatClampNeg then none else (if cellOk (zA σ 4 x4.toNatClampNeg (rI (xC σ i1))) (rB (xC (zA σ 4 x4.toNatClampNeg (rI (xC σ i1))) i2)) = true then (if x1 < 0 ∨ 2 ≤ x1.toNatClampNeg then none else (if x1 < 0 ∨ 2 ≤ x1.toNatClampNeg then none else Xl_lifts_r1_3 n i0 x1 x2 (x4 + (nI 1)) (zA (zT (zA σ 4 x4.toNatClampNeg (rI (xC σ i1))) i0 x1.toNatClampNeg (rB (xC (zA σ 4 x4.toNatClampNeg (rI (xC σ i1))) i2))) (5 + i0) x1.toNatClampNeg ((xA (zT (zA σ 4 x4.toNatClampNeg (rI (xC σ i1))) i0 x1.toNatClampNeg (rB (xC (zA σ 4 x4.toNatClampNeg (rI (xC σ i1))) i2))) (5 + i0) x1.toNatClampNeg) - (nI 1))))) else none)) else none)))) else none))))
def Xl_lifts_r1 (i0 : Nat) (x1 : Int32) (x2 : Int32) (σ : XS) : Option (XS) := Xl_lifts_r1_3 FU i0 x1 x2 (nI 0) σ
def Xi_numberOfLeadingZeros_73 (x0 : Int32) (x1 : Int32) : Option (Int32) := some (x1 - ((x0.toUInt32 >>> ((nI 1).toUInt32 &&& Int32.toUInt32 31)).toInt32))
def Xi_numberOfLeadingZeros_61 (x0 : Int32) (x1 : Int32) : Option (Int32) := (if x0 < (nI 4) then Xi_numberOfLeadingZeros_73 x0 x1 else Xi_numberOfLeadingZeros_73 ((x0.toUInt32 >>> ((nI 2).toUInt32 &&& Int32.toUInt32 31)).toInt32) (x1 + (-2 : Int32)))
def Xi_numberOfLeadingZeros_48 (x0 : Int32) (x1 : Int32) : Option (Int32) := (if x0 < (nI 16) then Xi_numberOfLeadingZeros_61 x0 x1 else Xi_numberOfLeadingZeros_61 ((x0.toUInt32 >>> ((nI 4).toUInt32 &&& Int32.toUInt32 31)).toInt32) (x1 + (-4 : Int32)))
def Xi_numberOfLeadingZeros_33 (x0 : Int32) (x1 : Int32) : Option (Int32) := (if x0 < (nI 256) then Xi_numberOfLeadingZeros_48 x0 x1 else Xi_numberOfLeadingZeros_48 ((x0.toUInt32 >>> ((nI 8).toUInt32 &&& Int32.toUInt32 31)).toInt32) (x1 + (-8 : Int32)))
def Xi_numberOfLeadingZeros (x0 : Int32) : Option (Int32) := (if 0 < x0 then (if x0 < (65536 : Int32) then Xi_numberOfLeadingZeros_33 x0 (nI 31) else Xi_numberOfLeadingZeros_33 ((x0.toUInt32 >>> ((nI 16).toUInt32 &&& Int32.toUInt32 31)).toInt32) ((nI 31) + (-16 : Int32))) else (if x0 = 0 then some (nI 32) else some (nI 0)))
section ZXW
variable {p : Program} {l : Launch} {e : Env} {s : State} {m : MethodId} {args : Array Value} {below : List Frame} {meth : Method} {c : Code} {D : va_G} {dA : Nat → ClassId} {G : Nat → Nat} {A : Nat → Prop}
theorem mw_X2_isf : MwX yX2_is cX2_is 5 none RX2 2 := ⟨by decide +kernel, q142, q143, q87, q146⟩
theorem mw_X2_ist : MwX yX2_is cX2_is 5 none RX5 2 := ⟨by decide +kernel, q142, q145, q87, q146⟩
set_option maxHeartbeats 4000000 in
theorem m_Xp_is (l : Launch) (D : va_G) (dA : Nat → ClassId) (G : Nat → Nat) {i0 : Nat} {x1 : Int64} {x3 : Int64} {σ : XS} (tb : Nat) (ad : Nat → Nat) {ρ : XS} (h : Xp_is i0 x1 x3 σ = some ρ) : CtX l yX2_is (ws_ yX2_is cX2_is 5 none) 0 0 0 D dA G [.ref (ad i0), .long x1, .long x3] (WX dA G tb ad σ) (QgV D dA (fun _ : Unit => WX dA G tb ad ρ)) := by
  refine zx_start (cc := cX2_is) (nL := 5) (ret := none) (own := RX2) (by decide) rfl rfl (Nat.le_of_ble_eq_true rfl) (fun p e s m args below meth c A hO hX hr _ _ => ?_)
  unfold Xp_is at h
  refine zg_sub (lv' := [(0, .ref (ad i0)), (1, .long x1), (3, .long x3)]) [0, 1, 2] rfl ?_
  refine zg_aload_n hO 0 dX2_is_0 rfl rfl ?_
  refine zg_lload_n hO 1 dX2_is_1 rfl rfl ?_
  refine xP_2_7 hO hX h dX2_is_2 (fun h => ?_)
  refine zg_aload_n hO 0 dX2_is_5 rfl rfl ?_
  refine zg_lload_n hO 2 dX2_is_6 rfl rfl ?_
  refine xP_2_13 hO hX h dX2_is_7 (fun h => ?_)
  exact zy_vretF hO hr h ⟨Nat.le_refl _, Nat.le_refl _⟩ dX2_is_10
theorem mw_X1_lambda_new_0 : MwS yX1_lambda_new_0 cX1_lambda_new_0 2 none 2 := ⟨by decide +kernel, q139, q85, q140⟩
set_option maxHeartbeats 4000000 in
theorem m_X_lambda_new_0 (l : Launch) (D : va_G) (dA : Nat → ClassId) (G : Nat → Nat) {i0 : Nat} {x1 : Int32} {σ : XS} (tb : Nat) (ad : Nat → Nat) {ρ : XS} (h : X_lambda_new_0 i0 x1 σ = some ρ) : CtX l yX1_lambda_new_0 (ws_ yX1_lambda_new_0 cX1_lambda_new_0 2 none) 1 0 0 D dA G [.ref (ad i0), .int x1] (WX dA G tb ad σ) (QgV D dA (fun _ : Unit => WX dA G tb ad ρ)) := by
  refine zx_start (cc := cX1_lambda_new_0) (nL := 2) (ret := none) (own := RX1) (by decide) rfl rfl (Nat.le_of_ble_eq_true rfl) (fun p e s m args below meth c A hO hX hr _ _ => ?_)
  unfold X_lambda_new_0 at h
  refine zg_sub (lv' := [(0, .ref (ad i0)), (1, .int x1)]) [0, 1] rfl ?_
  refine zg_aload_n hO 0 dX1_lambda_new_0_0 rfl rfl ?_
  refine zg_iload_n hO 1 dX1_lambda_new_0_1 rfl rfl ?_
  refine zg_i2l hO dX1_lambda_new_0_2 ?_
  refine zg_lconst hO dX1_lambda_new_0_3 lc1 ?_
  refine zg_chk h (fun hp h => ?_)
  refine zy_callPv (As := [.long (x1.toInt64), .long (lN 1)]) (rest := []) hO hX h hp (fun q hq => m_Xp_is l D dA G tb ad hq) mw_X2_isf mw_X2_ist q141 ⟨Nat.le_of_ble_eq_true rfl, Nat.le_of_ble_eq_true rfl⟩ ⟨Nat.le_refl _, Nat.le_refl _⟩ rfl rfl (Nat.le_of_ble_eq_true rfl) dX1_lambda_new_0_4 (fun q1 h => ?_)
  exact zy_vretF hO hr h ⟨Nat.le_refl _, Nat.le_refl _⟩ dX1_lambda_new_0_7
theorem mw_X1_lambda_new_1 : MwS yX1_lambda_new_1 cX1_lambda_new_1 2 none 2 := ⟨by decide +kernel, q147, q85, q148⟩
set_option maxHeartbeats 4000000 in
theorem m_X_lambda_new_1 (l : Launch) (D : va_G) (dA : Nat → ClassId) (G : Nat → Nat) {i0 : Nat} {x1 : Int32} {σ : XS} (tb : Nat) (ad : Nat → Nat) {ρ : XS} (h : X_lambda_new_1 i0 x1 σ = some ρ) : CtX l yX1_lambda_new_1 (ws_ yX1_lambda_new_1 cX1_lambda_new_1 2 none) 1 0 0 D dA G [.ref (ad i0), .int x1] (WX dA G tb ad σ) (QgV D dA (fun _ : Unit => WX dA G tb ad ρ)) := by
  refine zx_start (cc := cX1_lambda_new_1) (nL := 2) (ret := none) (own := RX1) (by decide) rfl rfl (Nat.le_of_ble_eq_true rfl) (fun p e s m args below meth c A hO hX hr _ _ => ?_)
  unfold X_lambda_new_1 at h
  refine zg_sub (lv' := [(0, .ref (ad i0)), (1, .int x1)]) [0, 1] rfl ?_
  refine zg_aload_n hO 0 dX1_lambda_new_1_0 rfl rfl ?_
  refine zg_iload_n hO 1 dX1_lambda_new_1_1 rfl rfl ?_
  refine zg_i2l hO dX1_lambda_new_1_2 ?_
  refine zg_iload_n hO 1 dX1_lambda_new_1_3 rfl rfl ?_
  refine zg_i2l hO dX1_lambda_new_1_4 ?_
  refine zg_chk h (fun hp h => ?_)
  refine zy_callPv (As := [.long (x1.toInt64), .long (x1.toInt64)]) (rest := []) hO hX h hp (fun q hq => m_Xp_is l D dA G tb ad hq) mw_X2_isf mw_X2_ist q141 ⟨Nat.le_of_ble_eq_true rfl, Nat.le_of_ble_eq_true rfl⟩ ⟨Nat.le_refl _, Nat.le_refl _⟩ rfl rfl (Nat.le_of_ble_eq_true rfl) dX1_lambda_new_1_5 (fun q1 h => ?_)
  exact zy_vretF hO hr h ⟨Nat.le_refl _, Nat.le_refl _⟩ dX1_lambda_new_1_8
theorem mw_X1_lambda_new_2 : MwS yX1_lambda_new_2 cX1_lambda_new_2 2 none 2 := ⟨by decide +kernel, q149, q85, q150⟩
set_option maxHeartbeats 4000000 in
theorem m_X_lambda_new_2 (l : Launch) (D : va_G) (dA : Nat → ClassId) (G : Nat → Nat) {i0 : Nat} {x1 : Int32} {σ : XS} (tb : Nat) (ad : Nat → Nat) {ρ : XS} (h : X_lambda_new_2 i0 x1 σ = some ρ) : CtX l yX1_lambda_new_2 (ws_ yX1_lambda_new_2 cX1_lambda_new_2 2 none) 1 0 0 D dA G [.ref (ad i0), .int x1] (WX dA G tb ad σ) (QgV D dA (fun _ : Unit => WX dA G tb ad ρ)) := by
  refine zx_start (cc := cX1_lambda_new_2) (nL := 2) (ret := none) (own := RX1) (by decide) rfl rfl (Nat.le_of_ble_eq_true rfl) (fun p e s m args below meth c A hO hX hr _ _ => ?_)
  unfold X_lambda_new_2 at h
  refine zg_sub (lv' := [(0, .ref (ad i0)), (1, .int x1)]) [0, 1] rfl ?_
  refine zg_aload_n hO 0 dX1_lambda_new_2_0 rfl rfl ?_
  refine zg_iload_n hO 1 dX1_lambda_new_2_1 rfl rfl ?_
  refine zg_i2l hO dX1_lambda_new_2_2 ?_
  refine zg_iload_n hO 1 dX1_lambda_new_2_3 rfl rfl ?_
  refine zg_i2l hO dX1_lambda_new_2_4 ?_
  refine zg_chk h (fun hp h => ?_)
  refine zy_callPv (As := [.long (x1.toInt64), .long (x1.toInt64)]) (rest := []) hO hX h hp (fun q hq => m_Xp_is l D dA G tb ad hq) mw_X2_isf mw_X2_ist q141 ⟨Nat.le_of_ble_eq_true rfl, Nat.le_of_ble_eq_true rfl⟩ ⟨Nat.le_refl _, Nat.le_refl _⟩ rfl rfl (Nat.le_of_ble_eq_true rfl) dX1_lambda_new_2_5 (fun q1 h => ?_)
  exact zy_vretF hO hr h ⟨Nat.le_refl _, Nat.le_refl _⟩ dX1_lambda_new_2_8
theorem mw_X1_lambda_new_3 : MwS yX1_lambda_new_3 cX1_lambda_new_3 2 none 2 := ⟨by decide +kernel, q151, q85, q152⟩
set_option maxHeartbeats 4000000 in
theorem m_X_lambda_new_3 (l : Launch) (D : va_G) (dA : Nat → ClassId) (G : Nat → Nat) {i0 : Nat} {x1 : Int32} {σ : XS} (tb : Nat) (ad : Nat → Nat) {ρ : XS} (h : X_lambda_new_3 i0 x1 σ = some ρ) : CtX l yX1_lambda_new_3 (ws_ yX1_lambda_new_3 cX1_lambda_new_3 2 none) 1 0 0 D dA G [.ref (ad i0), .int x1] (WX dA G tb ad σ) (QgV D dA (fun _ : Unit => WX dA G tb ad ρ)) := by
  refine zx_start (cc := cX1_lambda_new_3) (nL := 2) (ret := none) (own := RX1) (by decide) rfl rfl (Nat.le_of_ble_eq_true rfl) (fun p e s m args below meth c A hO hX hr _ _ => ?_)
  unfold X_lambda_new_3 at h
  refine zg_sub (lv' := [(0, .ref (ad i0)), (1, .int x1)]) [0, 1] rfl ?_
  refine zg_aload_n hO 0 dX1_lambda_new_3_0 rfl rfl ?_
  refine zg_iload_n hO 1 dX1_lambda_new_3_1 rfl rfl ?_
  refine zg_bipush hO dX1_lambda_new_3_2 bc101 ?_
  refine zg_idiv hO h dX1_lambda_new_3_4 (fun h => ?_)
  refine zg_bipush hO dX1_lambda_new_3_5 bc101 ?_
  refine zg_irem hO h dX1_lambda_new_3_7 (fun h => ?_)
  refine zg_i2l hO dX1_lambda_new_3_8 ?_
  refine zg_iload_n hO 1 dX1_lambda_new_3_9 rfl rfl ?_
  refine zg_bipush hO dX1_lambda_new_3_10 bc101 ?_
  refine zg_irem hO h dX1_lambda_new_3_12 (fun h => ?_)
  refine zg_i2l hO dX1_lambda_new_3_13 ?_
  refine zg_chk h (fun hp h => ?_)
  refine zy_callPv (As := [.long (((x1 / (nI 101)) - (x1 / (nI 101)) / (nI 101) * (nI 101)).toInt64), .long ((x1 - x1 / (nI 101) * (nI 101)).toInt64)]) (rest := []) hO hX h hp (fun q hq => m_Xp_is l D dA G tb ad hq) mw_X2_isf mw_X2_ist q141 ⟨Nat.le_of_ble_eq_true rfl, Nat.le_of_ble_eq_true rfl⟩ ⟨Nat.le_refl _, Nat.le_refl _⟩ rfl rfl (Nat.le_of_ble_eq_true rfl) dX1_lambda_new_3_14 (fun q1 h => ?_)
  exact zy_vretF hO hr h ⟨Nat.le_refl _, Nat.le_refl _⟩ dX1_lambda_new_3_17
theorem mw_X1_bracket : MwX yX1_bracket cX1_bracket 4 none RX1 2 := ⟨by decide +kernel, q154, qs0, q85, q155⟩
set_option maxHeartbeats 4000000 in
theorem m_X_bracket (l : Launch) (D : va_G) (dA : Nat → ClassId) (G : Nat → Nat) {i1 : Nat} {x2 : Int32} {σ : XS} (tb : Nat) (ad : Nat → Nat) {ρ : XS} (h : X_bracket i1 x2 σ = some ρ) : CtX l yX1_bracket (ws_ yX1_bracket cX1_bracket 4 none) 1 0 0 D dA G [.ref (G 0), .ref (ad i1), .int x2] (WX dA G tb ad σ) (QgV D dA (fun _ : Unit => WX dA G tb ad ρ)) := by
  refine zx_start (cc := cX1_bracket) (nL := 4) (ret := none) (own := RX1) (by decide) rfl rfl (Nat.le_of_ble_eq_true rfl) (fun p e s m args below meth c A hO hX hr _ _ => ?_)
  unfold X_bracket at h
  refine zg_sub (lv' := [(0, .ref (G 0)), (1, .ref (ad i1)), (2, .int x2)]) [0, 1, 2] rfl ?_
  refine zg_iload_n hO 2 dX1_bracket_0 rfl rfl ?_
  refine zg_iconst hO dX1_bracket_1 ic2 ?_
  refine zg_idiv hO h dX1_bracket_2 (fun h => ?_)
  refine zg_bipush hO dX1_bracket_3 bc10 ?_
  refine zg_irem hO h dX1_bracket_5 (fun h => ?_)
  refine zg_istore_n (lv' := [(3, .int ((x2 / (nI 2)) - (x2 / (nI 2)) / (nI 10) * (nI 10))), (0, .ref (G 0)), (1, .ref (ad i1)), (2, .int x2)]) hO dX1_bracket_6 rfl (Nat.le_of_ble_eq_true rfl) rfl ?_
  refine zg_iload_n hO 3 dX1_bracket_7 rfl rfl ?_
  refine zg_iconst hO dX1_bracket_8 ic2 ?_
  refine zg_irem hO h dX1_bracket_9 (fun h => ?_)
  refine zg_if_ne (tgt := 23) hO h dX1_bracket_10 (by decide) (fun h => ?_) (fun h => ?_)
  · refine zg_aload_n hO 2 dX1_bracket_23 rfl rfl ?_
    refine zg_iload_n hO 0 dX1_bracket_24 rfl rfl ?_
    refine zg_i2l hO dX1_bracket_25 ?_
    refine zg_lconst hO dX1_bracket_26 lc0 ?_
    refine zg_chk h (fun hp h => ?_)
    refine zy_callPv (As := [.long (((x2 / (nI 2)) - (x2 / (nI 2)) / (nI 10) * (nI 10)).toInt64), .long (lN 0)]) (rest := []) hO hX h hp (fun q hq => m_Xp_is l D dA G tb ad hq) mw_X2_isf mw_X2_ist q141 ⟨Nat.le_of_ble_eq_true rfl, Nat.le_of_ble_eq_true rfl⟩ ⟨Nat.le_refl _, Nat.le_refl _⟩ rfl rfl (Nat.le_of_ble_eq_true rfl) dX1_bracket_27 (fun q1 h => ?_)
    exact zy_vretF hO hr h ⟨Nat.le_refl _, Nat.le_refl _⟩ dX1_bracket_30
  · refine zg_aload_n hO 2 dX1_bracket_13 rfl rfl ?_
    refine zg_lconst hO dX1_bracket_14 lc0 ?_
    refine zg_iload_n hO 0 dX1_bracket_15 rfl rfl ?_
    refine zg_i2l hO dX1_bracket_16 ?_
    refine zg_chk h (fun hp h => ?_)
    refine zy_callPv (As := [.long (lN 0), .long (((x2 / (nI 2)) - (x2 / (nI 2)) / (nI 10) * (nI 10)).toInt64)]) (rest := []) hO hX h hp (fun q hq => m_Xp_is l D dA G tb ad hq) mw_X2_isf mw_X2_ist q141 ⟨Nat.le_of_ble_eq_true rfl, Nat.le_of_ble_eq_true rfl⟩ ⟨Nat.le_refl _, Nat.le_refl _⟩ rfl rfl (Nat.le_of_ble_eq_true rfl) dX1_bracket_17 (fun q2 h => ?_)
    refine zg_goto (tgt := 30) hO dX1_bracket_20 (by decide) ?_
    exact zy_vretF hO hr h ⟨Nat.le_refl _, Nat.le_refl _⟩ dX1_bracket_30
set_option maxHeartbeats 4000000 in
theorem w_X_leaps_44 {tb : Nat} {ad : Nat → Nat} (hO : Ok p s m args meth c cX1_leaps RX1 5 D dA A) (hX : XK dA G A s) (hr : meth.sig.returnType = (some .int)) {ρ : Int32 × XS} {k4 : Int32 → Int32 → Int32 → XS → Option (Int32 × XS)} {k12 : Int32 → Int32 → Int32 → Int32 → XS → Option (Int32 × XS)} (K4 : ∀ (x1 : Int32) (x2 : Int32) (x3 : Int32) (σ : XS), k4 x1 x2 x3 σ = some ρ → Go p l e (rmG 0 0 0) s m args below meth c D A 5 (MQ below ((QgI D dA (fun _ : Unit => WX dA G tb ad ρ.2) ρ.1) A) args s 0 0 A) (WX dA G tb ad σ) 0 0 4 [(0, .ref (G 0)), (1, .int x1), (2, .int x2), (3, .int x3)] []) (K12 : ∀ (x1 : Int32) (x2 : Int32) (x3 : Int32) (x4 : Int32) (σ : XS), k12 x1 x2 x3 x4 σ = some ρ → Go p l e (rmG 0 0 0) s m args below meth c D A 5 (MQ below ((QgI D dA (fun _ : Unit => WX dA G tb ad ρ.2) ρ.1) A) args s 0 0 A) (WX dA G tb ad σ) 0 0 12 [(0, .ref (G 0)), (1, .int x1), (2, .int x2), (3, .int x3), (4, .int x4)] []) : ∀ (x1 : Int32) (x3 : Int32) (x4 : Int32) (y0 : Int32) (y1 : Int32) (σ : XS), X_leaps_44 k4 k12 x1 x3 x4 y0 y1 σ = some ρ → Go p l e (rmG 0 0 0) s m args below meth c D A 5 (MQ below ((QgI D dA (fun _ : Unit => WX dA G tb ad ρ.2) ρ.1) A) args s 0 0 A) (WX dA G tb ad σ) 0 0 44 [(0, .ref (G 0)), (1, .int x1), (3, .int x3), (4, .int x4)] [.int y0, .int y1] := by
  intro x1 x3 x4 y0 y1 σ h
  unfold X_leaps_44 at h
  refine zg_iadd hO dX1_leaps_44 ?_
  refine zg_istore_n (lv' := [(2, .int (y1 + y0)), (0, .ref (G 0)), (1, .int x1), (3, .int x3), (4, .int x4)]) hO dX1_leaps_45 rfl (Nat.le_of_ble_eq_true rfl) rfl ?_
  refine zg_iinc (k := 4) (lv' := [(4, .int (x4 + (nI 1))), (2, .int (y1 + y0)), (0, .ref (G 0)), (1, .int x1), (3, .int x3)]) hO dX1_leaps_46 rfl (zii ic1) (Nat.le_of_ble_eq_true rfl) rfl ?_
  refine zg_goto (tgt := 12) hO dX1_leaps_49 (by decide) ?_
  exact zg_sub [2, 3, 1, 4, 0] rfl (K12 _ _ _ _ _ h)
set_option maxHeartbeats 4000000 in
theorem w_X_leaps_12 {tb : Nat} {ad : Nat → Nat} (hO : Ok p s m args meth c cX1_leaps RX1 5 D dA A) (hX : XK dA G A s) (hr : meth.sig.returnType = (some .int)) {ρ : Int32 × XS} {k4 : Int32 → Int32 → Int32 → XS → Option (Int32 × XS)} (K4 : ∀ (x1 : Int32) (x2 : Int32) (x3 : Int32) (σ : XS), k4 x1 x2 x3 σ = some ρ → Go p l e (rmG 0 0 0) s m args below meth c D A 5 (MQ below ((QgI D dA (fun _ : Unit => WX dA G tb ad ρ.2) ρ.1) A) args s 0 0 A) (WX dA G tb ad σ) 0 0 4 [(0, .ref (G 0)), (1, .int x1), (2, .int x2), (3, .int x3)] []) : ∀ (n : Nat) (x1 : Int32) (x2 : Int32) (x3 : Int32) (x4 : Int32) (σ : XS), X_leaps_12 k4 n x1 x2 x3 x4 σ = some ρ → Go p l e (rmG 0 0 0) s m args below meth c D A 5 (MQ below ((QgI D dA (fun _ : Unit => WX dA G tb ad ρ.2) ρ.1) A) args s 0 0 A) (WX dA G tb ad σ) 0 0 12 [(0, .ref (G 0)), (1, .int x1), (2, .int x2), (3, .int x3), (4, .int x4)] [] := by
  intro n
  induction n with
  | zero =>
    intro x1 x2 x3 x4 σ h
    rw [X_leaps_12] at h
    cases h
  | succ n ih =>
    intro x1 x2 x3 x4 σ h
    rw [X_leaps_12] at h
    refine zg_iload hO 4 dX1_leaps_12 rfl ?_
    refine zg_iload_n hO 3 dX1_leaps_14 rfl rfl ?_
    refine zg_icmp_ge (tgt := 52) hO h dX1_leaps_15 (by decide) (fun h => ?_) (fun h => ?_)
    · refine zg_iinc (k := 3) (lv' := [(3, .int (x3 + (nI 1))), (0, .ref (G 0)), (1, .int x1), (2, .int x2), (4, .int x4)]) hO dX1_leaps_52 rfl (zii ic1) (Nat.le_of_ble_eq_true rfl) rfl ?_
      refine zg_goto (tgt := 4) hO dX1_leaps_55 (by decide) ?_
      exact zg_sub [1, 2, 3, 0] rfl (K4 _ _ _ _ h)
    · refine zg_iload_n hO 2 dX1_leaps_18 rfl rfl ?_
      refine zg_aload_n hO 0 dX1_leaps_19 rfl rfl ?_
      refine xG_1_59 hO hX dX1_leaps_20 ?_
      refine zg_iload_n hO 1 dX1_leaps_23 rfl rfl ?_
      refine xL_arr hO h dX1_leaps_24 (fun hb1 h => ?_)
      refine zg_iload hO 4 dX1_leaps_25 rfl ?_
      refine xL_line hO hb1 h dX1_leaps_27 (fun h => ?_)
      refine zg_aload_n hO 0 dX1_leaps_28 rfl rfl ?_
      refine xG_1_59 hO hX dX1_leaps_29 ?_
      refine zg_iload_n hO 1 dX1_leaps_32 rfl rfl ?_
      refine xL_arr hO h dX1_leaps_33 (fun hb2 h => ?_)
      refine zg_iload_n hO 3 dX1_leaps_34 rfl rfl ?_
      refine xL_line hO hb2 h dX1_leaps_35 (fun h => ?_)
      refine zg_icmp_le (tgt := 43) hO h dX1_leaps_36 (by decide) (fun h => ?_) (fun h => ?_)
      · refine zg_iconst hO dX1_leaps_43 ic0 ?_
        exact zg_sub [0, 1, 3, 4] rfl (w_X_leaps_44 hO hX hr K4 ih _ _ _ _ _ _ h)
      · refine zg_iconst hO dX1_leaps_39 ic1 ?_
        refine zg_goto (tgt := 44) hO dX1_leaps_40 (by decide) ?_
        exact zg_sub [0, 1, 3, 4] rfl (w_X_leaps_44 hO hX hr K4 ih _ _ _ _ _ _ h)
set_option maxHeartbeats 4000000 in
theorem w_X_leaps_4 {tb : Nat} {ad : Nat → Nat} (hO : Ok p s m args meth c cX1_leaps RX1 5 D dA A) (hX : XK dA G A s) (hr : meth.sig.returnType = (some .int)) {ρ : Int32 × XS} : ∀ (n : Nat) (x1 : Int32) (x2 : Int32) (x3 : Int32) (σ : XS), X_leaps_4 n x1 x2 x3 σ = some ρ → Go p l e (rmG 0 0 0) s m args below meth c D A 5 (MQ below ((QgI D dA (fun _ : Unit => WX dA G tb ad ρ.2) ρ.1) A) args s 0 0 A) (WX dA G tb ad σ) 0 0 4 [(0, .ref (G 0)), (1, .int x1), (2, .int x2), (3, .int x3)] [] := by
  intro n
  induction n with
  | zero =>
    intro x1 x2 x3 σ h
    rw [X_leaps_4] at h
    cases h
  | succ n ih =>
    intro x1 x2 x3 σ h
    rw [X_leaps_4] at h
    refine zg_iload_n hO 3 dX1_leaps_4 rfl rfl ?_
    refine zg_iconst hO dX1_leaps_5 ic4 ?_
    refine zg_icmp_ge (tgt := 58) hO h dX1_leaps_6 (by decide) (fun h => ?_) (fun h => ?_)
    · refine zg_iload_n hO 2 dX1_leaps_58 rfl rfl ?_
      exact zy_iretF hO hr h ⟨Nat.le_refl _, Nat.le_refl _⟩ dX1_leaps_59
    · refine zg_iconst hO dX1_leaps_9 ic0 ?_
      refine zg_istore (lv' := [(4, .int (nI 0)), (0, .ref (G 0)), (1, .int x1), (2, .int x2), (3, .int x3)]) hO dX1_leaps_10 (Nat.le_of_ble_eq_true rfl) rfl ?_
      exact zg_sub [1, 2, 3, 4, 0] rfl (w_X_leaps_12 hO hX hr ih _ _ _ _ _ _ h)
theorem mw_X1_leaps : MwX yX1_leaps cX1_leaps 5 (some .int) RX1 1 := ⟨by decide +kernel, q161, qs2, q85, q162⟩
set_option maxHeartbeats 4000000 in
theorem m_X_leaps (l : Launch) (D : va_G) (dA : Nat → ClassId) (G : Nat → Nat) {x1 : Int32} {σ : XS} (tb : Nat) (ad : Nat → Nat) {ρ : Int32 × XS} (h : X_leaps x1 σ = some ρ) : CtX l yX1_leaps (ws_ yX1_leaps cX1_leaps 5 (some .int)) 0 0 0 D dA G [.ref (G 0), .int x1] (WX dA G tb ad σ) (QgI D dA (fun _ : Unit => WX dA G tb ad ρ.2) ρ.1) := by
  refine zx_start (cc := cX1_leaps) (nL := 5) (ret := (some .int)) (own := RX1) (by decide) rfl rfl (Nat.le_of_ble_eq_true rfl) (fun p e s m args below meth c A hO hX hr _ _ => ?_)
  unfold X_leaps at h
  refine zg_sub (lv' := [(0, .ref (G 0)), (1, .int x1)]) [0, 1] rfl ?_
  refine zg_iconst hO dX1_leaps_0 ic0 ?_
  refine zg_istore_n (lv' := [(2, .int (nI 0)), (0, .ref (G 0)), (1, .int x1)]) hO dX1_leaps_1 rfl (Nat.le_of_ble_eq_true rfl) rfl ?_
  refine zg_iconst hO dX1_leaps_2 ic0 ?_
  refine zg_istore_n (lv' := [(3, .int (nI 0)), (2, .int (nI 0)), (0, .ref (G 0)), (1, .int x1)]) hO dX1_leaps_3 rfl (Nat.le_of_ble_eq_true rfl) rfl ?_
  exact zg_sub [2, 3, 1, 0] rfl (w_X_leaps_4 hO hX hr _ _ _ _ _ h)
theorem mw_X1_lambda_new_4 : MwX yX1_lambda_new_4 cX1_lambda_new_4 3 none RX1 2 := ⟨by decide +kernel, q157, qs1, q85, q158⟩
set_option maxHeartbeats 4000000 in
theorem m_X_lambda_new_4 (l : Launch) (D : va_G) (dA : Nat → ClassId) (G : Nat → Nat) {i1 : Nat} {x2 : Int32} {σ : XS} (tb : Nat) (ad : Nat → Nat) {ρ : XS} (h : X_lambda_new_4 i1 x2 σ = some ρ) : CtX l yX1_lambda_new_4 (ws_ yX1_lambda_new_4 cX1_lambda_new_4 3 none) 1 0 0 D dA G [.ref (G 0), .ref (ad i1), .int x2] (WX dA G tb ad σ) (QgV D dA (fun _ : Unit => WX dA G tb ad ρ)) := by
  refine zx_start (cc := cX1_lambda_new_4) (nL := 3) (ret := none) (own := RX1) (by decide) rfl rfl (Nat.le_of_ble_eq_true rfl) (fun p e s m args below meth c A hO hX hr _ _ => ?_)
  unfold X_lambda_new_4 at h
  refine zg_sub (lv' := [(0, .ref (G 0)), (1, .ref (ad i1)), (2, .int x2)]) [0, 1, 2] rfl ?_
  refine zg_aload_n hO 1 dX1_lambda_new_4_0 rfl rfl ?_
  refine zg_iload_n hO 2 dX1_lambda_new_4_1 rfl rfl ?_
  refine zg_bipush hO dX1_lambda_new_4_2 bc24 ?_
  refine zg_irem hO h dX1_lambda_new_4_4 (fun h => ?_)
  refine zg_i2l hO dX1_lambda_new_4_5 ?_
  refine zg_aload_n hO 0 dX1_lambda_new_4_6 rfl rfl ?_
  refine zg_iload_n hO 2 dX1_lambda_new_4_7 rfl rfl ?_
  refine zg_bipush hO dX1_lambda_new_4_8 bc24 ?_
  refine zg_irem hO h dX1_lambda_new_4_10 (fun h => ?_)
  refine zy_callViF (b := G 0) (As := [.int (x2 - x2 / (nI 24) * (nI 24))]) (rest := [.long ((x2 - x2 / (nI 24) * (nI 24)).toInt64), .ref (ad i1)]) hO hX h (fun q hq => m_X_leaps l D dA G tb ad hq) mw_X1_leaps q159 ⟨Nat.le_of_ble_eq_true rfl, Nat.le_of_ble_eq_true rfl⟩ ⟨Nat.le_refl _, Nat.le_refl _⟩ rfl rfl (Nat.le_of_ble_eq_true rfl) ⟨0, 1, _, _, rfl, rfl, rfl⟩ dX1_lambda_new_4_11 (fun q1 h => ?_)
  refine zg_iconst hO dX1_lambda_new_4_14 ic2 ?_
  refine zg_irem hO h dX1_lambda_new_4_15 (fun h => ?_)
  refine zg_i2l hO dX1_lambda_new_4_16 ?_
  refine zg_chk h (fun hp h => ?_)
  refine zy_callPv (As := [.long ((x2 - x2 / (nI 24) * (nI 24)).toInt64), .long ((q1.1 - q1.1 / (nI 2) * (nI 2)).toInt64)]) (rest := []) hO hX h hp (fun q hq => m_Xp_is l D dA G tb ad hq) mw_X2_isf mw_X2_ist q141 ⟨Nat.le_of_ble_eq_true rfl, Nat.le_of_ble_eq_true rfl⟩ ⟨Nat.le_refl _, Nat.le_refl _⟩ rfl rfl (Nat.le_of_ble_eq_true rfl) dX1_lambda_new_4_17 (fun q2 h => ?_)
  exact zy_vretF hO hr h ⟨Nat.le_refl _, Nat.le_refl _⟩ dX1_lambda_new_4_20
theorem mw_X1_lambda_new_5 : MwS yX1_lambda_new_5 cX1_lambda_new_5 2 none 2 := ⟨by decide +kernel, q163, q85, q164⟩
set_option maxHeartbeats 4000000 in
theorem m_X_lambda_new_5 (l : Launch) (D : va_G) (dA : Nat → ClassId) (G : Nat → Nat) {i0 : Nat} {x1 : Int32} {σ : XS} (tb : Nat) (ad : Nat → Nat) {ρ : XS} (h : X_lambda_new_5 i0 x1 σ = some ρ) : CtX l yX1_lambda_new_5 (ws_ yX1_lambda_new_5 cX1_lambda_new_5 2 none) 1 0 0 D dA G [.ref (ad i0), .int x1] (WX dA G tb ad σ) (QgV D dA (fun _ : Unit => WX dA G tb ad ρ)) := by
  refine zx_start (cc := cX1_lambda_new_5) (nL := 2) (ret := none) (own := RX1) (by decide) rfl rfl (Nat.le_of_ble_eq_true rfl) (fun p e s m args below meth c A hO hX hr _ _ => ?_)
  unfold X_lambda_new_5 at h
  refine zg_sub (lv' := [(0, .ref (ad i0)), (1, .int x1)]) [0, 1] rfl ?_
  refine zg_aload_n hO 0 dX1_lambda_new_5_0 rfl rfl ?_
  refine zg_iload_n hO 1 dX1_lambda_new_5_1 rfl rfl ?_
  refine zg_i2l hO dX1_lambda_new_5_2 ?_
  refine zg_iload_n hO 1 dX1_lambda_new_5_3 rfl rfl ?_
  refine zg_i2l hO dX1_lambda_new_5_4 ?_
  refine zg_chk h (fun hp h => ?_)
  refine zy_callPv (As := [.long (x1.toInt64), .long (x1.toInt64)]) (rest := []) hO hX h hp (fun q hq => m_Xp_is l D dA G tb ad hq) mw_X2_isf mw_X2_ist q141 ⟨Nat.le_of_ble_eq_true rfl, Nat.le_of_ble_eq_true rfl⟩ ⟨Nat.le_refl _, Nat.le_refl _⟩ rfl rfl (Nat.le_of_ble_eq_true rfl) dX1_lambda_new_5_5 (fun q1 h => ?_)
  exact zy_vretF hO hr h ⟨Nat.le_refl _, Nat.le_refl _⟩ dX1_lambda_new_5_8
theorem mw_X1_ofTable : MwX yX1_ofTable cX1_ofTable 3 none RX1 2 := ⟨by decide +kernel, q166, qs3, q85, q167⟩
set_option maxHeartbeats 4000000 in
theorem m_X_ofTable (l : Launch) (D : va_G) (dA : Nat → ClassId) (G : Nat → Nat) {i1 : Nat} {x2 : Int32} {σ : XS} (tb : Nat) (ad : Nat → Nat) {ρ : XS} (h : X_ofTable i1 x2 σ = some ρ) : CtX l yX1_ofTable (ws_ yX1_ofTable cX1_ofTable 3 none) 1 0 0 D dA G [.ref (G 0), .ref (ad i1), .int x2] (WX dA G tb ad σ) (QgV D dA (fun _ : Unit => WX dA G tb ad ρ)) := by
  refine zx_start (cc := cX1_ofTable) (nL := 3) (ret := none) (own := RX1) (by decide) rfl rfl (Nat.le_of_ble_eq_true rfl) (fun p e s m args below meth c A hO hX hr _ _ => ?_)
  unfold X_ofTable at h
  refine zg_sub (lv' := [(0, .ref (G 0)), (1, .ref (ad i1)), (2, .int x2)]) [0, 1, 2] rfl ?_
  refine zg_aload_n hO 1 dX1_ofTable_0 rfl rfl ?_
  refine zg_iload_n hO 2 dX1_ofTable_1 rfl rfl ?_
  refine zg_aload_n hO 0 dX1_ofTable_2 rfl rfl ?_
  refine xG_1_19 hO hX dX1_ofTable_3 ?_
  refine zg_irem hO h dX1_ofTable_6 (fun h => ?_)
  refine zg_i2l hO dX1_ofTable_7 ?_
  refine zg_lconst hO dX1_ofTable_8 lc0 ?_
  refine zg_chk h (fun hp h => ?_)
  refine zy_callPv (As := [.long ((x2 - x2 / (xI σ 1) * (xI σ 1)).toInt64), .long (lN 0)]) (rest := []) hO hX h hp (fun q hq => m_Xp_is l D dA G tb ad hq) mw_X2_isf mw_X2_ist q141 ⟨Nat.le_of_ble_eq_true rfl, Nat.le_of_ble_eq_true rfl⟩ ⟨Nat.le_refl _, Nat.le_refl _⟩ rfl rfl (Nat.le_of_ble_eq_true rfl) dX1_ofTable_9 (fun q1 h => ?_)
  exact zy_vretF hO hr h ⟨Nat.le_refl _, Nat.le_refl _⟩ dX1_ofTable_12
theorem mw_X1_lambda_new_6 : MwS yX1_lambda_new_6 cX1_lambda_new_6 3 none 3 := ⟨by decide +kernel, q170, q85, q171⟩
set_option maxHeartbeats 4000000 in
theorem m_X_lambda_new_6 (l : Launch) (D : va_G) (dA : Nat → ClassId) (G : Nat → Nat) {i0 : Nat} {i1 : Nat} {i2 : Nat} {σ : XS} (tb : Nat) (ad : Nat → Nat) {ρ : XS} (h : X_lambda_new_6 i0 i1 i2 σ = some ρ) : CtX l yX1_lambda_new_6 (ws_ yX1_lambda_new_6 cX1_lambda_new_6 3 none) 1 0 0 D dA G [.ref (ad i0), .ref (ad i1), .ref (ad i2)] (WX dA G tb ad σ) (QgV D dA (fun _ : Unit => WX dA G tb ad ρ)) := by
  refine zx_start (cc := cX1_lambda_new_6) (nL := 3) (ret := none) (own := RX1) (by decide) rfl rfl (Nat.le_of_ble_eq_true rfl) (fun p e s m args below meth c A hO hX hr _ _ => ?_)
  unfold X_lambda_new_6 at h
  refine zg_sub (lv' := [(0, .ref (ad i0)), (1, .ref (ad i1)), (2, .ref (ad i2))]) [0, 1, 2] rfl ?_
  refine zg_aload_n hO 0 dX1_lambda_new_6_0 rfl rfl ?_
  refine zg_aload_n hO 1 dX1_lambda_new_6_1 rfl rfl ?_
  refine xG_1_23 hO hX h dX1_lambda_new_6_2 (fun h => ?_)
  refine zg_aload_n hO 2 dX1_lambda_new_6_5 rfl rfl ?_
  refine xG_1_23 hO hX h dX1_lambda_new_6_6 (fun h => ?_)
  refine zg_ladd hO dX1_lambda_new_6_9 ?_
  refine zg_aload_n hO 1 dX1_lambda_new_6_10 rfl rfl ?_
  refine xG_1_29 hO hX h dX1_lambda_new_6_11 (fun h => ?_)
  refine zg_aload_n hO 2 dX1_lambda_new_6_14 rfl rfl ?_
  refine xG_1_29 hO hX h dX1_lambda_new_6_15 (fun h => ?_)
  refine zg_ladd hO dX1_lambda_new_6_18 ?_
  refine zg_chk h (fun hp h => ?_)
  refine zy_callPv (As := [.long ((rP (xC σ i1)) + (rP (xC σ i2))), .long ((rQ (xC σ i1)) + (rQ (xC σ i2)))]) (rest := []) hO hX h hp (fun q hq => m_Xp_is l D dA G tb ad hq) mw_X2_isf mw_X2_ist q141 ⟨Nat.le_of_ble_eq_true rfl, Nat.le_of_ble_eq_true rfl⟩ ⟨Nat.le_refl _, Nat.le_refl _⟩ rfl rfl (Nat.le_of_ble_eq_true rfl) dX1_lambda_new_6_19 (fun q1 h => ?_)
  exact zy_vretF hO hr h ⟨Nat.le_refl _, Nat.le_refl _⟩ dX1_lambda_new_6_22
theorem mw_X1_lambda_new_7 : MwS yX1_lambda_new_7 cX1_lambda_new_7 3 none 3 := ⟨by decide +kernel, q172, q85, q173⟩
set_option maxHeartbeats 4000000 in
theorem m_X_lambda_new_7 (l : Launch) (D : va_G) (dA : Nat → ClassId) (G : Nat → Nat) {i0 : Nat} {i1 : Nat} {i2 : Nat} {σ : XS} (tb : Nat) (ad : Nat → Nat) {ρ : XS} (h : X_lambda_new_7 i0 i1 i2 σ = some ρ) : CtX l yX1_lambda_new_7 (ws_ yX1_lambda_new_7 cX1_lambda_new_7 3 none) 1 0 0 D dA G [.ref (ad i0), .ref (ad i1), .ref (ad i2)] (WX dA G tb ad σ) (QgV D dA (fun _ : Unit => WX dA G tb ad ρ)) := by
  refine zx_start (cc := cX1_lambda_new_7) (nL := 3) (ret := none) (own := RX1) (by decide) rfl rfl (Nat.le_of_ble_eq_true rfl) (fun p e s m args below meth c A hO hX hr _ _ => ?_)
  unfold X_lambda_new_7 at h
  refine zg_sub (lv' := [(0, .ref (ad i0)), (1, .ref (ad i1)), (2, .ref (ad i2))]) [0, 1, 2] rfl ?_
  refine zg_aload_n hO 0 dX1_lambda_new_7_0 rfl rfl ?_
  refine zg_aload_n hO 1 dX1_lambda_new_7_1 rfl rfl ?_
  refine xG_1_23 hO hX h dX1_lambda_new_7_2 (fun h => ?_)
  refine zg_aload_n hO 2 dX1_lambda_new_7_5 rfl rfl ?_
  refine xG_1_23 hO hX h dX1_lambda_new_7_6 (fun h => ?_)
  refine zs_mminL (rest := [.ref (ad i0)]) hO q174 (Nat.le_of_ble_eq_true rfl) (Nat.le_of_ble_eq_true rfl) ⟨Nat.le_refl _, Nat.le_refl _⟩ dX1_lambda_new_7_9 ?_
  refine zg_aload_n hO 1 dX1_lambda_new_7_12 rfl rfl ?_
  refine xG_1_29 hO hX h dX1_lambda_new_7_13 (fun h => ?_)
  refine zg_aload_n hO 2 dX1_lambda_new_7_16 rfl rfl ?_
  refine xG_1_29 hO hX h dX1_lambda_new_7_17 (fun h => ?_)
  refine zs_mmaxL (rest := [.long (if (rP (xC σ i2)) < (rP (xC σ i1)) then (rP (xC σ i2)) else (rP (xC σ i1))), .ref (ad i0)]) hO q177 (Nat.le_of_ble_eq_true rfl) (Nat.le_of_ble_eq_true rfl) ⟨Nat.le_refl _, Nat.le_refl _⟩ dX1_lambda_new_7_20 ?_
  refine zg_chk h (fun hp h => ?_)
  refine zy_callPv (As := [.long (if (rP (xC σ i2)) < (rP (xC σ i1)) then (rP (xC σ i2)) else (rP (xC σ i1))), .long (if (rQ (xC σ i2)) < (rQ (xC σ i1)) then (rQ (xC σ i1)) else (rQ (xC σ i2)))]) (rest := []) hO hX h hp (fun q hq => m_Xp_is l D dA G tb ad hq) mw_X2_isf mw_X2_ist q141 ⟨Nat.le_of_ble_eq_true rfl, Nat.le_of_ble_eq_true rfl⟩ ⟨Nat.le_refl _, Nat.le_refl _⟩ rfl rfl (Nat.le_of_ble_eq_true rfl) dX1_lambda_new_7_23 (fun q1 h => ?_)
  exact zy_vretF hO hr h ⟨Nat.le_refl _, Nat.le_refl _⟩ dX1_lambda_new_7_26
theorem mw_X1_common : MwS yX1_common cX1_common 4 (some .long) 2 := ⟨by decide +kernel, q183, q85, q184⟩
set_option maxHeartbeats 4000000 in
theorem m_X_common (l : Launch) (D : va_G) (dA : Nat → ClassId) : ∀ (n : Nat) (x0 x2 : Int64) (ρ : Int64), X_common n x0 x2 = some ρ → Ct l yX1_common (ws_ yX1_common cX1_common 4 (some .long)) n 0 0 D dA [.long x0, .long x2] [] A0s (QfL D dA [] ρ) := by
  intro n
  induction n with
  | zero =>
    intro x0 x2 ρ h
    rw [X_common] at h
    cases h
  | succ n ih =>
    intro x0 x2 ρ h
    refine zc_start (cc := cX1_common) (nL := 4) (ret := (some .long)) (own := RX1) (by decide) rfl rfl (Nat.le_of_ble_eq_true rfl) (fun _ _ h => h) (fun p e s m args below meth c hO hr _ _ => ?_)
    rw [X_common] at h
    refine zg_sub (lv' := [(0, .long x0), (2, .long x2)]) [0, 1] rfl ?_
    refine zg_lload_n hO 1 dX1_common_0 rfl rfl ?_
    refine zg_lconst hO dX1_common_1 lc0 ?_
    refine zg_lcmp hO dX1_common_2 ?_
    refine zg_if_ne (tgt := 10) hO h dX1_common_3 (by decide) (fun h => ?_) (fun h => ?_)
    · refine zg_lload_n hO 1 dX1_common_10 rfl rfl ?_
      refine zg_lload_n hO 0 dX1_common_11 rfl rfl ?_
      refine zg_lload_n hO 1 dX1_common_12 rfl rfl ?_
      refine zg_lrem hO h dX1_common_13 (fun h => ?_)
      refine zs_calll (As := [.long x2, .long (x0 - x0 / x2 * x2)]) (rest := []) hO h (fun q hq => ih _ _ _ hq) mw_X1_common q182 ⟨by omega, by omega⟩ ⟨Nat.le_refl _, Nat.le_refl _⟩ rfl rfl (Nat.le_of_ble_eq_true rfl) dX1_common_14 (fun q1 h => ?_)
      exact zs_lret hO hr h dX1_common_17
    · refine zg_lload_n hO 0 dX1_common_6 rfl rfl ?_
      refine zg_goto (tgt := 17) hO dX1_common_7 (by decide) ?_
      exact zs_lret hO hr h dX1_common_17
theorem mw_X1_lambda_new_8 : MwS yX1_lambda_new_8 cX1_lambda_new_8 3 none 3 := ⟨by decide +kernel, q180, q85, q181⟩
set_option maxHeartbeats 4000000 in
theorem m_X_lambda_new_8 (l : Launch) (D : va_G) (dA : Nat → ClassId) (G : Nat → Nat) {i0 : Nat} {i1 : Nat} {i2 : Nat} {σ : XS} (tb : Nat) (ad : Nat → Nat) {ρ : XS} (h : X_lambda_new_8 i0 i1 i2 σ = some ρ) : CtX l yX1_lambda_new_8 (ws_ yX1_lambda_new_8 cX1_lambda_new_8 3 none) 41 0 0 D dA G [.ref (ad i0), .ref (ad i1), .ref (ad i2)] (WX dA G tb ad σ) (QgV D dA (fun _ : Unit => WX dA G tb ad ρ)) := by
  refine zx_start (cc := cX1_lambda_new_8) (nL := 3) (ret := none) (own := RX1) (by decide) rfl rfl (Nat.le_of_ble_eq_true rfl) (fun p e s m args below meth c A hO hX hr _ _ => ?_)
  unfold X_lambda_new_8 at h
  refine zg_sub (lv' := [(0, .ref (ad i0)), (1, .ref (ad i1)), (2, .ref (ad i2))]) [0, 1, 2] rfl ?_
  refine zg_aload_n hO 0 dX1_lambda_new_8_0 rfl rfl ?_
  refine zg_aload_n hO 1 dX1_lambda_new_8_1 rfl rfl ?_
  refine xG_1_23 hO hX h dX1_lambda_new_8_2 (fun h => ?_)
  refine zg_aload_n hO 2 dX1_lambda_new_8_5 rfl rfl ?_
  refine xG_1_23 hO hX h dX1_lambda_new_8_6 (fun h => ?_)
  refine zs_calll (As := [.long (rP (xC σ i1)), .long (rP (xC σ i2))]) (rest := [.ref (ad i0)]) hO h (fun q hq => m_X_common l D dA CD _ _ _ hq) mw_X1_common q182 ⟨Nat.le_of_ble_eq_true rfl, Nat.le_of_ble_eq_true rfl⟩ ⟨Nat.le_refl _, Nat.le_refl _⟩ rfl rfl (Nat.le_of_ble_eq_true rfl) dX1_lambda_new_8_9 (fun q1 h => ?_)
  refine zg_aload_n hO 1 dX1_lambda_new_8_12 rfl rfl ?_
  refine xG_1_29 hO hX h dX1_lambda_new_8_13 (fun h => ?_)
  refine zg_aload_n hO 2 dX1_lambda_new_8_16 rfl rfl ?_
  refine xG_1_29 hO hX h dX1_lambda_new_8_17 (fun h => ?_)
  refine zg_lxor hO dX1_lambda_new_8_20 ?_
  refine zg_chk h (fun hp h => ?_)
  refine zy_callPv (As := [.long q1, .long ((rQ (xC σ i1)) ^^^ (rQ (xC σ i2)))]) (rest := []) hO hX h hp (fun q hq => m_Xp_is l D dA G tb ad hq) mw_X2_isf mw_X2_ist q141 ⟨Nat.le_of_ble_eq_true rfl, Nat.le_of_ble_eq_true rfl⟩ ⟨Nat.le_refl _, Nat.le_refl _⟩ rfl rfl (Nat.le_of_ble_eq_true rfl) dX1_lambda_new_8_21 (fun q2 h => ?_)
  exact zy_vretF hO hr h ⟨Nat.le_refl _, Nat.le_refl _⟩ dX1_lambda_new_8_24
theorem mw_X1_maps : MwX yX1_maps cX1_maps 4 none RX1 3 := ⟨by decide +kernel, q186, qs4, q85, q187⟩
set_option maxHeartbeats 4000000 in
theorem m_X_maps (l : Launch) (D : va_G) (dA : Nat → ClassId) (G : Nat → Nat) {i1 : Nat} {i2 : Nat} {i3 : Nat} {σ : XS} (tb : Nat) (ad : Nat → Nat) {ρ : XS} (h : X_maps i1 i2 i3 σ = some ρ) : CtX l yX1_maps (ws_ yX1_maps cX1_maps 4 none) 1 0 0 D dA G [.ref (G 0), .ref (ad i1), .ref (ad i2), .ref (ad i3)] (WX dA G tb ad σ) (QgV D dA (fun _ : Unit => WX dA G tb ad ρ)) := by
  refine zx_start (cc := cX1_maps) (nL := 4) (ret := none) (own := RX1) (by decide) rfl rfl (Nat.le_of_ble_eq_true rfl) (fun p e s m args below meth c A hO hX hr _ _ => ?_)
  unfold X_maps at h
  refine zg_sub (lv' := [(0, .ref (G 0)), (1, .ref (ad i1)), (2, .ref (ad i2)), (3, .ref (ad i3))]) [0, 1, 2, 3] rfl ?_
  refine zg_aload_n hO 1 dX1_maps_0 rfl rfl ?_
  refine zg_aload_n hO 2 dX1_maps_1 rfl rfl ?_
  refine xG_1_23 hO hX h dX1_maps_2 (fun h => ?_)
  refine zg_aload_n hO 3 dX1_maps_5 rfl rfl ?_
  refine xG_1_23 hO hX h dX1_maps_6 (fun h => ?_)
  refine zg_lmul hO dX1_maps_9 ?_
  refine zg_ldc2 (x := 101) hO q188 dX1_maps_10 ?_
  refine zg_lrem hO h dX1_maps_13 (fun h => ?_)
  refine zg_aload_n hO 3 dX1_maps_14 rfl rfl ?_
  refine xG_1_23 hO hX h dX1_maps_15 (fun h => ?_)
  refine zg_aload_n hO 2 dX1_maps_18 rfl rfl ?_
  refine xG_1_29 hO hX h dX1_maps_19 (fun h => ?_)
  refine zg_lmul hO dX1_maps_22 ?_
  refine zg_aload_n hO 3 dX1_maps_23 rfl rfl ?_
  refine xG_1_29 hO hX h dX1_maps_24 (fun h => ?_)
  refine zg_ladd hO dX1_maps_27 ?_
  refine zg_ldc2 (x := 101) hO q188 dX1_maps_28 ?_
  refine zg_lrem hO h dX1_maps_31 (fun h => ?_)
  refine zg_chk h (fun hp h => ?_)
  refine zy_callPv (As := [.long (((rP (xC σ i2)) * (rP (xC σ i3))) - ((rP (xC σ i2)) * (rP (xC σ i3))) / (101 : Int64) * (101 : Int64)), .long ((((rP (xC σ i3)) * (rQ (xC σ i2))) + (rQ (xC σ i3))) - (((rP (xC σ i3)) * (rQ (xC σ i2))) + (rQ (xC σ i3))) / (101 : Int64) * (101 : Int64))]) (rest := []) hO hX h hp (fun q hq => m_Xp_is l D dA G tb ad hq) mw_X2_isf mw_X2_ist q141 ⟨Nat.le_of_ble_eq_true rfl, Nat.le_of_ble_eq_true rfl⟩ ⟨Nat.le_refl _, Nat.le_refl _⟩ rfl rfl (Nat.le_of_ble_eq_true rfl) dX1_maps_32 (fun q1 h => ?_)
  exact zy_vretF hO hr h ⟨Nat.le_refl _, Nat.le_refl _⟩ dX1_maps_35
theorem mw_X1_brackets : MwX yX1_brackets cX1_brackets 6 none RX1 3 := ⟨by decide +kernel, q190, qs5, q85, q191⟩
set_option maxHeartbeats 4000000 in
theorem m_X_brackets (l : Launch) (D : va_G) (dA : Nat → ClassId) (G : Nat → Nat) {i1 : Nat} {i2 : Nat} {i3 : Nat} {σ : XS} (tb : Nat) (ad : Nat → Nat) {ρ : XS} (h : X_brackets i1 i2 i3 σ = some ρ) : CtX l yX1_brackets (ws_ yX1_brackets cX1_brackets 6 none) 1 0 0 D dA G [.ref (G 0), .ref (ad i1), .ref (ad i2), .ref (ad i3)] (WX dA G tb ad σ) (QgV D dA (fun _ : Unit => WX dA G tb ad ρ)) := by
  refine zx_start (cc := cX1_brackets) (nL := 6) (ret := none) (own := RX1) (by decide) rfl rfl (Nat.le_of_ble_eq_true rfl) (fun p e s m args below meth c A hO hX hr _ _ => ?_)
  unfold X_brackets at h
  refine zg_sub (lv' := [(0, .ref (G 0)), (1, .ref (ad i1)), (2, .ref (ad i2)), (3, .ref (ad i3))]) [0, 1, 2, 3] rfl ?_
  refine zg_aload_n hO 2 dX1_brackets_0 rfl rfl ?_
  refine xG_1_29 hO hX h dX1_brackets_1 (fun h => ?_)
  refine zg_aload_n hO 3 dX1_brackets_4 rfl rfl ?_
  refine xG_1_23 hO hX h dX1_brackets_5 (fun h => ?_)
  refine zs_mminL (rest := []) hO q174 (Nat.le_of_ble_eq_true rfl) (Nat.le_of_ble_eq_true rfl) ⟨Nat.le_refl _, Nat.le_refl _⟩ dX1_brackets_8 ?_
  refine zg_lstore (lv' := [(4, .long (if (rP (xC σ i3)) < (rQ (xC σ i2)) then (rP (xC σ i3)) else (rQ (xC σ i2)))), (0, .ref (G 0)), (1, .ref (ad i1)), (2, .ref (ad i2)), (3, .ref (ad i3))]) hO dX1_brackets_11 (Nat.le_of_ble_eq_true rfl) rfl ?_
  refine zg_aload_n hO 2 dX1_brackets_13 rfl rfl ?_
  refine zg_aload_n hO 3 dX1_brackets_14 rfl rfl ?_
  refine xG_1_23 hO hX h dX1_brackets_15 (fun h => ?_)
  refine zg_aload_n hO 4 dX1_brackets_18 rfl rfl ?_
  refine xG_1_23 hO hX h dX1_brackets_19 (fun h => ?_)
  refine zg_ladd hO dX1_brackets_22 ?_
  refine zg_lload hO 0 dX1_brackets_23 rfl ?_
  refine zg_lsub hO dX1_brackets_25 ?_
  refine zg_aload_n hO 3 dX1_brackets_26 rfl rfl ?_
  refine xG_1_29 hO hX h dX1_brackets_27 (fun h => ?_)
  refine zg_aload_n hO 4 dX1_brackets_30 rfl rfl ?_
  refine xG_1_29 hO hX h dX1_brackets_31 (fun h => ?_)
  refine zg_ladd hO dX1_brackets_34 ?_
  refine zg_lload hO 0 dX1_brackets_35 rfl ?_
  refine zg_lsub hO dX1_brackets_37 ?_
  refine zg_chk h (fun hp h => ?_)
  refine zy_callPv (As := [.long (((rP (xC σ i2)) + (rP (xC σ i3))) - (if (rP (xC σ i3)) < (rQ (xC σ i2)) then (rP (xC σ i3)) else (rQ (xC σ i2)))), .long (((rQ (xC σ i2)) + (rQ (xC σ i3))) - (if (rP (xC σ i3)) < (rQ (xC σ i2)) then (rP (xC σ i3)) else (rQ (xC σ i2))))]) (rest := []) hO hX h hp (fun q hq => m_Xp_is l D dA G tb ad hq) mw_X2_isf mw_X2_ist q141 ⟨Nat.le_of_ble_eq_true rfl, Nat.le_of_ble_eq_true rfl⟩ ⟨Nat.le_refl _, Nat.le_refl _⟩ rfl rfl (Nat.le_of_ble_eq_true rfl) dX1_brackets_38 (fun q1 h => ?_)
  exact zy_vretF hO hr h ⟨Nat.le_refl _, Nat.le_refl _⟩ dX1_brackets_41
set_option maxHeartbeats 4000000 in
theorem w_X_areLikeRows_2 {tb : Nat} {ad : Nat → Nat} (hO : Ok p s m args meth c cX1_areLikeRows RX1 4 D dA A) (hX : XK dA G A s) (hr : meth.sig.returnType = (some .boolean)) {ρ : Int32 × XS} : ∀ (n : Nat) (i0 : Nat) (x2 : Int32) (x3 : Int32) (σ : XS) (hi0 : i0 < 24), X_areLikeRows_2 n i0 x2 x3 σ = some ρ → Go p l e (rmG 0 0 0) s m args below meth c D A 4 (MQ below ((QgI D dA (fun _ : Unit => WX dA G tb ad ρ.2) ρ.1) A) args s 0 0 A) (WX dA G tb ad σ) 0 0 2 [(0, .ref (G (20 + i0))), (1, .ref (G 44)), (2, .int x2), (3, .int x3)] [] := by
  intro n
  induction n with
  | zero =>
    intro i0 x2 x3 σ hi0 h
    rw [X_areLikeRows_2] at h
    cases h
  | succ n ih =>
    intro i0 x2 x3 σ hi0 h
    rw [X_areLikeRows_2] at h
    refine zg_iload_n hO 3 dX1_areLikeRows_2 rfl rfl ?_
    refine zg_iload_n hO 2 dX1_areLikeRows_3 rfl rfl ?_
    refine zg_icmp_ge (tgt := 24) hO h dX1_areLikeRows_4 (by decide) (fun h => ?_) (fun h => ?_)
    · refine zg_iconst hO dX1_areLikeRows_24 ic1 ?_
      exact zy_zretF hO hr (Or.inr (by decide)) h ⟨Nat.le_refl _, Nat.le_refl _⟩ dX1_areLikeRows_25
    · refine zg_aload_n hO 0 dX1_areLikeRows_7 rfl rfl ?_
      refine zg_iload_n hO 3 dX1_areLikeRows_8 rfl rfl ?_
      refine xL_line hO hi0 h dX1_areLikeRows_9 (fun h => ?_)
      refine zg_aload_n hO 1 dX1_areLikeRows_10 rfl rfl ?_
      refine zg_iload_n hO 3 dX1_areLikeRows_11 rfl rfl ?_
      refine xL_placed hO h dX1_areLikeRows_12 (fun h => ?_)
      refine zg_icmp_eq (tgt := 18) hO h dX1_areLikeRows_13 (by decide) (fun h => ?_) (fun h => ?_)
      · refine zg_iinc (k := 3) (lv' := [(3, .int (x3 + (nI 1))), (0, .ref (G (20 + i0))), (1, .ref (G 44)), (2, .int x2)]) hO dX1_areLikeRows_18 rfl (zii ic1) (Nat.le_of_ble_eq_true rfl) rfl ?_
        refine zg_goto (tgt := 2) hO dX1_areLikeRows_21 (by decide) ?_
        exact zg_sub [1, 2, 3, 0] rfl (ih _ _ _ _ hi0 h)
      · refine zg_iconst hO dX1_areLikeRows_16 ic0 ?_
        exact zy_zretF hO hr (Or.inl (by decide)) h ⟨Nat.le_refl _, Nat.le_refl _⟩ dX1_areLikeRows_17
theorem mw_X1_areLikeRows : MwS yX1_areLikeRows cX1_areLikeRows 4 (some .boolean) 3 := ⟨by decide +kernel, q200, q85, q201⟩
set_option maxHeartbeats 4000000 in
theorem m_X_areLikeRows (l : Launch) (D : va_G) (dA : Nat → ClassId) (G : Nat → Nat) {i0 : Nat} {x2 : Int32} {σ : XS} (hi0 : i0 < 24) (tb : Nat) (ad : Nat → Nat) {ρ : Int32 × XS} (h : X_areLikeRows i0 x2 σ = some ρ) : CtX l yX1_areLikeRows (ws_ yX1_areLikeRows cX1_areLikeRows 4 (some .boolean)) 0 0 0 D dA G [.ref (G (20 + i0)), .ref (G 44), .int x2] (WX dA G tb ad σ) (QgI D dA (fun _ : Unit => WX dA G tb ad ρ.2) ρ.1) := by
  refine zx_start (cc := cX1_areLikeRows) (nL := 4) (ret := (some .boolean)) (own := RX1) (by decide) rfl rfl (Nat.le_of_ble_eq_true rfl) (fun p e s m args below meth c A hO hX hr _ _ => ?_)
  unfold X_areLikeRows at h
  refine zg_sub (lv' := [(0, .ref (G (20 + i0))), (1, .ref (G 44)), (2, .int x2)]) [0, 1, 2] rfl ?_
  refine zg_iconst hO dX1_areLikeRows_0 ic0 ?_
  refine zg_istore_n (lv' := [(3, .int (nI 0)), (0, .ref (G (20 + i0))), (1, .ref (G 44)), (2, .int x2)]) hO dX1_areLikeRows_1 rfl (Nat.le_of_ble_eq_true rfl) rfl ?_
  exact zg_sub [1, 2, 3, 0] rfl (w_X_areLikeRows_2 hO hX hr _ _ _ _ _ hi0 h)
set_option maxHeartbeats 4000000 in
theorem w_X_numberOf_30 {tb : Nat} {ad : Nat → Nat} (hO : Ok p s m args meth c cX1_numberOf RX1 3 D dA A) (hX : XK dA G A s) (hr : meth.sig.returnType = (some .int)) {ρ : Int32 × XS} {k2 : Int32 → XS → Option (Int32 × XS)} (K2 : ∀ (x2 : Int32) (σ : XS), k2 x2 σ = some ρ → Go p l e (rmG 1 0 0) s m args below meth c D A 3 (MQ below ((QgI D dA (fun _ : Unit => WX dA G tb ad ρ.2) ρ.1) A) args s 0 0 A) (WX dA G tb ad σ) 0 0 2 [(0, .ref (G 0)), (1, .ref (G 44)), (2, .int x2)] []) : ∀ (x2 : Int32) (σ : XS), X_numberOf_30 k2 x2 σ = some ρ → Go p l e (rmG 1 0 0) s m args below meth c D A 3 (MQ below ((QgI D dA (fun _ : Unit => WX dA G tb ad ρ.2) ρ.1) A) args s 0 0 A) (WX dA G tb ad σ) 0 0 30 [(0, .ref (G 0)), (1, .ref (G 44)), (2, .int x2)] [] := by
  intro x2 σ h
  unfold X_numberOf_30 at h
  refine zg_iinc (k := 2) (lv' := [(2, .int (x2 + (nI 1))), (0, .ref (G 0)), (1, .ref (G 44))]) hO dX1_numberOf_30 rfl (zii ic1) (Nat.le_of_ble_eq_true rfl) rfl ?_
  refine zg_goto (tgt := 2) hO dX1_numberOf_33 (by decide) ?_
  exact zg_sub [1, 2, 0] rfl (K2 _ _ h)
set_option maxHeartbeats 4000000 in
theorem w_X_numberOf_2 {tb : Nat} {ad : Nat → Nat} (hO : Ok p s m args meth c cX1_numberOf RX1 3 D dA A) (hX : XK dA G A s) (hr : meth.sig.returnType = (some .int)) {ρ : Int32 × XS} : ∀ (n : Nat) (x2 : Int32) (σ : XS), X_numberOf_2 n x2 σ = some ρ → Go p l e (rmG 1 0 0) s m args below meth c D A 3 (MQ below ((QgI D dA (fun _ : Unit => WX dA G tb ad ρ.2) ρ.1) A) args s 0 0 A) (WX dA G tb ad σ) 0 0 2 [(0, .ref (G 0)), (1, .ref (G 44)), (2, .int x2)] [] := by
  intro n
  induction n with
  | zero =>
    intro x2 σ h
    rw [X_numberOf_2] at h
    cases h
  | succ n ih =>
    intro x2 σ h
    rw [X_numberOf_2] at h
    refine zg_iload_n hO 2 dX1_numberOf_2 rfl rfl ?_
    refine zg_bipush hO dX1_numberOf_3 bc24 ?_
    refine zg_icmp_ge (tgt := 36) hO h dX1_numberOf_5 (by decide) (fun h => ?_) (fun h => ?_)
    · refine zg_iconst hO dX1_numberOf_36 icm1 ?_
      exact zy_iretF hO hr h ⟨Nat.le_refl _, Nat.le_refl _⟩ dX1_numberOf_37
    · refine zg_aload_n hO 1 dX1_numberOf_8 rfl rfl ?_
      refine zg_alen (y := nI 4) (t0 := 0) (ty := .int) hO 36 rfl rfl rfl dX1_numberOf_9 ?_
      refine zg_iconst hO dX1_numberOf_10 ic4 ?_
      refine zg_icmp_ne (tgt := 30) hO h dX1_numberOf_11 (by decide) (fun h => ?_) (fun h => ?_)
      · exact zg_sub [0, 1, 2] rfl (w_X_numberOf_30 hO hX hr ih _ _ h)
      · refine zg_aload_n hO 0 dX1_numberOf_14 rfl rfl ?_
        refine xG_1_59 hO hX dX1_numberOf_15 ?_
        refine zg_iload_n hO 2 dX1_numberOf_18 rfl rfl ?_
        refine xL_arr hO h dX1_numberOf_19 (fun hb1 h => ?_)
        refine zg_aload_n hO 1 dX1_numberOf_20 rfl rfl ?_
        refine zg_iconst hO dX1_numberOf_21 ic4 ?_
        refine zy_callSiF (As := [.ref (G (20 + x2.toNatClampNeg)), .ref (G 44), .int (nI 4)]) (rest := []) hO hX h (fun q hq => m_X_areLikeRows l D dA G hb1 tb ad hq) mw_X1_areLikeRows q199 ⟨Nat.le_of_ble_eq_true rfl, Nat.le_of_ble_eq_true rfl⟩ ⟨Nat.le_refl _, Nat.le_refl _⟩ rfl rfl (Nat.le_of_ble_eq_true rfl) dX1_numberOf_22 (fun q2 h => ?_)
        refine zg_if_eq (tgt := 30) hO h dX1_numberOf_25 (by decide) (fun h => ?_) (fun h => ?_)
        · exact zg_sub [0, 1, 2] rfl (w_X_numberOf_30 hO hX hr ih _ _ h)
        · refine zg_iload_n hO 2 dX1_numberOf_28 rfl rfl ?_
          exact zy_iretF hO hr h ⟨Nat.le_refl _, Nat.le_refl _⟩ dX1_numberOf_29
theorem mw_X1_numberOf : MwX yX1_numberOf cX1_numberOf 3 (some .int) RX1 1 := ⟨by decide +kernel, q197, qs7, q85, q198⟩
set_option maxHeartbeats 4000000 in
theorem m_X_numberOf (l : Launch) (D : va_G) (dA : Nat → ClassId) (G : Nat → Nat) {σ : XS} (tb : Nat) (ad : Nat → Nat) {ρ : Int32 × XS} (h : X_numberOf σ = some ρ) : CtX l yX1_numberOf (ws_ yX1_numberOf cX1_numberOf 3 (some .int)) 1 0 0 D dA G [.ref (G 0), .ref (G 44)] (WX dA G tb ad σ) (QgI D dA (fun _ : Unit => WX dA G tb ad ρ.2) ρ.1) := by
  refine zx_start (cc := cX1_numberOf) (nL := 3) (ret := (some .int)) (own := RX1) (by decide) rfl rfl (Nat.le_of_ble_eq_true rfl) (fun p e s m args below meth c A hO hX hr _ _ => ?_)
  unfold X_numberOf at h
  refine zg_sub (lv' := [(0, .ref (G 0)), (1, .ref (G 44))]) [0, 1] rfl ?_
  refine zg_iconst hO dX1_numberOf_0 ic0 ?_
  refine zg_istore_n (lv' := [(2, .int (nI 0)), (0, .ref (G 0)), (1, .ref (G 44))]) hO dX1_numberOf_1 rfl (Nat.le_of_ble_eq_true rfl) rfl ?_
  exact zg_sub [1, 2, 0] rfl (w_X_numberOf_2 hO hX hr _ _ _ h)
set_option maxHeartbeats 4000000 in
theorem w_X_arranged_3 {tb : Nat} {ad : Nat → Nat} (hO : Ok p s m args meth c cX1_arranged RX1 5 D dA A) (hX : XK dA G A s) (hr : meth.sig.returnType = none) {ρ : XS} : ∀ (n : Nat) (i1 : Nat) (i2 : Nat) (i3 : Nat) (x4 : Int32) (σ : XS), X_arranged_3 n i1 i2 i3 x4 σ = some ρ → Go p l e (rmG 2 0 0) s m args below meth c D A 5 (MQ below ((QgV D dA (fun _ : Unit => WX dA G tb ad ρ)) A) args s 0 0 A) (WX dA G tb ad σ) 0 0 3 [(0, .ref (G 0)), (1, .ref (ad i1)), (2, .ref (ad i2)), (3, .ref (ad i3)), (4, .int x4)] [] := by
  intro n
  induction n with
  | zero =>
    intro i1 i2 i3 x4 σ h
    rw [X_arranged_3] at h
    cases h
  | succ n ih =>
    intro i1 i2 i3 x4 σ h
    rw [X_arranged_3] at h
    refine zg_iload hO 4 dX1_arranged_3 rfl ?_
    refine zg_iconst hO dX1_arranged_5 ic4 ?_
    refine zg_icmp_ge (tgt := 46) hO h dX1_arranged_6 (by decide) (fun h => ?_) (fun h => ?_)
    · refine zg_aload_n hO 1 dX1_arranged_46 rfl rfl ?_
      refine zg_aload_n hO 0 dX1_arranged_47 rfl rfl ?_
      refine zg_aload_n hO 0 dX1_arranged_48 rfl rfl ?_
      refine xG_1_79 hO hX dX1_arranged_49 ?_
      refine zy_callViF (b := G 0) (As := [.ref (G 44)]) (rest := [.ref (ad i1)]) hO hX h (fun q hq => m_X_numberOf l D dA G tb ad hq) mw_X1_numberOf q195 ⟨Nat.le_of_ble_eq_true rfl, Nat.le_of_ble_eq_true rfl⟩ ⟨Nat.le_refl _, Nat.le_refl _⟩ rfl rfl (Nat.le_of_ble_eq_true rfl) ⟨0, 1, _, _, rfl, rfl, rfl⟩ dX1_arranged_52 (fun q1 h => ?_)
      refine zg_i2l hO dX1_arranged_55 ?_
      refine zg_aload_n hO 2 dX1_arranged_56 rfl rfl ?_
      refine xG_1_29 hO hX h dX1_arranged_57 (fun h => ?_)
      refine zg_aload_n hO 3 dX1_arranged_60 rfl rfl ?_
      refine xG_1_29 hO hX h dX1_arranged_61 (fun h => ?_)
      refine zg_ladd hO dX1_arranged_64 ?_
      refine zg_ldc2 (x := 2) hO q202 dX1_arranged_65 ?_
      refine zg_lrem hO h dX1_arranged_68 (fun h => ?_)
      refine zg_chk h (fun hp h => ?_)
      refine zy_callPv (As := [.long (q1.1.toInt64), .long (((rQ (xC q1.2 i2)) + (rQ (xC q1.2 i3))) - ((rQ (xC q1.2 i2)) + (rQ (xC q1.2 i3))) / (2 : Int64) * (2 : Int64))]) (rest := []) hO hX h hp (fun q hq => m_Xp_is l D dA G tb ad hq) mw_X2_isf mw_X2_ist q141 ⟨Nat.le_of_ble_eq_true rfl, Nat.le_of_ble_eq_true rfl⟩ ⟨Nat.le_refl _, Nat.le_refl _⟩ rfl rfl (Nat.le_of_ble_eq_true rfl) dX1_arranged_69 (fun q2 h => ?_)
      exact zy_vretF hO hr h ⟨Nat.le_refl _, Nat.le_refl _⟩ dX1_arranged_72
    · refine zg_aload_n hO 0 dX1_arranged_9 rfl rfl ?_
      refine xG_1_79 hO hX dX1_arranged_10 ?_
      refine zg_iload hO 4 dX1_arranged_13 rfl ?_
      refine zg_aload_n hO 0 dX1_arranged_15 rfl rfl ?_
      refine xG_1_59 hO hX dX1_arranged_16 ?_
      refine zg_aload_n hO 3 dX1_arranged_19 rfl rfl ?_
      refine xG_1_23 hO hX h dX1_arranged_20 (fun h => ?_)
      refine zg_l2i hO dX1_arranged_23 ?_
      refine xL_arr hO h dX1_arranged_24 (fun hb3 h => ?_)
      refine zg_aload_n hO 0 dX1_arranged_25 rfl rfl ?_
      refine xG_1_59 hO hX dX1_arranged_26 ?_
      refine zg_aload_n hO 2 dX1_arranged_29 rfl rfl ?_
      refine xG_1_23 hO hX h dX1_arranged_30 (fun h => ?_)
      refine zg_l2i hO dX1_arranged_33 ?_
      refine xL_arr hO h dX1_arranged_34 (fun hb4 h => ?_)
      refine zg_iload hO 4 dX1_arranged_35 rfl ?_
      refine xL_line hO hb4 h dX1_arranged_37 (fun h => ?_)
      refine xL_line hO hb3 h dX1_arranged_38 (fun h => ?_)
      refine xS_placed hO h dX1_arranged_39 (fun h => ?_)
      refine zg_iinc (k := 4) (lv' := [(4, .int (x4 + (nI 1))), (0, .ref (G 0)), (1, .ref (ad i1)), (2, .ref (ad i2)), (3, .ref (ad i3))]) hO dX1_arranged_40 rfl (zii ic1) (Nat.le_of_ble_eq_true rfl) rfl ?_
      refine zg_goto (tgt := 3) hO dX1_arranged_43 (by decide) ?_
      exact zg_sub [1, 2, 3, 4, 0] rfl (ih _ _ _ _ _ h)
theorem mw_X1_arranged : MwX yX1_arranged cX1_arranged 5 none RX1 3 := ⟨by decide +kernel, q193, qs6, q85, q194⟩
set_option maxHeartbeats 4000000 in
theorem m_X_arranged (l : Launch) (D : va_G) (dA : Nat → ClassId) (G : Nat → Nat) {i1 : Nat} {i2 : Nat} {i3 : Nat} {σ : XS} (tb : Nat) (ad : Nat → Nat) {ρ : XS} (h : X_arranged i1 i2 i3 σ = some ρ) : CtX l yX1_arranged (ws_ yX1_arranged cX1_arranged 5 none) 2 0 0 D dA G [.ref (G 0), .ref (ad i1), .ref (ad i2), .ref (ad i3)] (WX dA G tb ad σ) (QgV D dA (fun _ : Unit => WX dA G tb ad ρ)) := by
  refine zx_start (cc := cX1_arranged) (nL := 5) (ret := none) (own := RX1) (by decide) rfl rfl (Nat.le_of_ble_eq_true rfl) (fun p e s m args below meth c A hO hX hr _ _ => ?_)
  unfold X_arranged at h
  refine zg_sub (lv' := [(0, .ref (G 0)), (1, .ref (ad i1)), (2, .ref (ad i2)), (3, .ref (ad i3))]) [0, 1, 2, 3] rfl ?_
  refine zg_iconst hO dX1_arranged_0 ic0 ?_
  refine zg_istore (lv' := [(4, .int (nI 0)), (0, .ref (G 0)), (1, .ref (ad i1)), (2, .ref (ad i2)), (3, .ref (ad i3))]) hO dX1_arranged_1 (Nat.le_of_ble_eq_true rfl) rfl ?_
  exact zg_sub [1, 2, 3, 4, 0] rfl (w_X_arranged_3 hO hX hr _ _ _ _ _ _ h)
theorem mw_X1_ends : MwX yX1_ends cX1_ends 4 none RX1 3 := ⟨by decide +kernel, q204, qs8, q85, q205⟩
set_option maxHeartbeats 4000000 in
theorem m_X_ends (l : Launch) (D : va_G) (dA : Nat → ClassId) (G : Nat → Nat) {i1 : Nat} {i2 : Nat} {i3 : Nat} {σ : XS} (tb : Nat) (ad : Nat → Nat) {ρ : XS} (h : X_ends i1 i2 i3 σ = some ρ) : CtX l yX1_ends (ws_ yX1_ends cX1_ends 4 none) 1 0 0 D dA G [.ref (G 0), .ref (ad i1), .ref (ad i2), .ref (ad i3)] (WX dA G tb ad σ) (QgV D dA (fun _ : Unit => WX dA G tb ad ρ)) := by
  refine zx_start (cc := cX1_ends) (nL := 4) (ret := none) (own := RX1) (by decide) rfl rfl (Nat.le_of_ble_eq_true rfl) (fun p e s m args below meth c A hO hX hr _ _ => ?_)
  unfold X_ends at h
  refine zg_sub (lv' := [(0, .ref (G 0)), (1, .ref (ad i1)), (2, .ref (ad i2)), (3, .ref (ad i3))]) [0, 1, 2, 3] rfl ?_
  refine zg_aload_n hO 2 dX1_ends_0 rfl rfl ?_
  refine xG_1_23 hO hX h dX1_ends_1 (fun h => ?_)
  refine zg_lconst hO dX1_ends_4 lc0 ?_
  refine zg_lcmp hO dX1_ends_5 ?_
  refine zg_if_ge (tgt := 24) hO h dX1_ends_6 (by decide) (fun h => ?_) (fun h => ?_)
  · refine zg_aload_n hO 3 dX1_ends_24 rfl rfl ?_
    refine xG_1_23 hO hX h dX1_ends_25 (fun h => ?_)
    refine zg_lconst hO dX1_ends_28 lc0 ?_
    refine zg_lcmp hO dX1_ends_29 ?_
    refine zg_if_ge (tgt := 48) hO h dX1_ends_30 (by decide) (fun h => ?_) (fun h => ?_)
    · refine zg_aload_n hO 1 dX1_ends_48 rfl rfl ?_
      refine zg_aload_n hO 2 dX1_ends_49 rfl rfl ?_
      refine xG_1_23 hO hX h dX1_ends_50 (fun h => ?_)
      refine zg_aload_n hO 3 dX1_ends_53 rfl rfl ?_
      refine xG_1_29 hO hX h dX1_ends_54 (fun h => ?_)
      refine zg_chk h (fun hp h => ?_)
      refine zy_callPv (As := [.long (rP (xC σ i2)), .long (rQ (xC σ i3))]) (rest := []) hO hX h hp (fun q hq => m_Xp_is l D dA G tb ad hq) mw_X2_isf mw_X2_ist q141 ⟨Nat.le_of_ble_eq_true rfl, Nat.le_of_ble_eq_true rfl⟩ ⟨Nat.le_refl _, Nat.le_refl _⟩ rfl rfl (Nat.le_of_ble_eq_true rfl) dX1_ends_57 (fun q1 h => ?_)
      exact zy_vretF hO hr h ⟨Nat.le_refl _, Nat.le_refl _⟩ dX1_ends_60
    · refine zg_aload_n hO 1 dX1_ends_33 rfl rfl ?_
      refine zg_aload_n hO 2 dX1_ends_34 rfl rfl ?_
      refine xG_1_23 hO hX h dX1_ends_35 (fun h => ?_)
      refine zg_aload_n hO 2 dX1_ends_38 rfl rfl ?_
      refine xG_1_29 hO hX h dX1_ends_39 (fun h => ?_)
      refine zg_chk h (fun hp h => ?_)
      refine zy_callPv (As := [.long (rP (xC σ i2)), .long (rQ (xC σ i2))]) (rest := []) hO hX h hp (fun q hq => m_Xp_is l D dA G tb ad hq) mw_X2_isf mw_X2_ist q141 ⟨Nat.le_of_ble_eq_true rfl, Nat.le_of_ble_eq_true rfl⟩ ⟨Nat.le_refl _, Nat.le_refl _⟩ rfl rfl (Nat.le_of_ble_eq_true rfl) dX1_ends_42 (fun q2 h => ?_)
      refine zg_goto (tgt := 60) hO dX1_ends_45 (by decide) ?_
      exact zy_vretF hO hr h ⟨Nat.le_refl _, Nat.le_refl _⟩ dX1_ends_60
  · refine zg_aload_n hO 1 dX1_ends_9 rfl rfl ?_
    refine zg_aload_n hO 3 dX1_ends_10 rfl rfl ?_
    refine xG_1_23 hO hX h dX1_ends_11 (fun h => ?_)
    refine zg_aload_n hO 3 dX1_ends_14 rfl rfl ?_
    refine xG_1_29 hO hX h dX1_ends_15 (fun h => ?_)
    refine zg_chk h (fun hp h => ?_)
    refine zy_callPv (As := [.long (rP (xC σ i3)), .long (rQ (xC σ i3))]) (rest := []) hO hX h hp (fun q hq => m_Xp_is l D dA G tb ad hq) mw_X2_isf mw_X2_ist q141 ⟨Nat.le_of_ble_eq_true rfl, Nat.le_of_ble_eq_true rfl⟩ ⟨Nat.le_refl _, Nat.le_refl _⟩ rfl rfl (Nat.le_of_ble_eq_true rfl) dX1_ends_18 (fun q3 h => ?_)
    refine zg_goto (tgt := 60) hO dX1_ends_21 (by decide) ?_
    exact zy_vretF hO hr h ⟨Nat.le_refl _, Nat.le_refl _⟩ dX1_ends_60
theorem mw_X1_byTable : MwX yX1_byTable cX1_byTable 4 none RX1 3 := ⟨by decide +kernel, q207, qs9, q85, q208⟩
set_option maxHeartbeats 4000000 in
theorem m_X_byTable (l : Launch) (D : va_G) (dA : Nat → ClassId) (G : Nat → Nat) {i1 : Nat} {i2 : Nat} {i3 : Nat} {σ : XS} (tb : Nat) (ad : Nat → Nat) {ρ : XS} (h : X_byTable i1 i2 i3 σ = some ρ) : CtX l yX1_byTable (ws_ yX1_byTable cX1_byTable 4 none) 1 0 0 D dA G [.ref (G 0), .ref (ad i1), .ref (ad i2), .ref (ad i3)] (WX dA G tb ad σ) (QgV D dA (fun _ : Unit => WX dA G tb ad ρ)) := by
  refine zx_start (cc := cX1_byTable) (nL := 4) (ret := none) (own := RX1) (by decide) rfl rfl (Nat.le_of_ble_eq_true rfl) (fun p e s m args below meth c A hO hX hr _ _ => ?_)
  unfold X_byTable at h
  refine zg_sub (lv' := [(0, .ref (G 0)), (1, .ref (ad i1)), (2, .ref (ad i2)), (3, .ref (ad i3))]) [0, 1, 2, 3] rfl ?_
  refine zg_aload_n hO 1 dX1_byTable_0 rfl rfl ?_
  refine zg_aload_n hO 0 dX1_byTable_1 rfl rfl ?_
  refine xG_1_37 hO hX dX1_byTable_2 ?_
  refine zg_iconst hO dX1_byTable_5 ic5 ?_
  refine zg_aload_n hO 2 dX1_byTable_6 rfl rfl ?_
  refine xG_1_23 hO hX h dX1_byTable_7 (fun h => ?_)
  refine zg_l2i hO dX1_byTable_10 ?_
  refine zg_imul hO dX1_byTable_11 ?_
  refine zg_aload_n hO 3 dX1_byTable_12 rfl rfl ?_
  refine xG_1_23 hO hX h dX1_byTable_13 (fun h => ?_)
  refine zg_l2i hO dX1_byTable_16 ?_
  refine zg_iadd hO dX1_byTable_17 ?_
  refine xL_table hO h dX1_byTable_18 (fun h => ?_)
  refine zg_i2l hO dX1_byTable_19 ?_
  refine zg_lconst hO dX1_byTable_20 lc0 ?_
  refine zg_chk h (fun hp h => ?_)
  refine zy_callPv (As := [.long ((xA σ 1 (((nI 5) * ((rP (xC σ i2)).toInt32)) + ((rP (xC σ i3)).toInt32)).toNatClampNeg).toInt64), .long (lN 0)]) (rest := []) hO hX h hp (fun q hq => m_Xp_is l D dA G tb ad hq) mw_X2_isf mw_X2_ist q141 ⟨Nat.le_of_ble_eq_true rfl, Nat.le_of_ble_eq_true rfl⟩ ⟨Nat.le_refl _, Nat.le_refl _⟩ rfl rfl (Nat.le_of_ble_eq_true rfl) dX1_byTable_21 (fun q1 h => ?_)
  exact zy_vretF hO hr h ⟨Nat.le_refl _, Nat.le_refl _⟩ dX1_byTable_24
set_option maxHeartbeats 4000000 in
theorem w_X_sign_16 {tb : Nat} {ad : Nat → Nat} (hO : Ok p s m args meth c cX1_sign RX1 3 D dA A) (hX : XK dA G A s) (hr : meth.sig.returnType = (some .int)) {ρ : Int32 × XS} : ∀ (n : Nat) (x1 : Int32) (x2 : Int32) (σ : XS), X_sign_16 n x1 x2 σ = some ρ → Go p l e (rmG 0 0 0) s m args below meth c D A 3 (MQ below ((QgI D dA (fun _ : Unit => WX dA G tb ad ρ.2) ρ.1) A) args s 0 0 A) (WX dA G tb ad σ) 0 0 16 [(0, .ref (G 0)), (1, .int x1), (2, .int x2)] [] := by
  intro n
  induction n with
  | zero =>
    intro x1 x2 σ h
    rw [X_sign_16] at h
    cases h
  | succ n ih =>
    intro x1 x2 σ h
    rw [X_sign_16] at h
    refine zg_iload_n hO 2 dX1_sign_16 rfl rfl ?_
    refine zg_if_lt (tgt := 49) hO h dX1_sign_17 (by decide) (fun h => ?_) (fun h => ?_)
    · refine zg_aload_n hO 0 dX1_sign_49 rfl rfl ?_
      refine xG_1_206 hO hX dX1_sign_50 ?_
      exact zy_iretF hO hr h ⟨Nat.le_refl _, Nat.le_refl _⟩ dX1_sign_53
    · refine zg_aload_n hO 0 dX1_sign_20 rfl rfl ?_
      refine xG_1_176 hO hX dX1_sign_21 ?_
      refine zg_aload_n hO 0 dX1_sign_24 rfl rfl ?_
      refine xG_1_206 hO hX dX1_sign_25 ?_
      refine zg_iload_n hO 1 dX1_sign_28 rfl rfl ?_
      refine zg_iload_n hO 2 dX1_sign_29 rfl rfl ?_
      refine zg_ishr hO dX1_sign_30 ?_
      refine zg_i2b hO dX1_sign_31 ?_
      refine xS_text hO h dX1_sign_32 (fun h => ?_)
      refine zg_aload_n hO 0 dX1_sign_33 rfl rfl ?_
      refine zg_dup hO dX1_sign_34 rfl ?_
      refine xG_1_206 hO hX dX1_sign_35 ?_
      refine zg_iconst hO dX1_sign_38 ic1 ?_
      refine zg_iadd hO dX1_sign_39 ?_
      refine xP_1_206 hO hX dX1_sign_40 ?_
      refine zg_iinc (k := 2) (lv' := [(2, .int (x2 + (-8 : Int32))), (0, .ref (G 0)), (1, .int x1)]) hO dX1_sign_43 rfl (zii icm8) (Nat.le_of_ble_eq_true rfl) rfl ?_
      refine zg_goto (tgt := 16) hO dX1_sign_46 (by decide) ?_
      exact zg_sub [1, 2, 0] rfl (ih _ _ _ h)
theorem mw_X1_sign : MwX yX1_sign cX1_sign 3 (some .int) RX1 1 := ⟨by decide +kernel, q601, q602, q85, q603⟩
set_option maxHeartbeats 4000000 in
theorem m_X_sign (l : Launch) (D : va_G) (dA : Nat → ClassId) (G : Nat → Nat) {x1 : Int32} {σ : XS} (tb : Nat) (ad : Nat → Nat) {ρ : Int32 × XS} (h : X_sign x1 σ = some ρ) : CtX l yX1_sign (ws_ yX1_sign cX1_sign 3 (some .int)) 0 0 0 D dA G [.ref (G 0), .int x1] (WX dA G tb ad σ) (QgI D dA (fun _ : Unit => WX dA G tb ad ρ.2) ρ.1) := by
  refine zx_start (cc := cX1_sign) (nL := 3) (ret := (some .int)) (own := RX1) (by decide) rfl rfl (Nat.le_of_ble_eq_true rfl) (fun p e s m args below meth c A hO hX hr _ _ => ?_)
  unfold X_sign at h
  refine zg_sub (lv' := [(0, .ref (G 0)), (1, .int x1)]) [0, 1] rfl ?_
  refine zg_aload_n hO 0 dX1_sign_0 rfl rfl ?_
  refine xG_1_206 hO hX dX1_sign_1 ?_
  refine zg_iconst hO dX1_sign_4 ic4 ?_
  refine zg_iadd hO dX1_sign_5 ?_
  refine zg_bipush hO dX1_sign_6 bc100 ?_
  refine zg_icmp_le (tgt := 13) hO h dX1_sign_8 (by decide) (fun h => ?_) (fun h => ?_)
  · refine zg_bipush hO dX1_sign_13 bc24 ?_
    refine zg_istore_n (lv' := [(2, .int (nI 24)), (0, .ref (G 0)), (1, .int x1)]) hO dX1_sign_15 rfl (Nat.le_of_ble_eq_true rfl) rfl ?_
    exact zg_sub [1, 2, 0] rfl (w_X_sign_16 hO hX hr _ _ _ _ h)
  · refine zg_iconst hO dX1_sign_11 icm1 ?_
    exact zy_iretF hO hr h ⟨Nat.le_refl _, Nat.le_refl _⟩ dX1_sign_12
theorem mw_X1_in : MwS yX1_in cX1_in 6 (some .boolean) 3 := ⟨by decide +kernel, q609, q85, q610⟩
set_option maxHeartbeats 4000000 in
theorem m_X_in (l : Launch) (D : va_G) (dA : Nat → ClassId) {x0 : Int64} {x2 : Int64} {x4 : Int64} {ρ : Int32} (h : X_in x0 x2 x4 = some ρ) : Ct l yX1_in (ws_ yX1_in cX1_in 6 (some .boolean)) 0 0 0 D dA [.long x0, .long x2, .long x4] [] A0s (QfI D dA [] ρ) := by
  refine zc_start (cc := cX1_in) (nL := 6) (ret := (some .boolean)) (own := RX1) (by decide) rfl rfl (Nat.le_of_ble_eq_true rfl) (fun _ _ h => h) (fun p e s m args below meth c hO hr _ _ => ?_)
  unfold X_in at h
  refine zg_sub (lv' := [(0, .long x0), (2, .long x2), (4, .long x4)]) [0, 1, 2] rfl ?_
  refine zg_lload_n hO 0 dX1_in_0 rfl rfl ?_
  refine zg_lload_n hO 1 dX1_in_1 rfl rfl ?_
  refine zg_lcmp hO dX1_in_2 ?_
  refine zg_if_lt (tgt := 17) hO h dX1_in_3 (by decide) (fun h => ?_) (fun h => ?_)
  · refine zg_iconst hO dX1_in_17 ic0 ?_
    exact zs_zret hO hr (Or.inl (by decide)) h dX1_in_18
  · refine zg_lload_n hO 0 dX1_in_6 rfl rfl ?_
    refine zg_lload hO 2 dX1_in_7 rfl ?_
    refine zg_lcmp hO dX1_in_9 ?_
    refine zg_if_gt (tgt := 17) hO h dX1_in_10 (by decide) (fun h => ?_) (fun h => ?_)
    · refine zg_iconst hO dX1_in_17 ic0 ?_
      exact zs_zret hO hr (Or.inl (by decide)) h dX1_in_18
    · refine zg_iconst hO dX1_in_13 ic1 ?_
      refine zg_goto (tgt := 18) hO dX1_in_14 (by decide) ?_
      exact zs_zret hO hr (Or.inr (by decide)) h dX1_in_18
theorem mw_X1_end : MwX yX1_end cX1_end 2 (some .boolean) RX1 1 := ⟨by decide +kernel, q605, q606, q85, q607⟩
set_option maxHeartbeats 4000000 in
theorem m_X_end (l : Launch) (D : va_G) (dA : Nat → ClassId) (G : Nat → Nat) {x1 : Int32} {σ : XS} (tb : Nat) (ad : Nat → Nat) {ρ : Int32 × XS} (h : X_end x1 σ = some ρ) : CtX l yX1_end (ws_ yX1_end cX1_end 2 (some .boolean)) 1 0 0 D dA G [.ref (G 0), .int x1] (WX dA G tb ad σ) (QgI D dA (fun _ : Unit => WX dA G tb ad ρ.2) ρ.1) := by
  refine zx_start (cc := cX1_end) (nL := 2) (ret := (some .boolean)) (own := RX1) (by decide) rfl rfl (Nat.le_of_ble_eq_true rfl) (fun p e s m args below meth c A hO hX hr _ _ => ?_)
  unfold X_end at h
  refine zg_sub (lv' := [(0, .ref (G 0)), (1, .int x1)]) [0, 1] rfl ?_
  refine zg_iload_n hO 1 dX1_end_0 rfl rfl ?_
  refine zg_i2l hO dX1_end_1 ?_
  refine zg_lconst hO dX1_end_2 lc0 ?_
  refine zg_aload_n hO 0 dX1_end_3 rfl rfl ?_
  refine xG_1_206 hO hX dX1_end_4 ?_
  refine zg_i2l hO dX1_end_7 ?_
  refine zs_calli (As := [.long (x1.toInt64), .long (lN 0), .long ((xI σ 4).toInt64)]) (rest := []) hO h (fun q hq => m_X_in l D dA hq) mw_X1_in q608 ⟨Nat.le_of_ble_eq_true rfl, Nat.le_of_ble_eq_true rfl⟩ ⟨Nat.le_refl _, Nat.le_refl _⟩ rfl rfl (Nat.le_of_ble_eq_true rfl) dX1_end_8 (fun q1 h => ?_)
  refine zg_if_ne (tgt := 16) hO h dX1_end_11 (by decide) (fun h => ?_) (fun h => ?_)
  · refine zg_aload_n hO 0 dX1_end_16 rfl rfl ?_
    refine zg_iload_n hO 1 dX1_end_17 rfl rfl ?_
    refine xP_1_206 hO hX dX1_end_18 ?_
    refine zg_iconst hO dX1_end_21 ic1 ?_
    exact zy_zretF hO hr (Or.inr (by decide)) h ⟨Nat.le_refl _, Nat.le_refl _⟩ dX1_end_22
  · refine zg_iconst hO dX1_end_14 ic0 ?_
    exact zy_zretF hO hr (Or.inl (by decide)) h ⟨Nat.le_refl _, Nat.le_refl _⟩ dX1_end_15
theorem mw_X1_here : MwX yX1_here cX1_here 3 (some .int) RX1 2 := ⟨by decide +kernel, q1247, qs23, q85, q1248⟩
set_option maxHeartbeats 4000000 in
theorem m_X_here (l : Launch) (D : va_G) (dA : Nat → ClassId) (G : Nat → Nat) {x1 : Int32} {x2 : Int32} {σ : XS} (tb : Nat) (ad : Nat → Nat) {ρ : Int32 × XS} (h : X_here x1 x2 σ = some ρ) : CtX l yX1_here (ws_ yX1_here cX1_here 3 (some .int)) 0 0 0 D dA G [.ref (G 0), .int x1, .int x2] (WX dA G tb ad σ) (QgI D dA (fun _ : Unit => WX dA G tb ad ρ.2) ρ.1) := by
  refine zx_start (cc := cX1_here) (nL := 3) (ret := (some .int)) (own := RX1) (by decide) rfl rfl (Nat.le_of_ble_eq_true rfl) (fun p e s m args below meth c A hO hX hr _ _ => ?_)
  unfold X_here at h
  refine zg_sub (lv' := [(0, .ref (G 0)), (1, .int x1), (2, .int x2)]) [0, 1, 2] rfl ?_
  refine zg_iload_n hO 1 dX1_here_0 rfl rfl ?_
  refine zg_iload_n hO 2 dX1_here_1 rfl rfl ?_
  refine zg_icmp_ge (tgt := 18) hO h dX1_here_2 (by decide) (fun h => ?_) (fun h => ?_)
  · refine zg_iconst hO dX1_here_18 icm1 ?_
    exact zy_iretF hO hr h ⟨Nat.le_refl _, Nat.le_refl _⟩ dX1_here_19
  · refine zg_aload_n hO 0 dX1_here_5 rfl rfl ?_
    refine xG_1_176 hO hX dX1_here_6 ?_
    refine zg_iload_n hO 1 dX1_here_9 rfl rfl ?_
    refine xL_text hO h dX1_here_10 (fun h => ?_)
    refine zg_sipush hO dX1_here_11 sc255 ?_
    refine zg_iand hO dX1_here_14 ?_
    refine zg_goto (tgt := 19) hO dX1_here_15 (by decide) ?_
    exact zy_iretF hO hr h ⟨Nat.le_refl _, Nat.le_refl _⟩ dX1_here_19
theorem mw_X1_tells : MwX yX1_tells cX1_tells 3 none RX1 1 := ⟨by decide +kernel, q1274, qs24, q85, q1275⟩
set_option maxHeartbeats 4000000 in
theorem m_X_tells (l : Launch) (D : va_G) (dA : Nat → ClassId) (G : Nat → Nat) {x1 : Int64} {σ : XS} (tb : Nat) (ad : Nat → Nat) {ρ : XS} (h : X_tells x1 σ = some ρ) : CtX l yX1_tells (ws_ yX1_tells cX1_tells 3 none) 0 0 0 D dA G [.ref (G 0), .long x1] (WX dA G tb ad σ) (QgV D dA (fun _ : Unit => WX dA G tb ad ρ)) := by
  refine zx_start (cc := cX1_tells) (nL := 3) (ret := none) (own := RX1) (by decide) rfl rfl (Nat.le_of_ble_eq_true rfl) (fun p e s m args below meth c A hO hX hr _ _ => ?_)
  unfold X_tells at h
  refine zg_sub (lv' := [(0, .ref (G 0)), (1, .long x1)]) [0, 1] rfl ?_
  refine zg_aload_n hO 0 dX1_tells_0 rfl rfl ?_
  refine xG_1_180 hO hX dX1_tells_1 ?_
  refine zg_aload_n hO 0 dX1_tells_4 rfl rfl ?_
  refine xG_1_199 hO hX dX1_tells_5 ?_
  refine zg_lload_n hO 1 dX1_tells_8 rfl rfl ?_
  refine xS_row hO h dX1_tells_9 (fun h => ?_)
  refine zg_aload_n hO 0 dX1_tells_10 rfl rfl ?_
  refine zg_dup hO dX1_tells_11 rfl ?_
  refine xG_1_199 hO hX dX1_tells_12 ?_
  refine zg_iconst hO dX1_tells_15 ic1 ?_
  refine zg_iadd hO dX1_tells_16 ?_
  refine xP_1_199 hO hX dX1_tells_17 ?_
  exact zy_vretF hO hr h ⟨Nat.le_refl _, Nat.le_refl _⟩ dX1_tells_20
theorem mw_X1_isItem : MwS yX1_isItem cX1_isItem 1 (some .boolean) 1 := ⟨by decide +kernel, q1357, q85, q1358⟩
set_option maxHeartbeats 4000000 in
theorem m_X_isItem (l : Launch) (D : va_G) (dA : Nat → ClassId) {x0 : Int32} {ρ : Int32} (h : X_isItem x0 = some ρ) : Ct l yX1_isItem (ws_ yX1_isItem cX1_isItem 1 (some .boolean)) 1 0 0 D dA [.int x0] [] A0s (QfI D dA [] ρ) := by
  refine zc_start (cc := cX1_isItem) (nL := 1) (ret := (some .boolean)) (own := RX1) (by decide) rfl rfl (Nat.le_of_ble_eq_true rfl) (fun _ _ h => h) (fun p e s m args below meth c hO hr _ _ => ?_)
  unfold X_isItem at h
  refine zg_sub (lv' := [(0, .int x0)]) [0] rfl ?_
  refine zg_iload_n hO 0 dX1_isItem_0 rfl rfl ?_
  refine zg_i2l hO dX1_isItem_1 ?_
  refine zg_lconst hO dX1_isItem_2 lc0 ?_
  refine zg_ldc2 (x := 9999) hO q1359 dX1_isItem_3 ?_
  refine zs_calli (As := [.long (x0.toInt64), .long (lN 0), .long (9999 : Int64)]) (rest := []) hO h (fun q hq => m_X_in l D dA hq) mw_X1_in q608 ⟨Nat.le_of_ble_eq_true rfl, Nat.le_of_ble_eq_true rfl⟩ ⟨Nat.le_refl _, Nat.le_refl _⟩ rfl rfl (Nat.le_of_ble_eq_true rfl) dX1_isItem_6 (fun q1 h => ?_)
  exact zs_zret hO hr (zg_some h).1 (zg_some h).2 dX1_isItem_9
theorem mw_X1_tellsPair : MwX yX1_tellsPair cX1_tellsPair 2 none RX1 1 := ⟨by decide +kernel, q1364, qs30, q85, q1365⟩
set_option maxHeartbeats 4000000 in
theorem m_X_tellsPair (l : Launch) (D : va_G) (dA : Nat → ClassId) (G : Nat → Nat) {i1 : Nat} {σ : XS} (tb : Nat) (ad : Nat → Nat) {ρ : XS} (h : X_tellsPair i1 σ = some ρ) : CtX l yX1_tellsPair (ws_ yX1_tellsPair cX1_tellsPair 2 none) 1 0 0 D dA G [.ref (G 0), .ref (ad i1)] (WX dA G tb ad σ) (QgV D dA (fun _ : Unit => WX dA G tb ad ρ)) := by
  refine zx_start (cc := cX1_tellsPair) (nL := 2) (ret := none) (own := RX1) (by decide) rfl rfl (Nat.le_of_ble_eq_true rfl) (fun p e s m args below meth c A hO hX hr _ _ => ?_)
  unfold X_tellsPair at h
  refine zg_sub (lv' := [(0, .ref (G 0)), (1, .ref (ad i1))]) [0, 1] rfl ?_
  refine zg_aload_n hO 0 dX1_tellsPair_0 rfl rfl ?_
  refine zg_aload_n hO 1 dX1_tellsPair_1 rfl rfl ?_
  refine xG_1_23 hO hX h dX1_tellsPair_2 (fun h => ?_)
  refine zy_callVvF (b := G 0) (As := [.long (rP (xC σ i1))]) (rest := []) hO hX h (fun q hq => m_X_tells l D dA G tb ad hq) mw_X1_tells q1272 ⟨Nat.le_of_ble_eq_true rfl, Nat.le_of_ble_eq_true rfl⟩ ⟨Nat.le_refl _, Nat.le_refl _⟩ rfl rfl (Nat.le_of_ble_eq_true rfl) ⟨0, 1, _, _, rfl, rfl, rfl⟩ dX1_tellsPair_5 (fun q1 h => ?_)
  refine zg_aload_n hO 0 dX1_tellsPair_8 rfl rfl ?_
  refine zg_aload_n hO 1 dX1_tellsPair_9 rfl rfl ?_
  refine xG_1_29 hO hX h dX1_tellsPair_10 (fun h => ?_)
  refine zy_callVvF (b := G 0) (As := [.long (rQ (xC q1 i1))]) (rest := []) hO hX h (fun q hq => m_X_tells l D dA G tb ad hq) mw_X1_tells q1272 ⟨Nat.le_of_ble_eq_true rfl, Nat.le_of_ble_eq_true rfl⟩ ⟨Nat.le_refl _, Nat.le_refl _⟩ rfl rfl (Nat.le_of_ble_eq_true rfl) ⟨0, 1, _, _, rfl, rfl, rfl⟩ dX1_tellsPair_13 (fun q2 h => ?_)
  exact zy_vretF hO hr h ⟨Nat.le_refl _, Nat.le_refl _⟩ dX1_tellsPair_16
set_option maxHeartbeats 4000000 in
theorem w_X_empty_96 {tb : Nat} {ad : Nat → Nat} (hO : Ok p s m args meth c cX1_empty RX1 2 D dA A) (hX : XK dA G A s) (hr : meth.sig.returnType = none) {ρ : XS} : ∀ (i1 : Nat) (σ : XS), X_empty_96 i1 σ = some ρ → Go p l e (rmG 1 0 0) s m args below meth c D A 2 (MQ below ((QgV D dA (fun _ : Unit => WX dA G tb ad ρ)) A) args s 0 0 A) (WX dA G tb ad σ) 0 0 96 [(1, .ref (ad i1))] [] := by
  intro i1 σ h
  unfold X_empty_96 at h
  refine zg_aload_n hO 0 dX1_empty_96 rfl rfl ?_
  refine zg_lconst hO dX1_empty_97 lc0 ?_
  refine zg_lconst hO dX1_empty_98 lc0 ?_
  refine zg_chk h (fun hp h => ?_)
  refine zy_callPv (As := [.long (lN 0), .long (lN 0)]) (rest := []) hO hX h hp (fun q hq => m_Xp_is l D dA G tb ad hq) mw_X2_isf mw_X2_ist q141 ⟨Nat.le_of_ble_eq_true rfl, Nat.le_of_ble_eq_true rfl⟩ ⟨Nat.le_refl _, Nat.le_refl _⟩ rfl rfl (Nat.le_of_ble_eq_true rfl) dX1_empty_99 (fun q5 h => ?_)
  exact zy_vretF hO hr h ⟨Nat.le_refl _, Nat.le_refl _⟩ dX1_empty_102
theorem mw_X1_empty : MwX yX1_empty cX1_empty 2 none RX1 1 := ⟨by decide +kernel, q1373, qs31, q85, q1374⟩
set_option maxHeartbeats 4000000 in
theorem m_X_empty (l : Launch) (D : va_G) (dA : Nat → ClassId) (G : Nat → Nat) {i1 : Nat} {σ : XS} (tb : Nat) (ad : Nat → Nat) {ρ : XS} (h : X_empty i1 σ = some ρ) : CtX l yX1_empty (ws_ yX1_empty cX1_empty 2 none) 1 0 0 D dA G [.ref (G 0), .ref (ad i1)] (WX dA G tb ad σ) (QgV D dA (fun _ : Unit => WX dA G tb ad ρ)) := by
  refine zx_start (cc := cX1_empty) (nL := 2) (ret := none) (own := RX1) (by decide) rfl rfl (Nat.le_of_ble_eq_true rfl) (fun p e s m args below meth c A hO hX hr _ _ => ?_)
  unfold X_empty at h
  refine zg_sub (lv' := [(0, .ref (G 0)), (1, .ref (ad i1))]) [0, 1] rfl ?_
  refine zg_aload_n hO 0 dX1_empty_0 rfl rfl ?_
  refine xG_1_92 hO hX dX1_empty_1 ?_
  refine zg_ite h (fun e1 h => ?_) (fun e1 h => ?_)
  · refine zg_tableIn (tgt := 48) hO dX1_empty_4 (by rw [e1]; decide) (by rw [e1]; decide) (by rw [e1]; rfl) (by decide) ?_
    refine zg_aload_n hO 1 dX1_empty_48 rfl rfl ?_
    refine zg_ldc2 (x := 10000) hO q1375 dX1_empty_49 ?_
    refine zg_ldc2 (x := -1) hO q1376 dX1_empty_52 ?_
    refine zg_chk h (fun hp h => ?_)
    refine zy_callPv (As := [.long (10000 : Int64), .long (-1 : Int64)]) (rest := []) hO hX h hp (fun q hq => m_Xp_is l D dA G tb ad hq) mw_X2_isf mw_X2_ist q141 ⟨Nat.le_of_ble_eq_true rfl, Nat.le_of_ble_eq_true rfl⟩ ⟨Nat.le_refl _, Nat.le_refl _⟩ rfl rfl (Nat.le_of_ble_eq_true rfl) dX1_empty_55 (fun q1 h => ?_)
    refine zg_goto (tgt := 102) hO dX1_empty_58 (by decide) ?_
    exact zy_vretF hO hr h ⟨Nat.le_refl _, Nat.le_refl _⟩ dX1_empty_102
  refine zg_ite h (fun e2 h => ?_) (fun e2 h => ?_)
  · refine zg_tableIn (tgt := 96) hO dX1_empty_4 (by rw [e2]; decide) (by rw [e2]; decide) (by rw [e2]; rfl) (by decide) ?_
    exact zg_sub [1] rfl (w_X_empty_96 hO hX hr _ _ h)
  refine zg_ite h (fun e3 h => ?_) (fun e3 h => ?_)
  · refine zg_tableIn (tgt := 61) hO dX1_empty_4 (by rw [e3]; decide) (by rw [e3]; decide) (by rw [e3]; rfl) (by decide) ?_
    refine zg_aload_n hO 1 dX1_empty_61 rfl rfl ?_
    refine zg_lconst hO dX1_empty_62 lc1 ?_
    refine zg_lconst hO dX1_empty_63 lc0 ?_
    refine zg_chk h (fun hp h => ?_)
    refine zy_callPv (As := [.long (lN 1), .long (lN 0)]) (rest := []) hO hX h hp (fun q hq => m_Xp_is l D dA G tb ad hq) mw_X2_isf mw_X2_ist q141 ⟨Nat.le_of_ble_eq_true rfl, Nat.le_of_ble_eq_true rfl⟩ ⟨Nat.le_refl _, Nat.le_refl _⟩ rfl rfl (Nat.le_of_ble_eq_true rfl) dX1_empty_64 (fun q2 h => ?_)
    refine zg_goto (tgt := 102) hO dX1_empty_67 (by decide) ?_
    exact zy_vretF hO hr h ⟨Nat.le_refl _, Nat.le_refl _⟩ dX1_empty_102
  refine zg_ite h (fun e4 h => ?_) (fun e4 h => ?_)
  · refine zg_tableIn (tgt := 96) hO dX1_empty_4 (by rw [e4]; decide) (by rw [e4]; decide) (by rw [e4]; rfl) (by decide) ?_
    exact zg_sub [1] rfl (w_X_empty_96 hO hX hr _ _ h)
  refine zg_ite h (fun e5 h => ?_) (fun e5 h => ?_)
  · refine zg_tableIn (tgt := 96) hO dX1_empty_4 (by rw [e5]; decide) (by rw [e5]; decide) (by rw [e5]; rfl) (by decide) ?_
    exact zg_sub [1] rfl (w_X_empty_96 hO hX hr _ _ h)
  refine zg_ite h (fun e6 h => ?_) (fun e6 h => ?_)
  · refine zg_tableIn (tgt := 70) hO dX1_empty_4 (by rw [e6]; decide) (by rw [e6]; decide) (by rw [e6]; rfl) (by decide) ?_
    refine zg_aload_n hO 1 dX1_empty_70 rfl rfl ?_
    refine zg_ldc2 (x := -1) hO q1376 dX1_empty_71 ?_
    refine zg_ldc2 (x := -1) hO q1376 dX1_empty_74 ?_
    refine zg_chk h (fun hp h => ?_)
    refine zy_callPv (As := [.long (-1 : Int64), .long (-1 : Int64)]) (rest := []) hO hX h hp (fun q hq => m_Xp_is l D dA G tb ad hq) mw_X2_isf mw_X2_ist q141 ⟨Nat.le_of_ble_eq_true rfl, Nat.le_of_ble_eq_true rfl⟩ ⟨Nat.le_refl _, Nat.le_refl _⟩ rfl rfl (Nat.le_of_ble_eq_true rfl) dX1_empty_77 (fun q3 h => ?_)
    refine zg_goto (tgt := 102) hO dX1_empty_80 (by decide) ?_
    exact zy_vretF hO hr h ⟨Nat.le_refl _, Nat.le_refl _⟩ dX1_empty_102
  refine zg_ite h (fun e7 h => ?_) (fun e7 h => ?_)
  · refine zg_tableIn (tgt := 83) hO dX1_empty_4 (by rw [e7]; decide) (by rw [e7]; decide) (by rw [e7]; rfl) (by decide) ?_
    refine zg_aload_n hO 1 dX1_empty_83 rfl rfl ?_
    refine zg_aload_n hO 0 dX1_empty_84 rfl rfl ?_
    refine xG_1_113 hO hX dX1_empty_85 ?_
    refine zg_i2l hO dX1_empty_88 ?_
    refine zg_lconst hO dX1_empty_89 lc0 ?_
    refine zg_chk h (fun hp h => ?_)
    refine zy_callPv (As := [.long ((xI σ 2).toInt64), .long (lN 0)]) (rest := []) hO hX h hp (fun q hq => m_Xp_is l D dA G tb ad hq) mw_X2_isf mw_X2_ist q141 ⟨Nat.le_of_ble_eq_true rfl, Nat.le_of_ble_eq_true rfl⟩ ⟨Nat.le_refl _, Nat.le_refl _⟩ rfl rfl (Nat.le_of_ble_eq_true rfl) dX1_empty_90 (fun q4 h => ?_)
    refine zg_goto (tgt := 102) hO dX1_empty_93 (by decide) ?_
    exact zy_vretF hO hr h ⟨Nat.le_refl _, Nat.le_refl _⟩ dX1_empty_102
  refine zg_tableOut (tgt := 96) hO dX1_empty_4 (zg_swout (lo := 1) (hi := 7) (fun k h1 h2 => by rcases (show k = 1 ∨ k = 2 ∨ k = 3 ∨ k = 4 ∨ k = 5 ∨ k = 6 ∨ k = 7 by omega) with rfl|rfl|rfl|rfl|rfl|rfl|rfl; exact e1; exact e2; exact e3; exact e4; exact e5; exact e6; exact e7)) (by decide) ?_
  exact zg_sub [1] rfl (w_X_empty_96 hO hX hr _ _ h)
theorem mw_X1_isLine : MwS yX1_isLine cX1_isLine 1 (some .boolean) 1 := ⟨by decide +kernel, q1399, q85, q1400⟩
set_option maxHeartbeats 4000000 in
theorem m_X_isLine (l : Launch) (D : va_G) (dA : Nat → ClassId) {x0 : Int32} {ρ : Int32} (h : X_isLine x0 = some ρ) : Ct l yX1_isLine (ws_ yX1_isLine cX1_isLine 1 (some .boolean)) 1 0 0 D dA [.int x0] [] A0s (QfI D dA [] ρ) := by
  refine zc_start (cc := cX1_isLine) (nL := 1) (ret := (some .boolean)) (own := RX1) (by decide) rfl rfl (Nat.le_of_ble_eq_true rfl) (fun _ _ h => h) (fun p e s m args below meth c hO hr _ _ => ?_)
  unfold X_isLine at h
  refine zg_sub (lv' := [(0, .int x0)]) [0] rfl ?_
  refine zg_iload_n hO 0 dX1_isLine_0 rfl rfl ?_
  refine zg_i2l hO dX1_isLine_1 ?_
  refine zg_lconst hO dX1_isLine_2 lc0 ?_
  refine zg_ldc2 (x := 3) hO q1401 dX1_isLine_3 ?_
  refine zs_calli (As := [.long (x0.toInt64), .long (lN 0), .long (3 : Int64)]) (rest := []) hO h (fun q hq => m_X_in l D dA hq) mw_X1_in q608 ⟨Nat.le_of_ble_eq_true rfl, Nat.le_of_ble_eq_true rfl⟩ ⟨Nat.le_refl _, Nat.le_refl _⟩ rfl rfl (Nat.le_of_ble_eq_true rfl) dX1_isLine_6 (fun q1 h => ?_)
  exact zs_zret hO hr (zg_some h).1 (zg_some h).2 dX1_isLine_9
theorem mw_X1_isEnd : MwS yX1_isEnd cX1_isEnd 1 (some .boolean) 1 := ⟨by decide +kernel, q1403, q85, q1404⟩
set_option maxHeartbeats 4000000 in
theorem m_X_isEnd (l : Launch) (D : va_G) (dA : Nat → ClassId) {x0 : Int32} {ρ : Int32} (h : X_isEnd x0 = some ρ) : Ct l yX1_isEnd (ws_ yX1_isEnd cX1_isEnd 1 (some .boolean)) 1 0 0 D dA [.int x0] [] A0s (QfI D dA [] ρ) := by
  refine zc_start (cc := cX1_isEnd) (nL := 1) (ret := (some .boolean)) (own := RX1) (by decide) rfl rfl (Nat.le_of_ble_eq_true rfl) (fun _ _ h => h) (fun p e s m args below meth c hO hr _ _ => ?_)
  unfold X_isEnd at h
  refine zg_sub (lv' := [(0, .int x0)]) [0] rfl ?_
  refine zg_iload_n hO 0 dX1_isEnd_0 rfl rfl ?_
  refine zg_i2l hO dX1_isEnd_1 ?_
  refine zg_lconst hO dX1_isEnd_2 lc0 ?_
  refine zg_lconst hO dX1_isEnd_3 lc1 ?_
  refine zs_calli (As := [.long (x0.toInt64), .long (lN 0), .long (lN 1)]) (rest := []) hO h (fun q hq => m_X_in l D dA hq) mw_X1_in q608 ⟨Nat.le_of_ble_eq_true rfl, Nat.le_of_ble_eq_true rfl⟩ ⟨Nat.le_refl _, Nat.le_refl _⟩ rfl rfl (Nat.le_of_ble_eq_true rfl) dX1_isEnd_4 (fun q1 h => ?_)
  exact zs_zret hO hr (zg_some h).1 (zg_some h).2 dX1_isEnd_7
set_option maxHeartbeats 4000000 in
theorem w_Xl_be_2 {tb : Nat} {ad : Nat → Nat} (hO : Ok p s m args meth c cX3_be RX3 3 D dA A) (hX : XK dA G A s) (hr : meth.sig.returnType = none) {ρ : XS} : ∀ (n : Nat) (i0 : Nat) (i1 : Nat) (x2 : Int32) (σ : XS) (hi0 : i0 < 5) (hi1 : i1 < 5), Xl_be_2 n i0 i1 x2 σ = some ρ → Go p l e (rmG 0 0 0) s m args below meth c D A 3 (MQ below ((QgV D dA (fun _ : Unit => WX dA G tb ad ρ)) A) args s 0 0 A) (WX dA G tb ad σ) 0 0 2 [(0, .ref (G (48 + 3 * i0))), (1, .ref (G (48 + 3 * i1))), (2, .int x2)] [] := by
  intro n
  induction n with
  | zero =>
    intro i0 i1 x2 σ hi0 hi1 h
    rw [Xl_be_2] at h
    cases h
  | succ n ih =>
    intro i0 i1 x2 σ hi0 hi1 h
    rw [Xl_be_2] at h
    refine zg_iload_n hO 2 dX3_be_2 rfl rfl ?_
    refine zg_iconst hO dX3_be_3 ic1 ?_
    refine zg_icmp_gt (tgt := 37) hO h dX3_be_4 (by decide) (fun h => ?_) (fun h => ?_)
    · exact zy_vretF hO hr h ⟨Nat.le_refl _, Nat.le_refl _⟩ dX3_be_37
    · refine zg_aload_n hO 0 dX3_be_7 rfl rfl ?_
      refine xG_3_17 hO hX hi0 dX3_be_8 ?_
      refine zg_iload_n hO 2 dX3_be_11 rfl rfl ?_
      refine zg_aload_n hO 1 dX3_be_12 rfl rfl ?_
      refine xG_3_17 hO hX hi1 dX3_be_13 ?_
      refine zg_iload_n hO 2 dX3_be_16 rfl rfl ?_
      refine xL_top hO hi1 h dX3_be_17 (fun h => ?_)
      refine xS_top hO hi0 h dX3_be_18 (fun h => ?_)
      refine zg_aload_n hO 0 dX3_be_19 rfl rfl ?_
      refine xG_3_21 hO hX hi0 dX3_be_20 ?_
      refine zg_iload_n hO 2 dX3_be_23 rfl rfl ?_
      refine zg_aload_n hO 1 dX3_be_24 rfl rfl ?_
      refine xG_3_21 hO hX hi1 dX3_be_25 ?_
      refine zg_iload_n hO 2 dX3_be_28 rfl rfl ?_
      refine xL_many hO hi1 h dX3_be_29 (fun h => ?_)
      refine xS_many hO hi0 h dX3_be_30 (fun h => ?_)
      refine zg_iinc (k := 2) (lv' := [(2, .int (x2 + (nI 1))), (0, .ref (G (48 + 3 * i0))), (1, .ref (G (48 + 3 * i1)))]) hO dX3_be_31 rfl (zii ic1) (Nat.le_of_ble_eq_true rfl) rfl ?_
      refine zg_goto (tgt := 2) hO dX3_be_34 (by decide) ?_
      exact zg_sub [1, 2, 0] rfl (ih _ _ _ _ hi0 hi1 h)
theorem mw_X3_be : MwX yX3_be cX3_be 3 none RX3 1 := ⟨by decide +kernel, q1427, q1428, q88, q1429⟩
set_option maxHeartbeats 4000000 in
theorem m_Xl_be (l : Launch) (D : va_G) (dA : Nat → ClassId) (G : Nat → Nat) {i0 : Nat} {i1 : Nat} {σ : XS} (hi0 : i0 < 5) (hi1 : i1 < 5) (tb : Nat) (ad : Nat → Nat) {ρ : XS} (h : Xl_be i0 i1 σ = some ρ) : CtX l yX3_be (ws_ yX3_be cX3_be 3 none) 0 0 0 D dA G [.ref (G (48 + 3 * i0)), .ref (G (48 + 3 * i1))] (WX dA G tb ad σ) (QgV D dA (fun _ : Unit => WX dA G tb ad ρ)) := by
  refine zx_start (cc := cX3_be) (nL := 3) (ret := none) (own := RX3) (by decide) rfl rfl (Nat.le_of_ble_eq_true rfl) (fun p e s m args below meth c A hO hX hr _ _ => ?_)
  unfold Xl_be at h
  refine zg_sub (lv' := [(0, .ref (G (48 + 3 * i0))), (1, .ref (G (48 + 3 * i1)))]) [0, 1] rfl ?_
  refine zg_iconst hO dX3_be_0 ic0 ?_
  refine zg_istore_n (lv' := [(2, .int (nI 0)), (0, .ref (G (48 + 3 * i0))), (1, .ref (G (48 + 3 * i1)))]) hO dX3_be_1 rfl (Nat.le_of_ble_eq_true rfl) rfl ?_
  exact zg_sub [1, 2, 0] rfl (w_Xl_be_2 hO hX hr _ _ _ _ _ hi0 hi1 h)
theorem mw_X3_size : MwX yX3_size cX3_size 1 (some .int) RX3 0 := ⟨by decide +kernel, q1408, q1409, q88, q1410⟩
set_option maxHeartbeats 4000000 in
theorem m_Xl_size (l : Launch) (D : va_G) (dA : Nat → ClassId) (G : Nat → Nat) {i0 : Nat} {σ : XS} (hi0 : i0 < 5) (tb : Nat) (ad : Nat → Nat) {ρ : Int32 × XS} (h : Xl_size i0 σ = some ρ) : CtX l yX3_size (ws_ yX3_size cX3_size 1 (some .int)) 0 0 0 D dA G [.ref (G (48 + 3 * i0))] (WX dA G tb ad σ) (QgI D dA (fun _ : Unit => WX dA G tb ad ρ.2) ρ.1) := by
  refine zx_start (cc := cX3_size) (nL := 1) (ret := (some .int)) (own := RX3) (by decide) rfl rfl (Nat.le_of_ble_eq_true rfl) (fun p e s m args below meth c A hO hX hr _ _ => ?_)
  unfold Xl_size at h
  refine zg_sub (lv' := [(0, .ref (G (48 + 3 * i0)))]) [0] rfl ?_
  refine zg_aload_n hO 0 dX3_size_0 rfl rfl ?_
  refine xG_3_21 hO hX hi0 dX3_size_1 ?_
  refine zg_iconst hO dX3_size_4 ic0 ?_
  refine xL_many hO hi0 h dX3_size_5 (fun h => ?_)
  refine zg_aload_n hO 0 dX3_size_6 rfl rfl ?_
  refine xG_3_21 hO hX hi0 dX3_size_7 ?_
  refine zg_iconst hO dX3_size_10 ic1 ?_
  refine xL_many hO hi0 h dX3_size_11 (fun h => ?_)
  refine zg_iadd hO dX3_size_12 ?_
  exact zy_iretF hO hr h ⟨Nat.le_refl _, Nat.le_refl _⟩ dX3_size_13
theorem mw_X1_copies : MwX yX1_copies cX1_copies 3 (some .int) RX1 2 := ⟨by decide +kernel, q1423, q1424, q85, q1425⟩
set_option maxHeartbeats 4000000 in
theorem m_X_copies (l : Launch) (D : va_G) (dA : Nat → ClassId) (G : Nat → Nat) {x1 : Int32} {x2 : Int32} {σ : XS} (tb : Nat) (ad : Nat → Nat) {ρ : Int32 × XS} (h : X_copies x1 x2 σ = some ρ) : CtX l yX1_copies (ws_ yX1_copies cX1_copies 3 (some .int)) 2 0 0 D dA G [.ref (G 0), .int x1, .int x2] (WX dA G tb ad σ) (QgI D dA (fun _ : Unit => WX dA G tb ad ρ.2) ρ.1) := by
  refine zx_start (cc := cX1_copies) (nL := 3) (ret := (some .int)) (own := RX1) (by decide) rfl rfl (Nat.le_of_ble_eq_true rfl) (fun p e s m args below meth c A hO hX hr _ _ => ?_)
  unfold X_copies at h
  refine zg_sub (lv' := [(0, .ref (G 0)), (1, .int x1), (2, .int x2)]) [0, 1, 2] rfl ?_
  refine zg_iload_n hO 1 dX1_copies_0 rfl rfl ?_
  refine zs_calli (As := [.int x1]) (rest := []) hO h (fun q hq => m_X_isLine l D dA hq) mw_X1_isLine q1398 ⟨Nat.le_of_ble_eq_true rfl, Nat.le_of_ble_eq_true rfl⟩ ⟨Nat.le_refl _, Nat.le_refl _⟩ rfl rfl (Nat.le_of_ble_eq_true rfl) dX1_copies_1 (fun q1 h => ?_)
  refine zg_if_eq (tgt := 14) hO h dX1_copies_4 (by decide) (fun h => ?_) (fun h => ?_)
  · refine zg_iconst hO dX1_copies_14 icm1 ?_
    exact zy_iretF hO hr h ⟨Nat.le_refl _, Nat.le_refl _⟩ dX1_copies_15
  · refine zg_iload_n hO 2 dX1_copies_7 rfl rfl ?_
    refine zs_calli (As := [.int x2]) (rest := []) hO h (fun q hq => m_X_isLine l D dA hq) mw_X1_isLine q1398 ⟨Nat.le_of_ble_eq_true rfl, Nat.le_of_ble_eq_true rfl⟩ ⟨Nat.le_refl _, Nat.le_refl _⟩ rfl rfl (Nat.le_of_ble_eq_true rfl) dX1_copies_8 (fun q2 h => ?_)
    refine zg_if_ne (tgt := 16) hO h dX1_copies_11 (by decide) (fun h => ?_) (fun h => ?_)
    · refine zg_iload_n hO 1 dX1_copies_16 rfl rfl ?_
      refine zg_iload_n hO 2 dX1_copies_17 rfl rfl ?_
      refine zg_icmp_ne (tgt := 24) hO h dX1_copies_18 (by decide) (fun h => ?_) (fun h => ?_)
      · refine zg_aload_n hO 0 dX1_copies_24 rfl rfl ?_
        refine xG_1_162 hO hX dX1_copies_25 ?_
        refine zg_iload_n hO 2 dX1_copies_28 rfl rfl ?_
        refine zy_lget (rest := []) hO hX h q1406 (Nat.le_of_ble_eq_true rfl) dX1_copies_29 (fun hb3 h => ?_) ⟨Nat.le_refl _, Nat.le_refl _⟩
        refine zy_castL hO hb3 q231 dX1_copies_34 ?_
        refine zg_aload_n hO 0 dX1_copies_37 rfl rfl ?_
        refine xG_1_162 hO hX dX1_copies_38 ?_
        refine zg_iload_n hO 1 dX1_copies_41 rfl rfl ?_
        refine zy_lget (rest := [.ref (G (48 + 3 * x2.toNatClampNeg))]) hO hX h q1406 (Nat.le_of_ble_eq_true rfl) dX1_copies_42 (fun hb4 h => ?_) ⟨Nat.le_refl _, Nat.le_refl _⟩
        refine zy_castL hO hb4 q231 dX1_copies_47 ?_
        refine zy_callVvF (b := G (48 + 3 * x2.toNatClampNeg)) (As := [.ref (G (48 + 3 * x1.toNatClampNeg))]) (rest := []) hO hX h (fun q hq => m_Xl_be l D dA G hb3 hb4 tb ad hq) mw_X3_be q1426 ⟨Nat.le_of_ble_eq_true rfl, Nat.le_of_ble_eq_true rfl⟩ ⟨Nat.le_refl _, Nat.le_refl _⟩ rfl rfl (Nat.le_of_ble_eq_true rfl) ⟨40 + 3 * x2.toNatClampNeg, 2, _, _, wx_line hb3, rfl, rfl⟩ dX1_copies_50 (fun q5 h => ?_)
        refine zg_aload_n hO 0 dX1_copies_53 rfl rfl ?_
        refine xG_1_162 hO hX dX1_copies_54 ?_
        refine zg_iload_n hO 2 dX1_copies_57 rfl rfl ?_
        refine zy_lget (rest := []) hO hX h q1406 (Nat.le_of_ble_eq_true rfl) dX1_copies_58 (fun hb6 h => ?_) ⟨Nat.le_refl _, Nat.le_refl _⟩
        refine zy_castL hO hb6 q231 dX1_copies_63 ?_
        refine zy_callViF (b := G (48 + 3 * x2.toNatClampNeg)) (As := []) (rest := []) hO hX h (fun q hq => m_Xl_size l D dA G hb6 tb ad hq) mw_X3_size q1407 ⟨Nat.le_of_ble_eq_true rfl, Nat.le_of_ble_eq_true rfl⟩ ⟨Nat.le_refl _, Nat.le_refl _⟩ rfl rfl (Nat.le_of_ble_eq_true rfl) ⟨40 + 3 * x2.toNatClampNeg, 2, _, _, wx_line hb6, rfl, rfl⟩ dX1_copies_66 (fun q7 h => ?_)
        exact zy_iretF hO hr h ⟨Nat.le_refl _, Nat.le_refl _⟩ dX1_copies_69
      · refine zg_bipush hO dX1_copies_21 bcm2 ?_
        exact zy_iretF hO hr h ⟨Nat.le_refl _, Nat.le_refl _⟩ dX1_copies_23
    · refine zg_iconst hO dX1_copies_14 icm1 ?_
      exact zy_iretF hO hr h ⟨Nat.le_refl _, Nat.le_refl _⟩ dX1_copies_15
theorem mw_X1_tellsWork : MwX yX1_tellsWork cX1_tellsWork 3 none RX1 1 := ⟨by decide +kernel, q1470, qs35, q85, q1471⟩
set_option maxHeartbeats 4000000 in
theorem m_X_tellsWork (l : Launch) (D : va_G) (dA : Nat → ClassId) (G : Nat → Nat) {x1 : Int64} {σ : XS} (tb : Nat) (ad : Nat → Nat) {ρ : XS} (h : X_tellsWork x1 σ = some ρ) : CtX l yX1_tellsWork (ws_ yX1_tellsWork cX1_tellsWork 3 none) 1 0 0 D dA G [.ref (G 0), .long x1] (WX dA G tb ad σ) (QgV D dA (fun _ : Unit => WX dA G tb ad ρ)) := by
  refine zx_start (cc := cX1_tellsWork) (nL := 3) (ret := none) (own := RX1) (by decide) rfl rfl (Nat.le_of_ble_eq_true rfl) (fun p e s m args below meth c A hO hX hr _ _ => ?_)
  unfold X_tellsWork at h
  refine zg_sub (lv' := [(0, .ref (G 0)), (1, .long x1)]) [0, 1] rfl ?_
  refine zg_aload_n hO 0 dX1_tellsWork_0 rfl rfl ?_
  refine zg_iconst hO dX1_tellsWork_1 ic0 ?_
  refine xP_1_199 hO hX dX1_tellsWork_2 ?_
  refine zg_aload_n hO 0 dX1_tellsWork_5 rfl rfl ?_
  refine zg_aload_n hO 0 dX1_tellsWork_6 rfl rfl ?_
  refine xG_1_315 hO hX dX1_tellsWork_7 ?_
  refine zg_lload_n hO 1 dX1_tellsWork_10 rfl rfl ?_
  refine zg_lsub hO dX1_tellsWork_11 ?_
  refine zy_callVvF (b := G 0) (As := [.long ((xL (zI σ 5 (nI 0)) 0) - x1)]) (rest := []) hO hX h (fun q hq => m_X_tells l D dA G tb ad hq) mw_X1_tells q1272 ⟨Nat.le_of_ble_eq_true rfl, Nat.le_of_ble_eq_true rfl⟩ ⟨Nat.le_refl _, Nat.le_refl _⟩ rfl rfl (Nat.le_of_ble_eq_true rfl) ⟨0, 1, _, _, rfl, rfl, rfl⟩ dX1_tellsWork_12 (fun q1 h => ?_)
  exact zy_vretF hO hr h ⟨Nat.le_refl _, Nat.le_refl _⟩ dX1_tellsWork_15
set_option maxHeartbeats 4000000 in
theorem w_Xl_empties_2 {tb : Nat} {ad : Nat → Nat} (hO : Ok p s m args meth c cX3_empties RX3 2 D dA A) (hX : XK dA G A s) (hr : meth.sig.returnType = none) {ρ : XS} : ∀ (n : Nat) (i0 : Nat) (x1 : Int32) (σ : XS) (hi0 : i0 < 5), Xl_empties_2 n i0 x1 σ = some ρ → Go p l e (rmG 0 0 0) s m args below meth c D A 2 (MQ below ((QgV D dA (fun _ : Unit => WX dA G tb ad ρ)) A) args s 0 0 A) (WX dA G tb ad σ) 0 0 2 [(0, .ref (G (48 + 3 * i0))), (1, .int x1)] [] := by
  intro n
  induction n with
  | zero =>
    intro i0 x1 σ hi0 h
    rw [Xl_empties_2] at h
    cases h
  | succ n ih =>
    intro i0 x1 σ hi0 h
    rw [Xl_empties_2] at h
    refine zg_iload_n hO 1 dX3_empties_2 rfl rfl ?_
    refine zg_iconst hO dX3_empties_3 ic1 ?_
    refine zg_icmp_gt (tgt := 27) hO h dX3_empties_4 (by decide) (fun h => ?_) (fun h => ?_)
    · exact zy_vretF hO hr h ⟨Nat.le_refl _, Nat.le_refl _⟩ dX3_empties_27
    · refine zg_aload_n hO 0 dX3_empties_7 rfl rfl ?_
      refine xG_3_17 hO hX hi0 dX3_empties_8 ?_
      refine zg_iload_n hO 1 dX3_empties_11 rfl rfl ?_
      refine zg_null hO dX3_empties_12 ?_
      refine xS_topN hO hi0 h dX3_empties_13 (fun h => ?_)
      refine zg_aload_n hO 0 dX3_empties_14 rfl rfl ?_
      refine xG_3_21 hO hX hi0 dX3_empties_15 ?_
      refine zg_iload_n hO 1 dX3_empties_18 rfl rfl ?_
      refine zg_iconst hO dX3_empties_19 ic0 ?_
      refine xS_many hO hi0 h dX3_empties_20 (fun h => ?_)
      refine zg_iinc (k := 1) (lv' := [(1, .int (x1 + (nI 1))), (0, .ref (G (48 + 3 * i0)))]) hO dX3_empties_21 rfl (zii ic1) (Nat.le_of_ble_eq_true rfl) rfl ?_
      refine zg_goto (tgt := 2) hO dX3_empties_24 (by decide) ?_
      exact zg_sub [1, 0] rfl (ih _ _ _ hi0 h)
theorem mw_X3_empties : MwX yX3_empties cX3_empties 2 none RX3 0 := ⟨by decide +kernel, q1189, q1190, q88, q1191⟩
set_option maxHeartbeats 4000000 in
theorem m_Xl_empties (l : Launch) (D : va_G) (dA : Nat → ClassId) (G : Nat → Nat) {i0 : Nat} {σ : XS} (hi0 : i0 < 5) (tb : Nat) (ad : Nat → Nat) {ρ : XS} (h : Xl_empties i0 σ = some ρ) : CtX l yX3_empties (ws_ yX3_empties cX3_empties 2 none) 0 0 0 D dA G [.ref (G (48 + 3 * i0))] (WX dA G tb ad σ) (QgV D dA (fun _ : Unit => WX dA G tb ad ρ)) := by
  refine zx_start (cc := cX3_empties) (nL := 2) (ret := none) (own := RX3) (by decide) rfl rfl (Nat.le_of_ble_eq_true rfl) (fun p e s m args below meth c A hO hX hr _ _ => ?_)
  unfold Xl_empties at h
  refine zg_sub (lv' := [(0, .ref (G (48 + 3 * i0)))]) [0] rfl ?_
  refine zg_iconst hO dX3_empties_0 ic0 ?_
  refine zg_istore_n (lv' := [(1, .int (nI 0)), (0, .ref (G (48 + 3 * i0)))]) hO dX3_empties_1 rfl (Nat.le_of_ble_eq_true rfl) rfl ?_
  exact zg_sub [1, 0] rfl (w_Xl_empties_2 hO hX hr _ _ _ _ hi0 h)
theorem mw_X1_clears : MwX yX1_clears cX1_clears 3 (some .int) RX1 1 := ⟨by decide +kernel, q1492, q1493, q85, q1494⟩
set_option maxHeartbeats 4000000 in
theorem m_X_clears (l : Launch) (D : va_G) (dA : Nat → ClassId) (G : Nat → Nat) {x1 : Int32} {σ : XS} (tb : Nat) (ad : Nat → Nat) {ρ : Int32 × XS} (h : X_clears x1 σ = some ρ) : CtX l yX1_clears (ws_ yX1_clears cX1_clears 3 (some .int)) 2 0 0 D dA G [.ref (G 0), .int x1] (WX dA G tb ad σ) (QgI D dA (fun _ : Unit => WX dA G tb ad ρ.2) ρ.1) := by
  refine zx_start (cc := cX1_clears) (nL := 3) (ret := (some .int)) (own := RX1) (by decide) rfl rfl (Nat.le_of_ble_eq_true rfl) (fun p e s m args below meth c A hO hX hr _ _ => ?_)
  unfold X_clears at h
  refine zg_sub (lv' := [(0, .ref (G 0)), (1, .int x1)]) [0, 1] rfl ?_
  refine zg_iload_n hO 1 dX1_clears_0 rfl rfl ?_
  refine zs_calli (As := [.int x1]) (rest := []) hO h (fun q hq => m_X_isLine l D dA hq) mw_X1_isLine q1398 ⟨Nat.le_of_ble_eq_true rfl, Nat.le_of_ble_eq_true rfl⟩ ⟨Nat.le_refl _, Nat.le_refl _⟩ rfl rfl (Nat.le_of_ble_eq_true rfl) dX1_clears_1 (fun q1 h => ?_)
  refine zg_if_ne (tgt := 9) hO h dX1_clears_4 (by decide) (fun h => ?_) (fun h => ?_)
  · refine zg_aload_n hO 0 dX1_clears_9 rfl rfl ?_
    refine xG_1_162 hO hX dX1_clears_10 ?_
    refine zg_iload_n hO 1 dX1_clears_13 rfl rfl ?_
    refine zy_lget (rest := []) hO hX h q1406 (Nat.le_of_ble_eq_true rfl) dX1_clears_14 (fun hb2 h => ?_) ⟨Nat.le_refl _, Nat.le_refl _⟩
    refine zy_castL hO hb2 q231 dX1_clears_19 ?_
    refine zy_callViF (b := G (48 + 3 * x1.toNatClampNeg)) (As := []) (rest := []) hO hX h (fun q hq => m_Xl_size l D dA G hb2 tb ad hq) mw_X3_size q1407 ⟨Nat.le_of_ble_eq_true rfl, Nat.le_of_ble_eq_true rfl⟩ ⟨Nat.le_refl _, Nat.le_refl _⟩ rfl rfl (Nat.le_of_ble_eq_true rfl) ⟨40 + 3 * x1.toNatClampNeg, 2, _, _, wx_line hb2, rfl, rfl⟩ dX1_clears_22 (fun q3 h => ?_)
    refine zg_istore_n (lv' := [(2, .int q3.1), (0, .ref (G 0)), (1, .int x1)]) hO dX1_clears_25 rfl (Nat.le_of_ble_eq_true rfl) rfl ?_
    refine zg_aload_n hO 1 dX1_clears_26 rfl rfl ?_
    refine xG_1_162 hO hX dX1_clears_27 ?_
    refine zg_iload_n hO 2 dX1_clears_30 rfl rfl ?_
    refine zy_lget (rest := []) hO hX h q1406 (Nat.le_of_ble_eq_true rfl) dX1_clears_31 (fun hb4 h => ?_) ⟨Nat.le_refl _, Nat.le_refl _⟩
    refine zy_castL hO hb4 q231 dX1_clears_36 ?_
    refine zy_callVvF (b := G (48 + 3 * x1.toNatClampNeg)) (As := []) (rest := []) hO hX h (fun q hq => m_Xl_empties l D dA G hb4 tb ad hq) mw_X3_empties q1495 ⟨Nat.le_of_ble_eq_true rfl, Nat.le_of_ble_eq_true rfl⟩ ⟨Nat.le_refl _, Nat.le_refl _⟩ rfl rfl (Nat.le_of_ble_eq_true rfl) ⟨40 + 3 * x1.toNatClampNeg, 2, _, _, wx_line hb4, rfl, rfl⟩ dX1_clears_39 (fun q5 h => ?_)
    refine zg_iload_n hO 0 dX1_clears_42 rfl rfl ?_
    exact zy_iretF hO hr h ⟨Nat.le_refl _, Nat.le_refl _⟩ dX1_clears_43
  · refine zg_iconst hO dX1_clears_7 icm1 ?_
    exact zy_iretF hO hr h ⟨Nat.le_refl _, Nat.le_refl _⟩ dX1_clears_8
theorem mw_X1_isWindow : MwX yX1_isWindow cX1_isWindow 2 (some .boolean) RX1 1 := ⟨by decide +kernel, q1602, qs40, q85, q1603⟩
set_option maxHeartbeats 4000000 in
theorem m_X_isWindow (l : Launch) (D : va_G) (dA : Nat → ClassId) (G : Nat → Nat) {x1 : Int32} {σ : XS} (tb : Nat) (ad : Nat → Nat) {ρ : Int32 × XS} (h : X_isWindow x1 σ = some ρ) : CtX l yX1_isWindow (ws_ yX1_isWindow cX1_isWindow 2 (some .boolean)) 1 0 0 D dA G [.ref (G 0), .int x1] (WX dA G tb ad σ) (QgI D dA (fun _ : Unit => WX dA G tb ad ρ.2) ρ.1) := by
  refine zx_start (cc := cX1_isWindow) (nL := 2) (ret := (some .boolean)) (own := RX1) (by decide) rfl rfl (Nat.le_of_ble_eq_true rfl) (fun p e s m args below meth c A hO hX hr _ _ => ?_)
  unfold X_isWindow at h
  refine zg_sub (lv' := [(0, .ref (G 0)), (1, .int x1)]) [0, 1] rfl ?_
  refine zg_iload_n hO 1 dX1_isWindow_0 rfl rfl ?_
  refine zg_i2l hO dX1_isWindow_1 ?_
  refine zg_lconst hO dX1_isWindow_2 lc1 ?_
  refine zg_ldc2 (x := 64) hO q1484 dX1_isWindow_3 ?_
  refine zs_calli (As := [.long (x1.toInt64), .long (lN 1), .long (64 : Int64)]) (rest := []) hO h (fun q hq => m_X_in l D dA hq) mw_X1_in q608 ⟨Nat.le_of_ble_eq_true rfl, Nat.le_of_ble_eq_true rfl⟩ ⟨Nat.le_refl _, Nat.le_refl _⟩ rfl rfl (Nat.le_of_ble_eq_true rfl) dX1_isWindow_6 (fun q1 h => ?_)
  exact zy_zretF hO hr (zg_some h).1 (zg_some h).2 ⟨Nat.le_refl _, Nat.le_refl _⟩ dX1_isWindow_9
set_option maxHeartbeats 4000000 in
theorem w_X_drainedBy_49 {tb : Nat} {ad : Nat → Nat} (hO : Ok p s m args meth c cX1_drainedBy RX1 6 D dA A) (hX : XK dA G A s) (hr : meth.sig.returnType = (some .int)) {ρ : Int32 × XS} {k18 : Int32 → Int32 → Int32 → XS → Option (Int32 × XS)} (K18 : ∀ (x3 : Int32) (x4 : Int32) (x5 : Int32) (σ : XS), k18 x3 x4 x5 σ = some ρ → Go p l e (rmG 1 0 0) s m args below meth c D A 6 (MQ below ((QgI D dA (fun _ : Unit => WX dA G tb ad ρ.2) ρ.1) A) args s 0 0 A) (WX dA G tb ad σ) 0 0 18 [(3, .int x3), (4, .int x4), (5, .int x5)] []) : ∀ (x3 : Int32) (x4 : Int32) (x5 : Int32) (σ : XS), X_drainedBy_49 k18 x3 x4 x5 σ = some ρ → Go p l e (rmG 1 0 0) s m args below meth c D A 6 (MQ below ((QgI D dA (fun _ : Unit => WX dA G tb ad ρ.2) ρ.1) A) args s 0 0 A) (WX dA G tb ad σ) 0 0 49 [(3, .int x3), (4, .int x4), (5, .int x5)] [] := by
  intro x3 x4 x5 σ h
  unfold X_drainedBy_49 at h
  refine zg_iinc (k := 0) (lv' := [(3, .int (x3 + (-1 : Int32))), (4, .int x4), (5, .int x5)]) hO dX1_drainedBy_49 rfl (zii icm1) (Nat.le_of_ble_eq_true rfl) rfl ?_
  refine zg_goto (tgt := 18) hO dX1_drainedBy_52 (by decide) ?_
  exact zg_sub [0, 1, 2] rfl (K18 _ _ _ _ h)
set_option maxHeartbeats 4000000 in
theorem w_X_drainedBy_18 {tb : Nat} {ad : Nat → Nat} (hO : Ok p s m args meth c cX1_drainedBy RX1 6 D dA A) (hX : XK dA G A s) (hr : meth.sig.returnType = (some .int)) {ρ : Int32 × XS} : ∀ (n : Nat) (x3 : Int32) (x4 : Int32) (x5 : Int32) (σ : XS), X_drainedBy_18 n x3 x4 x5 σ = some ρ → Go p l e (rmG 1 0 0) s m args below meth c D A 6 (MQ below ((QgI D dA (fun _ : Unit => WX dA G tb ad ρ.2) ρ.1) A) args s 0 0 A) (WX dA G tb ad σ) 0 0 18 [(3, .int x3), (4, .int x4), (5, .int x5)] [] := by
  intro n
  induction n with
  | zero =>
    intro x3 x4 x5 σ h
    rw [X_drainedBy_18] at h
    cases h
  | succ n ih =>
    intro x3 x4 x5 σ h
    rw [X_drainedBy_18] at h
    refine zg_iload_n hO 0 dX1_drainedBy_18 rfl rfl ?_
    refine zg_iload hO 1 dX1_drainedBy_19 rfl ?_
    refine zg_iadd hO dX1_drainedBy_21 ?_
    refine zg_if_le (tgt := 55) hO h dX1_drainedBy_22 (by decide) (fun h => ?_) (fun h => ?_)
    · refine zg_iload hO 2 dX1_drainedBy_55 rfl ?_
      exact zy_iretF hO hr h ⟨Nat.le_refl _, Nat.le_refl _⟩ dX1_drainedBy_57
    · refine zg_iload_n hO 0 dX1_drainedBy_25 rfl rfl ?_
      refine zg_if_ne (tgt := 49) hO h dX1_drainedBy_26 (by decide) (fun h => ?_) (fun h => ?_)
      · exact zg_sub [0, 1, 2] rfl (w_X_drainedBy_49 hO hX hr ih _ _ _ _ h)
      · refine zg_iload hO 2 dX1_drainedBy_29 rfl ?_
        refine zg_iload hO 1 dX1_drainedBy_31 rfl ?_
        refine zg_iadd hO dX1_drainedBy_33 ?_
        refine zg_istore (lv' := [(5, .int (x5 + x4)), (3, .int x3), (4, .int x4)]) hO dX1_drainedBy_34 (Nat.le_of_ble_eq_true rfl) rfl ?_
        refine zg_iload hO 2 dX1_drainedBy_36 rfl ?_
        refine zg_iconst hO dX1_drainedBy_38 ic1 ?_
        refine zg_iadd hO dX1_drainedBy_39 ?_
        refine zg_iconst hO dX1_drainedBy_40 ic2 ?_
        refine zg_idiv hO h dX1_drainedBy_41 (fun h => ?_)
        refine zg_istore_n (lv' := [(3, .int ((x4 + (nI 1)) / (nI 2))), (5, .int (x5 + x4)), (4, .int x4)]) hO dX1_drainedBy_42 rfl (Nat.le_of_ble_eq_true rfl) rfl ?_
        refine zg_iload hO 2 dX1_drainedBy_43 rfl ?_
        refine zg_iload_n hO 0 dX1_drainedBy_45 rfl rfl ?_
        refine zg_isub hO dX1_drainedBy_46 ?_
        refine zg_istore (lv' := [(4, .int (x4 - ((x4 + (nI 1)) / (nI 2)))), (3, .int ((x4 + (nI 1)) / (nI 2))), (5, .int (x5 + x4))]) hO dX1_drainedBy_47 (Nat.le_of_ble_eq_true rfl) rfl ?_
        exact zg_sub [1, 0, 2] rfl (w_X_drainedBy_49 hO hX hr ih _ _ _ _ h)
theorem mw_X1_drainedBy : MwX yX1_drainedBy cX1_drainedBy 6 (some .int) RX1 2 := ⟨by decide +kernel, q1626, qs41, q85, q1627⟩
set_option maxHeartbeats 4000000 in
theorem m_X_drainedBy (l : Launch) (D : va_G) (dA : Nat → ClassId) (G : Nat → Nat) {i1 : Nat} {x2 : Int32} {σ : XS} (hi1 : i1 < 5) (tb : Nat) (ad : Nat → Nat) {ρ : Int32 × XS} (h : X_drainedBy i1 x2 σ = some ρ) : CtX l yX1_drainedBy (ws_ yX1_drainedBy cX1_drainedBy 6 (some .int)) 1 0 0 D dA G [.ref (G 0), .ref (G (48 + 3 * i1)), .int x2] (WX dA G tb ad σ) (QgI D dA (fun _ : Unit => WX dA G tb ad ρ.2) ρ.1) := by
  refine zx_start (cc := cX1_drainedBy) (nL := 6) (ret := (some .int)) (own := RX1) (by decide) rfl rfl (Nat.le_of_ble_eq_true rfl) (fun p e s m args below meth c A hO hX hr _ _ => ?_)
  unfold X_drainedBy at h
  refine zg_sub (lv' := [(0, .ref (G 0)), (1, .ref (G (48 + 3 * i1))), (2, .int x2)]) [0, 1, 2] rfl ?_
  refine zg_aload_n hO 1 dX1_drainedBy_0 rfl rfl ?_
  refine xG_1_225 hO hX hi1 dX1_drainedBy_1 ?_
  refine zg_iload_n hO 2 dX1_drainedBy_4 rfl rfl ?_
  refine xL_many hO hi1 h dX1_drainedBy_5 (fun h => ?_)
  refine zg_istore_n (lv' := [(3, .int (xA σ (5 + i1) x2.toNatClampNeg)), (0, .ref (G 0)), (1, .ref (G (48 + 3 * i1))), (2, .int x2)]) hO dX1_drainedBy_6 rfl (Nat.le_of_ble_eq_true rfl) rfl ?_
  refine zg_aload_n hO 2 dX1_drainedBy_7 rfl rfl ?_
  refine zy_callViF (b := G (48 + 3 * i1)) (As := []) (rest := []) hO hX h (fun q hq => m_Xl_size l D dA G hi1 tb ad hq) mw_X3_size q1407 ⟨Nat.le_of_ble_eq_true rfl, Nat.le_of_ble_eq_true rfl⟩ ⟨Nat.le_refl _, Nat.le_refl _⟩ rfl rfl (Nat.le_of_ble_eq_true rfl) ⟨40 + 3 * i1, 2, _, _, wx_line hi1, rfl, rfl⟩ dX1_drainedBy_8 (fun q1 h => ?_)
  refine zg_iload_n hO 0 dX1_drainedBy_11 rfl rfl ?_
  refine zg_isub hO dX1_drainedBy_12 ?_
  refine zg_istore (lv' := [(4, .int (q1.1 - (xA σ (5 + i1) x2.toNatClampNeg))), (3, .int (xA σ (5 + i1) x2.toNatClampNeg)), (0, .ref (G 0)), (1, .ref (G (48 + 3 * i1))), (2, .int x2)]) hO dX1_drainedBy_13 (Nat.le_of_ble_eq_true rfl) rfl ?_
  refine zg_iconst hO dX1_drainedBy_15 ic0 ?_
  refine zg_istore (lv' := [(5, .int (nI 0)), (4, .int (q1.1 - (xA σ (5 + i1) x2.toNatClampNeg))), (3, .int (xA σ (5 + i1) x2.toNatClampNeg)), (0, .ref (G 0)), (1, .ref (G (48 + 3 * i1))), (2, .int x2)]) hO dX1_drainedBy_16 (Nat.le_of_ble_eq_true rfl) rfl ?_
  exact zg_sub [2, 1, 0] rfl (w_X_drainedBy_18 hO hX hr _ _ _ _ _ h)
set_option maxHeartbeats 4000000 in
theorem w_X_drains_55 {tb : Nat} {ad : Nat → Nat} (hO : Ok p s m args meth c cX1_drains RX1 5 D dA A) (hX : XK dA G A s) (hr : meth.sig.returnType = (some .int)) {ρ : Int32 × XS} : ∀ (x3 : Int32) (x4 : Int32) (y0 : Int64) (σ : XS), X_drains_55 x3 x4 y0 σ = some ρ → Go p l e (rmG 2 0 0) s m args below meth c D A 5 (MQ below ((QgI D dA (fun _ : Unit => WX dA G tb ad ρ.2) ρ.1) A) args s 0 0 A) (WX dA G tb ad σ) 0 0 55 [(0, .ref (G 0)), (3, .int x3), (4, .int x4)] [.long y0, .ref (G 0)] := by
  intro x3 x4 y0 σ h
  unfold X_drains_55 at h
  refine zy_callVvF (b := G 0) (As := [.long y0]) (rest := []) hO hX h (fun q hq => m_X_tells l D dA G tb ad hq) mw_X1_tells q1272 ⟨Nat.le_of_ble_eq_true rfl, Nat.le_of_ble_eq_true rfl⟩ ⟨Nat.le_refl _, Nat.le_refl _⟩ rfl rfl (Nat.le_of_ble_eq_true rfl) ⟨0, 1, _, _, rfl, rfl, rfl⟩ dX1_drains_55 (fun q5 h => ?_)
  refine zg_aload_n hO 0 dX1_drains_58 rfl rfl ?_
  refine zg_iload_n hO 1 dX1_drains_59 rfl rfl ?_
  refine zg_i2l hO dX1_drains_60 ?_
  refine zy_callVvF (b := G 0) (As := [.long (x3.toInt64)]) (rest := []) hO hX h (fun q hq => m_X_tells l D dA G tb ad hq) mw_X1_tells q1272 ⟨Nat.le_of_ble_eq_true rfl, Nat.le_of_ble_eq_true rfl⟩ ⟨Nat.le_refl _, Nat.le_refl _⟩ rfl rfl (Nat.le_of_ble_eq_true rfl) ⟨0, 1, _, _, rfl, rfl, rfl⟩ dX1_drains_61 (fun q6 h => ?_)
  refine zg_aload_n hO 0 dX1_drains_64 rfl rfl ?_
  refine zg_iload hO 2 dX1_drains_65 rfl ?_
  refine zg_i2l hO dX1_drains_67 ?_
  refine zy_callVvF (b := G 0) (As := [.long (x4.toInt64)]) (rest := []) hO hX h (fun q hq => m_X_tells l D dA G tb ad hq) mw_X1_tells q1272 ⟨Nat.le_of_ble_eq_true rfl, Nat.le_of_ble_eq_true rfl⟩ ⟨Nat.le_refl _, Nat.le_refl _⟩ rfl rfl (Nat.le_of_ble_eq_true rfl) ⟨0, 1, _, _, rfl, rfl, rfl⟩ dX1_drains_68 (fun q7 h => ?_)
  refine zg_iload_n hO 1 dX1_drains_71 rfl rfl ?_
  refine zg_iload hO 2 dX1_drains_72 rfl ?_
  refine zs_mmin (rest := []) hO q1628 (Nat.le_of_ble_eq_true rfl) (Nat.le_of_ble_eq_true rfl) ⟨Nat.le_refl _, Nat.le_refl _⟩ dX1_drains_74 ?_
  exact zy_iretF hO hr h ⟨Nat.le_refl _, Nat.le_refl _⟩ dX1_drains_77
theorem mw_X1_drains : MwX yX1_drains cX1_drains 5 (some .int) RX1 1 := ⟨by decide +kernel, q1621, q1622, q85, q1623⟩
set_option maxHeartbeats 4000000 in
theorem m_X_drains (l : Launch) (D : va_G) (dA : Nat → ClassId) (G : Nat → Nat) {x1 : Int32} {σ : XS} (tb : Nat) (ad : Nat → Nat) {ρ : Int32 × XS} (h : X_drains x1 σ = some ρ) : CtX l yX1_drains (ws_ yX1_drains cX1_drains 5 (some .int)) 2 0 0 D dA G [.ref (G 0), .int x1] (WX dA G tb ad σ) (QgI D dA (fun _ : Unit => WX dA G tb ad ρ.2) ρ.1) := by
  refine zx_start (cc := cX1_drains) (nL := 5) (ret := (some .int)) (own := RX1) (by decide) rfl rfl (Nat.le_of_ble_eq_true rfl) (fun p e s m args below meth c A hO hX hr _ _ => ?_)
  unfold X_drains at h
  refine zg_sub (lv' := [(0, .ref (G 0)), (1, .int x1)]) [0, 1] rfl ?_
  refine zg_iload_n hO 1 dX1_drains_0 rfl rfl ?_
  refine zs_calli (As := [.int x1]) (rest := []) hO h (fun q hq => m_X_isLine l D dA hq) mw_X1_isLine q1398 ⟨Nat.le_of_ble_eq_true rfl, Nat.le_of_ble_eq_true rfl⟩ ⟨Nat.le_refl _, Nat.le_refl _⟩ rfl rfl (Nat.le_of_ble_eq_true rfl) dX1_drains_1 (fun q1 h => ?_)
  refine zg_if_ne (tgt := 9) hO h dX1_drains_4 (by decide) (fun h => ?_) (fun h => ?_)
  · refine zg_aload_n hO 0 dX1_drains_9 rfl rfl ?_
    refine xG_1_162 hO hX dX1_drains_10 ?_
    refine zg_iload_n hO 1 dX1_drains_13 rfl rfl ?_
    refine zy_lget (rest := []) hO hX h q1406 (Nat.le_of_ble_eq_true rfl) dX1_drains_14 (fun hb2 h => ?_) ⟨Nat.le_refl _, Nat.le_refl _⟩
    refine zy_castL hO hb2 q231 dX1_drains_19 ?_
    refine zg_astore_n (lv' := [(2, .ref (G (48 + 3 * x1.toNatClampNeg))), (0, .ref (G 0)), (1, .int x1)]) hO dX1_drains_22 rfl (Nat.le_of_ble_eq_true rfl) rfl ?_
    refine zg_aload_n hO 1 dX1_drains_23 rfl rfl ?_
    refine zg_aload_n hO 0 dX1_drains_24 rfl rfl ?_
    refine zg_iconst hO dX1_drains_25 ic0 ?_
    refine zy_callViF (b := G 0) (As := [.ref (G (48 + 3 * x1.toNatClampNeg)), .int (nI 0)]) (rest := []) hO hX h (fun q hq => m_X_drainedBy l D dA G hb2 tb ad hq) mw_X1_drainedBy q1624 ⟨Nat.le_of_ble_eq_true rfl, Nat.le_of_ble_eq_true rfl⟩ ⟨Nat.le_refl _, Nat.le_refl _⟩ rfl rfl (Nat.le_of_ble_eq_true rfl) ⟨0, 1, _, _, rfl, rfl, rfl⟩ dX1_drains_26 (fun q3 h => ?_)
    refine zg_istore_n (lv' := [(3, .int q3.1), (2, .ref (G (48 + 3 * x1.toNatClampNeg))), (0, .ref (G 0)), (1, .int x1)]) hO dX1_drains_29 rfl (Nat.le_of_ble_eq_true rfl) rfl ?_
    refine zg_aload_n hO 2 dX1_drains_30 rfl rfl ?_
    refine zg_aload_n hO 1 dX1_drains_31 rfl rfl ?_
    refine zg_iconst hO dX1_drains_32 ic1 ?_
    refine zy_callViF (b := G 0) (As := [.ref (G (48 + 3 * x1.toNatClampNeg)), .int (nI 1)]) (rest := []) hO hX h (fun q hq => m_X_drainedBy l D dA G hb2 tb ad hq) mw_X1_drainedBy q1624 ⟨Nat.le_of_ble_eq_true rfl, Nat.le_of_ble_eq_true rfl⟩ ⟨Nat.le_refl _, Nat.le_refl _⟩ rfl rfl (Nat.le_of_ble_eq_true rfl) ⟨0, 1, _, _, rfl, rfl, rfl⟩ dX1_drains_33 (fun q4 h => ?_)
    refine zg_istore (lv' := [(4, .int q4.1), (3, .int q3.1), (2, .ref (G (48 + 3 * x1.toNatClampNeg))), (0, .ref (G 0)), (1, .int x1)]) hO dX1_drains_36 (Nat.le_of_ble_eq_true rfl) rfl ?_
    refine zg_aload_n hO 3 dX1_drains_38 rfl rfl ?_
    refine zg_iconst hO dX1_drains_39 ic0 ?_
    refine xP_1_199 hO hX dX1_drains_40 ?_
    refine zg_aload_n hO 3 dX1_drains_43 rfl rfl ?_
    refine zg_iload hO 0 dX1_drains_44 rfl ?_
    refine zg_iload_n hO 1 dX1_drains_46 rfl rfl ?_
    refine zg_icmp_ge (tgt := 54) hO h dX1_drains_47 (by decide) (fun h => ?_) (fun h => ?_)
    · refine zg_lconst hO dX1_drains_54 lc0 ?_
      exact zg_sub [3, 1, 0] rfl (w_X_drains_55 hO hX hr _ _ _ _ h)
    · refine zg_lconst hO dX1_drains_50 lc1 ?_
      refine zg_goto (tgt := 55) hO dX1_drains_51 (by decide) ?_
      exact zg_sub [3, 1, 0] rfl (w_X_drains_55 hO hX hr _ _ _ _ h)
  · refine zg_iconst hO dX1_drains_7 icm1 ?_
    exact zy_iretF hO hr h ⟨Nat.le_refl _, Nat.le_refl _⟩ dX1_drains_8
theorem mw_X1_begins : MwX yX1_begins cX1_begins 1 none RX1 0 := ⟨by decide +kernel, q1639, qs42, q85, q1640⟩
set_option maxHeartbeats 4000000 in
theorem m_X_begins (l : Launch) (D : va_G) (dA : Nat → ClassId) (G : Nat → Nat) {σ : XS} (tb : Nat) (ad : Nat → Nat) {ρ : XS} (h : X_begins σ = some ρ) : CtX l yX1_begins (ws_ yX1_begins cX1_begins 1 none) 0 0 0 D dA G [.ref (G 0)] (WX dA G tb ad σ) (QgV D dA (fun _ : Unit => WX dA G tb ad ρ)) := by
  refine zx_start (cc := cX1_begins) (nL := 1) (ret := none) (own := RX1) (by decide) rfl rfl (Nat.le_of_ble_eq_true rfl) (fun p e s m args below meth c A hO hX hr _ _ => ?_)
  unfold X_begins at h
  refine zg_sub (lv' := [(0, .ref (G 0))]) [0] rfl ?_
  refine zg_aload_n hO 0 dX1_begins_0 rfl rfl ?_
  refine zg_dup hO dX1_begins_1 rfl ?_
  refine xG_1_411 hO hX dX1_begins_2 ?_
  refine zg_iconst hO dX1_begins_5 ic1 ?_
  refine zg_iadd hO dX1_begins_6 ?_
  refine xP_1_411 hO hX dX1_begins_7 ?_
  exact zy_vretF hO hr h ⟨Nat.le_refl _, Nat.le_refl _⟩ dX1_begins_10
theorem mw_J13_bitCount : MwS yJ13_bitCount cJ13_bitCount 1 (some .int) 1 := ⟨by decide +kernel, q1646, q101, q1647⟩
set_option maxHeartbeats 4000000 in
theorem m_Xi_bitCount (l : Launch) (D : va_G) (dA : Nat → ClassId) {x0 : Int32} {ρ : Int32} (h : Xi_bitCount x0 = some ρ) : Ct l yJ13_bitCount (ws_ yJ13_bitCount cJ13_bitCount 1 (some .int)) 0 0 0 D dA [.int x0] [] A0s (QfI D dA [] ρ) := by
  refine zc_start (cc := cJ13_bitCount) (nL := 1) (ret := (some .int)) (own := RJ13) (by decide) rfl rfl (Nat.le_of_ble_eq_true rfl) (fun _ _ h => h) (fun p e s m args below meth c hO hr _ _ => ?_)
  unfold Xi_bitCount at h
  refine zg_sub (lv' := [(0, .int x0)]) [0] rfl ?_
  refine zg_iload_n hO 0 dJ13_bitCount_0 rfl rfl ?_
  refine zg_iload_n hO 0 dJ13_bitCount_1 rfl rfl ?_
  refine zg_iconst hO dJ13_bitCount_2 ic1 ?_
  refine zg_iushr hO dJ13_bitCount_3 ?_
  refine zg_ldcw (x := 1431655765) hO q1648 dJ13_bitCount_4 ?_
  refine zg_iand hO dJ13_bitCount_7 ?_
  refine zg_isub hO dJ13_bitCount_8 ?_
  refine zg_istore_n (lv' := [(0, .int (x0 - (((x0.toUInt32 >>> ((nI 1).toUInt32 &&& Int32.toUInt32 31)).toInt32) &&& (1431655765 : Int32))))]) hO dJ13_bitCount_9 rfl (Nat.le_of_ble_eq_true rfl) rfl ?_
  refine zg_iload_n hO 0 dJ13_bitCount_10 rfl rfl ?_
  refine zg_ldcw (x := 858993459) hO q1649 dJ13_bitCount_11 ?_
  refine zg_iand hO dJ13_bitCount_14 ?_
  refine zg_iload_n hO 0 dJ13_bitCount_15 rfl rfl ?_
  refine zg_iconst hO dJ13_bitCount_16 ic2 ?_
  refine zg_iushr hO dJ13_bitCount_17 ?_
  refine zg_ldcw (x := 858993459) hO q1649 dJ13_bitCount_18 ?_
  refine zg_iand hO dJ13_bitCount_21 ?_
  refine zg_iadd hO dJ13_bitCount_22 ?_
  refine zg_istore_n (lv' := [(0, .int (((x0 - (((x0.toUInt32 >>> ((nI 1).toUInt32 &&& Int32.toUInt32 31)).toInt32) &&& (1431655765 : Int32))) &&& (858993459 : Int32)) + ((((x0 - (((x0.toUInt32 >>> ((nI 1).toUInt32 &&& Int32.toUInt32 31)).toInt32) &&& (1431655765 : Int32))).toUInt32 >>> ((nI 2).toUInt32 &&& Int32.toUInt32 31)).toInt32) &&& (858993459 : Int32))))]) hO dJ13_bitCount_23 rfl (Nat.le_of_ble_eq_true rfl) rfl ?_
  refine zg_iload_n hO 0 dJ13_bitCount_24 rfl rfl ?_
  refine zg_iload_n hO 0 dJ13_bitCount_25 rfl rfl ?_
  refine zg_iconst hO dJ13_bitCount_26 ic4 ?_
  refine zg_iushr hO dJ13_bitCount_27 ?_
  refine zg_iadd hO dJ13_bitCount_28 ?_
  refine zg_ldcw (x := 252645135) hO q1650 dJ13_bitCount_29 ?_
  refine zg_iand hO dJ13_bitCount_32 ?_
  refine zg_istore_n (lv' := [(0, .int (((((x0 - (((x0.toUInt32 >>> ((nI 1).toUInt32 &&& Int32.toUInt32 31)).toInt32) &&& (1431655765 : Int32))) &&& (858993459 : Int32)) + ((((x0 - (((x0.toUInt32 >>> ((nI 1).toUInt32 &&& Int32.toUInt32 31)).toInt32) &&& (1431655765 : Int32))).toUInt32 >>> ((nI 2).toUInt32 &&& Int32.toUInt32 31)).toInt32) &&& (858993459 : Int32))) + (((((x0 - (((x0.toUInt32 >>> ((nI 1).toUInt32 &&& Int32.toUInt32 31)).toInt32) &&& (1431655765 : Int32))) &&& (858993459 : Int32)) + ((((x0 - (((x0.toUInt32 >>> ((nI 1).toUInt32 &&& Int32.toUInt32 31)).toInt32) &&& (1431655765 : Int32))).toUInt32 >>> ((nI 2).toUInt32 &&& Int32.toUInt32 31)).toInt32) &&& (858993459 : Int32))).toUInt32 >>> ((nI 4).toUInt32 &&& Int32.toUInt32 31)).toInt32)) &&& (252645135 : Int32)))]) hO dJ13_bitCount_33 rfl (Nat.le_of_ble_eq_true rfl) rfl ?_
  refine zg_iload_n hO 0 dJ13_bitCount_34 rfl rfl ?_
  refine zg_iload_n hO 0 dJ13_bitCount_35 rfl rfl ?_
  refine zg_bipush hO dJ13_bitCount_36 bc8 ?_
  refine zg_iushr hO dJ13_bitCount_38 ?_
  refine zg_iadd hO dJ13_bitCount_39 ?_
  refine zg_istore_n (lv' := [(0, .int ((((((x0 - (((x0.toUInt32 >>> ((nI 1).toUInt32 &&& Int32.toUInt32 31)).toInt32) &&& (1431655765 : Int32))) &&& (858993459 : Int32)) + ((((x0 - (((x0.toUInt32 >>> ((nI 1).toUInt32 &&& Int32.toUInt32 31)).toInt32) &&& (1431655765 : Int32))).toUInt32 >>> ((nI 2).toUInt32 &&& Int32.toUInt32 31)).toInt32) &&& (858993459 : Int32))) + (((((x0 - (((x0.toUInt32 >>> ((nI 1).toUInt32 &&& Int32.toUInt32 31)).toInt32) &&& (1431655765 : Int32))) &&& (858993459 : Int32)) + ((((x0 - (((x0.toUInt32 >>> ((nI 1).toUInt32 &&& Int32.toUInt32 31)).toInt32) &&& (1431655765 : Int32))).toUInt32 >>> ((nI 2).toUInt32 &&& Int32.toUInt32 31)).toInt32) &&& (858993459 : Int32))).toUInt32 >>> ((nI 4).toUInt32 &&& Int32.toUInt32 31)).toInt32)) &&& (252645135 : Int32)) + (((((((x0 - (((x0.toUInt32 >>> ((nI 1).toUInt32 &&& Int32.toUInt32 31)).toInt32) &&& (1431655765 : Int32))) &&& (858993459 : Int32)) + ((((x0 - (((x0.toUInt32 >>> ((nI 1).toUInt32 &&& Int32.toUInt32 31)).toInt32) &&& (1431655765 : Int32))).toUInt32 >>> ((nI 2).toUInt32 &&& Int32.toUInt32 31)).toInt32) &&& (858993459 : Int32))) + (((((x0 - (((x0.toUInt32 >>> ((nI 1).toUInt32 &&& Int32.toUInt32 31)).toInt32) &&& (1431655765 : Int32))) &&& (858993459 : Int32)) + ((((x0 - (((x0.toUInt32 >>> ((nI 1).toUInt32 &&& Int32.toUInt32 31)).toInt32) &&& (1431655765 : Int32))).toUInt32 >>> ((nI 2).toUInt32 &&& Int32.toUInt32 31)).toInt32) &&& (858993459 : Int32))).toUInt32 >>> ((nI 4).toUInt32 &&& Int32.toUInt32 31)).toInt32)) &&& (252645135 : Int32)).toUInt32 >>> ((nI 8).toUInt32 &&& Int32.toUInt32 31)).toInt32)))]) hO dJ13_bitCount_40 rfl (Nat.le_of_ble_eq_true rfl) rfl ?_
  refine zg_iload_n hO 0 dJ13_bitCount_41 rfl rfl ?_
  refine zg_iload_n hO 0 dJ13_bitCount_42 rfl rfl ?_
  refine zg_bipush hO dJ13_bitCount_43 bc16 ?_
  refine zg_iushr hO dJ13_bitCount_45 ?_
  refine zg_iadd hO dJ13_bitCount_46 ?_
  refine zg_istore_n (lv' := [(0, .int (((((((x0 - (((x0.toUInt32 >>> ((nI 1).toUInt32 &&& Int32.toUInt32 31)).toInt32) &&& (1431655765 : Int32))) &&& (858993459 : Int32)) + ((((x0 - (((x0.toUInt32 >>> ((nI 1).toUInt32 &&& Int32.toUInt32 31)).toInt32) &&& (1431655765 : Int32))).toUInt32 >>> ((nI 2).toUInt32 &&& Int32.toUInt32 31)).toInt32) &&& (858993459 : Int32))) + (((((x0 - (((x0.toUInt32 >>> ((nI 1).toUInt32 &&& Int32.toUInt32 31)).toInt32) &&& (1431655765 : Int32))) &&& (858993459 : Int32)) + ((((x0 - (((x0.toUInt32 >>> ((nI 1).toUInt32 &&& Int32.toUInt32 31)).toInt32) &&& (1431655765 : Int32))).toUInt32 >>> ((nI 2).toUInt32 &&& Int32.toUInt32 31)).toInt32) &&& (858993459 : Int32))).toUInt32 >>> ((nI 4).toUInt32 &&& Int32.toUInt32 31)).toInt32)) &&& (252645135 : Int32)) + (((((((x0 - (((x0.toUInt32 >>> ((nI 1).toUInt32 &&& Int32.toUInt32 31)).toInt32) &&& (1431655765 : Int32))) &&& (858993459 : Int32)) + ((((x0 - (((x0.toUInt32 >>> ((nI 1).toUInt32 &&& Int32.toUInt32 31)).toInt32) &&& (1431655765 : Int32))).toUInt32 >>> ((nI 2).toUInt32 &&& Int32.toUInt32 31)).toInt32) &&& (858993459 : Int32))) + (((((x0 - (((x0.toUInt32 >>> ((nI 1).toUInt32 &&& Int32.toUInt32 31)).toInt32) &&& (1431655765 : Int32))) &&& (858993459 : Int32)) + ((((x0 - (((x0.toUInt32 >>> ((nI 1).toUInt32 &&& Int32.toUInt32 31)).toInt32) &&& (1431655765 : Int32))).toUInt32 >>> ((nI 2).toUInt32 &&& Int32.toUInt32 31)).toInt32) &&& (858993459 : Int32))).toUInt32 >>> ((nI 4).toUInt32 &&& Int32.toUInt32 31)).toInt32)) &&& (252645135 : Int32)).toUInt32 >>> ((nI 8).toUInt32 &&& Int32.toUInt32 31)).toInt32)) + ((((((((x0 - (((x0.toUInt32 >>> ((nI 1).toUInt32 &&& Int32.toUInt32 31)).toInt32) &&& (1431655765 : Int32))) &&& (858993459 : Int32)) + ((((x0 - (((x0.toUInt32 >>> ((nI 1).toUInt32 &&& Int32.toUInt32 31)).toInt32) &&& (1431655765 : Int32))).toUInt32 >>> ((nI 2).toUInt32 &&& Int32.toUInt32 31)).toInt32) &&& (858993459 : Int32))) + (((((x0 - (((x0.toUInt32 >>> ((nI 1).toUInt32 &&& Int32.toUInt32 31)).toInt32) &&& (1431655765 : Int32))) &&& (858993459 : Int32)) + ((((x0 - (((x0.toUInt32 >>> ((nI 1).toUInt32 &&& Int32.toUInt32 31)).toInt32) &&& (1431655765 : Int32))).toUInt32 >>> ((nI 2).toUInt32 &&& Int32.toUInt32 31)).toInt32) &&& (858993459 : Int32))).toUInt32 >>> ((nI 4).toUInt32 &&& Int32.toUInt32 31)).toInt32)) &&& (252645135 : Int32)) + (((((((x0 - (((x0.toUInt32 >>> ((nI 1).toUInt32 &&& Int32.toUInt32 31)).toInt32) &&& (1431655765 : Int32))) &&& (858993459 : Int32)) + ((((x0 - (((x0.toUInt32 >>> ((nI 1).toUInt32 &&& Int32.toUInt32 31)).toInt32) &&& (1431655765 : Int32))).toUInt32 >>> ((nI 2).toUInt32 &&& Int32.toUInt32 31)).toInt32) &&& (858993459 : Int32))) + (((((x0 - (((x0.toUInt32 >>> ((nI 1).toUInt32 &&& Int32.toUInt32 31)).toInt32) &&& (1431655765 : Int32))) &&& (858993459 : Int32)) + ((((x0 - (((x0.toUInt32 >>> ((nI 1).toUInt32 &&& Int32.toUInt32 31)).toInt32) &&& (1431655765 : Int32))).toUInt32 >>> ((nI 2).toUInt32 &&& Int32.toUInt32 31)).toInt32) &&& (858993459 : Int32))).toUInt32 >>> ((nI 4).toUInt32 &&& Int32.toUInt32 31)).toInt32)) &&& (252645135 : Int32)).toUInt32 >>> ((nI 8).toUInt32 &&& Int32.toUInt32 31)).toInt32)).toUInt32 >>> ((nI 16).toUInt32 &&& Int32.toUInt32 31)).toInt32)))]) hO dJ13_bitCount_47 rfl (Nat.le_of_ble_eq_true rfl) rfl ?_
  refine zg_iload_n hO 0 dJ13_bitCount_48 rfl rfl ?_
  refine zg_bipush hO dJ13_bitCount_49 bc63 ?_
  refine zg_iand hO dJ13_bitCount_51 ?_
  exact zs_iret hO hr h dJ13_bitCount_52
set_option maxHeartbeats 4000000 in
theorem w_X_meets_98 {tb : Nat} {ad : Nat → Nat} (hO : Ok p s m args meth c cX1_meets RX1 9 D dA A) (hX : XK dA G A s) (hr : meth.sig.returnType = (some .int)) {ρ : Int32 × XS} {k30 : Int32 → Int32 → Nat → Int32 → Int32 → XS → Option (Int32 × XS)} {k48 : Int32 → Int32 → Nat → Int32 → Int32 → Option Nat → XS → Option (Int32 × XS)} (K30 : ∀ (x1 : Int32) (x2 : Int32) (i4 : Nat) (x5 : Int32) (x6 : Int32) (σ : XS) (hi4 : i4 < 5), k30 x1 x2 i4 x5 x6 σ = some ρ → Go p l e (rmG 2 0 0) s m args below meth c D A 9 (MQ below ((QgI D dA (fun _ : Unit => WX dA G tb ad ρ.2) ρ.1) A) args s 0 0 A) (WX dA G tb ad σ) 0 0 30 [(0, .ref (G 0)), (1, .int x1), (2, .int x2), (4, .ref (G (49 + 3 * i4))), (5, .int x5), (6, .int x6)] []) (K48 : ∀ (x1 : Int32) (x2 : Int32) (i4 : Nat) (x5 : Int32) (x6 : Int32) (o8 : Option Nat) (σ : XS) (hi4 : i4 < 5), k48 x1 x2 i4 x5 x6 o8 σ = some ρ → Go p l e (rmG 2 0 0) s m args below meth c D A 9 (MQ below ((QgI D dA (fun _ : Unit => WX dA G tb ad ρ.2) ρ.1) A) args s 0 0 A) (WX dA G tb ad σ) 0 0 48 [(0, .ref (G 0)), (1, .int x1), (2, .int x2), (4, .ref (G (49 + 3 * i4))), (5, .int x5), (6, .int x6), (8, va_rf (Option.map ad o8))] []) : ∀ (x1 : Int32) (i4 : Nat) (x5 : Int32) (x6 : Int32) (i8 : Nat) (y0 : Int32) (y1 : Int32) (σ : XS) (hi4 : i4 < 5), X_meets_98 k30 k48 x1 i4 x5 x6 i8 y0 y1 σ = some ρ → Go p l e (rmG 2 0 0) s m args below meth c D A 9 (MQ below ((QgI D dA (fun _ : Unit => WX dA G tb ad ρ.2) ρ.1) A) args s 0 0 A) (WX dA G tb ad σ) 0 0 98 [(0, .ref (G 0)), (1, .int x1), (4, .ref (G (49 + 3 * i4))), (5, .int x5), (6, .int x6), (8, .ref (ad i8))] [.int y0, .int y1] := by
  intro x1 i4 x5 x6 i8 y0 y1 σ hi4 h
  unfold X_meets_98 at h
  refine zg_iadd hO dX1_meets_98 ?_
  refine zg_istore_n (lv' := [(2, .int (y1 + y0)), (0, .ref (G 0)), (1, .int x1), (4, .ref (G (49 + 3 * i4))), (5, .int x5), (6, .int x6), (8, .ref (ad i8))]) hO dX1_meets_99 rfl (Nat.le_of_ble_eq_true rfl) rfl ?_
  refine zg_aload hO 6 dX1_meets_100 rfl ?_
  refine zg_dup hO dX1_meets_102 rfl ?_
  refine xG_1_415 hO hX h dX1_meets_103 (fun h => ?_)
  refine zg_iconst hO dX1_meets_106 ic1 ?_
  refine zg_iload_n hO 2 dX1_meets_107 rfl rfl ?_
  refine zg_ishl hO dX1_meets_108 ?_
  refine zg_ior hO dX1_meets_109 ?_
  refine xP_1_415 hO hX h dX1_meets_110 (fun h => ?_)
  refine zg_aload hO 6 dX1_meets_113 rfl ?_
  refine xG_1_386 hO hX h dX1_meets_115 (fun h => ?_)
  refine zg_astoreO (lv' := [(8, va_rf (Option.map ad (rB (xC (zC σ i8 (uL (xC σ i8) ((rL (xC σ i8)) ||| ((nI 1) <<< (x1 &&& 31))))) i8)))), (2, .int (y1 + y0)), (0, .ref (G 0)), (1, .int x1), (4, .ref (G (49 + 3 * i4))), (5, .int x5), (6, .int x6)]) hO dX1_meets_118 (Nat.le_of_ble_eq_true rfl) rfl ?_
  refine zg_goto (tgt := 48) hO dX1_meets_120 (by decide) ?_
  exact zg_sub [2, 3, 1, 4, 5, 6, 0] rfl (K48 _ _ _ _ _ _ _ hi4 h)
set_option maxHeartbeats 4000000 in
theorem w_X_meets_71 {tb : Nat} {ad : Nat → Nat} (hO : Ok p s m args meth c cX1_meets RX1 9 D dA A) (hX : XK dA G A s) (hr : meth.sig.returnType = (some .int)) {ρ : Int32 × XS} {k30 : Int32 → Int32 → Nat → Int32 → Int32 → XS → Option (Int32 × XS)} {k48 : Int32 → Int32 → Nat → Int32 → Int32 → Option Nat → XS → Option (Int32 × XS)} (K30 : ∀ (x1 : Int32) (x2 : Int32) (i4 : Nat) (x5 : Int32) (x6 : Int32) (σ : XS) (hi4 : i4 < 5), k30 x1 x2 i4 x5 x6 σ = some ρ → Go p l e (rmG 2 0 0) s m args below meth c D A 9 (MQ below ((QgI D dA (fun _ : Unit => WX dA G tb ad ρ.2) ρ.1) A) args s 0 0 A) (WX dA G tb ad σ) 0 0 30 [(0, .ref (G 0)), (1, .int x1), (2, .int x2), (4, .ref (G (49 + 3 * i4))), (5, .int x5), (6, .int x6)] []) (K48 : ∀ (x1 : Int32) (x2 : Int32) (i4 : Nat) (x5 : Int32) (x6 : Int32) (o8 : Option Nat) (σ : XS) (hi4 : i4 < 5), k48 x1 x2 i4 x5 x6 o8 σ = some ρ → Go p l e (rmG 2 0 0) s m args below meth c D A 9 (MQ below ((QgI D dA (fun _ : Unit => WX dA G tb ad ρ.2) ρ.1) A) args s 0 0 A) (WX dA G tb ad σ) 0 0 48 [(0, .ref (G 0)), (1, .int x1), (2, .int x2), (4, .ref (G (49 + 3 * i4))), (5, .int x5), (6, .int x6), (8, va_rf (Option.map ad o8))] []) : ∀ (x1 : Int32) (x2 : Int32) (i4 : Nat) (x5 : Int32) (x6 : Int32) (i8 : Nat) (σ : XS) (hi4 : i4 < 5), X_meets_71 k30 k48 x1 x2 i4 x5 x6 i8 σ = some ρ → Go p l e (rmG 2 0 0) s m args below meth c D A 9 (MQ below ((QgI D dA (fun _ : Unit => WX dA G tb ad ρ.2) ρ.1) A) args s 0 0 A) (WX dA G tb ad σ) 0 0 71 [(0, .ref (G 0)), (1, .int x1), (2, .int x2), (4, .ref (G (49 + 3 * i4))), (5, .int x5), (6, .int x6), (8, .ref (ad i8))] [] := by
  intro x1 x2 i4 x5 x6 i8 σ hi4 h
  unfold X_meets_71 at h
  refine zg_aload hO 6 dX1_meets_71 rfl ?_
  refine zg_aload_n hO 0 dX1_meets_73 rfl rfl ?_
  refine xG_1_411 hO hX dX1_meets_74 ?_
  refine xP_1_414 hO hX h dX1_meets_77 (fun h => ?_)
  refine zg_iload_n hO 2 dX1_meets_80 rfl rfl ?_
  refine zg_aload hO 6 dX1_meets_81 rfl ?_
  refine xG_1_415 hO hX h dX1_meets_83 (fun h => ?_)
  refine zs_calli (As := [.int (rL (xC (zC σ i8 (uR (xC σ i8) (xI σ 6))) i8))]) (rest := [.int x2]) hO h (fun q hq => m_Xi_bitCount l D dA hq) mw_J13_bitCount q1645 ⟨Nat.le_of_ble_eq_true rfl, Nat.le_of_ble_eq_true rfl⟩ ⟨Nat.le_refl _, Nat.le_refl _⟩ rfl rfl (Nat.le_of_ble_eq_true rfl) dX1_meets_86 (fun q3 h => ?_)
  refine zg_iconst hO dX1_meets_89 ic1 ?_
  refine zg_icmp_ne (tgt := 97) hO h dX1_meets_90 (by decide) (fun h => ?_) (fun h => ?_)
  · refine zg_iconst hO dX1_meets_97 ic0 ?_
    exact zg_sub [0, 1, 3, 4, 5, 6] rfl (w_X_meets_98 hO hX hr K30 K48 _ _ _ _ _ _ _ _ hi4 h)
  · refine zg_iconst hO dX1_meets_93 ic1 ?_
    refine zg_goto (tgt := 98) hO dX1_meets_94 (by decide) ?_
    exact zg_sub [0, 1, 3, 4, 5, 6] rfl (w_X_meets_98 hO hX hr K30 K48 _ _ _ _ _ _ _ _ hi4 h)
set_option maxHeartbeats 4000000 in
theorem w_X_meets_48 {tb : Nat} {ad : Nat → Nat} (hO : Ok p s m args meth c cX1_meets RX1 9 D dA A) (hX : XK dA G A s) (hr : meth.sig.returnType = (some .int)) {ρ : Int32 × XS} {k30 : Int32 → Int32 → Nat → Int32 → Int32 → XS → Option (Int32 × XS)} (K30 : ∀ (x1 : Int32) (x2 : Int32) (i4 : Nat) (x5 : Int32) (x6 : Int32) (σ : XS) (hi4 : i4 < 5), k30 x1 x2 i4 x5 x6 σ = some ρ → Go p l e (rmG 2 0 0) s m args below meth c D A 9 (MQ below ((QgI D dA (fun _ : Unit => WX dA G tb ad ρ.2) ρ.1) A) args s 0 0 A) (WX dA G tb ad σ) 0 0 30 [(0, .ref (G 0)), (1, .int x1), (2, .int x2), (4, .ref (G (49 + 3 * i4))), (5, .int x5), (6, .int x6)] []) : ∀ (n : Nat) (x1 : Int32) (x2 : Int32) (i4 : Nat) (x5 : Int32) (x6 : Int32) (o8 : Option Nat) (σ : XS) (hi4 : i4 < 5), X_meets_48 k30 n x1 x2 i4 x5 x6 o8 σ = some ρ → Go p l e (rmG 2 0 0) s m args below meth c D A 9 (MQ below ((QgI D dA (fun _ : Unit => WX dA G tb ad ρ.2) ρ.1) A) args s 0 0 A) (WX dA G tb ad σ) 0 0 48 [(0, .ref (G 0)), (1, .int x1), (2, .int x2), (4, .ref (G (49 + 3 * i4))), (5, .int x5), (6, .int x6), (8, va_rf (Option.map ad o8))] [] := by
  intro n
  induction n with
  | zero =>
    intro x1 x2 i4 x5 x6 o8 σ hi4 h
    rw [X_meets_48] at h
    cases h
  | succ n ih =>
    intro x1 x2 i4 x5 x6 o8 σ hi4 h
    rw [X_meets_48] at h
    refine zg_aloadO hO 6 dX1_meets_48 rfl ?_
    refine zx_ifnull (tgt := 123) hO h dX1_meets_50 (by decide) (fun hni2 h => ?_) (fun i2 hi2 h => ?_)
    · refine zg_iinc (k := 5) (lv' := [(6, .int (x6 + (nI 1))), (0, .ref (G 0)), (1, .int x1), (2, .int x2), (4, .ref (G (49 + 3 * i4))), (5, .int x5), (8, va_rf (Option.map ad o8))]) hO dX1_meets_123 rfl (zii ic1) (Nat.le_of_ble_eq_true rfl) rfl ?_
      refine zg_goto (tgt := 30) hO dX1_meets_126 (by decide) ?_
      exact zg_sub [1, 2, 3, 4, 5, 0] rfl (K30 _ _ _ _ _ _ hi4 h)
    · refine zg_aloadO hO 6 dX1_meets_53 rfl ?_
      refine zx_top ad hi2 ?_
      refine xG_1_414 hO hX h dX1_meets_55 (fun h => ?_)
      refine zg_aload_n hO 0 dX1_meets_58 rfl rfl ?_
      refine xG_1_411 hO hX dX1_meets_59 ?_
      refine zg_icmp_eq (tgt := 71) hO h dX1_meets_62 (by decide) (fun h => ?_) (fun h => ?_)
      · rw [hi2]
        exact zg_sub [0, 1, 2, 3, 4, 5, 6] rfl (w_X_meets_71 hO hX hr K30 ih _ _ _ _ _ _ _ hi4 h)
      · refine zg_aloadO hO 6 dX1_meets_65 rfl ?_
        refine zx_top ad hi2 ?_
        refine zg_iconst hO dX1_meets_67 ic0 ?_
        refine xP_1_415 hO hX h dX1_meets_68 (fun h => ?_)
        rw [hi2]
        exact zg_sub [0, 1, 2, 3, 4, 5, 6] rfl (w_X_meets_71 hO hX hr K30 ih _ _ _ _ _ _ _ hi4 h)
set_option maxHeartbeats 4000000 in
theorem w_X_meets_30 {tb : Nat} {ad : Nat → Nat} (hO : Ok p s m args meth c cX1_meets RX1 9 D dA A) (hX : XK dA G A s) (hr : meth.sig.returnType = (some .int)) {ρ : Int32 × XS} : ∀ (n : Nat) (x1 : Int32) (x2 : Int32) (i4 : Nat) (x5 : Int32) (x6 : Int32) (σ : XS) (hi4 : i4 < 5), X_meets_30 n x1 x2 i4 x5 x6 σ = some ρ → Go p l e (rmG 2 0 0) s m args below meth c D A 9 (MQ below ((QgI D dA (fun _ : Unit => WX dA G tb ad ρ.2) ρ.1) A) args s 0 0 A) (WX dA G tb ad σ) 0 0 30 [(0, .ref (G 0)), (1, .int x1), (2, .int x2), (4, .ref (G (49 + 3 * i4))), (5, .int x5), (6, .int x6)] [] := by
  intro n
  induction n with
  | zero =>
    intro x1 x2 i4 x5 x6 σ hi4 h
    rw [X_meets_30] at h
    cases h
  | succ n ih =>
    intro x1 x2 i4 x5 x6 σ hi4 h
    rw [X_meets_30] at h
    refine zg_iload hO 5 dX1_meets_30 rfl ?_
    refine zg_iload hO 4 dX1_meets_32 rfl ?_
    refine zg_icmp_ge (tgt := 129) hO h dX1_meets_34 (by decide) (fun h => ?_) (fun h => ?_)
    · refine zg_iload_n hO 2 dX1_meets_129 rfl rfl ?_
      exact zy_iretF hO hr h ⟨Nat.le_refl _, Nat.le_refl _⟩ dX1_meets_130
    · refine zg_aload hO 3 dX1_meets_37 rfl ?_
      refine zg_iload hO 5 dX1_meets_39 rfl ?_
      refine xL_top hO hi4 h dX1_meets_41 (fun h => ?_)
      refine zg_astoreO (lv' := [(7, va_rf (Option.map ad (xT σ i4 x6.toNatClampNeg))), (0, .ref (G 0)), (1, .int x1), (2, .int x2), (4, .ref (G (49 + 3 * i4))), (5, .int x5), (6, .int x6)]) hO dX1_meets_42 (Nat.le_of_ble_eq_true rfl) rfl ?_
      refine zg_aloadO hO 0 dX1_meets_44 rfl ?_
      refine zg_astoreO (lv' := [(8, va_rf (Option.map ad (xT σ i4 x6.toNatClampNeg))), (7, va_rf (Option.map ad (xT σ i4 x6.toNatClampNeg))), (0, .ref (G 0)), (1, .int x1), (2, .int x2), (4, .ref (G (49 + 3 * i4))), (5, .int x5), (6, .int x6)]) hO dX1_meets_46 (Nat.le_of_ble_eq_true rfl) (by simp [ro_cat]) ?_
      exact zg_sub [2, 3, 4, 5, 6, 7, 0] rfl (w_X_meets_48 hO hX hr ih _ _ _ _ _ _ _ _ hi4 h)
theorem mw_X1_meets : MwX yX1_meets cX1_meets 9 (some .int) RX1 1 := ⟨by decide +kernel, q1643, qs43, q85, q1644⟩
set_option maxHeartbeats 4000000 in
theorem m_X_meets (l : Launch) (D : va_G) (dA : Nat → ClassId) (G : Nat → Nat) {x1 : Int32} {σ : XS} (tb : Nat) (ad : Nat → Nat) {ρ : Int32 × XS} (h : X_meets x1 σ = some ρ) : CtX l yX1_meets (ws_ yX1_meets cX1_meets 9 (some .int)) 2 0 0 D dA G [.ref (G 0), .int x1] (WX dA G tb ad σ) (QgI D dA (fun _ : Unit => WX dA G tb ad ρ.2) ρ.1) := by
  refine zx_start (cc := cX1_meets) (nL := 9) (ret := (some .int)) (own := RX1) (by decide) rfl rfl (Nat.le_of_ble_eq_true rfl) (fun p e s m args below meth c A hO hX hr _ _ => ?_)
  unfold X_meets at h
  refine zg_sub (lv' := [(0, .ref (G 0)), (1, .int x1)]) [0, 1] rfl ?_
  refine zg_iconst hO dX1_meets_0 ic0 ?_
  refine zg_istore_n (lv' := [(2, .int (nI 0)), (0, .ref (G 0)), (1, .int x1)]) hO dX1_meets_1 rfl (Nat.le_of_ble_eq_true rfl) rfl ?_
  refine zg_aload_n hO 1 dX1_meets_2 rfl rfl ?_
  refine xG_1_162 hO hX dX1_meets_3 ?_
  refine zg_iload_n hO 2 dX1_meets_6 rfl rfl ?_
  refine zy_lget (rest := []) hO hX h q1406 (Nat.le_of_ble_eq_true rfl) dX1_meets_7 (fun hb1 h => ?_) ⟨Nat.le_refl _, Nat.le_refl _⟩
  refine zy_castL hO hb1 q231 dX1_meets_12 ?_
  refine zg_astore_n (lv' := [(3, .ref (G (48 + 3 * x1.toNatClampNeg))), (2, .int (nI 0)), (0, .ref (G 0)), (1, .int x1)]) hO dX1_meets_15 rfl (Nat.le_of_ble_eq_true rfl) rfl ?_
  refine zg_aload_n hO 0 dX1_meets_16 rfl rfl ?_
  refine xG_1_382 hO hX hb1 dX1_meets_17 ?_
  refine zg_astore (lv' := [(4, .ref (G (49 + 3 * x1.toNatClampNeg))), (3, .ref (G (48 + 3 * x1.toNatClampNeg))), (2, .int (nI 0)), (0, .ref (G 0)), (1, .int x1)]) hO dX1_meets_20 (Nat.le_of_ble_eq_true rfl) rfl ?_
  refine zg_aload hO 0 dX1_meets_22 rfl ?_
  refine zg_alen (y := nI 2) (t0 := 3) (ty := .object "EndSums$Cell") hO (41 + 3 * x1.toNatClampNeg) (wx_top hb1) rfl rfl dX1_meets_24 ?_
  refine zg_istore (lv' := [(5, .int (nI 2)), (4, .ref (G (49 + 3 * x1.toNatClampNeg))), (3, .ref (G (48 + 3 * x1.toNatClampNeg))), (2, .int (nI 0)), (0, .ref (G 0)), (1, .int x1)]) hO dX1_meets_25 (Nat.le_of_ble_eq_true rfl) rfl ?_
  refine zg_iconst hO dX1_meets_27 ic0 ?_
  refine zg_istore (lv' := [(6, .int (nI 0)), (5, .int (nI 2)), (4, .ref (G (49 + 3 * x1.toNatClampNeg))), (3, .ref (G (48 + 3 * x1.toNatClampNeg))), (2, .int (nI 0)), (0, .ref (G 0)), (1, .int x1)]) hO dX1_meets_28 (Nat.le_of_ble_eq_true rfl) rfl ?_
  exact zg_sub [5, 6, 4, 2, 1, 0] rfl (w_X_meets_30 hO hX hr _ _ _ _ _ _ _ hb1 h)
set_option maxHeartbeats 4000000 in
theorem w_Xi_numberOfTrailingZeros_74 (hO : Ok p s m args meth c cJ13_numberOfTrailingZeros RJ13 2 D dA (A0s s.heap.size)) (hr : meth.sig.returnType = (some .int)) {ρ : Int32} : ∀ (x0 : Int32) (x1 : Int32), Xi_numberOfTrailingZeros_74 x0 x1 = some ρ → Go p l e (rmG 0 0 0) s m args below meth c D (A0s s.heap.size) 2 (MQ below ((QfI D dA [] ρ) (A0s s.heap.size)) args s 0 0 (A0s s.heap.size)) [] 0 0 74 [(0, .int x0), (1, .int x1)] [] := by
  intro x0 x1 h
  unfold Xi_numberOfTrailingZeros_74 at h
  refine zg_iload_n hO 1 dJ13_numberOfTrailingZeros_74 rfl rfl ?_
  refine zg_iload_n hO 0 dJ13_numberOfTrailingZeros_75 rfl rfl ?_
  refine zg_iconst hO dJ13_numberOfTrailingZeros_76 ic1 ?_
  refine zg_iushr hO dJ13_numberOfTrailingZeros_77 ?_
  refine zg_iadd hO dJ13_numberOfTrailingZeros_78 ?_
  exact zs_iret hO hr h dJ13_numberOfTrailingZeros_79
set_option maxHeartbeats 4000000 in
theorem w_Xi_numberOfTrailingZeros_62 (hO : Ok p s m args meth c cJ13_numberOfTrailingZeros RJ13 2 D dA (A0s s.heap.size)) (hr : meth.sig.returnType = (some .int)) {ρ : Int32} : ∀ (x0 : Int32) (x1 : Int32), Xi_numberOfTrailingZeros_62 x0 x1 = some ρ → Go p l e (rmG 0 0 0) s m args below meth c D (A0s s.heap.size) 2 (MQ below ((QfI D dA [] ρ) (A0s s.heap.size)) args s 0 0 (A0s s.heap.size)) [] 0 0 62 [(0, .int x0), (1, .int x1)] [] := by
  intro x0 x1 h
  unfold Xi_numberOfTrailingZeros_62 at h
  refine zg_iload_n hO 0 dJ13_numberOfTrailingZeros_62 rfl rfl ?_
  refine zg_iconst hO dJ13_numberOfTrailingZeros_63 ic4 ?_
  refine zg_icmp_le (tgt := 74) hO h dJ13_numberOfTrailingZeros_64 (by decide) (fun h => ?_) (fun h => ?_)
  · exact zg_sub [0, 1] rfl (w_Xi_numberOfTrailingZeros_74 hO hr _ _ h)
  · refine zg_iinc (k := 1) (lv' := [(1, .int (x1 + (nI 2))), (0, .int x0)]) hO dJ13_numberOfTrailingZeros_67 rfl (zii ic2) (Nat.le_of_ble_eq_true rfl) rfl ?_
    refine zg_iload_n hO 1 dJ13_numberOfTrailingZeros_70 rfl rfl ?_
    refine zg_iconst hO dJ13_numberOfTrailingZeros_71 ic2 ?_
    refine zg_iushr hO dJ13_numberOfTrailingZeros_72 ?_
    refine zg_istore_n (lv' := [(0, .int ((x0.toUInt32 >>> ((nI 2).toUInt32 &&& Int32.toUInt32 31)).toInt32)), (1, .int (x1 + (nI 2)))]) hO dJ13_numberOfTrailingZeros_73 rfl (Nat.le_of_ble_eq_true rfl) rfl ?_
    exact zg_sub [0, 1] rfl (w_Xi_numberOfTrailingZeros_74 hO hr _ _ h)
set_option maxHeartbeats 4000000 in
theorem w_Xi_numberOfTrailingZeros_49 (hO : Ok p s m args meth c cJ13_numberOfTrailingZeros RJ13 2 D dA (A0s s.heap.size)) (hr : meth.sig.returnType = (some .int)) {ρ : Int32} : ∀ (x0 : Int32) (x1 : Int32), Xi_numberOfTrailingZeros_49 x0 x1 = some ρ → Go p l e (rmG 0 0 0) s m args below meth c D (A0s s.heap.size) 2 (MQ below ((QfI D dA [] ρ) (A0s s.heap.size)) args s 0 0 (A0s s.heap.size)) [] 0 0 49 [(0, .int x0), (1, .int x1)] [] := by
  intro x0 x1 h
  unfold Xi_numberOfTrailingZeros_49 at h
  refine zg_iload_n hO 0 dJ13_numberOfTrailingZeros_49 rfl rfl ?_
  refine zg_bipush hO dJ13_numberOfTrailingZeros_50 bc16 ?_
  refine zg_icmp_le (tgt := 62) hO h dJ13_numberOfTrailingZeros_52 (by decide) (fun h => ?_) (fun h => ?_)
  · exact zg_sub [0, 1] rfl (w_Xi_numberOfTrailingZeros_62 hO hr _ _ h)
  · refine zg_iinc (k := 1) (lv' := [(1, .int (x1 + (nI 4))), (0, .int x0)]) hO dJ13_numberOfTrailingZeros_55 rfl (zii ic4) (Nat.le_of_ble_eq_true rfl) rfl ?_
    refine zg_iload_n hO 1 dJ13_numberOfTrailingZeros_58 rfl rfl ?_
    refine zg_iconst hO dJ13_numberOfTrailingZeros_59 ic4 ?_
    refine zg_iushr hO dJ13_numberOfTrailingZeros_60 ?_
    refine zg_istore_n (lv' := [(0, .int ((x0.toUInt32 >>> ((nI 4).toUInt32 &&& Int32.toUInt32 31)).toInt32)), (1, .int (x1 + (nI 4)))]) hO dJ13_numberOfTrailingZeros_61 rfl (Nat.le_of_ble_eq_true rfl) rfl ?_
    exact zg_sub [0, 1] rfl (w_Xi_numberOfTrailingZeros_62 hO hr _ _ h)
set_option maxHeartbeats 4000000 in
theorem w_Xi_numberOfTrailingZeros_34 (hO : Ok p s m args meth c cJ13_numberOfTrailingZeros RJ13 2 D dA (A0s s.heap.size)) (hr : meth.sig.returnType = (some .int)) {ρ : Int32} : ∀ (x0 : Int32) (x1 : Int32), Xi_numberOfTrailingZeros_34 x0 x1 = some ρ → Go p l e (rmG 0 0 0) s m args below meth c D (A0s s.heap.size) 2 (MQ below ((QfI D dA [] ρ) (A0s s.heap.size)) args s 0 0 (A0s s.heap.size)) [] 0 0 34 [(0, .int x0), (1, .int x1)] [] := by
  intro x0 x1 h
  unfold Xi_numberOfTrailingZeros_34 at h
  refine zg_iload_n hO 0 dJ13_numberOfTrailingZeros_34 rfl rfl ?_
  refine zg_sipush hO dJ13_numberOfTrailingZeros_35 sc256 ?_
  refine zg_icmp_le (tgt := 49) hO h dJ13_numberOfTrailingZeros_38 (by decide) (fun h => ?_) (fun h => ?_)
  · exact zg_sub [0, 1] rfl (w_Xi_numberOfTrailingZeros_49 hO hr _ _ h)
  · refine zg_iinc (k := 1) (lv' := [(1, .int (x1 + (nI 8))), (0, .int x0)]) hO dJ13_numberOfTrailingZeros_41 rfl (zii ic8) (Nat.le_of_ble_eq_true rfl) rfl ?_
    refine zg_iload_n hO 1 dJ13_numberOfTrailingZeros_44 rfl rfl ?_
    refine zg_bipush hO dJ13_numberOfTrailingZeros_45 bc8 ?_
    refine zg_iushr hO dJ13_numberOfTrailingZeros_47 ?_
    refine zg_istore_n (lv' := [(0, .int ((x0.toUInt32 >>> ((nI 8).toUInt32 &&& Int32.toUInt32 31)).toInt32)), (1, .int (x1 + (nI 8)))]) hO dJ13_numberOfTrailingZeros_48 rfl (Nat.le_of_ble_eq_true rfl) rfl ?_
    exact zg_sub [0, 1] rfl (w_Xi_numberOfTrailingZeros_49 hO hr _ _ h)
theorem mw_J13_numberOfTrailingZeros : MwS yJ13_numberOfTrailingZeros cJ13_numberOfTrailingZeros 2 (some .int) 1 := ⟨by decide +kernel, q1349, q101, q1350⟩
set_option maxHeartbeats 4000000 in
theorem m_Xi_numberOfTrailingZeros (l : Launch) (D : va_G) (dA : Nat → ClassId) {x0 : Int32} {ρ : Int32} (h : Xi_numberOfTrailingZeros x0 = some ρ) : Ct l yJ13_numberOfTrailingZeros (ws_ yJ13_numberOfTrailingZeros cJ13_numberOfTrailingZeros 2 (some .int)) 0 0 0 D dA [.int x0] [] A0s (QfI D dA [] ρ) := by
  refine zc_start (cc := cJ13_numberOfTrailingZeros) (nL := 2) (ret := (some .int)) (own := RJ13) (by decide) rfl rfl (Nat.le_of_ble_eq_true rfl) (fun _ _ h => h) (fun p e s m args below meth c hO hr _ _ => ?_)
  unfold Xi_numberOfTrailingZeros at h
  refine zg_sub (lv' := [(0, .int x0)]) [0] rfl ?_
  refine zg_iload_n hO 0 dJ13_numberOfTrailingZeros_0 rfl rfl ?_
  refine zg_iconst hO dJ13_numberOfTrailingZeros_1 icm1 ?_
  refine zg_ixor hO dJ13_numberOfTrailingZeros_2 ?_
  refine zg_iload_n hO 0 dJ13_numberOfTrailingZeros_3 rfl rfl ?_
  refine zg_iconst hO dJ13_numberOfTrailingZeros_4 ic1 ?_
  refine zg_isub hO dJ13_numberOfTrailingZeros_5 ?_
  refine zg_iand hO dJ13_numberOfTrailingZeros_6 ?_
  refine zg_istore_n (lv' := [(0, .int ((x0 ^^^ (-1 : Int32)) &&& (x0 - (nI 1))))]) hO dJ13_numberOfTrailingZeros_7 rfl (Nat.le_of_ble_eq_true rfl) rfl ?_
  refine zg_iload_n hO 0 dJ13_numberOfTrailingZeros_8 rfl rfl ?_
  refine zg_if_gt (tgt := 17) hO h dJ13_numberOfTrailingZeros_9 (by decide) (fun h => ?_) (fun h => ?_)
  · refine zg_iconst hO dJ13_numberOfTrailingZeros_17 ic1 ?_
    refine zg_istore_n (lv' := [(1, .int (nI 1)), (0, .int ((x0 ^^^ (-1 : Int32)) &&& (x0 - (nI 1))))]) hO dJ13_numberOfTrailingZeros_18 rfl (Nat.le_of_ble_eq_true rfl) rfl ?_
    refine zg_iload_n hO 1 dJ13_numberOfTrailingZeros_19 rfl rfl ?_
    refine zg_ldcw (x := 65536) hO q1351 dJ13_numberOfTrailingZeros_20 ?_
    refine zg_icmp_le (tgt := 34) hO h dJ13_numberOfTrailingZeros_23 (by decide) (fun h => ?_) (fun h => ?_)
    · exact zg_sub [1, 0] rfl (w_Xi_numberOfTrailingZeros_34 hO hr _ _ h)
    · refine zg_iinc (k := 0) (lv' := [(1, .int ((nI 1) + (nI 16))), (0, .int ((x0 ^^^ (-1 : Int32)) &&& (x0 - (nI 1))))]) hO dJ13_numberOfTrailingZeros_26 rfl (zii ic16) (Nat.le_of_ble_eq_true rfl) rfl ?_
      refine zg_iload_n hO 1 dJ13_numberOfTrailingZeros_29 rfl rfl ?_
      refine zg_bipush hO dJ13_numberOfTrailingZeros_30 bc16 ?_
      refine zg_iushr hO dJ13_numberOfTrailingZeros_32 ?_
      refine zg_istore_n (lv' := [(0, .int ((((x0 ^^^ (-1 : Int32)) &&& (x0 - (nI 1))).toUInt32 >>> ((nI 16).toUInt32 &&& Int32.toUInt32 31)).toInt32)), (1, .int ((nI 1) + (nI 16)))]) hO dJ13_numberOfTrailingZeros_33 rfl (Nat.le_of_ble_eq_true rfl) rfl ?_
      exact zg_sub [0, 1] rfl (w_Xi_numberOfTrailingZeros_34 hO hr _ _ h)
  · refine zg_iload_n hO 0 dJ13_numberOfTrailingZeros_12 rfl rfl ?_
    refine zg_bipush hO dJ13_numberOfTrailingZeros_13 bc32 ?_
    refine zg_iand hO dJ13_numberOfTrailingZeros_15 ?_
    exact zs_iret hO hr h dJ13_numberOfTrailingZeros_16
set_option maxHeartbeats 4000000 in
theorem w_X_shared_132 {tb : Nat} {ad : Nat → Nat} (hO : Ok p s m args meth c cX1_shared RX1 10 D dA A) (hX : XK dA G A s) (hr : meth.sig.returnType = (some .int)) {ρ : Int32 × XS} {k57 : Int32 → Int32 → Int32 → Int32 → XS → Option (Int32 × XS)} {k90 : Int32 → Int32 → Int32 → Int32 → Nat → Int32 → Int32 → XS → Option (Int32 × XS)} {k108 : Int32 → Int32 → Int32 → Int32 → Nat → Int32 → Int32 → Option Nat → XS → Option (Int32 × XS)} (K57 : ∀ (x1 : Int32) (x2 : Int32) (x3 : Int32) (x4 : Int32) (σ : XS), k57 x1 x2 x3 x4 σ = some ρ → Go p l e (rmG 3 0 0) s m args below meth c D A 10 (MQ below ((QgI D dA (fun _ : Unit => WX dA G tb ad ρ.2) ρ.1) A) args s 0 0 A) (WX dA G tb ad σ) 0 0 57 [(0, .ref (G 0)), (1, .int x1), (2, .int x2), (3, .int x3), (4, .int x4)] []) (K90 : ∀ (x1 : Int32) (x2 : Int32) (x3 : Int32) (x4 : Int32) (i5 : Nat) (x6 : Int32) (x7 : Int32) (σ : XS) (hi5 : i5 < 5), k90 x1 x2 x3 x4 i5 x6 x7 σ = some ρ → Go p l e (rmG 3 0 0) s m args below meth c D A 10 (MQ below ((QgI D dA (fun _ : Unit => WX dA G tb ad ρ.2) ρ.1) A) args s 0 0 A) (WX dA G tb ad σ) 0 0 90 [(0, .ref (G 0)), (1, .int x1), (2, .int x2), (3, .int x3), (4, .int x4), (5, .ref (G (49 + 3 * i5))), (6, .int x6), (7, .int x7)] []) (K108 : ∀ (x1 : Int32) (x2 : Int32) (x3 : Int32) (x4 : Int32) (i5 : Nat) (x6 : Int32) (x7 : Int32) (o9 : Option Nat) (σ : XS) (hi5 : i5 < 5), k108 x1 x2 x3 x4 i5 x6 x7 o9 σ = some ρ → Go p l e (rmG 3 0 0) s m args below meth c D A 10 (MQ below ((QgI D dA (fun _ : Unit => WX dA G tb ad ρ.2) ρ.1) A) args s 0 0 A) (WX dA G tb ad σ) 0 0 108 [(0, .ref (G 0)), (1, .int x1), (2, .int x2), (3, .int x3), (4, .int x4), (5, .ref (G (49 + 3 * i5))), (6, .int x6), (7, .int x7), (9, va_rf (Option.map ad o9))] []) : ∀ (x1 : Int32) (x2 : Int32) (x4 : Int32) (i5 : Nat) (x6 : Int32) (x7 : Int32) (i9 : Nat) (y0 : Int32) (y1 : Int32) (σ : XS) (hi5 : i5 < 5), X_shared_132 k57 k90 k108 x1 x2 x4 i5 x6 x7 i9 y0 y1 σ = some ρ → Go p l e (rmG 3 0 0) s m args below meth c D A 10 (MQ below ((QgI D dA (fun _ : Unit => WX dA G tb ad ρ.2) ρ.1) A) args s 0 0 A) (WX dA G tb ad σ) 0 0 132 [(0, .ref (G 0)), (1, .int x1), (2, .int x2), (4, .int x4), (5, .ref (G (49 + 3 * i5))), (6, .int x6), (7, .int x7), (9, .ref (ad i9))] [.int y0, .int y1] := by
  intro x1 x2 x4 i5 x6 x7 i9 y0 y1 σ hi5 h
  unfold X_shared_132 at h
  refine zg_iadd hO dX1_shared_132 ?_
  refine zg_istore_n (lv' := [(3, .int (y1 + y0)), (0, .ref (G 0)), (1, .int x1), (2, .int x2), (4, .int x4), (5, .ref (G (49 + 3 * i5))), (6, .int x6), (7, .int x7), (9, .ref (ad i9))]) hO dX1_shared_133 rfl (Nat.le_of_ble_eq_true rfl) rfl ?_
  refine zg_aload hO 8 dX1_shared_134 rfl ?_
  refine xG_1_386 hO hX h dX1_shared_136 (fun h => ?_)
  refine zg_astoreO (lv' := [(9, va_rf (Option.map ad (rB (xC σ i9)))), (3, .int (y1 + y0)), (0, .ref (G 0)), (1, .int x1), (2, .int x2), (4, .int x4), (5, .ref (G (49 + 3 * i5))), (6, .int x6), (7, .int x7)]) hO dX1_shared_139 (Nat.le_of_ble_eq_true rfl) rfl ?_
  refine zg_goto (tgt := 108) hO dX1_shared_141 (by decide) ?_
  exact zg_sub [2, 3, 4, 1, 5, 6, 7, 8, 0] rfl (K108 _ _ _ _ _ _ _ _ _ hi5 h)
set_option maxHeartbeats 4000000 in
theorem w_X_shared_108 {tb : Nat} {ad : Nat → Nat} (hO : Ok p s m args meth c cX1_shared RX1 10 D dA A) (hX : XK dA G A s) (hr : meth.sig.returnType = (some .int)) {ρ : Int32 × XS} {k57 : Int32 → Int32 → Int32 → Int32 → XS → Option (Int32 × XS)} {k90 : Int32 → Int32 → Int32 → Int32 → Nat → Int32 → Int32 → XS → Option (Int32 × XS)} (K57 : ∀ (x1 : Int32) (x2 : Int32) (x3 : Int32) (x4 : Int32) (σ : XS), k57 x1 x2 x3 x4 σ = some ρ → Go p l e (rmG 3 0 0) s m args below meth c D A 10 (MQ below ((QgI D dA (fun _ : Unit => WX dA G tb ad ρ.2) ρ.1) A) args s 0 0 A) (WX dA G tb ad σ) 0 0 57 [(0, .ref (G 0)), (1, .int x1), (2, .int x2), (3, .int x3), (4, .int x4)] []) (K90 : ∀ (x1 : Int32) (x2 : Int32) (x3 : Int32) (x4 : Int32) (i5 : Nat) (x6 : Int32) (x7 : Int32) (σ : XS) (hi5 : i5 < 5), k90 x1 x2 x3 x4 i5 x6 x7 σ = some ρ → Go p l e (rmG 3 0 0) s m args below meth c D A 10 (MQ below ((QgI D dA (fun _ : Unit => WX dA G tb ad ρ.2) ρ.1) A) args s 0 0 A) (WX dA G tb ad σ) 0 0 90 [(0, .ref (G 0)), (1, .int x1), (2, .int x2), (3, .int x3), (4, .int x4), (5, .ref (G (49 + 3 * i5))), (6, .int x6), (7, .int x7)] []) : ∀ (n : Nat) (x1 : Int32) (x2 : Int32) (x3 : Int32) (x4 : Int32) (i5 : Nat) (x6 : Int32) (x7 : Int32) (o9 : Option Nat) (σ : XS) (hi5 : i5 < 5), X_shared_108 k57 k90 n x1 x2 x3 x4 i5 x6 x7 o9 σ = some ρ → Go p l e (rmG 3 0 0) s m args below meth c D A 10 (MQ below ((QgI D dA (fun _ : Unit => WX dA G tb ad ρ.2) ρ.1) A) args s 0 0 A) (WX dA G tb ad σ) 0 0 108 [(0, .ref (G 0)), (1, .int x1), (2, .int x2), (3, .int x3), (4, .int x4), (5, .ref (G (49 + 3 * i5))), (6, .int x6), (7, .int x7), (9, va_rf (Option.map ad o9))] [] := by
  intro n
  induction n with
  | zero =>
    intro x1 x2 x3 x4 i5 x6 x7 o9 σ hi5 h
    rw [X_shared_108] at h
    cases h
  | succ n ih =>
    intro x1 x2 x3 x4 i5 x6 x7 o9 σ hi5 h
    rw [X_shared_108] at h
    refine zg_aloadO hO 8 dX1_shared_108 rfl ?_
    refine zx_ifnull (tgt := 144) hO h dX1_shared_110 (by decide) (fun hni8 h => ?_) (fun i8 hi8 h => ?_)
    · refine zg_iinc (k := 7) (lv' := [(7, .int (x7 + (nI 1))), (0, .ref (G 0)), (1, .int x1), (2, .int x2), (3, .int x3), (4, .int x4), (5, .ref (G (49 + 3 * i5))), (6, .int x6), (9, va_rf (Option.map ad o9))]) hO dX1_shared_144 rfl (zii ic1) (Nat.le_of_ble_eq_true rfl) rfl ?_
      refine zg_goto (tgt := 90) hO dX1_shared_147 (by decide) ?_
      exact zg_sub [1, 2, 3, 4, 5, 6, 7, 0] rfl (K90 _ _ _ _ _ _ _ _ hi5 h)
    · refine zg_iload_n hO 3 dX1_shared_113 rfl rfl ?_
      refine zg_aloadO hO 8 dX1_shared_114 rfl ?_
      refine zx_top ad hi8 ?_
      refine xG_1_415 hO hX h dX1_shared_116 (fun h => ?_)
      refine zs_calli (As := [.int (rL (xC σ i8))]) (rest := [.int x3]) hO h (fun q hq => m_Xi_numberOfTrailingZeros l D dA hq) mw_J13_numberOfTrailingZeros q1655 ⟨Nat.le_of_ble_eq_true rfl, Nat.le_of_ble_eq_true rfl⟩ ⟨Nat.le_refl _, Nat.le_refl _⟩ rfl rfl (Nat.le_of_ble_eq_true rfl) dX1_shared_119 (fun q9 h => ?_)
      refine zg_iload hO 4 dX1_shared_122 rfl ?_
      refine zg_icmp_ne (tgt := 131) hO h dX1_shared_124 (by decide) (fun h => ?_) (fun h => ?_)
      · refine zg_iconst hO dX1_shared_131 ic0 ?_
        rw [hi8]
        exact zg_sub [0, 1, 2, 4, 5, 6, 7, 8] rfl (w_X_shared_132 hO hX hr K57 K90 ih _ _ _ _ _ _ _ _ _ _ hi5 h)
      · refine zg_iconst hO dX1_shared_127 ic1 ?_
        refine zg_goto (tgt := 132) hO dX1_shared_128 (by decide) ?_
        rw [hi8]
        exact zg_sub [0, 1, 2, 4, 5, 6, 7, 8] rfl (w_X_shared_132 hO hX hr K57 K90 ih _ _ _ _ _ _ _ _ _ _ hi5 h)
set_option maxHeartbeats 4000000 in
theorem w_X_shared_90 {tb : Nat} {ad : Nat → Nat} (hO : Ok p s m args meth c cX1_shared RX1 10 D dA A) (hX : XK dA G A s) (hr : meth.sig.returnType = (some .int)) {ρ : Int32 × XS} {k57 : Int32 → Int32 → Int32 → Int32 → XS → Option (Int32 × XS)} (K57 : ∀ (x1 : Int32) (x2 : Int32) (x3 : Int32) (x4 : Int32) (σ : XS), k57 x1 x2 x3 x4 σ = some ρ → Go p l e (rmG 3 0 0) s m args below meth c D A 10 (MQ below ((QgI D dA (fun _ : Unit => WX dA G tb ad ρ.2) ρ.1) A) args s 0 0 A) (WX dA G tb ad σ) 0 0 57 [(0, .ref (G 0)), (1, .int x1), (2, .int x2), (3, .int x3), (4, .int x4)] []) : ∀ (n : Nat) (x1 : Int32) (x2 : Int32) (x3 : Int32) (x4 : Int32) (i5 : Nat) (x6 : Int32) (x7 : Int32) (σ : XS) (hi5 : i5 < 5), X_shared_90 k57 n x1 x2 x3 x4 i5 x6 x7 σ = some ρ → Go p l e (rmG 3 0 0) s m args below meth c D A 10 (MQ below ((QgI D dA (fun _ : Unit => WX dA G tb ad ρ.2) ρ.1) A) args s 0 0 A) (WX dA G tb ad σ) 0 0 90 [(0, .ref (G 0)), (1, .int x1), (2, .int x2), (3, .int x3), (4, .int x4), (5, .ref (G (49 + 3 * i5))), (6, .int x6), (7, .int x7)] [] := by
  intro n
  induction n with
  | zero =>
    intro x1 x2 x3 x4 i5 x6 x7 σ hi5 h
    rw [X_shared_90] at h
    cases h
  | succ n ih =>
    intro x1 x2 x3 x4 i5 x6 x7 σ hi5 h
    rw [X_shared_90] at h
    refine zg_iload hO 7 dX1_shared_90 rfl ?_
    refine zg_iload hO 6 dX1_shared_92 rfl ?_
    refine zg_icmp_ge (tgt := 150) hO h dX1_shared_94 (by decide) (fun h => ?_) (fun h => ?_)
    · refine zg_iinc (k := 4) (lv' := [(4, .int (x4 + (nI 1))), (0, .ref (G 0)), (1, .int x1), (2, .int x2), (3, .int x3), (5, .ref (G (49 + 3 * i5))), (6, .int x6), (7, .int x7)]) hO dX1_shared_150 rfl (zii ic1) (Nat.le_of_ble_eq_true rfl) rfl ?_
      refine zg_goto (tgt := 57) hO dX1_shared_153 (by decide) ?_
      exact zg_sub [1, 2, 3, 4, 0] rfl (K57 _ _ _ _ _ h)
    · refine zg_aload hO 5 dX1_shared_97 rfl ?_
      refine zg_iload hO 7 dX1_shared_99 rfl ?_
      refine xL_top hO hi5 h dX1_shared_101 (fun h => ?_)
      refine zg_astoreO (lv' := [(8, va_rf (Option.map ad (xT σ i5 x7.toNatClampNeg))), (0, .ref (G 0)), (1, .int x1), (2, .int x2), (3, .int x3), (4, .int x4), (5, .ref (G (49 + 3 * i5))), (6, .int x6), (7, .int x7)]) hO dX1_shared_102 (Nat.le_of_ble_eq_true rfl) rfl ?_
      refine zg_aloadO hO 0 dX1_shared_104 rfl ?_
      refine zg_astoreO (lv' := [(9, va_rf (Option.map ad (xT σ i5 x7.toNatClampNeg))), (8, va_rf (Option.map ad (xT σ i5 x7.toNatClampNeg))), (0, .ref (G 0)), (1, .int x1), (2, .int x2), (3, .int x3), (4, .int x4), (5, .ref (G (49 + 3 * i5))), (6, .int x6), (7, .int x7)]) hO dX1_shared_106 (Nat.le_of_ble_eq_true rfl) (by simp [ro_cat]) ?_
      exact zg_sub [2, 3, 4, 5, 6, 7, 8, 9, 0] rfl (w_X_shared_108 hO hX hr K57 ih _ _ _ _ _ _ _ _ _ _ hi5 h)
set_option maxHeartbeats 4000000 in
theorem w_X_shared_57 {tb : Nat} {ad : Nat → Nat} (hO : Ok p s m args meth c cX1_shared RX1 10 D dA A) (hX : XK dA G A s) (hr : meth.sig.returnType = (some .int)) {ρ : Int32 × XS} : ∀ (n : Nat) (x1 : Int32) (x2 : Int32) (x3 : Int32) (x4 : Int32) (σ : XS), X_shared_57 n x1 x2 x3 x4 σ = some ρ → Go p l e (rmG 3 0 0) s m args below meth c D A 10 (MQ below ((QgI D dA (fun _ : Unit => WX dA G tb ad ρ.2) ρ.1) A) args s 0 0 A) (WX dA G tb ad σ) 0 0 57 [(0, .ref (G 0)), (1, .int x1), (2, .int x2), (3, .int x3), (4, .int x4)] [] := by
  intro n
  induction n with
  | zero =>
    intro x1 x2 x3 x4 σ h
    rw [X_shared_57] at h
    cases h
  | succ n ih =>
    intro x1 x2 x3 x4 σ h
    rw [X_shared_57] at h
    refine zg_iload hO 4 dX1_shared_57 rfl ?_
    refine zg_iconst hO dX1_shared_59 ic4 ?_
    refine zg_icmp_ge (tgt := 156) hO h dX1_shared_60 (by decide) (fun h => ?_) (fun h => ?_)
    · refine zg_aload_n hO 0 dX1_shared_156 rfl rfl ?_
      refine zg_iconst hO dX1_shared_157 ic0 ?_
      refine xP_1_199 hO hX dX1_shared_158 ?_
      refine zg_aload_n hO 0 dX1_shared_161 rfl rfl ?_
      refine zg_iload_n hO 2 dX1_shared_162 rfl rfl ?_
      refine zg_i2l hO dX1_shared_163 ?_
      refine zy_callVvF (b := G 0) (As := [.long (x2.toInt64)]) (rest := []) hO hX h (fun q hq => m_X_tells l D dA G tb ad hq) mw_X1_tells q1272 ⟨Nat.le_of_ble_eq_true rfl, Nat.le_of_ble_eq_true rfl⟩ ⟨Nat.le_refl _, Nat.le_refl _⟩ rfl rfl (Nat.le_of_ble_eq_true rfl) ⟨0, 1, _, _, rfl, rfl, rfl⟩ dX1_shared_164 (fun q5 h => ?_)
      refine zg_aload_n hO 0 dX1_shared_167 rfl rfl ?_
      refine zg_iload_n hO 1 dX1_shared_168 rfl rfl ?_
      refine zg_i2l hO dX1_shared_169 ?_
      refine zy_callVvF (b := G 0) (As := [.long (x1.toInt64)]) (rest := []) hO hX h (fun q hq => m_X_tells l D dA G tb ad hq) mw_X1_tells q1272 ⟨Nat.le_of_ble_eq_true rfl, Nat.le_of_ble_eq_true rfl⟩ ⟨Nat.le_refl _, Nat.le_refl _⟩ rfl rfl (Nat.le_of_ble_eq_true rfl) ⟨0, 1, _, _, rfl, rfl, rfl⟩ dX1_shared_170 (fun q6 h => ?_)
      refine zg_iload_n hO 3 dX1_shared_173 rfl rfl ?_
      exact zy_iretF hO hr h ⟨Nat.le_refl _, Nat.le_refl _⟩ dX1_shared_174
    · refine zg_aload_n hO 0 dX1_shared_63 rfl rfl ?_
      refine xG_1_162 hO hX dX1_shared_64 ?_
      refine zg_iload hO 4 dX1_shared_67 rfl ?_
      refine zy_lget (rest := []) hO hX h q1406 (Nat.le_of_ble_eq_true rfl) dX1_shared_69 (fun hb7 h => ?_) ⟨Nat.le_refl _, Nat.le_refl _⟩
      refine zy_castL hO hb7 q231 dX1_shared_74 ?_
      refine xG_1_382 hO hX hb7 dX1_shared_77 ?_
      refine zg_astore (lv' := [(5, .ref (G (49 + 3 * x4.toNatClampNeg))), (0, .ref (G 0)), (1, .int x1), (2, .int x2), (3, .int x3), (4, .int x4)]) hO dX1_shared_80 (Nat.le_of_ble_eq_true rfl) rfl ?_
      refine zg_aload hO 0 dX1_shared_82 rfl ?_
      refine zg_alen (y := nI 2) (t0 := 3) (ty := .object "EndSums$Cell") hO (41 + 3 * x4.toNatClampNeg) (wx_top hb7) rfl rfl dX1_shared_84 ?_
      refine zg_istore (lv' := [(6, .int (nI 2)), (5, .ref (G (49 + 3 * x4.toNatClampNeg))), (0, .ref (G 0)), (1, .int x1), (2, .int x2), (3, .int x3), (4, .int x4)]) hO dX1_shared_85 (Nat.le_of_ble_eq_true rfl) rfl ?_
      refine zg_iconst hO dX1_shared_87 ic0 ?_
      refine zg_istore (lv' := [(7, .int (nI 0)), (6, .int (nI 2)), (5, .ref (G (49 + 3 * x4.toNatClampNeg))), (0, .ref (G 0)), (1, .int x1), (2, .int x2), (3, .int x3), (4, .int x4)]) hO dX1_shared_88 (Nat.le_of_ble_eq_true rfl) rfl ?_
      exact zg_sub [3, 4, 5, 6, 7, 2, 1, 0] rfl (w_X_shared_90 hO hX hr ih _ _ _ _ _ _ _ _ _ hb7 h)
set_option maxHeartbeats 4000000 in
theorem w_X_shared_13 {tb : Nat} {ad : Nat → Nat} (hO : Ok p s m args meth c cX1_shared RX1 10 D dA A) (hX : XK dA G A s) (hr : meth.sig.returnType = (some .int)) {ρ : Int32 × XS} : ∀ (n : Nat) (x1 : Int32) (x2 : Int32) (x3 : Int32) (x4 : Int32) (σ : XS), X_shared_13 n x1 x2 x3 x4 σ = some ρ → Go p l e (rmG 3 0 0) s m args below meth c D A 10 (MQ below ((QgI D dA (fun _ : Unit => WX dA G tb ad ρ.2) ρ.1) A) args s 0 0 A) (WX dA G tb ad σ) 0 0 13 [(0, .ref (G 0)), (1, .int x1), (2, .int x2), (3, .int x3), (4, .int x4)] [] := by
  intro n
  induction n with
  | zero =>
    intro x1 x2 x3 x4 σ h
    rw [X_shared_13] at h
    cases h
  | succ n ih =>
    intro x1 x2 x3 x4 σ h
    rw [X_shared_13] at h
    refine zg_iload hO 4 dX1_shared_13 rfl ?_
    refine zg_iconst hO dX1_shared_15 ic4 ?_
    refine zg_icmp_ge (tgt := 54) hO h dX1_shared_16 (by decide) (fun h => ?_) (fun h => ?_)
    · refine zg_iconst hO dX1_shared_54 ic0 ?_
      refine zg_istore (lv' := [(4, .int (nI 0)), (0, .ref (G 0)), (1, .int x1), (2, .int x2), (3, .int x3)]) hO dX1_shared_55 (Nat.le_of_ble_eq_true rfl) rfl ?_
      exact zg_sub [1, 2, 3, 4, 0] rfl (w_X_shared_57 hO hX hr _ _ _ _ _ _ h)
    · refine zg_iload_n hO 1 dX1_shared_19 rfl rfl ?_
      refine zg_aload_n hO 0 dX1_shared_20 rfl rfl ?_
      refine xG_1_162 hO hX dX1_shared_21 ?_
      refine zg_iload hO 4 dX1_shared_24 rfl ?_
      refine zy_lget (rest := [.int x1]) hO hX h q1406 (Nat.le_of_ble_eq_true rfl) dX1_shared_26 (fun hb2 h => ?_) ⟨Nat.le_refl _, Nat.le_refl _⟩
      refine zy_castL hO hb2 q231 dX1_shared_31 ?_
      refine zy_callViF (b := G (48 + 3 * x4.toNatClampNeg)) (As := []) (rest := [.int x1]) hO hX h (fun q hq => m_Xl_size l D dA G hb2 tb ad hq) mw_X3_size q1407 ⟨Nat.le_of_ble_eq_true rfl, Nat.le_of_ble_eq_true rfl⟩ ⟨Nat.le_refl _, Nat.le_refl _⟩ rfl rfl (Nat.le_of_ble_eq_true rfl) ⟨40 + 3 * x4.toNatClampNeg, 2, _, _, wx_line hb2, rfl, rfl⟩ dX1_shared_34 (fun q3 h => ?_)
      refine zg_iadd hO dX1_shared_37 ?_
      refine zg_istore_n (lv' := [(1, .int (x1 + q3.1)), (0, .ref (G 0)), (2, .int x2), (3, .int x3), (4, .int x4)]) hO dX1_shared_38 rfl (Nat.le_of_ble_eq_true rfl) rfl ?_
      refine zg_iload_n hO 2 dX1_shared_39 rfl rfl ?_
      refine zg_aload_n hO 1 dX1_shared_40 rfl rfl ?_
      refine zg_iload hO 4 dX1_shared_41 rfl ?_
      refine zy_callViF (b := G 0) (As := [.int x4]) (rest := [.int x2]) hO hX h (fun q hq => m_X_meets l D dA G tb ad hq) mw_X1_meets q1641 ⟨Nat.le_of_ble_eq_true rfl, Nat.le_of_ble_eq_true rfl⟩ ⟨Nat.le_refl _, Nat.le_refl _⟩ rfl rfl (Nat.le_of_ble_eq_true rfl) ⟨0, 1, _, _, rfl, rfl, rfl⟩ dX1_shared_43 (fun q4 h => ?_)
      refine zg_iadd hO dX1_shared_46 ?_
      refine zg_istore_n (lv' := [(2, .int (x2 + q4.1)), (1, .int (x1 + q3.1)), (0, .ref (G 0)), (3, .int x3), (4, .int x4)]) hO dX1_shared_47 rfl (Nat.le_of_ble_eq_true rfl) rfl ?_
      refine zg_iinc (k := 4) (lv' := [(4, .int (x4 + (nI 1))), (2, .int (x2 + q4.1)), (1, .int (x1 + q3.1)), (0, .ref (G 0)), (3, .int x3)]) hO dX1_shared_48 rfl (zii ic1) (Nat.le_of_ble_eq_true rfl) rfl ?_
      refine zg_goto (tgt := 13) hO dX1_shared_51 (by decide) ?_
      exact zg_sub [3, 2, 1, 4, 0] rfl (ih _ _ _ _ _ h)
theorem mw_X1_shared : MwX yX1_shared cX1_shared 10 (some .int) RX1 0 := ⟨by decide +kernel, q1652, q1653, q85, q1654⟩
set_option maxHeartbeats 4000000 in
theorem m_X_shared (l : Launch) (D : va_G) (dA : Nat → ClassId) (G : Nat → Nat) {σ : XS} (tb : Nat) (ad : Nat → Nat) {ρ : Int32 × XS} (h : X_shared σ = some ρ) : CtX l yX1_shared (ws_ yX1_shared cX1_shared 10 (some .int)) 3 0 0 D dA G [.ref (G 0)] (WX dA G tb ad σ) (QgI D dA (fun _ : Unit => WX dA G tb ad ρ.2) ρ.1) := by
  refine zx_start (cc := cX1_shared) (nL := 10) (ret := (some .int)) (own := RX1) (by decide) rfl rfl (Nat.le_of_ble_eq_true rfl) (fun p e s m args below meth c A hO hX hr _ _ => ?_)
  unfold X_shared at h
  refine zg_sub (lv' := [(0, .ref (G 0))]) [0] rfl ?_
  refine zg_aload_n hO 0 dX1_shared_0 rfl rfl ?_
  refine zy_callVvF (b := G 0) (As := []) (rest := []) hO hX h (fun q hq => m_X_begins l D dA G tb ad hq) mw_X1_begins q1637 ⟨Nat.le_of_ble_eq_true rfl, Nat.le_of_ble_eq_true rfl⟩ ⟨Nat.le_refl _, Nat.le_refl _⟩ rfl rfl (Nat.le_of_ble_eq_true rfl) ⟨0, 1, _, _, rfl, rfl, rfl⟩ dX1_shared_1 (fun q1 h => ?_)
  refine zg_iconst hO dX1_shared_4 ic0 ?_
  refine zg_istore_n (lv' := [(1, .int (nI 0)), (0, .ref (G 0))]) hO dX1_shared_5 rfl (Nat.le_of_ble_eq_true rfl) rfl ?_
  refine zg_iconst hO dX1_shared_6 ic0 ?_
  refine zg_istore_n (lv' := [(2, .int (nI 0)), (1, .int (nI 0)), (0, .ref (G 0))]) hO dX1_shared_7 rfl (Nat.le_of_ble_eq_true rfl) rfl ?_
  refine zg_iconst hO dX1_shared_8 ic0 ?_
  refine zg_istore_n (lv' := [(3, .int (nI 0)), (2, .int (nI 0)), (1, .int (nI 0)), (0, .ref (G 0))]) hO dX1_shared_9 rfl (Nat.le_of_ble_eq_true rfl) rfl ?_
  refine zg_iconst hO dX1_shared_10 ic0 ?_
  refine zg_istore (lv' := [(4, .int (nI 0)), (3, .int (nI 0)), (2, .int (nI 0)), (1, .int (nI 0)), (0, .ref (G 0))]) hO dX1_shared_11 (Nat.le_of_ble_eq_true rfl) rfl ?_
  exact zg_sub [4, 3, 2, 1, 0] rfl (w_X_shared_13 hO hX hr _ _ _ _ _ _ h)
set_option maxHeartbeats 4000000 in
theorem w_X_would_129 {tb : Nat} {ad : Nat → Nat} (hO : Ok p s m args meth c cX1_would RX1 7 D dA A) (hX : XK dA G A s) (hr : meth.sig.returnType = (some .int)) {ρ : Int32 × XS} : ∀ (x5 : Int32) (y0 : Int64) (σ : XS), X_would_129 x5 y0 σ = some ρ → Go p l e (rmG 2 0 0) s m args below meth c D A 7 (MQ below ((QgI D dA (fun _ : Unit => WX dA G tb ad ρ.2) ρ.1) A) args s 0 0 A) (WX dA G tb ad σ) 0 0 129 [(5, .int x5)] [.long y0, .ref (G 0)] := by
  intro x5 y0 σ h
  unfold X_would_129 at h
  refine zy_callVvF (b := G 0) (As := [.long y0]) (rest := []) hO hX h (fun q hq => m_X_tells l D dA G tb ad hq) mw_X1_tells q1272 ⟨Nat.le_of_ble_eq_true rfl, Nat.le_of_ble_eq_true rfl⟩ ⟨Nat.le_refl _, Nat.le_refl _⟩ rfl rfl (Nat.le_of_ble_eq_true rfl) ⟨0, 1, _, _, rfl, rfl, rfl⟩ dX1_would_129 (fun q6 h => ?_)
  refine zg_iload hO 0 dX1_would_132 rfl ?_
  exact zy_iretF hO hr h ⟨Nat.le_refl _, Nat.le_refl _⟩ dX1_would_134
set_option maxHeartbeats 4000000 in
theorem w_X_would_107 {tb : Nat} {ad : Nat → Nat} (hO : Ok p s m args meth c cX1_would RX1 7 D dA A) (hX : XK dA G A s) (hr : meth.sig.returnType = (some .int)) {ρ : Int32 × XS} : ∀ (x2 : Int32) (x4 : Int32) (x5 : Int32) (x6 : Int32) (y0 : Int64) (σ : XS), X_would_107 x2 x4 x5 x6 y0 σ = some ρ → Go p l e (rmG 2 0 0) s m args below meth c D A 7 (MQ below ((QgI D dA (fun _ : Unit => WX dA G tb ad ρ.2) ρ.1) A) args s 0 0 A) (WX dA G tb ad σ) 0 0 107 [(0, .ref (G 0)), (2, .int x2), (4, .int x4), (5, .int x5), (6, .int x6)] [.long y0, .ref (G 0)] := by
  intro x2 x4 x5 x6 y0 σ h
  unfold X_would_107 at h
  refine zy_callVvF (b := G 0) (As := [.long y0]) (rest := []) hO hX h (fun q hq => m_X_tells l D dA G tb ad hq) mw_X1_tells q1272 ⟨Nat.le_of_ble_eq_true rfl, Nat.le_of_ble_eq_true rfl⟩ ⟨Nat.le_refl _, Nat.le_refl _⟩ rfl rfl (Nat.le_of_ble_eq_true rfl) ⟨0, 1, _, _, rfl, rfl, rfl⟩ dX1_would_107 (fun q5 h => ?_)
  refine zg_aload_n hO 0 dX1_would_110 rfl rfl ?_
  refine zg_iload_n hO 1 dX1_would_111 rfl rfl ?_
  refine zg_if_ne (tgt := 124) hO h dX1_would_112 (by decide) (fun h => ?_) (fun h => ?_)
  · refine zg_iload hO 4 dX1_would_124 rfl ?_
    refine zg_iconst hO dX1_would_126 ic1 ?_
    refine zg_isub hO dX1_would_127 ?_
    refine zg_i2l hO dX1_would_128 ?_
    exact zg_sub [3] rfl (w_X_would_129 hO hX hr _ _ _ h)
  · refine zg_iload hO 2 dX1_would_115 rfl ?_
    refine zg_iload hO 4 dX1_would_117 rfl ?_
    refine zg_isub hO dX1_would_119 ?_
    refine zg_i2l hO dX1_would_120 ?_
    refine zg_goto (tgt := 129) hO dX1_would_121 (by decide) ?_
    exact zg_sub [3] rfl (w_X_would_129 hO hX hr _ _ _ h)
set_option maxHeartbeats 4000000 in
theorem w_X_would_81 {tb : Nat} {ad : Nat → Nat} (hO : Ok p s m args meth c cX1_would RX1 7 D dA A) (hX : XK dA G A s) (hr : meth.sig.returnType = (some .int)) {ρ : Int32 × XS} : ∀ (x2 : Int32) (x4 : Int32) (x5 : Int32) (y0 : Int32) (σ : XS), X_would_81 x2 x4 x5 y0 σ = some ρ → Go p l e (rmG 2 0 0) s m args below meth c D A 7 (MQ below ((QgI D dA (fun _ : Unit => WX dA G tb ad ρ.2) ρ.1) A) args s 0 0 A) (WX dA G tb ad σ) 0 0 81 [(0, .ref (G 0)), (2, .int x2), (4, .int x4), (5, .int x5)] [.int y0] := by
  intro x2 x4 x5 y0 σ h
  unfold X_would_81 at h
  refine zg_istore (lv' := [(6, .int y0), (0, .ref (G 0)), (2, .int x2), (4, .int x4), (5, .int x5)]) hO dX1_would_81 (Nat.le_of_ble_eq_true rfl) rfl ?_
  refine zg_aload_n hO 1 dX1_would_83 rfl rfl ?_
  refine zg_iconst hO dX1_would_84 ic0 ?_
  refine xP_1_199 hO hX dX1_would_85 ?_
  refine zg_aload_n hO 1 dX1_would_88 rfl rfl ?_
  refine zg_iload_n hO 2 dX1_would_89 rfl rfl ?_
  refine zg_if_ne (tgt := 101) hO h dX1_would_90 (by decide) (fun h => ?_) (fun h => ?_)
  · refine zg_iload hO 3 dX1_would_101 rfl ?_
    refine zg_iload hO 0 dX1_would_103 rfl ?_
    refine zg_isub hO dX1_would_105 ?_
    refine zg_i2l hO dX1_would_106 ?_
    exact zg_sub [1, 2, 3, 4, 0] rfl (w_X_would_107 hO hX hr _ _ _ _ _ _ h)
  · refine zg_iload hO 0 dX1_would_93 rfl ?_
    refine zg_iconst hO dX1_would_95 ic1 ?_
    refine zg_isub hO dX1_would_96 ?_
    refine zg_i2l hO dX1_would_97 ?_
    refine zg_goto (tgt := 107) hO dX1_would_98 (by decide) ?_
    exact zg_sub [1, 2, 3, 4, 0] rfl (w_X_would_107 hO hX hr _ _ _ _ _ _ h)
set_option maxHeartbeats 4000000 in
theorem w_X_would_59 {tb : Nat} {ad : Nat → Nat} (hO : Ok p s m args meth c cX1_would RX1 7 D dA A) (hX : XK dA G A s) (hr : meth.sig.returnType = (some .int)) {ρ : Int32 × XS} : ∀ (x2 : Int32) (i3 : Nat) (x4 : Int32) (y0 : Int32) (σ : XS) (hi3 : i3 < 5), X_would_59 x2 i3 x4 y0 σ = some ρ → Go p l e (rmG 2 0 0) s m args below meth c D A 7 (MQ below ((QgI D dA (fun _ : Unit => WX dA G tb ad ρ.2) ρ.1) A) args s 0 0 A) (WX dA G tb ad σ) 0 0 59 [(0, .ref (G 0)), (2, .int x2), (3, .ref (G (48 + 3 * i3))), (4, .int x4)] [.int y0] := by
  intro x2 i3 x4 y0 σ hi3 h
  unfold X_would_59 at h
  refine zg_istore (lv' := [(5, .int y0), (0, .ref (G 0)), (2, .int x2), (3, .ref (G (48 + 3 * i3))), (4, .int x4)]) hO dX1_would_59 (Nat.le_of_ble_eq_true rfl) rfl ?_
  refine zg_iload hO 0 dX1_would_61 rfl ?_
  refine zg_if_le (tgt := 75) hO h dX1_would_63 (by decide) (fun h => ?_) (fun h => ?_)
  · refine zg_aload_n hO 3 dX1_would_75 rfl rfl ?_
    refine xG_1_225 hO hX hi3 dX1_would_76 ?_
    refine zg_iload_n hO 2 dX1_would_79 rfl rfl ?_
    refine xL_many hO hi3 h dX1_would_80 (fun h => ?_)
    exact zg_sub [1, 2, 4, 0] rfl (w_X_would_81 hO hX hr _ _ _ _ _ h)
  · refine zg_iload hO 4 dX1_would_66 rfl ?_
    refine zg_iconst hO dX1_would_68 ic1 ?_
    refine zg_iadd hO dX1_would_69 ?_
    refine zg_iconst hO dX1_would_70 ic2 ?_
    refine zg_idiv hO h dX1_would_71 (fun h => ?_)
    refine zg_goto (tgt := 81) hO dX1_would_72 (by decide) ?_
    exact zg_sub [1, 2, 4, 0] rfl (w_X_would_81 hO hX hr _ _ _ _ _ h)
theorem mw_X1_would : MwX yX1_would cX1_would 7 (some .int) RX1 2 := ⟨by decide +kernel, q1657, q1658, q85, q1659⟩
set_option maxHeartbeats 4000000 in
theorem m_X_would (l : Launch) (D : va_G) (dA : Nat → ClassId) (G : Nat → Nat) {x1 : Int32} {x2 : Int32} {σ : XS} (tb : Nat) (ad : Nat → Nat) {ρ : Int32 × XS} (h : X_would x1 x2 σ = some ρ) : CtX l yX1_would (ws_ yX1_would cX1_would 7 (some .int)) 2 0 0 D dA G [.ref (G 0), .int x1, .int x2] (WX dA G tb ad σ) (QgI D dA (fun _ : Unit => WX dA G tb ad ρ.2) ρ.1) := by
  refine zx_start (cc := cX1_would) (nL := 7) (ret := (some .int)) (own := RX1) (by decide) rfl rfl (Nat.le_of_ble_eq_true rfl) (fun p e s m args below meth c A hO hX hr _ _ => ?_)
  unfold X_would at h
  refine zg_sub (lv' := [(0, .ref (G 0)), (1, .int x1), (2, .int x2)]) [0, 1, 2] rfl ?_
  refine zg_iload_n hO 1 dX1_would_0 rfl rfl ?_
  refine zs_calli (As := [.int x1]) (rest := []) hO h (fun q hq => m_X_isLine l D dA hq) mw_X1_isLine q1398 ⟨Nat.le_of_ble_eq_true rfl, Nat.le_of_ble_eq_true rfl⟩ ⟨Nat.le_refl _, Nat.le_refl _⟩ rfl rfl (Nat.le_of_ble_eq_true rfl) dX1_would_1 (fun q1 h => ?_)
  refine zg_if_eq (tgt := 14) hO h dX1_would_4 (by decide) (fun h => ?_) (fun h => ?_)
  · refine zg_iconst hO dX1_would_14 icm1 ?_
    exact zy_iretF hO hr h ⟨Nat.le_refl _, Nat.le_refl _⟩ dX1_would_15
  · refine zg_iload_n hO 2 dX1_would_7 rfl rfl ?_
    refine zs_calli (As := [.int x2]) (rest := []) hO h (fun q hq => m_X_isEnd l D dA hq) mw_X1_isEnd q1402 ⟨Nat.le_of_ble_eq_true rfl, Nat.le_of_ble_eq_true rfl⟩ ⟨Nat.le_refl _, Nat.le_refl _⟩ rfl rfl (Nat.le_of_ble_eq_true rfl) dX1_would_8 (fun q2 h => ?_)
    refine zg_if_ne (tgt := 16) hO h dX1_would_11 (by decide) (fun h => ?_) (fun h => ?_)
    · refine zg_aload_n hO 0 dX1_would_16 rfl rfl ?_
      refine xG_1_162 hO hX dX1_would_17 ?_
      refine zg_iload_n hO 1 dX1_would_20 rfl rfl ?_
      refine zy_lget (rest := []) hO hX h q1406 (Nat.le_of_ble_eq_true rfl) dX1_would_21 (fun hb3 h => ?_) ⟨Nat.le_refl _, Nat.le_refl _⟩
      refine zy_castL hO hb3 q231 dX1_would_26 ?_
      refine zg_astore_n (lv' := [(3, .ref (G (48 + 3 * x1.toNatClampNeg))), (0, .ref (G 0)), (1, .int x1), (2, .int x2)]) hO dX1_would_29 rfl (Nat.le_of_ble_eq_true rfl) rfl ?_
      refine zg_aload_n hO 0 dX1_would_30 rfl rfl ?_
      refine zy_callViF (b := G (48 + 3 * x1.toNatClampNeg)) (As := []) (rest := []) hO hX h (fun q hq => m_Xl_size l D dA G hb3 tb ad hq) mw_X3_size q1407 ⟨Nat.le_of_ble_eq_true rfl, Nat.le_of_ble_eq_true rfl⟩ ⟨Nat.le_refl _, Nat.le_refl _⟩ rfl rfl (Nat.le_of_ble_eq_true rfl) ⟨40 + 3 * x1.toNatClampNeg, 2, _, _, wx_line hb3, rfl, rfl⟩ dX1_would_31 (fun q4 h => ?_)
      refine zg_istore (lv' := [(4, .int q4.1), (3, .ref (G (48 + 3 * x1.toNatClampNeg))), (0, .ref (G 0)), (1, .int x1), (2, .int x2)]) hO dX1_would_34 (Nat.le_of_ble_eq_true rfl) rfl ?_
      refine zg_iload hO 0 dX1_would_36 rfl ?_
      refine zg_if_ne (tgt := 44) hO h dX1_would_38 (by decide) (fun h => ?_) (fun h => ?_)
      · refine zg_aload_n hO 1 dX1_would_44 rfl rfl ?_
        refine xG_1_225 hO hX hb3 dX1_would_45 ?_
        refine zg_iload_n hO 4 dX1_would_48 rfl rfl ?_
        refine xL_many hO hb3 h dX1_would_49 (fun h => ?_)
        refine zg_if_ne (tgt := 58) hO h dX1_would_50 (by decide) (fun h => ?_) (fun h => ?_)
        · refine zg_iconst hO dX1_would_58 ic0 ?_
          exact zg_sub [2, 4, 1, 0] rfl (w_X_would_59 hO hX hr _ _ _ _ _ hb3 h)
        · refine zg_iload hO 0 dX1_would_53 rfl ?_
          refine zg_goto (tgt := 59) hO dX1_would_55 (by decide) ?_
          exact zg_sub [2, 4, 1, 0] rfl (w_X_would_59 hO hX hr _ _ _ _ _ hb3 h)
      · refine zg_bipush hO dX1_would_41 bcm2 ?_
        exact zy_iretF hO hr h ⟨Nat.le_refl _, Nat.le_refl _⟩ dX1_would_43
    · refine zg_iconst hO dX1_would_14 icm1 ?_
      exact zy_iretF hO hr h ⟨Nat.le_refl _, Nat.le_refl _⟩ dX1_would_15
theorem mw_X1_tries : MwX yX1_tries cX1_tries 10 none RX1 6 := ⟨by decide +kernel, q1667, qs44, q85, q1668⟩
set_option maxHeartbeats 4000000 in
theorem w_X_tries_34 {tb : Nat} {ad : Nat → Nat} (hO : Ok p s m args meth c cX1_tries RX1 10 D dA A) (hX : XK dA G A s) (hr : meth.sig.returnType = none) {n : Nat} {rec : Int32 → Int32 → Int32 → Int32 → Int32 → Int32 → XS → Option (XS)} (Rec : ∀ (x1 : Int32) (x2 : Int32) (x3 : Int32) (x4 : Int32) (x5 : Int32) (x6 : Int32) (σ : XS) (tb : Nat) (ad : Nat → Nat) (ρ : XS), rec x1 x2 x3 x4 x5 x6 σ = some ρ → CtX l yX1_tries (ws_ yX1_tries cX1_tries 10 none) n 0 0 D dA G [.ref (G 0), .int x1, .int x2, .int x3, .int x4, .int x5, .int x6] (WX dA G tb ad σ) (QgV D dA (fun _ : Unit => WX dA G tb ad ρ))) {ρ : XS} : ∀ (x5 : Int32) (x6 : Int32) (σ : XS), X_tries_34 rec x5 x6 σ = some ρ → Go p l e (rmG (n + 1) 0 0) s m args below meth c D A 10 (MQ below ((QgV D dA (fun _ : Unit => WX dA G tb ad ρ)) A) args s 0 0 A) (WX dA G tb ad σ) 0 0 34 [(0, .ref (G 0)), (5, .int x5), (6, .int x6)] [] := by
  intro x5 x6 σ h
  unfold X_tries_34 at h
  refine zg_aload_n hO 0 dX1_tries_34 rfl rfl ?_
  refine zg_iload hO 1 dX1_tries_35 rfl ?_
  refine xP_1_429 hO hX dX1_tries_37 ?_
  refine zg_aload_n hO 0 dX1_tries_40 rfl rfl ?_
  refine zg_iload hO 2 dX1_tries_41 rfl ?_
  refine xP_1_432 hO hX dX1_tries_43 ?_
  exact zy_vretF hO hr h ⟨Nat.le_refl _, Nat.le_refl _⟩ dX1_tries_46
set_option maxHeartbeats 4000000 in
theorem w_X_tries_180 {tb : Nat} {ad : Nat → Nat} (hO : Ok p s m args meth c cX1_tries RX1 10 D dA A) (hX : XK dA G A s) (hr : meth.sig.returnType = none) {n : Nat} {rec : Int32 → Int32 → Int32 → Int32 → Int32 → Int32 → XS → Option (XS)} (Rec : ∀ (x1 : Int32) (x2 : Int32) (x3 : Int32) (x4 : Int32) (x5 : Int32) (x6 : Int32) (σ : XS) (tb : Nat) (ad : Nat → Nat) (ρ : XS), rec x1 x2 x3 x4 x5 x6 σ = some ρ → CtX l yX1_tries (ws_ yX1_tries cX1_tries 10 none) n 0 0 D dA G [.ref (G 0), .int x1, .int x2, .int x3, .int x4, .int x5, .int x6] (WX dA G tb ad σ) (QgV D dA (fun _ : Unit => WX dA G tb ad ρ))) {ρ : XS} : ∀ (x3 : Int32) (x6 : Int32) (y0 : Int32) (y1 : Int32) (y2 : Int32) (y3 : Int32) (y4 : Int32) (y5 : Int32) (σ : XS), X_tries_180 rec x3 x6 y0 y1 y2 y3 y4 y5 σ = some ρ → Go p l e (rmG (n + 1) 0 0) s m args below meth c D A 10 (MQ below ((QgV D dA (fun _ : Unit => WX dA G tb ad ρ)) A) args s 0 0 A) (WX dA G tb ad σ) 0 0 180 [(3, .int x3), (6, .int x6)] [.int y0, .int y1, .int y2, .int y3, .int y4, .int y5, .ref (G 0)] := by
  intro x3 x6 y0 y1 y2 y3 y4 y5 σ h
  unfold X_tries_180 at h
  refine zg_iadd hO dX1_tries_180 ?_
  refine zg_iload hO 1 dX1_tries_181 rfl ?_
  refine zg_iconst hO dX1_tries_183 ic1 ?_
  refine zg_iload_n hO 0 dX1_tries_184 rfl rfl ?_
  refine zg_ishl hO dX1_tries_185 ?_
  refine zg_ior hO dX1_tries_186 ?_
  refine zy_callVvF (b := G 0) (As := [.int y5, .int y4, .int y3, .int y2, .int (y1 + y0), .int (x6 ||| ((nI 1) <<< (x3 &&& 31)))]) (rest := []) hO hX h (fun q hq => Rec _ _ _ _ _ _ _ tb ad _ hq) mw_X1_tries q1665 ⟨by omega, by omega⟩ ⟨Nat.le_refl _, Nat.le_refl _⟩ rfl rfl (Nat.le_of_ble_eq_true rfl) ⟨0, 1, _, _, rfl, rfl, rfl⟩ dX1_tries_187 (fun q2 h => ?_)
  exact zy_vretF hO hr h ⟨Nat.le_refl _, Nat.le_refl _⟩ dX1_tries_190
set_option maxHeartbeats 4000000 in
theorem w_X_tries_160 {tb : Nat} {ad : Nat → Nat} (hO : Ok p s m args meth c cX1_tries RX1 10 D dA A) (hX : XK dA G A s) (hr : meth.sig.returnType = none) {n : Nat} {rec : Int32 → Int32 → Int32 → Int32 → Int32 → Int32 → XS → Option (XS)} (Rec : ∀ (x1 : Int32) (x2 : Int32) (x3 : Int32) (x4 : Int32) (x5 : Int32) (x6 : Int32) (σ : XS) (tb : Nat) (ad : Nat → Nat) (ρ : XS), rec x1 x2 x3 x4 x5 x6 σ = some ρ → CtX l yX1_tries (ws_ yX1_tries cX1_tries 10 none) n 0 0 D dA G [.ref (G 0), .int x1, .int x2, .int x3, .int x4, .int x5, .int x6] (WX dA G tb ad σ) (QgV D dA (fun _ : Unit => WX dA G tb ad ρ))) {ρ : XS} : ∀ (x3 : Int32) (x4 : Int32) (x5 : Int32) (x6 : Int32) (x7 : Int32) (x9 : Int32) (y0 : Int32) (y1 : Int32) (σ : XS), X_tries_160 rec x3 x4 x5 x6 x7 x9 y0 y1 σ = some ρ → Go p l e (rmG (n + 1) 0 0) s m args below meth c D A 10 (MQ below ((QgV D dA (fun _ : Unit => WX dA G tb ad ρ)) A) args s 0 0 A) (WX dA G tb ad σ) 0 0 160 [(3, .int x3), (4, .int x4), (5, .int x5), (6, .int x6), (7, .int x7), (9, .int x9)] [.int y0, .int y1, .ref (G 0)] := by
  intro x3 x4 x5 x6 x7 x9 y0 y1 σ h
  unfold X_tries_160 at h
  refine zg_iconst hO dX1_tries_160 ic1 ?_
  refine zg_isub hO dX1_tries_161 ?_
  refine zg_iload_n hO 0 dX1_tries_162 rfl rfl ?_
  refine zg_iconst hO dX1_tries_163 ic1 ?_
  refine zg_iadd hO dX1_tries_164 ?_
  refine zg_iload hO 1 dX1_tries_165 rfl ?_
  refine zg_iload hO 2 dX1_tries_167 rfl ?_
  refine zg_iload hO 5 dX1_tries_169 rfl ?_
  refine zg_if_eq (tgt := 179) hO h dX1_tries_171 (by decide) (fun h => ?_) (fun h => ?_)
  · refine zg_iconst hO dX1_tries_179 ic0 ?_
    exact zg_sub [0, 3] rfl (w_X_tries_180 hO hX hr Rec _ _ _ _ _ _ _ _ _ h)
  · refine zg_iload hO 4 dX1_tries_174 rfl ?_
    refine zg_goto (tgt := 180) hO dX1_tries_176 (by decide) ?_
    exact zg_sub [0, 3] rfl (w_X_tries_180 hO hX hr Rec _ _ _ _ _ _ _ _ _ h)
set_option maxHeartbeats 4000000 in
theorem w_X_tries_149 {tb : Nat} {ad : Nat → Nat} (hO : Ok p s m args meth c cX1_tries RX1 10 D dA A) (hX : XK dA G A s) (hr : meth.sig.returnType = none) {n : Nat} {rec : Int32 → Int32 → Int32 → Int32 → Int32 → Int32 → XS → Option (XS)} (Rec : ∀ (x1 : Int32) (x2 : Int32) (x3 : Int32) (x4 : Int32) (x5 : Int32) (x6 : Int32) (σ : XS) (tb : Nat) (ad : Nat → Nat) (ρ : XS), rec x1 x2 x3 x4 x5 x6 σ = some ρ → CtX l yX1_tries (ws_ yX1_tries cX1_tries 10 none) n 0 0 D dA G [.ref (G 0), .int x1, .int x2, .int x3, .int x4, .int x5, .int x6] (WX dA G tb ad σ) (QgV D dA (fun _ : Unit => WX dA G tb ad ρ))) {ρ : XS} : ∀ (x2 : Int32) (x3 : Int32) (x4 : Int32) (x5 : Int32) (x6 : Int32) (x7 : Int32) (x8 : Int32) (x9 : Int32) (y0 : Int32) (σ : XS), X_tries_149 rec x2 x3 x4 x5 x6 x7 x8 x9 y0 σ = some ρ → Go p l e (rmG (n + 1) 0 0) s m args below meth c D A 10 (MQ below ((QgV D dA (fun _ : Unit => WX dA G tb ad ρ)) A) args s 0 0 A) (WX dA G tb ad σ) 0 0 149 [(2, .int x2), (3, .int x3), (4, .int x4), (5, .int x5), (6, .int x6), (7, .int x7), (8, .int x8), (9, .int x9)] [.int y0, .ref (G 0)] := by
  intro x2 x3 x4 x5 x6 x7 x8 x9 y0 σ h
  unfold X_tries_149 at h
  refine zg_iload hO 7 dX1_tries_149 rfl ?_
  refine zg_if_eq (tgt := 159) hO h dX1_tries_151 (by decide) (fun h => ?_) (fun h => ?_)
  · refine zg_iload_n hO 0 dX1_tries_159 rfl rfl ?_
    exact zg_sub [1, 2, 3, 4, 5, 7] rfl (w_X_tries_160 hO hX hr Rec _ _ _ _ _ _ _ _ _ h)
  · refine zg_iload hO 6 dX1_tries_154 rfl ?_
    refine zg_goto (tgt := 160) hO dX1_tries_156 (by decide) ?_
    exact zg_sub [1, 2, 3, 4, 5, 7] rfl (w_X_tries_160 hO hX hr Rec _ _ _ _ _ _ _ _ _ h)
set_option maxHeartbeats 4000000 in
theorem w_X_tries_132 {tb : Nat} {ad : Nat → Nat} (hO : Ok p s m args meth c cX1_tries RX1 10 D dA A) (hX : XK dA G A s) (hr : meth.sig.returnType = none) {n : Nat} {rec : Int32 → Int32 → Int32 → Int32 → Int32 → Int32 → XS → Option (XS)} (Rec : ∀ (x1 : Int32) (x2 : Int32) (x3 : Int32) (x4 : Int32) (x5 : Int32) (x6 : Int32) (σ : XS) (tb : Nat) (ad : Nat → Nat) (ρ : XS), rec x1 x2 x3 x4 x5 x6 σ = some ρ → CtX l yX1_tries (ws_ yX1_tries cX1_tries 10 none) n 0 0 D dA G [.ref (G 0), .int x1, .int x2, .int x3, .int x4, .int x5, .int x6] (WX dA G tb ad σ) (QgV D dA (fun _ : Unit => WX dA G tb ad ρ))) {ρ : XS} : ∀ (x1 : Int32) (x2 : Int32) (x3 : Int32) (x4 : Int32) (x5 : Int32) (x6 : Int32) (x7 : Int32) (x8 : Int32) (y0 : Int32) (σ : XS), X_tries_132 rec x1 x2 x3 x4 x5 x6 x7 x8 y0 σ = some ρ → Go p l e (rmG (n + 1) 0 0) s m args below meth c D A 10 (MQ below ((QgV D dA (fun _ : Unit => WX dA G tb ad ρ)) A) args s 0 0 A) (WX dA G tb ad σ) 0 0 132 [(0, .ref (G 0)), (1, .int x1), (2, .int x2), (3, .int x3), (4, .int x4), (5, .int x5), (6, .int x6), (7, .int x7), (8, .int x8)] [.int y0] := by
  intro x1 x2 x3 x4 x5 x6 x7 x8 y0 σ h
  unfold X_tries_132 at h
  refine zg_istore (lv' := [(9, .int y0), (0, .ref (G 0)), (1, .int x1), (2, .int x2), (3, .int x3), (4, .int x4), (5, .int x5), (6, .int x6), (7, .int x7), (8, .int x8)]) hO dX1_tries_132 (Nat.le_of_ble_eq_true rfl) rfl ?_
  refine zg_aload_n hO 1 dX1_tries_134 rfl rfl ?_
  refine zg_iload hO 0 dX1_tries_135 rfl ?_
  refine zg_if_eq (tgt := 148) hO h dX1_tries_137 (by decide) (fun h => ?_) (fun h => ?_)
  · refine zg_iload_n hO 2 dX1_tries_148 rfl rfl ?_
    exact zg_sub [3, 4, 5, 6, 7, 8, 9, 0] rfl (w_X_tries_149 hO hX hr Rec _ _ _ _ _ _ _ _ _ _ h)
  · refine zg_iload hO 8 dX1_tries_140 rfl ?_
    refine zg_iload hO 9 dX1_tries_142 rfl ?_
    refine zg_isub hO dX1_tries_144 ?_
    refine zg_goto (tgt := 149) hO dX1_tries_145 (by decide) ?_
    exact zg_sub [3, 4, 5, 6, 7, 8, 9, 0] rfl (w_X_tries_149 hO hX hr Rec _ _ _ _ _ _ _ _ _ _ h)
set_option maxHeartbeats 4000000 in
theorem w_X_tries_117 {tb : Nat} {ad : Nat → Nat} (hO : Ok p s m args meth c cX1_tries RX1 10 D dA A) (hX : XK dA G A s) (hr : meth.sig.returnType = none) {n : Nat} {rec : Int32 → Int32 → Int32 → Int32 → Int32 → Int32 → XS → Option (XS)} (Rec : ∀ (x1 : Int32) (x2 : Int32) (x3 : Int32) (x4 : Int32) (x5 : Int32) (x6 : Int32) (σ : XS) (tb : Nat) (ad : Nat → Nat) (ρ : XS), rec x1 x2 x3 x4 x5 x6 σ = some ρ → CtX l yX1_tries (ws_ yX1_tries cX1_tries 10 none) n 0 0 D dA G [.ref (G 0), .int x1, .int x2, .int x3, .int x4, .int x5, .int x6] (WX dA G tb ad σ) (QgV D dA (fun _ : Unit => WX dA G tb ad ρ))) {ρ : XS} : ∀ (x1 : Int32) (x2 : Int32) (x3 : Int32) (x4 : Int32) (x5 : Int32) (x6 : Int32) (x7 : Int32) (x8 : Int32) (y0 : Int32) (y1 : Int32) (y2 : Int32) (y3 : Int32) (y4 : Int32) (y5 : Int32) (σ : XS), X_tries_117 rec x1 x2 x3 x4 x5 x6 x7 x8 y0 y1 y2 y3 y4 y5 σ = some ρ → Go p l e (rmG (n + 1) 0 0) s m args below meth c D A 10 (MQ below ((QgV D dA (fun _ : Unit => WX dA G tb ad ρ)) A) args s 0 0 A) (WX dA G tb ad σ) 0 0 117 [(0, .ref (G 0)), (1, .int x1), (2, .int x2), (3, .int x3), (4, .int x4), (5, .int x5), (6, .int x6), (7, .int x7), (8, .int x8)] [.int y0, .int y1, .int y2, .int y3, .int y4, .int y5, .ref (G 0)] := by
  intro x1 x2 x3 x4 x5 x6 x7 x8 y0 y1 y2 y3 y4 y5 σ h
  unfold X_tries_117 at h
  refine zg_iadd hO dX1_tries_117 ?_
  refine zg_iload hO 6 dX1_tries_118 rfl ?_
  refine zy_callVvF (b := G 0) (As := [.int y5, .int y4, .int y3, .int y2, .int (y1 + y0), .int x6]) (rest := []) hO hX h (fun q hq => Rec _ _ _ _ _ _ _ tb ad _ hq) mw_X1_tries q1665 ⟨by omega, by omega⟩ ⟨Nat.le_refl _, Nat.le_refl _⟩ rfl rfl (Nat.le_of_ble_eq_true rfl) ⟨0, 1, _, _, rfl, rfl, rfl⟩ dX1_tries_120 (fun q1 h => ?_)
  refine zg_iload_n hO 2 dX1_tries_123 rfl rfl ?_
  refine zg_if_ne (tgt := 131) hO h dX1_tries_124 (by decide) (fun h => ?_) (fun h => ?_)
  · refine zg_iconst hO dX1_tries_131 ic0 ?_
    exact zg_sub [0, 1, 2, 3, 4, 5, 6, 7, 8] rfl (w_X_tries_132 hO hX hr Rec _ _ _ _ _ _ _ _ _ _ h)
  · refine zg_iconst hO dX1_tries_127 ic1 ?_
    refine zg_goto (tgt := 132) hO dX1_tries_128 (by decide) ?_
    exact zg_sub [0, 1, 2, 3, 4, 5, 6, 7, 8] rfl (w_X_tries_132 hO hX hr Rec _ _ _ _ _ _ _ _ _ _ h)
set_option maxHeartbeats 4000000 in
theorem w_X_tries_99 {tb : Nat} {ad : Nat → Nat} (hO : Ok p s m args meth c cX1_tries RX1 10 D dA A) (hX : XK dA G A s) (hr : meth.sig.returnType = none) {n : Nat} {rec : Int32 → Int32 → Int32 → Int32 → Int32 → Int32 → XS → Option (XS)} (Rec : ∀ (x1 : Int32) (x2 : Int32) (x3 : Int32) (x4 : Int32) (x5 : Int32) (x6 : Int32) (σ : XS) (tb : Nat) (ad : Nat → Nat) (ρ : XS), rec x1 x2 x3 x4 x5 x6 σ = some ρ → CtX l yX1_tries (ws_ yX1_tries cX1_tries 10 none) n 0 0 D dA G [.ref (G 0), .int x1, .int x2, .int x3, .int x4, .int x5, .int x6] (WX dA G tb ad σ) (QgV D dA (fun _ : Unit => WX dA G tb ad ρ))) {ρ : XS} : ∀ (x1 : Int32) (x2 : Int32) (x3 : Int32) (x4 : Int32) (x5 : Int32) (x6 : Int32) (x7 : Int32) (x8 : Int32) (x9 : Int32) (y0 : Int32) (y1 : Int32) (σ : XS), X_tries_99 rec x1 x2 x3 x4 x5 x6 x7 x8 x9 y0 y1 σ = some ρ → Go p l e (rmG (n + 1) 0 0) s m args below meth c D A 10 (MQ below ((QgV D dA (fun _ : Unit => WX dA G tb ad ρ)) A) args s 0 0 A) (WX dA G tb ad σ) 0 0 99 [(0, .ref (G 0)), (1, .int x1), (2, .int x2), (3, .int x3), (4, .int x4), (5, .int x5), (6, .int x6), (7, .int x7), (8, .int x8), (9, .int x9)] [.int y0, .int y1, .ref (G 0)] := by
  intro x1 x2 x3 x4 x5 x6 x7 x8 x9 y0 y1 σ h
  unfold X_tries_99 at h
  refine zg_iload_n hO 3 dX1_tries_99 rfl rfl ?_
  refine zg_iconst hO dX1_tries_100 ic1 ?_
  refine zg_iadd hO dX1_tries_101 ?_
  refine zg_iload hO 4 dX1_tries_102 rfl ?_
  refine zg_iload hO 5 dX1_tries_104 rfl ?_
  refine zg_iload hO 9 dX1_tries_106 rfl ?_
  refine zg_if_eq (tgt := 116) hO h dX1_tries_108 (by decide) (fun h => ?_) (fun h => ?_)
  · refine zg_iconst hO dX1_tries_116 ic0 ?_
    exact zg_sub [0, 1, 2, 3, 4, 5, 6, 7, 8] rfl (w_X_tries_117 hO hX hr Rec _ _ _ _ _ _ _ _ _ _ _ _ _ _ _ h)
  · refine zg_iload hO 7 dX1_tries_111 rfl ?_
    refine zg_goto (tgt := 117) hO dX1_tries_113 (by decide) ?_
    exact zg_sub [0, 1, 2, 3, 4, 5, 6, 7, 8] rfl (w_X_tries_117 hO hX hr Rec _ _ _ _ _ _ _ _ _ _ _ _ _ _ _ h)
set_option maxHeartbeats 4000000 in
theorem w_X_tries_83 {tb : Nat} {ad : Nat → Nat} (hO : Ok p s m args meth c cX1_tries RX1 10 D dA A) (hX : XK dA G A s) (hr : meth.sig.returnType = none) {n : Nat} {rec : Int32 → Int32 → Int32 → Int32 → Int32 → Int32 → XS → Option (XS)} (Rec : ∀ (x1 : Int32) (x2 : Int32) (x3 : Int32) (x4 : Int32) (x5 : Int32) (x6 : Int32) (σ : XS) (tb : Nat) (ad : Nat → Nat) (ρ : XS), rec x1 x2 x3 x4 x5 x6 σ = some ρ → CtX l yX1_tries (ws_ yX1_tries cX1_tries 10 none) n 0 0 D dA G [.ref (G 0), .int x1, .int x2, .int x3, .int x4, .int x5, .int x6] (WX dA G tb ad σ) (QgV D dA (fun _ : Unit => WX dA G tb ad ρ))) {ρ : XS} : ∀ (x1 : Int32) (x2 : Int32) (x3 : Int32) (x4 : Int32) (x5 : Int32) (x6 : Int32) (x7 : Int32) (x8 : Int32) (x9 : Int32) (y0 : Int32) (σ : XS), X_tries_83 rec x1 x2 x3 x4 x5 x6 x7 x8 x9 y0 σ = some ρ → Go p l e (rmG (n + 1) 0 0) s m args below meth c D A 10 (MQ below ((QgV D dA (fun _ : Unit => WX dA G tb ad ρ)) A) args s 0 0 A) (WX dA G tb ad σ) 0 0 83 [(0, .ref (G 0)), (1, .int x1), (2, .int x2), (3, .int x3), (4, .int x4), (5, .int x5), (6, .int x6), (7, .int x7), (8, .int x8), (9, .int x9)] [.int y0, .ref (G 0)] := by
  intro x1 x2 x3 x4 x5 x6 x7 x8 x9 y0 σ h
  unfold X_tries_83 at h
  refine zg_iconst hO dX1_tries_83 ic1 ?_
  refine zg_isub hO dX1_tries_84 ?_
  refine zg_iload hO 9 dX1_tries_85 rfl ?_
  refine zg_if_eq (tgt := 98) hO h dX1_tries_87 (by decide) (fun h => ?_) (fun h => ?_)
  · refine zg_iload_n hO 2 dX1_tries_98 rfl rfl ?_
    exact zg_sub [0, 1, 2, 3, 4, 5, 6, 7, 8, 9] rfl (w_X_tries_99 hO hX hr Rec _ _ _ _ _ _ _ _ _ _ _ _ h)
  · refine zg_iload hO 7 dX1_tries_90 rfl ?_
    refine zg_iload hO 8 dX1_tries_92 rfl ?_
    refine zg_isub hO dX1_tries_94 ?_
    refine zg_goto (tgt := 99) hO dX1_tries_95 (by decide) ?_
    exact zg_sub [0, 1, 2, 3, 4, 5, 6, 7, 8, 9] rfl (w_X_tries_99 hO hX hr Rec _ _ _ _ _ _ _ _ _ _ _ _ h)
set_option maxHeartbeats 4000000 in
theorem w_X_tries_69 {tb : Nat} {ad : Nat → Nat} (hO : Ok p s m args meth c cX1_tries RX1 10 D dA A) (hX : XK dA G A s) (hr : meth.sig.returnType = none) {n : Nat} {rec : Int32 → Int32 → Int32 → Int32 → Int32 → Int32 → XS → Option (XS)} (Rec : ∀ (x1 : Int32) (x2 : Int32) (x3 : Int32) (x4 : Int32) (x5 : Int32) (x6 : Int32) (σ : XS) (tb : Nat) (ad : Nat → Nat) (ρ : XS), rec x1 x2 x3 x4 x5 x6 σ = some ρ → CtX l yX1_tries (ws_ yX1_tries cX1_tries 10 none) n 0 0 D dA G [.ref (G 0), .int x1, .int x2, .int x3, .int x4, .int x5, .int x6] (WX dA G tb ad σ) (QgV D dA (fun _ : Unit => WX dA G tb ad ρ))) {ρ : XS} : ∀ (x1 : Int32) (x2 : Int32) (x3 : Int32) (x4 : Int32) (x5 : Int32) (x6 : Int32) (x7 : Int32) (x8 : Int32) (y0 : Int32) (σ : XS), X_tries_69 rec x1 x2 x3 x4 x5 x6 x7 x8 y0 σ = some ρ → Go p l e (rmG (n + 1) 0 0) s m args below meth c D A 10 (MQ below ((QgV D dA (fun _ : Unit => WX dA G tb ad ρ)) A) args s 0 0 A) (WX dA G tb ad σ) 0 0 69 [(0, .ref (G 0)), (1, .int x1), (2, .int x2), (3, .int x3), (4, .int x4), (5, .int x5), (6, .int x6), (7, .int x7), (8, .int x8)] [.int y0] := by
  intro x1 x2 x3 x4 x5 x6 x7 x8 y0 σ h
  unfold X_tries_69 at h
  refine zg_istore (lv' := [(9, .int y0), (0, .ref (G 0)), (1, .int x1), (2, .int x2), (3, .int x3), (4, .int x4), (5, .int x5), (6, .int x6), (7, .int x7), (8, .int x8)]) hO dX1_tries_69 (Nat.le_of_ble_eq_true rfl) rfl ?_
  refine zg_aload_n hO 1 dX1_tries_71 rfl rfl ?_
  refine zg_iload hO 0 dX1_tries_72 rfl ?_
  refine zg_if_eq (tgt := 82) hO h dX1_tries_74 (by decide) (fun h => ?_) (fun h => ?_)
  · refine zg_iload_n hO 2 dX1_tries_82 rfl rfl ?_
    exact zg_sub [1, 2, 3, 4, 5, 6, 7, 8, 9, 0] rfl (w_X_tries_83 hO hX hr Rec _ _ _ _ _ _ _ _ _ _ _ h)
  · refine zg_iload hO 9 dX1_tries_77 rfl ?_
    refine zg_goto (tgt := 83) hO dX1_tries_79 (by decide) ?_
    exact zg_sub [1, 2, 3, 4, 5, 6, 7, 8, 9, 0] rfl (w_X_tries_83 hO hX hr Rec _ _ _ _ _ _ _ _ _ _ _ h)
set_option maxHeartbeats 4000000 in
theorem m_X_tries (l : Launch) (D : va_G) (dA : Nat → ClassId) (G : Nat → Nat) : ∀ (n : Nat) (x1 : Int32) (x2 : Int32) (x3 : Int32) (x4 : Int32) (x5 : Int32) (x6 : Int32) (σ : XS) (tb : Nat) (ad : Nat → Nat) (ρ : XS), X_tries n x1 x2 x3 x4 x5 x6 σ = some ρ → CtX l yX1_tries (ws_ yX1_tries cX1_tries 10 none) n 0 0 D dA G [.ref (G 0), .int x1, .int x2, .int x3, .int x4, .int x5, .int x6] (WX dA G tb ad σ) (QgV D dA (fun _ : Unit => WX dA G tb ad ρ)) := by
  intro n
  induction n with
  | zero =>
    intro x1 x2 x3 x4 x5 x6 σ tb ad ρ h
    rw [X_tries] at h
    cases h
  | succ n ih =>
    intro x1 x2 x3 x4 x5 x6 σ tb ad ρ h
    rw [X_tries] at h
    refine zx_start (cc := cX1_tries) (nL := 10) (ret := none) (own := RX1) (by decide) rfl rfl (Nat.le_of_ble_eq_true rfl) (fun p e s m args below meth c A hO hX hr _ _ => ?_)
    refine zg_sub (lv' := [(0, .ref (G 0)), (1, .int x1), (2, .int x2), (3, .int x3), (4, .int x4), (5, .int x5), (6, .int x6)]) [0, 1, 2, 3, 4, 5, 6] rfl ?_
    refine zg_iload_n hO 3 dX1_tries_0 rfl rfl ?_
    refine zg_iload hO 4 dX1_tries_1 rfl ?_
    refine zg_icmp_ne (tgt := 47) hO h dX1_tries_3 (by decide) (fun h => ?_) (fun h => ?_)
    · refine zg_iload_n hO 1 dX1_tries_47 rfl rfl ?_
      refine zg_iload_n hO 2 dX1_tries_48 rfl rfl ?_
      refine zg_iadd hO dX1_tries_49 ?_
      refine zg_istore (lv' := [(7, .int (x1 + x2)), (0, .ref (G 0)), (1, .int x1), (2, .int x2), (3, .int x3), (4, .int x4), (5, .int x5), (6, .int x6)]) hO dX1_tries_50 (Nat.le_of_ble_eq_true rfl) rfl ?_
      refine zg_iload hO 0 dX1_tries_52 rfl ?_
      refine zg_iconst hO dX1_tries_54 ic1 ?_
      refine zg_iadd hO dX1_tries_55 ?_
      refine zg_iconst hO dX1_tries_56 ic2 ?_
      refine zg_idiv hO h dX1_tries_57 (fun h => ?_)
      refine zg_istore (lv' := [(8, .int (((x1 + x2) + (nI 1)) / (nI 2))), (7, .int (x1 + x2)), (0, .ref (G 0)), (1, .int x1), (2, .int x2), (3, .int x3), (4, .int x4), (5, .int x5), (6, .int x6)]) hO dX1_tries_58 (Nat.le_of_ble_eq_true rfl) rfl ?_
      refine zg_iload_n hO 3 dX1_tries_60 rfl rfl ?_
      refine zg_if_ne (tgt := 68) hO h dX1_tries_61 (by decide) (fun h => ?_) (fun h => ?_)
      · refine zg_iconst hO dX1_tries_68 ic0 ?_
        exact zg_sub [2, 3, 4, 5, 6, 7, 8, 1, 0] rfl (w_X_tries_69 hO hX hr ih _ _ _ _ _ _ _ _ _ _ h)
      · refine zg_iconst hO dX1_tries_64 ic1 ?_
        refine zg_goto (tgt := 69) hO dX1_tries_65 (by decide) ?_
        exact zg_sub [2, 3, 4, 5, 6, 7, 8, 1, 0] rfl (w_X_tries_69 hO hX hr ih _ _ _ _ _ _ _ _ _ _ h)
    · refine zg_iload hO 5 dX1_tries_6 rfl ?_
      refine zg_aload_n hO 0 dX1_tries_8 rfl rfl ?_
      refine xG_1_429 hO hX dX1_tries_9 ?_
      refine zg_icmp_lt (tgt := 33) hO h dX1_tries_12 (by decide) (fun h => ?_) (fun h => ?_)
      · exact zy_vretF hO hr h ⟨Nat.le_refl _, Nat.le_refl _⟩ dX1_tries_33
      · refine zg_iload hO 5 dX1_tries_15 rfl ?_
        refine zg_aload_n hO 0 dX1_tries_17 rfl rfl ?_
        refine xG_1_429 hO hX dX1_tries_18 ?_
        refine zg_icmp_ne (tgt := 34) hO h dX1_tries_21 (by decide) (fun h => ?_) (fun h => ?_)
        · exact zg_sub [0, 5, 6] rfl (w_X_tries_34 hO hX hr ih _ _ _ h)
        · refine zg_iload hO 6 dX1_tries_24 rfl ?_
          refine zg_aload_n hO 0 dX1_tries_26 rfl rfl ?_
          refine xG_1_432 hO hX dX1_tries_27 ?_
          refine zg_icmp_le (tgt := 34) hO h dX1_tries_30 (by decide) (fun h => ?_) (fun h => ?_)
          · exact zg_sub [0, 5, 6] rfl (w_X_tries_34 hO hX hr ih _ _ _ h)
          · exact zy_vretF hO hr h ⟨Nat.le_refl _, Nat.le_refl _⟩ dX1_tries_33
theorem mw_X1_dearest : MwX yX1_dearest cX1_dearest 4 (some .int) RX1 2 := ⟨by decide +kernel, q1661, q1662, q85, q1663⟩
set_option maxHeartbeats 4000000 in
theorem m_X_dearest (l : Launch) (D : va_G) (dA : Nat → ClassId) (G : Nat → Nat) {x1 : Int32} {x2 : Int32} {σ : XS} (tb : Nat) (ad : Nat → Nat) {ρ : Int32 × XS} (h : X_dearest x1 x2 σ = some ρ) : CtX l yX1_dearest (ws_ yX1_dearest cX1_dearest 4 (some .int)) 17 0 0 D dA G [.ref (G 0), .int x1, .int x2] (WX dA G tb ad σ) (QgI D dA (fun _ : Unit => WX dA G tb ad ρ.2) ρ.1) := by
  refine zx_start (cc := cX1_dearest) (nL := 4) (ret := (some .int)) (own := RX1) (by decide) rfl rfl (Nat.le_of_ble_eq_true rfl) (fun p e s m args below meth c A hO hX hr _ _ => ?_)
  unfold X_dearest at h
  refine zg_sub (lv' := [(0, .ref (G 0)), (1, .int x1), (2, .int x2)]) [0, 1, 2] rfl ?_
  refine zg_iload_n hO 1 dX1_dearest_0 rfl rfl ?_
  refine zs_calli (As := [.int x1]) (rest := []) hO h (fun q hq => m_X_isLine l D dA hq) mw_X1_isLine q1398 ⟨Nat.le_of_ble_eq_true rfl, Nat.le_of_ble_eq_true rfl⟩ ⟨Nat.le_refl _, Nat.le_refl _⟩ rfl rfl (Nat.le_of_ble_eq_true rfl) dX1_dearest_1 (fun q1 h => ?_)
  refine zg_if_eq (tgt := 19) hO h dX1_dearest_4 (by decide) (fun h => ?_) (fun h => ?_)
  · refine zg_iconst hO dX1_dearest_19 icm1 ?_
    exact zy_iretF hO hr h ⟨Nat.le_refl _, Nat.le_refl _⟩ dX1_dearest_20
  · refine zg_iload_n hO 2 dX1_dearest_7 rfl rfl ?_
    refine zg_i2l hO dX1_dearest_8 ?_
    refine zg_lconst hO dX1_dearest_9 lc1 ?_
    refine zg_ldc2 (x := 12) hO q1664 dX1_dearest_10 ?_
    refine zs_calli (As := [.long (x2.toInt64), .long (lN 1), .long (12 : Int64)]) (rest := []) hO h (fun q hq => m_X_in l D dA hq) mw_X1_in q608 ⟨Nat.le_of_ble_eq_true rfl, Nat.le_of_ble_eq_true rfl⟩ ⟨Nat.le_refl _, Nat.le_refl _⟩ rfl rfl (Nat.le_of_ble_eq_true rfl) dX1_dearest_13 (fun q2 h => ?_)
    refine zg_if_ne (tgt := 21) hO h dX1_dearest_16 (by decide) (fun h => ?_) (fun h => ?_)
    · refine zg_aload_n hO 0 dX1_dearest_21 rfl rfl ?_
      refine xG_1_162 hO hX dX1_dearest_22 ?_
      refine zg_iload_n hO 1 dX1_dearest_25 rfl rfl ?_
      refine zy_lget (rest := []) hO hX h q1406 (Nat.le_of_ble_eq_true rfl) dX1_dearest_26 (fun hb3 h => ?_) ⟨Nat.le_refl _, Nat.le_refl _⟩
      refine zy_castL hO hb3 q231 dX1_dearest_31 ?_
      refine zg_astore_n (lv' := [(3, .ref (G (48 + 3 * x1.toNatClampNeg))), (0, .ref (G 0)), (1, .int x1), (2, .int x2)]) hO dX1_dearest_34 rfl (Nat.le_of_ble_eq_true rfl) rfl ?_
      refine zg_aload_n hO 0 dX1_dearest_35 rfl rfl ?_
      refine zy_callViF (b := G (48 + 3 * x1.toNatClampNeg)) (As := []) (rest := []) hO hX h (fun q hq => m_Xl_size l D dA G hb3 tb ad hq) mw_X3_size q1407 ⟨Nat.le_of_ble_eq_true rfl, Nat.le_of_ble_eq_true rfl⟩ ⟨Nat.le_refl _, Nat.le_refl _⟩ rfl rfl (Nat.le_of_ble_eq_true rfl) ⟨40 + 3 * x1.toNatClampNeg, 2, _, _, wx_line hb3, rfl, rfl⟩ dX1_dearest_36 (fun q4 h => ?_)
      refine zg_iload_n hO 3 dX1_dearest_39 rfl rfl ?_
      refine zg_icmp_ge (tgt := 46) hO h dX1_dearest_40 (by decide) (fun h => ?_) (fun h => ?_)
      · refine zg_aload_n hO 1 dX1_dearest_46 rfl rfl ?_
        refine zg_iconst hO dX1_dearest_47 ic0 ?_
        refine xP_1_429 hO hX dX1_dearest_48 ?_
        refine zg_aload_n hO 1 dX1_dearest_51 rfl rfl ?_
        refine zg_sipush hO dX1_dearest_52 sc4096 ?_
        refine xP_1_432 hO hX dX1_dearest_55 ?_
        refine zg_aload_n hO 1 dX1_dearest_58 rfl rfl ?_
        refine zg_aload_n hO 0 dX1_dearest_59 rfl rfl ?_
        refine xG_1_225 hO hX hb3 dX1_dearest_60 ?_
        refine zg_iconst hO dX1_dearest_63 ic0 ?_
        refine xL_many hO hb3 h dX1_dearest_64 (fun h => ?_)
        refine zg_aload_n hO 0 dX1_dearest_65 rfl rfl ?_
        refine xG_1_225 hO hX hb3 dX1_dearest_66 ?_
        refine zg_iconst hO dX1_dearest_69 ic1 ?_
        refine xL_many hO hb3 h dX1_dearest_70 (fun h => ?_)
        refine zg_iconst hO dX1_dearest_71 ic0 ?_
        refine zg_iload_n hO 3 dX1_dearest_72 rfl rfl ?_
        refine zg_iconst hO dX1_dearest_73 ic0 ?_
        refine zg_iconst hO dX1_dearest_74 ic0 ?_
        refine zy_callVvF (b := G 0) (As := [.int (xA (zI (zI q4.2 7 (nI 0)) 8 (nI 4096)) (5 + x1.toNatClampNeg) (nI 0).toNatClampNeg), .int (xA (zI (zI q4.2 7 (nI 0)) 8 (nI 4096)) (5 + x1.toNatClampNeg) (nI 1).toNatClampNeg), .int (nI 0), .int x2, .int (nI 0), .int (nI 0)]) (rest := []) hO hX h (fun q hq => m_X_tries l D dA G _ _ _ _ _ _ _ _ tb ad _ hq) mw_X1_tries q1665 ⟨Nat.le_of_ble_eq_true rfl, Nat.le_of_ble_eq_true rfl⟩ ⟨Nat.le_refl _, Nat.le_refl _⟩ rfl rfl (Nat.le_of_ble_eq_true rfl) ⟨0, 1, _, _, rfl, rfl, rfl⟩ dX1_dearest_75 (fun q5 h => ?_)
        refine zg_aload_n hO 1 dX1_dearest_78 rfl rfl ?_
        refine zg_iconst hO dX1_dearest_79 ic0 ?_
        refine xP_1_199 hO hX dX1_dearest_80 ?_
        refine zg_aload_n hO 1 dX1_dearest_83 rfl rfl ?_
        refine zg_aload_n hO 1 dX1_dearest_84 rfl rfl ?_
        refine xG_1_432 hO hX dX1_dearest_85 ?_
        refine zg_i2l hO dX1_dearest_88 ?_
        refine zy_callVvF (b := G 0) (As := [.long ((xI (zI q5 5 (nI 0)) 8).toInt64)]) (rest := []) hO hX h (fun q hq => m_X_tells l D dA G tb ad hq) mw_X1_tells q1272 ⟨Nat.le_of_ble_eq_true rfl, Nat.le_of_ble_eq_true rfl⟩ ⟨Nat.le_refl _, Nat.le_refl _⟩ rfl rfl (Nat.le_of_ble_eq_true rfl) ⟨0, 1, _, _, rfl, rfl, rfl⟩ dX1_dearest_89 (fun q6 h => ?_)
        refine zg_aload_n hO 1 dX1_dearest_92 rfl rfl ?_
        refine xG_1_429 hO hX dX1_dearest_93 ?_
        exact zy_iretF hO hr h ⟨Nat.le_refl _, Nat.le_refl _⟩ dX1_dearest_96
      · refine zg_bipush hO dX1_dearest_43 bcm2 ?_
        exact zy_iretF hO hr h ⟨Nat.le_refl _, Nat.le_refl _⟩ dX1_dearest_45
    · refine zg_iconst hO dX1_dearest_19 icm1 ?_
      exact zy_iretF hO hr h ⟨Nat.le_refl _, Nat.le_refl _⟩ dX1_dearest_20
theorem mw_X1_count : MwX yX1_count cX1_count 2 (some .int) RX1 1 := ⟨by decide +kernel, q1670, q1671, q85, q1672⟩
set_option maxHeartbeats 4000000 in
theorem m_X_count (l : Launch) (D : va_G) (dA : Nat → ClassId) (G : Nat → Nat) {x1 : Int32} {σ : XS} (tb : Nat) (ad : Nat → Nat) {ρ : Int32 × XS} (h : X_count x1 σ = some ρ) : CtX l yX1_count (ws_ yX1_count cX1_count 2 (some .int)) 2 0 0 D dA G [.ref (G 0), .int x1] (WX dA G tb ad σ) (QgI D dA (fun _ : Unit => WX dA G tb ad ρ.2) ρ.1) := by
  refine zx_start (cc := cX1_count) (nL := 2) (ret := (some .int)) (own := RX1) (by decide) rfl rfl (Nat.le_of_ble_eq_true rfl) (fun p e s m args below meth c A hO hX hr _ _ => ?_)
  unfold X_count at h
  refine zg_sub (lv' := [(0, .ref (G 0)), (1, .int x1)]) [0, 1] rfl ?_
  refine zg_iload_n hO 1 dX1_count_0 rfl rfl ?_
  refine zg_i2l hO dX1_count_1 ?_
  refine zg_lconst hO dX1_count_2 lc0 ?_
  refine zg_ldc2 (x := 3) hO q1401 dX1_count_3 ?_
  refine zs_calli (As := [.long (x1.toInt64), .long (lN 0), .long (3 : Int64)]) (rest := []) hO h (fun q hq => m_X_in l D dA hq) mw_X1_in q608 ⟨Nat.le_of_ble_eq_true rfl, Nat.le_of_ble_eq_true rfl⟩ ⟨Nat.le_refl _, Nat.le_refl _⟩ rfl rfl (Nat.le_of_ble_eq_true rfl) dX1_count_6 (fun q1 h => ?_)
  refine zg_if_eq (tgt := 29) hO h dX1_count_9 (by decide) (fun h => ?_) (fun h => ?_)
  · refine zg_iload_n hO 1 dX1_count_29 rfl rfl ?_
    refine zg_ite h (fun e4 h => ?_) (fun e4 h => ?_)
    · refine zg_tableIn (tgt := 72) hO dX1_count_30 (by rw [e4]; decide) (by rw [e4]; decide) (by rw [e4]; rfl) (by decide) ?_
      refine zg_aload_n hO 0 dX1_count_72 rfl rfl ?_
      refine xG_1_92 hO hX dX1_count_73 ?_
      exact zy_iretF hO hr h ⟨Nat.le_refl _, Nat.le_refl _⟩ dX1_count_76
    refine zg_ite h (fun e5 h => ?_) (fun e5 h => ?_)
    · refine zg_tableIn (tgt := 77) hO dX1_count_30 (by rw [e5]; decide) (by rw [e5]; decide) (by rw [e5]; rfl) (by decide) ?_
      refine zg_aload_n hO 0 dX1_count_77 rfl rfl ?_
      refine xG_1_19 hO hX dX1_count_78 ?_
      exact zy_iretF hO hr h ⟨Nat.le_refl _, Nat.le_refl _⟩ dX1_count_81
    refine zg_ite h (fun e6 h => ?_) (fun e6 h => ?_)
    · refine zg_tableIn (tgt := 82) hO dX1_count_30 (by rw [e6]; decide) (by rw [e6]; decide) (by rw [e6]; rfl) (by decide) ?_
      refine zg_aload_n hO 0 dX1_count_82 rfl rfl ?_
      refine xG_1_113 hO hX dX1_count_83 ?_
      exact zy_iretF hO hr h ⟨Nat.le_refl _, Nat.le_refl _⟩ dX1_count_86
    refine zg_ite h (fun e7 h => ?_) (fun e7 h => ?_)
    · refine zg_tableIn (tgt := 87) hO dX1_count_30 (by rw [e7]; decide) (by rw [e7]; decide) (by rw [e7]; rfl) (by decide) ?_
      refine zg_aload_n hO 0 dX1_count_87 rfl rfl ?_
      refine xG_1_315 hO hX dX1_count_88 ?_
      refine zg_l2i hO dX1_count_91 ?_
      exact zy_iretF hO hr h ⟨Nat.le_refl _, Nat.le_refl _⟩ dX1_count_92
    refine zg_ite h (fun e8 h => ?_) (fun e8 h => ?_)
    · refine zg_tableIn (tgt := 93) hO dX1_count_30 (by rw [e8]; decide) (by rw [e8]; decide) (by rw [e8]; rfl) (by decide) ?_
      refine zg_aload_n hO 0 dX1_count_93 rfl rfl ?_
      refine xG_1_402 hO hX dX1_count_94 ?_
      exact zy_iretF hO hr h ⟨Nat.le_refl _, Nat.le_refl _⟩ dX1_count_97
    refine zg_ite h (fun e9 h => ?_) (fun e9 h => ?_)
    · refine zg_tableIn (tgt := 98) hO dX1_count_30 (by rw [e9]; decide) (by rw [e9]; decide) (by rw [e9]; rfl) (by decide) ?_
      refine zg_aload_n hO 0 dX1_count_98 rfl rfl ?_
      refine xG_1_199 hO hX dX1_count_99 ?_
      exact zy_iretF hO hr h ⟨Nat.le_refl _, Nat.le_refl _⟩ dX1_count_102
    refine zg_ite h (fun e10 h => ?_) (fun e10 h => ?_)
    · refine zg_tableIn (tgt := 103) hO dX1_count_30 (by rw [e10]; decide) (by rw [e10]; decide) (by rw [e10]; rfl) (by decide) ?_
      refine zg_aload_n hO 0 dX1_count_103 rfl rfl ?_
      refine xG_1_206 hO hX dX1_count_104 ?_
      exact zy_iretF hO hr h ⟨Nat.le_refl _, Nat.le_refl _⟩ dX1_count_107
    refine zg_tableOut (tgt := 108) hO dX1_count_30 (zg_swout (lo := 4) (hi := 10) (fun k h1 h2 => by rcases (show k = 4 ∨ k = 5 ∨ k = 6 ∨ k = 7 ∨ k = 8 ∨ k = 9 ∨ k = 10 by omega) with rfl|rfl|rfl|rfl|rfl|rfl|rfl; exact e4; exact e5; exact e6; exact e7; exact e8; exact e9; exact e10)) (by decide) ?_
    refine zg_iconst hO dX1_count_108 icm1 ?_
    exact zy_iretF hO hr h ⟨Nat.le_refl _, Nat.le_refl _⟩ dX1_count_109
  · refine zg_aload_n hO 0 dX1_count_12 rfl rfl ?_
    refine xG_1_162 hO hX dX1_count_13 ?_
    refine zg_iload_n hO 1 dX1_count_16 rfl rfl ?_
    refine zy_lget (rest := []) hO hX h q1406 (Nat.le_of_ble_eq_true rfl) dX1_count_17 (fun hb2 h => ?_) ⟨Nat.le_refl _, Nat.le_refl _⟩
    refine zy_castL hO hb2 q231 dX1_count_22 ?_
    refine zy_callViF (b := G (48 + 3 * x1.toNatClampNeg)) (As := []) (rest := []) hO hX h (fun q hq => m_Xl_size l D dA G hb2 tb ad hq) mw_X3_size q1407 ⟨Nat.le_of_ble_eq_true rfl, Nat.le_of_ble_eq_true rfl⟩ ⟨Nat.le_refl _, Nat.le_refl _⟩ rfl rfl (Nat.le_of_ble_eq_true rfl) ⟨40 + 3 * x1.toNatClampNeg, 2, _, _, wx_line hb2, rfl, rfl⟩ dX1_count_25 (fun q3 h => ?_)
    exact zy_iretF hO hr h ⟨Nat.le_refl _, Nat.le_refl _⟩ dX1_count_28
theorem mw_X2_isLikef : MwX yX2_isLike cX2_isLike 2 (some .boolean) RX2 1 := ⟨by decide +kernel, q1389, q1390, q87, q1393⟩
theorem mw_X2_isLiket : MwX yX2_isLike cX2_isLike 2 (some .boolean) RX5 1 := ⟨by decide +kernel, q1389, q1392, q87, q1393⟩
set_option maxHeartbeats 4000000 in
theorem m_Xp_isLike (l : Launch) (D : va_G) (dA : Nat → ClassId) (G : Nat → Nat) {i0 : Nat} {i1 : Nat} {σ : XS} (tb : Nat) (ad : Nat → Nat) {ρ : Int32 × XS} (h : Xp_isLike i0 i1 σ = some ρ) : CtX l yX2_isLike (ws_ yX2_isLike cX2_isLike 2 (some .boolean)) 0 0 0 D dA G [.ref (ad i0), .ref (ad i1)] (WX dA G tb ad σ) (QgI D dA (fun _ : Unit => WX dA G tb ad ρ.2) ρ.1) := by
  refine zx_start (cc := cX2_isLike) (nL := 2) (ret := (some .boolean)) (own := RX2) (by decide) rfl rfl (Nat.le_of_ble_eq_true rfl) (fun p e s m args below meth c A hO hX hr _ _ => ?_)
  unfold Xp_isLike at h
  refine zg_sub (lv' := [(0, .ref (ad i0)), (1, .ref (ad i1))]) [0, 1] rfl ?_
  refine zg_aload_n hO 0 dX2_isLike_0 rfl rfl ?_
  refine xG_2_7 hO hX h dX2_isLike_1 (fun h => ?_)
  refine zg_aload_n hO 1 dX2_isLike_4 rfl rfl ?_
  refine xG_2_7 hO hX h dX2_isLike_5 (fun h => ?_)
  refine zg_lcmp hO dX2_isLike_8 ?_
  refine zg_if_ne (tgt := 28) hO h dX2_isLike_9 (by decide) (fun h => ?_) (fun h => ?_)
  · refine zg_iconst hO dX2_isLike_28 ic0 ?_
    exact zy_zretF hO hr (Or.inl (by decide)) h ⟨Nat.le_refl _, Nat.le_refl _⟩ dX2_isLike_29
  · refine zg_aload_n hO 0 dX2_isLike_12 rfl rfl ?_
    refine xG_2_13 hO hX h dX2_isLike_13 (fun h => ?_)
    refine zg_aload_n hO 1 dX2_isLike_16 rfl rfl ?_
    refine xG_2_13 hO hX h dX2_isLike_17 (fun h => ?_)
    refine zg_lcmp hO dX2_isLike_20 ?_
    refine zg_if_ne (tgt := 28) hO h dX2_isLike_21 (by decide) (fun h => ?_) (fun h => ?_)
    · refine zg_iconst hO dX2_isLike_28 ic0 ?_
      exact zy_zretF hO hr (Or.inl (by decide)) h ⟨Nat.le_refl _, Nat.le_refl _⟩ dX2_isLike_29
    · refine zg_iconst hO dX2_isLike_24 ic1 ?_
      refine zg_goto (tgt := 29) hO dX2_isLike_25 (by decide) ?_
      exact zy_zretF hO hr (Or.inr (by decide)) h ⟨Nat.le_refl _, Nat.le_refl _⟩ dX2_isLike_29
theorem mw_X3_endOf : MwX yX3_endOf cX3_endOf 2 (some .int) RX3 1 := ⟨by decide +kernel, q1457, q1458, q88, q1459⟩
set_option maxHeartbeats 4000000 in
theorem m_Xl_endOf (l : Launch) (D : va_G) (dA : Nat → ClassId) (G : Nat → Nat) {i0 : Nat} {x1 : Int32} {σ : XS} (hi0 : i0 < 5) (tb : Nat) (ad : Nat → Nat) {ρ : Int32 × XS} (h : Xl_endOf i0 x1 σ = some ρ) : CtX l yX3_endOf (ws_ yX3_endOf cX3_endOf 2 (some .int)) 0 0 0 D dA G [.ref (G (48 + 3 * i0)), .int x1] (WX dA G tb ad σ) (QgI D dA (fun _ : Unit => WX dA G tb ad ρ.2) ρ.1) := by
  refine zx_start (cc := cX3_endOf) (nL := 2) (ret := (some .int)) (own := RX3) (by decide) rfl rfl (Nat.le_of_ble_eq_true rfl) (fun p e s m args below meth c A hO hX hr _ _ => ?_)
  unfold Xl_endOf at h
  refine zg_sub (lv' := [(0, .ref (G (48 + 3 * i0))), (1, .int x1)]) [0, 1] rfl ?_
  refine zg_iload_n hO 1 dX3_endOf_0 rfl rfl ?_
  refine zg_aload_n hO 0 dX3_endOf_1 rfl rfl ?_
  refine xG_3_21 hO hX hi0 dX3_endOf_2 ?_
  refine zg_iconst hO dX3_endOf_5 ic0 ?_
  refine xL_many hO hi0 h dX3_endOf_6 (fun h => ?_)
  refine zg_icmp_ge (tgt := 14) hO h dX3_endOf_7 (by decide) (fun h => ?_) (fun h => ?_)
  · refine zg_iconst hO dX3_endOf_14 ic1 ?_
    exact zy_iretF hO hr h ⟨Nat.le_refl _, Nat.le_refl _⟩ dX3_endOf_15
  · refine zg_iconst hO dX3_endOf_10 ic0 ?_
    refine zg_goto (tgt := 15) hO dX3_endOf_11 (by decide) ?_
    exact zy_iretF hO hr h ⟨Nat.le_refl _, Nat.le_refl _⟩ dX3_endOf_15
set_option maxHeartbeats 4000000 in
theorem w_Xl_lifts_r1_3 {tb : Nat} {ad : Nat → Nat} (hO : Ok p s m args meth c cX3_lifts RX3 5 D dA A) (hX : XK dA G A s) (hr : meth.sig.returnType = none) {ρ : XS} : ∀ (n : Nat) (i0 : Nat) (x1 : Int32) (x2 : Int32) (x4 : Int32) (σ : XS) (hi0 : i0 < 5), Xl_lifts_r1_3 n i0 x1 x2 x4 σ = some ρ → Go p l e (rmG 0 0 0) s m args below meth c D A 5 (MQ below ((QgV D dA (fun _ : Unit => WX dA G tb ad ρ)) A) args s 0 0 A) (WX dA G tb ad σ) 0 0 3 [(0, .ref (G (48 + 3 * i0))), (1, .int x1), (2, .int x2), (3, .ref (G 64)), (4, .int x4)] [] := by
  intro n
  induction n with
  | zero =>
    intro i0 x1 x2 x4 σ hi0 h
    rw [Xl_lifts_r1_3] at h
    cases h
  | succ n ih =>
    intro i0 x1 x2 x4 σ hi0 h
    rw [Xl_lifts_r1_3] at h
    refine zg_iload hO 4 dX3_lifts_3 rfl ?_
    refine zg_iload_n hO 2 dX3_lifts_5 rfl rfl ?_
    refine zg_icmp_ge (tgt := 53) hO h dX3_lifts_6 (by decide) (fun h => ?_) (fun h => ?_)
    · exact zy_vretF hO hr h ⟨Nat.le_refl _, Nat.le_refl _⟩ dX3_lifts_53
    · refine zg_aload_n hO 3 dX3_lifts_9 rfl rfl ?_
      refine zg_iload hO 4 dX3_lifts_10 rfl ?_
      refine zg_aload_n hO 0 dX3_lifts_12 rfl rfl ?_
      refine xG_3_17 hO hX hi0 dX3_lifts_13 ?_
      refine zg_iload_n hO 1 dX3_lifts_16 rfl rfl ?_
      refine xL_top hO hi0 h dX3_lifts_17 (fun h => ?_)
      refine zx_oc h (fun i1 hi1 h => ?_)
      refine zx_top ad hi1 ?_
      refine xG_3_40 hO hX h dX3_lifts_18 (fun h => ?_)
      refine xS_row1 hO h dX3_lifts_21 (fun h => ?_)
      refine zg_aload_n hO 0 dX3_lifts_22 rfl rfl ?_
      refine xG_3_17 hO hX hi0 dX3_lifts_23 ?_
      refine zg_iload_n hO 1 dX3_lifts_26 rfl rfl ?_
      refine zg_aload_n hO 0 dX3_lifts_27 rfl rfl ?_
      refine xG_3_17 hO hX hi0 dX3_lifts_28 ?_
      refine zg_iload_n hO 1 dX3_lifts_31 rfl rfl ?_
      refine xL_top hO hi0 h dX3_lifts_32 (fun h => ?_)
      refine zx_oc h (fun i2 hi2 h => ?_)
      refine zx_top ad hi2 ?_
      refine xG_3_44 hO hX h dX3_lifts_33 (fun h => ?_)
      refine xS_top hO hi0 h dX3_lifts_36 (fun h => ?_)
      refine zg_aload_n hO 0 dX3_lifts_37 rfl rfl ?_
      refine xG_3_21 hO hX hi0 dX3_lifts_38 ?_
      refine zg_iload_n hO 1 dX3_lifts_41 rfl rfl ?_
      refine zg_dup2 hO dX3_lifts_42 rfl rfl ?_
      refine xL_many hO hi0 h dX3_lifts_43 (fun h => ?_)
      refine zg_iconst hO dX3_lifts_44 ic1 ?_
      refine zg_isub hO dX3_lifts_45 ?_
      refine xS_many hO hi0 h dX3_lifts_46 (fun h => ?_)
      refine zg_iinc (k := 4) (lv' := [(4, .int (x4 + (nI 1))), (0, .ref (G (48 + 3 * i0))), (1, .int x1), (2, .int x2), (3, .ref (G 64))]) hO dX3_lifts_47 rfl (zii ic1) (Nat.le_of_ble_eq_true rfl) rfl ?_
      refine zg_goto (tgt := 3) hO dX3_lifts_50 (by decide) ?_
      exact zg_sub [1, 2, 3, 4, 0] rfl (ih _ _ _ _ _ hi0 h)
theorem mw_X3_lifts : MwX yX3_lifts cX3_lifts 5 none RX3 3 := ⟨by decide +kernel, q1462, qs33, q88, q1463⟩
set_option maxHeartbeats 4000000 in
theorem m_Xl_lifts_r1 (l : Launch) (D : va_G) (dA : Nat → ClassId) (G : Nat → Nat) {i0 : Nat} {x1 : Int32} {x2 : Int32} {σ : XS} (hi0 : i0 < 5) (tb : Nat) (ad : Nat → Nat) {ρ : XS} (h : Xl_lifts_r1 i0 x1 x2 σ = some ρ) : CtX l yX3_lifts (ws_ yX3_lifts cX3_lifts 5 none) 0 0 0 D dA G [.ref (G (48 + 3 * i0)), .int x1, .int x2, .ref (G 64)] (WX dA G tb ad σ) (QgV D dA (fun _ : Unit => WX dA G tb ad ρ)) := by
  refine zx_start (cc := cX3_lifts) (nL := 5) (ret := none) (own := RX3) (by decide) rfl rfl (Nat.le_of_ble_eq_true rfl) (fun p e s m args below meth c A hO hX hr _ _ => ?_)
  unfold Xl_lifts_r1 at h
  refine zg_sub (lv' := [(0, .ref (G (48 + 3 * i0))), (1, .int x1), (2, .int x2), (3, .ref (G 64))]) [0, 1, 2, 3] rfl ?_
  refine zg_iconst hO dX3_lifts_0 ic0 ?_
  refine zg_istore (lv' := [(4, .int (nI 0)), (0, .ref (G (48 + 3 * i0))), (1, .int x1), (2, .int x2), (3, .ref (G 64))]) hO dX3_lifts_1 (Nat.le_of_ble_eq_true rfl) rfl ?_
  exact zg_sub [1, 2, 3, 4, 0] rfl (w_Xl_lifts_r1_3 hO hX hr _ _ _ _ _ _ hi0 h)
set_option maxHeartbeats 4000000 in
theorem w_Xi_numberOfLeadingZeros_73 (hO : Ok p s m args meth c cJ13_numberOfLeadingZeros RJ13 2 D dA (A0s s.heap.size)) (hr : meth.sig.returnType = (some .int)) {ρ : Int32} : ∀ (x0 : Int32) (x1 : Int32), Xi_numberOfLeadingZeros_73 x0 x1 = some ρ → Go p l e (rmG 0 0 0) s m args below meth c D (A0s s.heap.size) 2 (MQ below ((QfI D dA [] ρ) (A0s s.heap.size)) args s 0 0 (A0s s.heap.size)) [] 0 0 73 [(0, .int x0), (1, .int x1)] [] := by
  intro x0 x1 h
  unfold Xi_numberOfLeadingZeros_73 at h
  refine zg_iload_n hO 1 dJ13_numberOfLeadingZeros_73 rfl rfl ?_
  refine zg_iload_n hO 0 dJ13_numberOfLeadingZeros_74 rfl rfl ?_
  refine zg_iconst hO dJ13_numberOfLeadingZeros_75 ic1 ?_
  refine zg_iushr hO dJ13_numberOfLeadingZeros_76 ?_
  refine zg_isub hO dJ13_numberOfLeadingZeros_77 ?_
  exact zs_iret hO hr h dJ13_numberOfLeadingZeros_78
set_option maxHeartbeats 4000000 in
theorem w_Xi_numberOfLeadingZeros_61 (hO : Ok p s m args meth c cJ13_numberOfLeadingZeros RJ13 2 D dA (A0s s.heap.size)) (hr : meth.sig.returnType = (some .int)) {ρ : Int32} : ∀ (x0 : Int32) (x1 : Int32), Xi_numberOfLeadingZeros_61 x0 x1 = some ρ → Go p l e (rmG 0 0 0) s m args below meth c D (A0s s.heap.size) 2 (MQ below ((QfI D dA [] ρ) (A0s s.heap.size)) args s 0 0 (A0s s.heap.size)) [] 0 0 61 [(0, .int x0), (1, .int x1)] [] := by
  intro x0 x1 h
  unfold Xi_numberOfLeadingZeros_61 at h
  refine zg_iload_n hO 0 dJ13_numberOfLeadingZeros_61 rfl rfl ?_
  refine zg_iconst hO dJ13_numberOfLeadingZeros_62 ic4 ?_
  refine zg_icmp_lt (tgt := 73) hO h dJ13_numberOfLeadingZeros_63 (by decide) (fun h => ?_) (fun h => ?_)
  · exact zg_sub [0, 1] rfl (w_Xi_numberOfLeadingZeros_73 hO hr _ _ h)
  · refine zg_iinc (k := 1) (lv' := [(1, .int (x1 + (-2 : Int32))), (0, .int x0)]) hO dJ13_numberOfLeadingZeros_66 rfl (zii icm2) (Nat.le_of_ble_eq_true rfl) rfl ?_
    refine zg_iload_n hO 1 dJ13_numberOfLeadingZeros_69 rfl rfl ?_
    refine zg_iconst hO dJ13_numberOfLeadingZeros_70 ic2 ?_
    refine zg_iushr hO dJ13_numberOfLeadingZeros_71 ?_
    refine zg_istore_n (lv' := [(0, .int ((x0.toUInt32 >>> ((nI 2).toUInt32 &&& Int32.toUInt32 31)).toInt32)), (1, .int (x1 + (-2 : Int32)))]) hO dJ13_numberOfLeadingZeros_72 rfl (Nat.le_of_ble_eq_true rfl) rfl ?_
    exact zg_sub [0, 1] rfl (w_Xi_numberOfLeadingZeros_73 hO hr _ _ h)
set_option maxHeartbeats 4000000 in
theorem w_Xi_numberOfLeadingZeros_48 (hO : Ok p s m args meth c cJ13_numberOfLeadingZeros RJ13 2 D dA (A0s s.heap.size)) (hr : meth.sig.returnType = (some .int)) {ρ : Int32} : ∀ (x0 : Int32) (x1 : Int32), Xi_numberOfLeadingZeros_48 x0 x1 = some ρ → Go p l e (rmG 0 0 0) s m args below meth c D (A0s s.heap.size) 2 (MQ below ((QfI D dA [] ρ) (A0s s.heap.size)) args s 0 0 (A0s s.heap.size)) [] 0 0 48 [(0, .int x0), (1, .int x1)] [] := by
  intro x0 x1 h
  unfold Xi_numberOfLeadingZeros_48 at h
  refine zg_iload_n hO 0 dJ13_numberOfLeadingZeros_48 rfl rfl ?_
  refine zg_bipush hO dJ13_numberOfLeadingZeros_49 bc16 ?_
  refine zg_icmp_lt (tgt := 61) hO h dJ13_numberOfLeadingZeros_51 (by decide) (fun h => ?_) (fun h => ?_)
  · exact zg_sub [0, 1] rfl (w_Xi_numberOfLeadingZeros_61 hO hr _ _ h)
  · refine zg_iinc (k := 1) (lv' := [(1, .int (x1 + (-4 : Int32))), (0, .int x0)]) hO dJ13_numberOfLeadingZeros_54 rfl (zii icm4) (Nat.le_of_ble_eq_true rfl) rfl ?_
    refine zg_iload_n hO 1 dJ13_numberOfLeadingZeros_57 rfl rfl ?_
    refine zg_iconst hO dJ13_numberOfLeadingZeros_58 ic4 ?_
    refine zg_iushr hO dJ13_numberOfLeadingZeros_59 ?_
    refine zg_istore_n (lv' := [(0, .int ((x0.toUInt32 >>> ((nI 4).toUInt32 &&& Int32.toUInt32 31)).toInt32)), (1, .int (x1 + (-4 : Int32)))]) hO dJ13_numberOfLeadingZeros_60 rfl (Nat.le_of_ble_eq_true rfl) rfl ?_
    exact zg_sub [0, 1] rfl (w_Xi_numberOfLeadingZeros_61 hO hr _ _ h)
set_option maxHeartbeats 4000000 in
theorem w_Xi_numberOfLeadingZeros_33 (hO : Ok p s m args meth c cJ13_numberOfLeadingZeros RJ13 2 D dA (A0s s.heap.size)) (hr : meth.sig.returnType = (some .int)) {ρ : Int32} : ∀ (x0 : Int32) (x1 : Int32), Xi_numberOfLeadingZeros_33 x0 x1 = some ρ → Go p l e (rmG 0 0 0) s m args below meth c D (A0s s.heap.size) 2 (MQ below ((QfI D dA [] ρ) (A0s s.heap.size)) args s 0 0 (A0s s.heap.size)) [] 0 0 33 [(0, .int x0), (1, .int x1)] [] := by
  intro x0 x1 h
  unfold Xi_numberOfLeadingZeros_33 at h
  refine zg_iload_n hO 0 dJ13_numberOfLeadingZeros_33 rfl rfl ?_
  refine zg_sipush hO dJ13_numberOfLeadingZeros_34 sc256 ?_
  refine zg_icmp_lt (tgt := 48) hO h dJ13_numberOfLeadingZeros_37 (by decide) (fun h => ?_) (fun h => ?_)
  · exact zg_sub [0, 1] rfl (w_Xi_numberOfLeadingZeros_48 hO hr _ _ h)
  · refine zg_iinc (k := 1) (lv' := [(1, .int (x1 + (-8 : Int32))), (0, .int x0)]) hO dJ13_numberOfLeadingZeros_40 rfl (zii icm8) (Nat.le_of_ble_eq_true rfl) rfl ?_
    refine zg_iload_n hO 1 dJ13_numberOfLeadingZeros_43 rfl rfl ?_
    refine zg_bipush hO dJ13_numberOfLeadingZeros_44 bc8 ?_
    refine zg_iushr hO dJ13_numberOfLeadingZeros_46 ?_
    refine zg_istore_n (lv' := [(0, .int ((x0.toUInt32 >>> ((nI 8).toUInt32 &&& Int32.toUInt32 31)).toInt32)), (1, .int (x1 + (-8 : Int32)))]) hO dJ13_numberOfLeadingZeros_47 rfl (Nat.le_of_ble_eq_true rfl) rfl ?_
    exact zg_sub [0, 1] rfl (w_Xi_numberOfLeadingZeros_48 hO hr _ _ h)
theorem mw_J13_numberOfLeadingZeros : MwS yJ13_numberOfLeadingZeros cJ13_numberOfLeadingZeros 2 (some .int) 1 := ⟨by decide +kernel, q1378, q101, q1379⟩
set_option maxHeartbeats 4000000 in
theorem m_Xi_numberOfLeadingZeros (l : Launch) (D : va_G) (dA : Nat → ClassId) {x0 : Int32} {ρ : Int32} (h : Xi_numberOfLeadingZeros x0 = some ρ) : Ct l yJ13_numberOfLeadingZeros (ws_ yJ13_numberOfLeadingZeros cJ13_numberOfLeadingZeros 2 (some .int)) 0 0 0 D dA [.int x0] [] A0s (QfI D dA [] ρ) := by
  refine zc_start (cc := cJ13_numberOfLeadingZeros) (nL := 2) (ret := (some .int)) (own := RJ13) (by decide) rfl rfl (Nat.le_of_ble_eq_true rfl) (fun _ _ h => h) (fun p e s m args below meth c hO hr _ _ => ?_)
  unfold Xi_numberOfLeadingZeros at h
  refine zg_sub (lv' := [(0, .int x0)]) [0] rfl ?_
  refine zg_iload_n hO 0 dJ13_numberOfLeadingZeros_0 rfl rfl ?_
  refine zg_if_gt (tgt := 15) hO h dJ13_numberOfLeadingZeros_1 (by decide) (fun h => ?_) (fun h => ?_)
  · refine zg_bipush hO dJ13_numberOfLeadingZeros_15 bc31 ?_
    refine zg_istore_n (lv' := [(1, .int (nI 31)), (0, .int x0)]) hO dJ13_numberOfLeadingZeros_17 rfl (Nat.le_of_ble_eq_true rfl) rfl ?_
    refine zg_iload_n hO 1 dJ13_numberOfLeadingZeros_18 rfl rfl ?_
    refine zg_ldcw (x := 65536) hO q1351 dJ13_numberOfLeadingZeros_19 ?_
    refine zg_icmp_lt (tgt := 33) hO h dJ13_numberOfLeadingZeros_22 (by decide) (fun h => ?_) (fun h => ?_)
    · exact zg_sub [1, 0] rfl (w_Xi_numberOfLeadingZeros_33 hO hr _ _ h)
    · refine zg_iinc (k := 0) (lv' := [(1, .int ((nI 31) + (-16 : Int32))), (0, .int x0)]) hO dJ13_numberOfLeadingZeros_25 rfl (zii icm16) (Nat.le_of_ble_eq_true rfl) rfl ?_
      refine zg_iload_n hO 1 dJ13_numberOfLeadingZeros_28 rfl rfl ?_
      refine zg_bipush hO dJ13_numberOfLeadingZeros_29 bc16 ?_
      refine zg_iushr hO dJ13_numberOfLeadingZeros_31 ?_
      refine zg_istore_n (lv' := [(0, .int ((x0.toUInt32 >>> ((nI 16).toUInt32 &&& Int32.toUInt32 31)).toInt32)), (1, .int ((nI 31) + (-16 : Int32)))]) hO dJ13_numberOfLeadingZeros_32 rfl (Nat.le_of_ble_eq_true rfl) rfl ?_
      exact zg_sub [0, 1] rfl (w_Xi_numberOfLeadingZeros_33 hO hr _ _ h)
  · refine zg_iload_n hO 0 dJ13_numberOfLeadingZeros_4 rfl rfl ?_
    refine zg_if_ne (tgt := 13) hO h dJ13_numberOfLeadingZeros_5 (by decide) (fun h => ?_) (fun h => ?_)
    · refine zg_iconst hO dJ13_numberOfLeadingZeros_13 ic0 ?_
      exact zs_iret hO hr h dJ13_numberOfLeadingZeros_14
    · refine zg_bipush hO dJ13_numberOfLeadingZeros_8 bc32 ?_
      refine zg_goto (tgt := 14) hO dJ13_numberOfLeadingZeros_10 (by decide) ?_
      exact zs_iret hO hr h dJ13_numberOfLeadingZeros_14
end ZXW
